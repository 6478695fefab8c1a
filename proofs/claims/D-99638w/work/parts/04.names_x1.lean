/-! PullThePlug -/
set_option maxRecDepth 100000
def RX1 : String := "PullThePlug"
def TX1 : u_T := fun k => match k with
  | 0 => ("PullThePlug", "now", "LPullThePlug$Water;", true)
  | 1 => ("PullThePlug", "tried", "LPullThePlug$Water;", true)
  | 2 => ("PullThePlug", "brim", "[I", true)
  | 3 => ("PullThePlug", "leak", "[I", true)
  | 4 => ("PullThePlug", "down", "[I", true)
  | 5 => ("PullThePlug", "lakes", "I", false)
  | 6 => ("PullThePlug", "changes", "I", false)
  | 7 => ("PullThePlug", "text", "[I", true)
  | 8 => ("PullThePlug", "signMany", "I", false)
  | 9 => ("PullThePlug", "at", "I", false)
  | 10 => ("PullThePlug", "end", "I", false)
  | 11 => ("PullThePlug", "nest", "I", false)
  | 12 => ("PullThePlug", "readBrim", "[I", true)
  | 13 => ("PullThePlug", "readTap", "[I", true)
  | 14 => ("PullThePlug", "readLeak", "[I", true)
  | 15 => ("PullThePlug", "readKing", "[I", true)
  | 16 => ("PullThePlug", "readDown", "[I", true)
  | 17 => ("PullThePlug", "readMany", "I", false)
  | 18 => ("PullThePlug", "askedWater", "LPullThePlug$Water;", false)
  | 19 => ("PullThePlug", "askedLake", "I", false)
  | 20 => ("PullThePlug", "rule", "LPullThePlug$Node;", false)
  | 21 => ("PullThePlug", "readRule", "LPullThePlug$Node;", false)
  | 22 => ("PullThePlug", "undone", "[LPullThePlug$Water;", true)
  | 23 => ("PullThePlug", "wasAhead", "LPullThePlug$Water;", true)
  | 24 => ("PullThePlug", "undoMany", "I", false)
  | 25 => ("PullThePlug", "runs", "[I", true)
  | 26 => ("PullThePlug", "next", "[I", true)
  | 27 => ("PullThePlug", "actSign", "[I", true)
  | 28 => ("PullThePlug", "actOne", "[I", true)
  | 29 => ("PullThePlug", "actTwo", "[I", true)
  | 30 => ("PullThePlug", "actMany", "I", false)
  | 31 => ("PullThePlug", "ringMany", "I", false)
  | 32 => ("PullThePlug", "ringLake", "[I", true)
  | 33 => ("PullThePlug", "ringDay", "[I", true)
  | 34 => ("PullThePlug", "ringOf", "[I", true)
  | 35 => ("PullThePlug", "fitsAll", "[Z", true)
  | 36 => ("PullThePlug", "levelBy", "[I", true)
  | 37 => ("PullThePlug", "often", "[I", true)
  | 38 => ("PullThePlug", "heir", "[I", true)
  | 39 => ("PullThePlug", "given", "[I", true)
  | 40 => ("PullThePlug", "bestGiven", "[I", true)
  | 41 => ("PullThePlug", "bestSum", "I", false)
  | 42 => ("PullThePlug", "ways", "[J", true)
  | 43 => ("PullThePlug", "then", "[J", true)
  | 44 => ("PullThePlug", "random", "I", false)
  | 45 => ("PullThePlug", "kept", "[LPullThePlug$Water;", true)
  | 46 => ("PullThePlug", "keptChanges", "[I", true)
  | 47 => ("PullThePlug", "row", "[J", true)
  | _ => ("PullThePlug", "rowMany", "I", false)
def tyX1 : Nat → FieldType := fun k => match k with
  | 0 => .object "PullThePlug$Water"
  | 1 => .object "PullThePlug$Water"
  | 2 => .array .int
  | 3 => .array .int
  | 4 => .array .int
  | 5 => .int
  | 6 => .int
  | 7 => .array .int
  | 8 => .int
  | 9 => .int
  | 10 => .int
  | 11 => .int
  | 12 => .array .int
  | 13 => .array .int
  | 14 => .array .int
  | 15 => .array .int
  | 16 => .array .int
  | 17 => .int
  | 18 => .object "PullThePlug$Water"
  | 19 => .int
  | 20 => .object "PullThePlug$Node"
  | 21 => .object "PullThePlug$Node"
  | 22 => .array (.object "PullThePlug$Water")
  | 23 => .object "PullThePlug$Water"
  | 24 => .int
  | 25 => .array .int
  | 26 => .array .int
  | 27 => .array .int
  | 28 => .array .int
  | 29 => .array .int
  | 30 => .int
  | 31 => .int
  | 32 => .array .int
  | 33 => .array .int
  | 34 => .array .int
  | 35 => .array .boolean
  | 36 => .array .int
  | 37 => .array .int
  | 38 => .array .int
  | 39 => .array .int
  | 40 => .array .int
  | 41 => .int
  | 42 => .array .long
  | 43 => .array .long
  | 44 => .int
  | 45 => .array (.object "PullThePlug$Water")
  | 46 => .array .int
  | 47 => .array .long
  | _ => .int
abbrev wsX10 : List Cond := u_ws RX1 TX1 49
set_option maxRecDepth 100000 in
theorem nmX1 : ∀ a, a < 49 → ∀ b, b < 49 → a ≠ b → (TX1 a).2.1 ≠ (TX1 b).2.1 := by decide +kernel
set_option maxRecDepth 100000 in
theorem tyX1_ok : ∀ k, k < 49 → parseFieldDescriptor (TX1 k).2.2.1 = some (tyX1 k) := by decide +kernel
abbrev cX1_init : ByteArray := prog_1_method_1_code
def yX1_init : MethodName := ⟨RX1, "<init>", "()V"⟩
def dkwX1_init_11 : List UInt8 := [16, 16, 188, 11, 181, 0, 110, 177]
abbrev dktX1_init_11 : List UInt8 := dkwX1_init_11 ++ []
def dkwX1_init_10 : List UInt8 := [42, 16, 6, 188, 11, 181, 0, 101, 42, 5, 189, 0, 9, 181, 0, 104, 42, 5, 188, 10, 181, 0, 107, 42]
abbrev dktX1_init_10 : List UInt8 := dkwX1_init_10 ++ dktX1_init_11
def dkwX1_init_9 : List UInt8 := [42, 16, 6, 188, 10, 181, 0, 91, 42, 16, 6, 188, 10, 181, 0, 94, 42, 16, 6, 188, 11, 181, 0, 97]
abbrev dktX1_init_9 : List UInt8 := dkwX1_init_9 ++ dktX1_init_10
def dkwX1_init_8 : List UInt8 := [17, 27, 18, 188, 10, 181, 0, 82, 42, 16, 100, 188, 10, 181, 0, 85, 42, 16, 6, 188, 10, 181, 0, 88]
abbrev dktX1_init_8 : List UInt8 := dkwX1_init_8 ++ dktX1_init_9
def dkwX1_init_7 : List UInt8 := [16, 10, 188, 10, 181, 0, 72, 42, 16, 10, 188, 10, 181, 0, 75, 42, 16, 55, 188, 4, 181, 0, 78, 42]
abbrev dktX1_init_7 : List UInt8 := dkwX1_init_7 ++ dktX1_init_8
def dkwX1_init_6 : List UInt8 := [16, 60, 188, 10, 181, 0, 63, 42, 16, 60, 188, 10, 181, 0, 66, 42, 16, 10, 188, 10, 181, 0, 69, 42]
abbrev dktX1_init_6 : List UInt8 := dkwX1_init_6 ++ dktX1_init_7
def dkwX1_init_5 : List UInt8 := [16, 6, 188, 10, 181, 0, 54, 42, 16, 6, 188, 10, 181, 0, 57, 42, 16, 60, 188, 10, 181, 0, 60, 42]
abbrev dktX1_init_5 : List UInt8 := dkwX1_init_5 ++ dktX1_init_6
def dkwX1_init_4 : List UInt8 := [181, 0, 44, 42, 16, 12, 189, 0, 9, 181, 0, 47, 42, 187, 0, 9, 89, 183, 0, 11, 181, 0, 51, 42]
abbrev dktX1_init_4 : List UInt8 := dkwX1_init_4 ++ dktX1_init_5
def dkwX1_init_3 : List UInt8 := [181, 0, 35, 42, 16, 6, 188, 10, 181, 0, 38, 42, 16, 6, 188, 10, 181, 0, 41, 42, 16, 6, 188, 10]
abbrev dktX1_init_3 : List UInt8 := dkwX1_init_3 ++ dktX1_init_4
def dkwX1_init_2 : List UInt8 := [181, 0, 26, 42, 16, 80, 188, 10, 181, 0, 29, 42, 16, 6, 188, 10, 181, 0, 32, 42, 16, 6, 188, 10]
abbrev dktX1_init_2 : List UInt8 := dkwX1_init_2 ++ dktX1_init_3
def dkwX1_init_1 : List UInt8 := [181, 0, 16, 42, 16, 6, 188, 10, 181, 0, 19, 42, 16, 6, 188, 10, 181, 0, 23, 42, 16, 6, 188, 10]
abbrev dktX1_init_1 : List UInt8 := dkwX1_init_1 ++ dktX1_init_2
def dkwX1_init_0 : List UInt8 := [42, 183, 0, 3, 42, 187, 0, 9, 89, 183, 0, 11, 181, 0, 12, 42, 187, 0, 9, 89, 183, 0, 11]
abbrev dktX1_init_0 : List UInt8 := dkwX1_init_0 ++ dktX1_init_1
theorem dksX1_init_0 : cX1_init.data.toList.drop 0 = dktX1_init_0 := by decide +kernel
theorem dksX1_init_1 : cX1_init.data.toList.drop 23 = dktX1_init_1 := dk_seg dksX1_init_0 23 rfl rfl
theorem dksX1_init_2 : cX1_init.data.toList.drop 47 = dktX1_init_2 := dk_seg dksX1_init_1 24 rfl rfl
theorem dksX1_init_3 : cX1_init.data.toList.drop 71 = dktX1_init_3 := dk_seg dksX1_init_2 24 rfl rfl
theorem dksX1_init_4 : cX1_init.data.toList.drop 95 = dktX1_init_4 := dk_seg dksX1_init_3 24 rfl rfl
theorem dksX1_init_5 : cX1_init.data.toList.drop 119 = dktX1_init_5 := dk_seg dksX1_init_4 24 rfl rfl
theorem dksX1_init_6 : cX1_init.data.toList.drop 143 = dktX1_init_6 := dk_seg dksX1_init_5 24 rfl rfl
theorem dksX1_init_7 : cX1_init.data.toList.drop 167 = dktX1_init_7 := dk_seg dksX1_init_6 24 rfl rfl
theorem dksX1_init_8 : cX1_init.data.toList.drop 191 = dktX1_init_8 := dk_seg dksX1_init_7 24 rfl rfl
theorem dksX1_init_9 : cX1_init.data.toList.drop 215 = dktX1_init_9 := dk_seg dksX1_init_8 24 rfl rfl
theorem dksX1_init_10 : cX1_init.data.toList.drop 239 = dktX1_init_10 := dk_seg dksX1_init_9 24 rfl rfl
theorem dksX1_init_11 : cX1_init.data.toList.drop 263 = dktX1_init_11 := dk_seg dksX1_init_10 24 rfl rfl
theorem dX1_init_0 : decode cX1_init 0 = .ok (.aload_n 0, 1) := dk_42 (dk_at dksX1_init_0 0 rfl rfl)
theorem dX1_init_1 : decode cX1_init 1 = .ok (.invokespecial 3, 3) := dk_183 0 3 (dk_at dksX1_init_0 1 rfl rfl)
theorem dX1_init_4 : decode cX1_init 4 = .ok (.aload_n 0, 1) := dk_42 (dk_at dksX1_init_0 4 rfl rfl)
theorem dX1_init_5 : decode cX1_init 5 = .ok (.new 9, 3) := dk_187 0 9 (dk_at dksX1_init_0 5 rfl rfl)
theorem dX1_init_8 : decode cX1_init 8 = .ok (.dup, 1) := dk_89 (dk_at dksX1_init_0 8 rfl rfl)
theorem dX1_init_9 : decode cX1_init 9 = .ok (.invokespecial 11, 3) := dk_183 0 11 (dk_at dksX1_init_0 9 rfl rfl)
theorem dX1_init_12 : decode cX1_init 12 = .ok (.putfield 12, 3) := dk_181 0 12 (dk_at dksX1_init_0 12 rfl rfl)
theorem dX1_init_15 : decode cX1_init 15 = .ok (.aload_n 0, 1) := dk_42 (dk_at dksX1_init_0 15 rfl rfl)
theorem dX1_init_16 : decode cX1_init 16 = .ok (.new 9, 3) := dk_187 0 9 (dk_at dksX1_init_0 16 rfl rfl)
theorem dX1_init_19 : decode cX1_init 19 = .ok (.dup, 1) := dk_89 (dk_at dksX1_init_0 19 rfl rfl)
theorem dX1_init_20 : decode cX1_init 20 = .ok (.invokespecial 11, 3) := dk_183 0 11 (dk_at dksX1_init_0 20 rfl rfl)
theorem dX1_init_23 : decode cX1_init 23 = .ok (.putfield 16, 3) := dk_181 0 16 (dk_at dksX1_init_1 0 rfl rfl)
theorem dX1_init_26 : decode cX1_init 26 = .ok (.aload_n 0, 1) := dk_42 (dk_at dksX1_init_1 3 rfl rfl)
theorem dX1_init_27 : decode cX1_init 27 = .ok (.bipush 6, 2) := dk_16 6 (dk_at dksX1_init_1 4 rfl rfl)
theorem dX1_init_29 : decode cX1_init 29 = .ok (.newarray .int, 2) := dk_188_10 (dk_at dksX1_init_1 6 rfl rfl)
theorem dX1_init_31 : decode cX1_init 31 = .ok (.putfield 19, 3) := dk_181 0 19 (dk_at dksX1_init_1 8 rfl rfl)
theorem dX1_init_34 : decode cX1_init 34 = .ok (.aload_n 0, 1) := dk_42 (dk_at dksX1_init_1 11 rfl rfl)
theorem dX1_init_35 : decode cX1_init 35 = .ok (.bipush 6, 2) := dk_16 6 (dk_at dksX1_init_1 12 rfl rfl)
theorem dX1_init_37 : decode cX1_init 37 = .ok (.newarray .int, 2) := dk_188_10 (dk_at dksX1_init_1 14 rfl rfl)
theorem dX1_init_39 : decode cX1_init 39 = .ok (.putfield 23, 3) := dk_181 0 23 (dk_at dksX1_init_1 16 rfl rfl)
theorem dX1_init_42 : decode cX1_init 42 = .ok (.aload_n 0, 1) := dk_42 (dk_at dksX1_init_1 19 rfl rfl)
theorem dX1_init_43 : decode cX1_init 43 = .ok (.bipush 6, 2) := dk_16 6 (dk_at dksX1_init_1 20 rfl rfl)
theorem dX1_init_45 : decode cX1_init 45 = .ok (.newarray .int, 2) := dk_188_10 (dk_at dksX1_init_1 22 rfl rfl)
theorem dX1_init_47 : decode cX1_init 47 = .ok (.putfield 26, 3) := dk_181 0 26 (dk_at dksX1_init_2 0 rfl rfl)
theorem dX1_init_50 : decode cX1_init 50 = .ok (.aload_n 0, 1) := dk_42 (dk_at dksX1_init_2 3 rfl rfl)
theorem dX1_init_51 : decode cX1_init 51 = .ok (.bipush 80, 2) := dk_16 80 (dk_at dksX1_init_2 4 rfl rfl)
theorem dX1_init_53 : decode cX1_init 53 = .ok (.newarray .int, 2) := dk_188_10 (dk_at dksX1_init_2 6 rfl rfl)
theorem dX1_init_55 : decode cX1_init 55 = .ok (.putfield 29, 3) := dk_181 0 29 (dk_at dksX1_init_2 8 rfl rfl)
theorem dX1_init_58 : decode cX1_init 58 = .ok (.aload_n 0, 1) := dk_42 (dk_at dksX1_init_2 11 rfl rfl)
theorem dX1_init_59 : decode cX1_init 59 = .ok (.bipush 6, 2) := dk_16 6 (dk_at dksX1_init_2 12 rfl rfl)
theorem dX1_init_61 : decode cX1_init 61 = .ok (.newarray .int, 2) := dk_188_10 (dk_at dksX1_init_2 14 rfl rfl)
theorem dX1_init_63 : decode cX1_init 63 = .ok (.putfield 32, 3) := dk_181 0 32 (dk_at dksX1_init_2 16 rfl rfl)
theorem dX1_init_66 : decode cX1_init 66 = .ok (.aload_n 0, 1) := dk_42 (dk_at dksX1_init_2 19 rfl rfl)
theorem dX1_init_67 : decode cX1_init 67 = .ok (.bipush 6, 2) := dk_16 6 (dk_at dksX1_init_2 20 rfl rfl)
theorem dX1_init_69 : decode cX1_init 69 = .ok (.newarray .int, 2) := dk_188_10 (dk_at dksX1_init_2 22 rfl rfl)
theorem dX1_init_71 : decode cX1_init 71 = .ok (.putfield 35, 3) := dk_181 0 35 (dk_at dksX1_init_3 0 rfl rfl)
theorem dX1_init_74 : decode cX1_init 74 = .ok (.aload_n 0, 1) := dk_42 (dk_at dksX1_init_3 3 rfl rfl)
theorem dX1_init_75 : decode cX1_init 75 = .ok (.bipush 6, 2) := dk_16 6 (dk_at dksX1_init_3 4 rfl rfl)
theorem dX1_init_77 : decode cX1_init 77 = .ok (.newarray .int, 2) := dk_188_10 (dk_at dksX1_init_3 6 rfl rfl)
theorem dX1_init_79 : decode cX1_init 79 = .ok (.putfield 38, 3) := dk_181 0 38 (dk_at dksX1_init_3 8 rfl rfl)
theorem dX1_init_82 : decode cX1_init 82 = .ok (.aload_n 0, 1) := dk_42 (dk_at dksX1_init_3 11 rfl rfl)
theorem dX1_init_83 : decode cX1_init 83 = .ok (.bipush 6, 2) := dk_16 6 (dk_at dksX1_init_3 12 rfl rfl)
theorem dX1_init_85 : decode cX1_init 85 = .ok (.newarray .int, 2) := dk_188_10 (dk_at dksX1_init_3 14 rfl rfl)
theorem dX1_init_87 : decode cX1_init 87 = .ok (.putfield 41, 3) := dk_181 0 41 (dk_at dksX1_init_3 16 rfl rfl)
theorem dX1_init_90 : decode cX1_init 90 = .ok (.aload_n 0, 1) := dk_42 (dk_at dksX1_init_3 19 rfl rfl)
theorem dX1_init_91 : decode cX1_init 91 = .ok (.bipush 6, 2) := dk_16 6 (dk_at dksX1_init_3 20 rfl rfl)
theorem dX1_init_93 : decode cX1_init 93 = .ok (.newarray .int, 2) := dk_188_10 (dk_at dksX1_init_3 22 rfl rfl)
theorem dX1_init_95 : decode cX1_init 95 = .ok (.putfield 44, 3) := dk_181 0 44 (dk_at dksX1_init_4 0 rfl rfl)
theorem dX1_init_98 : decode cX1_init 98 = .ok (.aload_n 0, 1) := dk_42 (dk_at dksX1_init_4 3 rfl rfl)
theorem dX1_init_99 : decode cX1_init 99 = .ok (.bipush 12, 2) := dk_16 12 (dk_at dksX1_init_4 4 rfl rfl)
theorem dX1_init_101 : decode cX1_init 101 = .ok (.anewarray 9, 3) := dk_189 0 9 (dk_at dksX1_init_4 6 rfl rfl)
theorem dX1_init_104 : decode cX1_init 104 = .ok (.putfield 47, 3) := dk_181 0 47 (dk_at dksX1_init_4 9 rfl rfl)
theorem dX1_init_107 : decode cX1_init 107 = .ok (.aload_n 0, 1) := dk_42 (dk_at dksX1_init_4 12 rfl rfl)
theorem dX1_init_108 : decode cX1_init 108 = .ok (.new 9, 3) := dk_187 0 9 (dk_at dksX1_init_4 13 rfl rfl)
theorem dX1_init_111 : decode cX1_init 111 = .ok (.dup, 1) := dk_89 (dk_at dksX1_init_4 16 rfl rfl)
theorem dX1_init_112 : decode cX1_init 112 = .ok (.invokespecial 11, 3) := dk_183 0 11 (dk_at dksX1_init_4 17 rfl rfl)
theorem dX1_init_115 : decode cX1_init 115 = .ok (.putfield 51, 3) := dk_181 0 51 (dk_at dksX1_init_4 20 rfl rfl)
theorem dX1_init_118 : decode cX1_init 118 = .ok (.aload_n 0, 1) := dk_42 (dk_at dksX1_init_4 23 rfl rfl)
theorem dX1_init_119 : decode cX1_init 119 = .ok (.bipush 6, 2) := dk_16 6 (dk_at dksX1_init_5 0 rfl rfl)
theorem dX1_init_121 : decode cX1_init 121 = .ok (.newarray .int, 2) := dk_188_10 (dk_at dksX1_init_5 2 rfl rfl)
theorem dX1_init_123 : decode cX1_init 123 = .ok (.putfield 54, 3) := dk_181 0 54 (dk_at dksX1_init_5 4 rfl rfl)
theorem dX1_init_126 : decode cX1_init 126 = .ok (.aload_n 0, 1) := dk_42 (dk_at dksX1_init_5 7 rfl rfl)
theorem dX1_init_127 : decode cX1_init 127 = .ok (.bipush 6, 2) := dk_16 6 (dk_at dksX1_init_5 8 rfl rfl)
theorem dX1_init_129 : decode cX1_init 129 = .ok (.newarray .int, 2) := dk_188_10 (dk_at dksX1_init_5 10 rfl rfl)
theorem dX1_init_131 : decode cX1_init 131 = .ok (.putfield 57, 3) := dk_181 0 57 (dk_at dksX1_init_5 12 rfl rfl)
theorem dX1_init_134 : decode cX1_init 134 = .ok (.aload_n 0, 1) := dk_42 (dk_at dksX1_init_5 15 rfl rfl)
theorem dX1_init_135 : decode cX1_init 135 = .ok (.bipush 60, 2) := dk_16 60 (dk_at dksX1_init_5 16 rfl rfl)
theorem dX1_init_137 : decode cX1_init 137 = .ok (.newarray .int, 2) := dk_188_10 (dk_at dksX1_init_5 18 rfl rfl)
theorem dX1_init_139 : decode cX1_init 139 = .ok (.putfield 60, 3) := dk_181 0 60 (dk_at dksX1_init_5 20 rfl rfl)
theorem dX1_init_142 : decode cX1_init 142 = .ok (.aload_n 0, 1) := dk_42 (dk_at dksX1_init_5 23 rfl rfl)
theorem dX1_init_143 : decode cX1_init 143 = .ok (.bipush 60, 2) := dk_16 60 (dk_at dksX1_init_6 0 rfl rfl)
theorem dX1_init_145 : decode cX1_init 145 = .ok (.newarray .int, 2) := dk_188_10 (dk_at dksX1_init_6 2 rfl rfl)
theorem dX1_init_147 : decode cX1_init 147 = .ok (.putfield 63, 3) := dk_181 0 63 (dk_at dksX1_init_6 4 rfl rfl)
theorem dX1_init_150 : decode cX1_init 150 = .ok (.aload_n 0, 1) := dk_42 (dk_at dksX1_init_6 7 rfl rfl)
theorem dX1_init_151 : decode cX1_init 151 = .ok (.bipush 60, 2) := dk_16 60 (dk_at dksX1_init_6 8 rfl rfl)
theorem dX1_init_153 : decode cX1_init 153 = .ok (.newarray .int, 2) := dk_188_10 (dk_at dksX1_init_6 10 rfl rfl)
theorem dX1_init_155 : decode cX1_init 155 = .ok (.putfield 66, 3) := dk_181 0 66 (dk_at dksX1_init_6 12 rfl rfl)
theorem dX1_init_158 : decode cX1_init 158 = .ok (.aload_n 0, 1) := dk_42 (dk_at dksX1_init_6 15 rfl rfl)
theorem dX1_init_159 : decode cX1_init 159 = .ok (.bipush 10, 2) := dk_16 10 (dk_at dksX1_init_6 16 rfl rfl)
theorem dX1_init_161 : decode cX1_init 161 = .ok (.newarray .int, 2) := dk_188_10 (dk_at dksX1_init_6 18 rfl rfl)
theorem dX1_init_163 : decode cX1_init 163 = .ok (.putfield 69, 3) := dk_181 0 69 (dk_at dksX1_init_6 20 rfl rfl)
theorem dX1_init_166 : decode cX1_init 166 = .ok (.aload_n 0, 1) := dk_42 (dk_at dksX1_init_6 23 rfl rfl)
theorem dX1_init_167 : decode cX1_init 167 = .ok (.bipush 10, 2) := dk_16 10 (dk_at dksX1_init_7 0 rfl rfl)
theorem dX1_init_169 : decode cX1_init 169 = .ok (.newarray .int, 2) := dk_188_10 (dk_at dksX1_init_7 2 rfl rfl)
theorem dX1_init_171 : decode cX1_init 171 = .ok (.putfield 72, 3) := dk_181 0 72 (dk_at dksX1_init_7 4 rfl rfl)
theorem dX1_init_174 : decode cX1_init 174 = .ok (.aload_n 0, 1) := dk_42 (dk_at dksX1_init_7 7 rfl rfl)
theorem dX1_init_175 : decode cX1_init 175 = .ok (.bipush 10, 2) := dk_16 10 (dk_at dksX1_init_7 8 rfl rfl)
theorem dX1_init_177 : decode cX1_init 177 = .ok (.newarray .int, 2) := dk_188_10 (dk_at dksX1_init_7 10 rfl rfl)
theorem dX1_init_179 : decode cX1_init 179 = .ok (.putfield 75, 3) := dk_181 0 75 (dk_at dksX1_init_7 12 rfl rfl)
theorem dX1_init_182 : decode cX1_init 182 = .ok (.aload_n 0, 1) := dk_42 (dk_at dksX1_init_7 15 rfl rfl)
theorem dX1_init_183 : decode cX1_init 183 = .ok (.bipush 55, 2) := dk_16 55 (dk_at dksX1_init_7 16 rfl rfl)
theorem dX1_init_185 : decode cX1_init 185 = .ok (.newarray .boolean, 2) := dk_188_4 (dk_at dksX1_init_7 18 rfl rfl)
theorem dX1_init_187 : decode cX1_init 187 = .ok (.putfield 78, 3) := dk_181 0 78 (dk_at dksX1_init_7 20 rfl rfl)
theorem dX1_init_190 : decode cX1_init 190 = .ok (.aload_n 0, 1) := dk_42 (dk_at dksX1_init_7 23 rfl rfl)
theorem dX1_init_191 : decode cX1_init 191 = .ok (.sipush 6930, 3) := dk_17 27 18 (dk_at dksX1_init_8 0 rfl rfl)
theorem dX1_init_194 : decode cX1_init 194 = .ok (.newarray .int, 2) := dk_188_10 (dk_at dksX1_init_8 3 rfl rfl)
theorem dX1_init_196 : decode cX1_init 196 = .ok (.putfield 82, 3) := dk_181 0 82 (dk_at dksX1_init_8 5 rfl rfl)
theorem dX1_init_199 : decode cX1_init 199 = .ok (.aload_n 0, 1) := dk_42 (dk_at dksX1_init_8 8 rfl rfl)
theorem dX1_init_200 : decode cX1_init 200 = .ok (.bipush 100, 2) := dk_16 100 (dk_at dksX1_init_8 9 rfl rfl)
theorem dX1_init_202 : decode cX1_init 202 = .ok (.newarray .int, 2) := dk_188_10 (dk_at dksX1_init_8 11 rfl rfl)
theorem dX1_init_204 : decode cX1_init 204 = .ok (.putfield 85, 3) := dk_181 0 85 (dk_at dksX1_init_8 13 rfl rfl)
theorem dX1_init_207 : decode cX1_init 207 = .ok (.aload_n 0, 1) := dk_42 (dk_at dksX1_init_8 16 rfl rfl)
theorem dX1_init_208 : decode cX1_init 208 = .ok (.bipush 6, 2) := dk_16 6 (dk_at dksX1_init_8 17 rfl rfl)
theorem dX1_init_210 : decode cX1_init 210 = .ok (.newarray .int, 2) := dk_188_10 (dk_at dksX1_init_8 19 rfl rfl)
theorem dX1_init_212 : decode cX1_init 212 = .ok (.putfield 88, 3) := dk_181 0 88 (dk_at dksX1_init_8 21 rfl rfl)
theorem dX1_init_215 : decode cX1_init 215 = .ok (.aload_n 0, 1) := dk_42 (dk_at dksX1_init_9 0 rfl rfl)
theorem dX1_init_216 : decode cX1_init 216 = .ok (.bipush 6, 2) := dk_16 6 (dk_at dksX1_init_9 1 rfl rfl)
theorem dX1_init_218 : decode cX1_init 218 = .ok (.newarray .int, 2) := dk_188_10 (dk_at dksX1_init_9 3 rfl rfl)
theorem dX1_init_220 : decode cX1_init 220 = .ok (.putfield 91, 3) := dk_181 0 91 (dk_at dksX1_init_9 5 rfl rfl)
theorem dX1_init_223 : decode cX1_init 223 = .ok (.aload_n 0, 1) := dk_42 (dk_at dksX1_init_9 8 rfl rfl)
theorem dX1_init_224 : decode cX1_init 224 = .ok (.bipush 6, 2) := dk_16 6 (dk_at dksX1_init_9 9 rfl rfl)
theorem dX1_init_226 : decode cX1_init 226 = .ok (.newarray .int, 2) := dk_188_10 (dk_at dksX1_init_9 11 rfl rfl)
theorem dX1_init_228 : decode cX1_init 228 = .ok (.putfield 94, 3) := dk_181 0 94 (dk_at dksX1_init_9 13 rfl rfl)
theorem dX1_init_231 : decode cX1_init 231 = .ok (.aload_n 0, 1) := dk_42 (dk_at dksX1_init_9 16 rfl rfl)
theorem dX1_init_232 : decode cX1_init 232 = .ok (.bipush 6, 2) := dk_16 6 (dk_at dksX1_init_9 17 rfl rfl)
theorem dX1_init_234 : decode cX1_init 234 = .ok (.newarray .long, 2) := dk_188_11 (dk_at dksX1_init_9 19 rfl rfl)
theorem dX1_init_236 : decode cX1_init 236 = .ok (.putfield 97, 3) := dk_181 0 97 (dk_at dksX1_init_9 21 rfl rfl)
theorem dX1_init_239 : decode cX1_init 239 = .ok (.aload_n 0, 1) := dk_42 (dk_at dksX1_init_10 0 rfl rfl)
theorem dX1_init_240 : decode cX1_init 240 = .ok (.bipush 6, 2) := dk_16 6 (dk_at dksX1_init_10 1 rfl rfl)
theorem dX1_init_242 : decode cX1_init 242 = .ok (.newarray .long, 2) := dk_188_11 (dk_at dksX1_init_10 3 rfl rfl)
theorem dX1_init_244 : decode cX1_init 244 = .ok (.putfield 101, 3) := dk_181 0 101 (dk_at dksX1_init_10 5 rfl rfl)
theorem dX1_init_247 : decode cX1_init 247 = .ok (.aload_n 0, 1) := dk_42 (dk_at dksX1_init_10 8 rfl rfl)
theorem dX1_init_248 : decode cX1_init 248 = .ok (.iconst 2, 1) := dk_5 (dk_at dksX1_init_10 9 rfl rfl)
theorem dX1_init_249 : decode cX1_init 249 = .ok (.anewarray 9, 3) := dk_189 0 9 (dk_at dksX1_init_10 10 rfl rfl)
theorem dX1_init_252 : decode cX1_init 252 = .ok (.putfield 104, 3) := dk_181 0 104 (dk_at dksX1_init_10 13 rfl rfl)
theorem dX1_init_255 : decode cX1_init 255 = .ok (.aload_n 0, 1) := dk_42 (dk_at dksX1_init_10 16 rfl rfl)
theorem dX1_init_256 : decode cX1_init 256 = .ok (.iconst 2, 1) := dk_5 (dk_at dksX1_init_10 17 rfl rfl)
theorem dX1_init_257 : decode cX1_init 257 = .ok (.newarray .int, 2) := dk_188_10 (dk_at dksX1_init_10 18 rfl rfl)
theorem dX1_init_259 : decode cX1_init 259 = .ok (.putfield 107, 3) := dk_181 0 107 (dk_at dksX1_init_10 20 rfl rfl)
theorem dX1_init_262 : decode cX1_init 262 = .ok (.aload_n 0, 1) := dk_42 (dk_at dksX1_init_10 23 rfl rfl)
theorem dX1_init_263 : decode cX1_init 263 = .ok (.bipush 16, 2) := dk_16 16 (dk_at dksX1_init_11 0 rfl rfl)
theorem dX1_init_265 : decode cX1_init 265 = .ok (.newarray .long, 2) := dk_188_11 (dk_at dksX1_init_11 2 rfl rfl)
theorem dX1_init_267 : decode cX1_init 267 = .ok (.putfield 110, 3) := dk_181 0 110 (dk_at dksX1_init_11 4 rfl rfl)
theorem dX1_init_270 : decode cX1_init 270 = .ok (.return_, 1) := dk_177 (dk_at dksX1_init_11 7 rfl rfl)
abbrev cX1_sign : ByteArray := prog_1_method_12_code
def yX1_sign : MethodName := ⟨RX1, "sign", "(I)I"⟩
def dkwX1_sign_2 : List UInt8 := [167, 255, 224, 42, 89, 180, 0, 143, 7, 96, 181, 0, 143, 42, 180, 0, 143, 172]
abbrev dktX1_sign_2 : List UInt8 := dkwX1_sign_2 ++ []
def dkwX1_sign_1 : List UInt8 := [180, 0, 143, 28, 96, 27, 16, 24, 16, 8, 28, 104, 100, 122, 17, 0, 255, 126, 79, 132, 2, 1]
abbrev dktX1_sign_1 : List UInt8 := dkwX1_sign_1 ++ dktX1_sign_2
def dkwX1_sign_0 : List UInt8 := [42, 180, 0, 143, 16, 76, 164, 0, 5, 2, 172, 3, 61, 28, 7, 162, 0, 33, 42, 180, 0, 29, 42]
abbrev dktX1_sign_0 : List UInt8 := dkwX1_sign_0 ++ dktX1_sign_1
theorem dksX1_sign_0 : cX1_sign.data.toList.drop 0 = dktX1_sign_0 := by decide +kernel
theorem dksX1_sign_1 : cX1_sign.data.toList.drop 23 = dktX1_sign_1 := dk_seg dksX1_sign_0 23 rfl rfl
theorem dksX1_sign_2 : cX1_sign.data.toList.drop 45 = dktX1_sign_2 := dk_seg dksX1_sign_1 22 rfl rfl
theorem dX1_sign_0 : decode cX1_sign 0 = .ok (.aload_n 0, 1) := dk_42 (dk_at dksX1_sign_0 0 rfl rfl)
theorem dX1_sign_1 : decode cX1_sign 1 = .ok (.getfield 143, 3) := dk_180 0 143 (dk_at dksX1_sign_0 1 rfl rfl)
theorem dX1_sign_4 : decode cX1_sign 4 = .ok (.bipush 76, 2) := dk_16 76 (dk_at dksX1_sign_0 4 rfl rfl)
theorem dX1_sign_6 : decode cX1_sign 6 = .ok (.if_icmp .le 5, 3) := dk_164 0 5 (dk_at dksX1_sign_0 6 rfl rfl)
theorem dX1_sign_9 : decode cX1_sign 9 = .ok (.iconst (-1), 1) := dk_2 (dk_at dksX1_sign_0 9 rfl rfl)
theorem dX1_sign_10 : decode cX1_sign 10 = .ok (.ireturn, 1) := dk_172 (dk_at dksX1_sign_0 10 rfl rfl)
theorem dX1_sign_11 : decode cX1_sign 11 = .ok (.iconst 0, 1) := dk_3 (dk_at dksX1_sign_0 11 rfl rfl)
theorem dX1_sign_12 : decode cX1_sign 12 = .ok (.istore_n 2, 1) := dk_61 (dk_at dksX1_sign_0 12 rfl rfl)
theorem dX1_sign_13 : decode cX1_sign 13 = .ok (.iload_n 2, 1) := dk_28 (dk_at dksX1_sign_0 13 rfl rfl)
theorem dX1_sign_14 : decode cX1_sign 14 = .ok (.iconst 4, 1) := dk_7 (dk_at dksX1_sign_0 14 rfl rfl)
theorem dX1_sign_15 : decode cX1_sign 15 = .ok (.if_icmp .ge 33, 3) := dk_162 0 33 (dk_at dksX1_sign_0 15 rfl rfl)
theorem dX1_sign_18 : decode cX1_sign 18 = .ok (.aload_n 0, 1) := dk_42 (dk_at dksX1_sign_0 18 rfl rfl)
theorem dX1_sign_19 : decode cX1_sign 19 = .ok (.getfield 29, 3) := dk_180 0 29 (dk_at dksX1_sign_0 19 rfl rfl)
theorem dX1_sign_22 : decode cX1_sign 22 = .ok (.aload_n 0, 1) := dk_42 (dk_at dksX1_sign_0 22 rfl rfl)
theorem dX1_sign_23 : decode cX1_sign 23 = .ok (.getfield 143, 3) := dk_180 0 143 (dk_at dksX1_sign_1 0 rfl rfl)
theorem dX1_sign_26 : decode cX1_sign 26 = .ok (.iload_n 2, 1) := dk_28 (dk_at dksX1_sign_1 3 rfl rfl)
theorem dX1_sign_27 : decode cX1_sign 27 = .ok (.iadd, 1) := dk_96 (dk_at dksX1_sign_1 4 rfl rfl)
theorem dX1_sign_28 : decode cX1_sign 28 = .ok (.iload_n 1, 1) := dk_27 (dk_at dksX1_sign_1 5 rfl rfl)
theorem dX1_sign_29 : decode cX1_sign 29 = .ok (.bipush 24, 2) := dk_16 24 (dk_at dksX1_sign_1 6 rfl rfl)
theorem dX1_sign_31 : decode cX1_sign 31 = .ok (.bipush 8, 2) := dk_16 8 (dk_at dksX1_sign_1 8 rfl rfl)
theorem dX1_sign_33 : decode cX1_sign 33 = .ok (.iload_n 2, 1) := dk_28 (dk_at dksX1_sign_1 10 rfl rfl)
theorem dX1_sign_34 : decode cX1_sign 34 = .ok (.imul, 1) := dk_104 (dk_at dksX1_sign_1 11 rfl rfl)
theorem dX1_sign_35 : decode cX1_sign 35 = .ok (.isub, 1) := dk_100 (dk_at dksX1_sign_1 12 rfl rfl)
theorem dX1_sign_36 : decode cX1_sign 36 = .ok (.ishr, 1) := dk_122 (dk_at dksX1_sign_1 13 rfl rfl)
theorem dX1_sign_37 : decode cX1_sign 37 = .ok (.sipush 255, 3) := dk_17 0 255 (dk_at dksX1_sign_1 14 rfl rfl)
theorem dX1_sign_40 : decode cX1_sign 40 = .ok (.iand, 1) := dk_126 (dk_at dksX1_sign_1 17 rfl rfl)
theorem dX1_sign_41 : decode cX1_sign 41 = .ok (.iastore, 1) := dk_79 (dk_at dksX1_sign_1 18 rfl rfl)
theorem dX1_sign_42 : decode cX1_sign 42 = .ok (.iinc 2 1, 3) := dk_132 2 1 (dk_at dksX1_sign_1 19 rfl rfl)
theorem dX1_sign_45 : decode cX1_sign 45 = .ok (.goto (-32), 3) := dk_167 255 224 (dk_at dksX1_sign_2 0 rfl rfl)
theorem dX1_sign_48 : decode cX1_sign 48 = .ok (.aload_n 0, 1) := dk_42 (dk_at dksX1_sign_2 3 rfl rfl)
theorem dX1_sign_49 : decode cX1_sign 49 = .ok (.dup, 1) := dk_89 (dk_at dksX1_sign_2 4 rfl rfl)
theorem dX1_sign_50 : decode cX1_sign 50 = .ok (.getfield 143, 3) := dk_180 0 143 (dk_at dksX1_sign_2 5 rfl rfl)
theorem dX1_sign_53 : decode cX1_sign 53 = .ok (.iconst 4, 1) := dk_7 (dk_at dksX1_sign_2 8 rfl rfl)
theorem dX1_sign_54 : decode cX1_sign 54 = .ok (.iadd, 1) := dk_96 (dk_at dksX1_sign_2 9 rfl rfl)
theorem dX1_sign_55 : decode cX1_sign 55 = .ok (.putfield 143, 3) := dk_181 0 143 (dk_at dksX1_sign_2 10 rfl rfl)
theorem dX1_sign_58 : decode cX1_sign 58 = .ok (.aload_n 0, 1) := dk_42 (dk_at dksX1_sign_2 13 rfl rfl)
theorem dX1_sign_59 : decode cX1_sign 59 = .ok (.getfield 143, 3) := dk_180 0 143 (dk_at dksX1_sign_2 14 rfl rfl)
theorem dX1_sign_62 : decode cX1_sign 62 = .ok (.ireturn, 1) := dk_172 (dk_at dksX1_sign_2 17 rfl rfl)
abbrev cX1_end : ByteArray := prog_1_method_13_code
def yX1_end : MethodName := ⟨RX1, "end", "(I)Z"⟩
def dkwX1_end_0 : List UInt8 := [27, 133, 9, 42, 180, 0, 143, 133, 184, 0, 121, 154, 0, 5, 3, 172, 42, 27, 181, 0, 143, 4, 172]
abbrev dktX1_end_0 : List UInt8 := dkwX1_end_0 ++ []
theorem dksX1_end_0 : cX1_end.data.toList.drop 0 = dktX1_end_0 := by decide +kernel
theorem dX1_end_0 : decode cX1_end 0 = .ok (.iload_n 1, 1) := dk_27 (dk_at dksX1_end_0 0 rfl rfl)
theorem dX1_end_1 : decode cX1_end 1 = .ok (.i2l, 1) := dk_133 (dk_at dksX1_end_0 1 rfl rfl)
theorem dX1_end_2 : decode cX1_end 2 = .ok (.lconst 0, 1) := dk_9 (dk_at dksX1_end_0 2 rfl rfl)
theorem dX1_end_3 : decode cX1_end 3 = .ok (.aload_n 0, 1) := dk_42 (dk_at dksX1_end_0 3 rfl rfl)
theorem dX1_end_4 : decode cX1_end 4 = .ok (.getfield 143, 3) := dk_180 0 143 (dk_at dksX1_end_0 4 rfl rfl)
theorem dX1_end_7 : decode cX1_end 7 = .ok (.i2l, 1) := dk_133 (dk_at dksX1_end_0 7 rfl rfl)
theorem dX1_end_8 : decode cX1_end 8 = .ok (.invokestatic 121, 3) := dk_184 0 121 (dk_at dksX1_end_0 8 rfl rfl)
theorem dX1_end_11 : decode cX1_end 11 = .ok (.ifCond .ne 5, 3) := dk_154 0 5 (dk_at dksX1_end_0 11 rfl rfl)
theorem dX1_end_14 : decode cX1_end 14 = .ok (.iconst 0, 1) := dk_3 (dk_at dksX1_end_0 14 rfl rfl)
theorem dX1_end_15 : decode cX1_end 15 = .ok (.ireturn, 1) := dk_172 (dk_at dksX1_end_0 15 rfl rfl)
theorem dX1_end_16 : decode cX1_end 16 = .ok (.aload_n 0, 1) := dk_42 (dk_at dksX1_end_0 16 rfl rfl)
theorem dX1_end_17 : decode cX1_end 17 = .ok (.iload_n 1, 1) := dk_27 (dk_at dksX1_end_0 17 rfl rfl)
theorem dX1_end_18 : decode cX1_end 18 = .ok (.putfield 143, 3) := dk_181 0 143 (dk_at dksX1_end_0 18 rfl rfl)
theorem dX1_end_21 : decode cX1_end 21 = .ok (.iconst 1, 1) := dk_4 (dk_at dksX1_end_0 21 rfl rfl)
theorem dX1_end_22 : decode cX1_end 22 = .ok (.ireturn, 1) := dk_172 (dk_at dksX1_end_0 22 rfl rfl)
abbrev cX1_in : ByteArray := prog_1_method_2_code
def yX1_in : MethodName := ⟨RX1, "in", "(JJJ)Z"⟩
def dkwX1_in_0 : List UInt8 := [30, 32, 148, 155, 0, 14, 30, 22, 4, 148, 157, 0, 7, 4, 167, 0, 4, 3, 172]
abbrev dktX1_in_0 : List UInt8 := dkwX1_in_0 ++ []
theorem dksX1_in_0 : cX1_in.data.toList.drop 0 = dktX1_in_0 := by decide +kernel
theorem dX1_in_0 : decode cX1_in 0 = .ok (.lload_n 0, 1) := dk_30 (dk_at dksX1_in_0 0 rfl rfl)
theorem dX1_in_1 : decode cX1_in 1 = .ok (.lload_n 2, 1) := dk_32 (dk_at dksX1_in_0 1 rfl rfl)
theorem dX1_in_2 : decode cX1_in 2 = .ok (.lcmp, 1) := dk_148 (dk_at dksX1_in_0 2 rfl rfl)
theorem dX1_in_3 : decode cX1_in 3 = .ok (.ifCond .lt 14, 3) := dk_155 0 14 (dk_at dksX1_in_0 3 rfl rfl)
theorem dX1_in_6 : decode cX1_in 6 = .ok (.lload_n 0, 1) := dk_30 (dk_at dksX1_in_0 6 rfl rfl)
theorem dX1_in_7 : decode cX1_in 7 = .ok (.lload 4, 2) := dk_22 4 (dk_at dksX1_in_0 7 rfl rfl)
theorem dX1_in_9 : decode cX1_in 9 = .ok (.lcmp, 1) := dk_148 (dk_at dksX1_in_0 9 rfl rfl)
theorem dX1_in_10 : decode cX1_in 10 = .ok (.ifCond .gt 7, 3) := dk_157 0 7 (dk_at dksX1_in_0 10 rfl rfl)
theorem dX1_in_13 : decode cX1_in 13 = .ok (.iconst 1, 1) := dk_4 (dk_at dksX1_in_0 13 rfl rfl)
theorem dX1_in_14 : decode cX1_in 14 = .ok (.goto 4, 3) := dk_167 0 4 (dk_at dksX1_in_0 14 rfl rfl)
theorem dX1_in_17 : decode cX1_in 17 = .ok (.iconst 0, 1) := dk_3 (dk_at dksX1_in_0 17 rfl rfl)
theorem dX1_in_18 : decode cX1_in 18 = .ok (.ireturn, 1) := dk_172 (dk_at dksX1_in_0 18 rfl rfl)
abbrev cX1_lakes : ByteArray := prog_1_method_25_code
def yX1_lakes : MethodName := ⟨RX1, "lakes", "()I"⟩
def dkwX1_lakes_4 : List UInt8 := [42, 3, 181, 0, 226, 42, 89, 180, 0, 229, 4, 96, 181, 0, 229, 42, 180, 0, 186, 172]
abbrev dktX1_lakes_4 : List UInt8 := dkwX1_lakes_4 ++ []
def dkwX1_lakes_3 : List UInt8 := [3, 54, 5, 21, 5, 42, 180, 0, 186, 162, 0, 15, 42, 21, 5, 182, 0, 222, 132, 5, 1, 167, 255, 238]
abbrev dktX1_lakes_3 : List UInt8 := dkwX1_lakes_3 ++ dktX1_lakes_4
def dkwX1_lakes_2 : List UInt8 := [167, 0, 4, 3, 62, 167, 255, 228, 42, 27, 28, 182, 0, 218, 54, 4, 21, 4, 156, 0, 6, 21, 4, 172]
abbrev dktX1_lakes_2 : List UInt8 := dkwX1_lakes_2 ++ dktX1_lakes_3
def dkwX1_lakes_1 : List UInt8 := [153, 0, 30, 42, 182, 0, 215, 61, 28, 153, 0, 16, 42, 16, 59, 182, 0, 197, 153, 0, 7, 4]
abbrev dktX1_lakes_1 : List UInt8 := dkwX1_lakes_1 ++ dktX1_lakes_2
def dkwX1_lakes_0 : List UInt8 := [42, 16, 41, 182, 0, 212, 60, 27, 154, 0, 5, 3, 172, 42, 3, 181, 0, 186, 4, 61, 4, 62, 29]
abbrev dktX1_lakes_0 : List UInt8 := dkwX1_lakes_0 ++ dktX1_lakes_1
theorem dksX1_lakes_0 : cX1_lakes.data.toList.drop 0 = dktX1_lakes_0 := by decide +kernel
theorem dksX1_lakes_1 : cX1_lakes.data.toList.drop 23 = dktX1_lakes_1 := dk_seg dksX1_lakes_0 23 rfl rfl
theorem dksX1_lakes_2 : cX1_lakes.data.toList.drop 45 = dktX1_lakes_2 := dk_seg dksX1_lakes_1 22 rfl rfl
theorem dksX1_lakes_3 : cX1_lakes.data.toList.drop 69 = dktX1_lakes_3 := dk_seg dksX1_lakes_2 24 rfl rfl
theorem dksX1_lakes_4 : cX1_lakes.data.toList.drop 93 = dktX1_lakes_4 := dk_seg dksX1_lakes_3 24 rfl rfl
theorem dX1_lakes_0 : decode cX1_lakes 0 = .ok (.aload_n 0, 1) := dk_42 (dk_at dksX1_lakes_0 0 rfl rfl)
theorem dX1_lakes_1 : decode cX1_lakes 1 = .ok (.bipush 41, 2) := dk_16 41 (dk_at dksX1_lakes_0 1 rfl rfl)
theorem dX1_lakes_3 : decode cX1_lakes 3 = .ok (.invokevirtual 212, 3) := dk_182 0 212 (dk_at dksX1_lakes_0 3 rfl rfl)
theorem dX1_lakes_6 : decode cX1_lakes 6 = .ok (.istore_n 1, 1) := dk_60 (dk_at dksX1_lakes_0 6 rfl rfl)
theorem dX1_lakes_7 : decode cX1_lakes 7 = .ok (.iload_n 1, 1) := dk_27 (dk_at dksX1_lakes_0 7 rfl rfl)
theorem dX1_lakes_8 : decode cX1_lakes 8 = .ok (.ifCond .ne 5, 3) := dk_154 0 5 (dk_at dksX1_lakes_0 8 rfl rfl)
theorem dX1_lakes_11 : decode cX1_lakes 11 = .ok (.iconst 0, 1) := dk_3 (dk_at dksX1_lakes_0 11 rfl rfl)
theorem dX1_lakes_12 : decode cX1_lakes 12 = .ok (.ireturn, 1) := dk_172 (dk_at dksX1_lakes_0 12 rfl rfl)
theorem dX1_lakes_13 : decode cX1_lakes 13 = .ok (.aload_n 0, 1) := dk_42 (dk_at dksX1_lakes_0 13 rfl rfl)
theorem dX1_lakes_14 : decode cX1_lakes 14 = .ok (.iconst 0, 1) := dk_3 (dk_at dksX1_lakes_0 14 rfl rfl)
theorem dX1_lakes_15 : decode cX1_lakes 15 = .ok (.putfield 186, 3) := dk_181 0 186 (dk_at dksX1_lakes_0 15 rfl rfl)
theorem dX1_lakes_18 : decode cX1_lakes 18 = .ok (.iconst 1, 1) := dk_4 (dk_at dksX1_lakes_0 18 rfl rfl)
theorem dX1_lakes_19 : decode cX1_lakes 19 = .ok (.istore_n 2, 1) := dk_61 (dk_at dksX1_lakes_0 19 rfl rfl)
theorem dX1_lakes_20 : decode cX1_lakes 20 = .ok (.iconst 1, 1) := dk_4 (dk_at dksX1_lakes_0 20 rfl rfl)
theorem dX1_lakes_21 : decode cX1_lakes 21 = .ok (.istore_n 3, 1) := dk_62 (dk_at dksX1_lakes_0 21 rfl rfl)
theorem dX1_lakes_22 : decode cX1_lakes 22 = .ok (.iload_n 3, 1) := dk_29 (dk_at dksX1_lakes_0 22 rfl rfl)
theorem dX1_lakes_23 : decode cX1_lakes 23 = .ok (.ifCond .eq 30, 3) := dk_153 0 30 (dk_at dksX1_lakes_1 0 rfl rfl)
theorem dX1_lakes_26 : decode cX1_lakes 26 = .ok (.aload_n 0, 1) := dk_42 (dk_at dksX1_lakes_1 3 rfl rfl)
theorem dX1_lakes_27 : decode cX1_lakes 27 = .ok (.invokevirtual 215, 3) := dk_182 0 215 (dk_at dksX1_lakes_1 4 rfl rfl)
theorem dX1_lakes_30 : decode cX1_lakes 30 = .ok (.istore_n 2, 1) := dk_61 (dk_at dksX1_lakes_1 7 rfl rfl)
theorem dX1_lakes_31 : decode cX1_lakes 31 = .ok (.iload_n 2, 1) := dk_28 (dk_at dksX1_lakes_1 8 rfl rfl)
theorem dX1_lakes_32 : decode cX1_lakes 32 = .ok (.ifCond .eq 16, 3) := dk_153 0 16 (dk_at dksX1_lakes_1 9 rfl rfl)
theorem dX1_lakes_35 : decode cX1_lakes 35 = .ok (.aload_n 0, 1) := dk_42 (dk_at dksX1_lakes_1 12 rfl rfl)
theorem dX1_lakes_36 : decode cX1_lakes 36 = .ok (.bipush 59, 2) := dk_16 59 (dk_at dksX1_lakes_1 13 rfl rfl)
theorem dX1_lakes_38 : decode cX1_lakes 38 = .ok (.invokevirtual 197, 3) := dk_182 0 197 (dk_at dksX1_lakes_1 15 rfl rfl)
theorem dX1_lakes_41 : decode cX1_lakes 41 = .ok (.ifCond .eq 7, 3) := dk_153 0 7 (dk_at dksX1_lakes_1 18 rfl rfl)
theorem dX1_lakes_44 : decode cX1_lakes 44 = .ok (.iconst 1, 1) := dk_4 (dk_at dksX1_lakes_1 21 rfl rfl)
theorem dX1_lakes_45 : decode cX1_lakes 45 = .ok (.goto 4, 3) := dk_167 0 4 (dk_at dksX1_lakes_2 0 rfl rfl)
theorem dX1_lakes_48 : decode cX1_lakes 48 = .ok (.iconst 0, 1) := dk_3 (dk_at dksX1_lakes_2 3 rfl rfl)
theorem dX1_lakes_49 : decode cX1_lakes 49 = .ok (.istore_n 3, 1) := dk_62 (dk_at dksX1_lakes_2 4 rfl rfl)
theorem dX1_lakes_50 : decode cX1_lakes 50 = .ok (.goto (-28), 3) := dk_167 255 228 (dk_at dksX1_lakes_2 5 rfl rfl)
theorem dX1_lakes_53 : decode cX1_lakes 53 = .ok (.aload_n 0, 1) := dk_42 (dk_at dksX1_lakes_2 8 rfl rfl)
theorem dX1_lakes_54 : decode cX1_lakes 54 = .ok (.iload_n 1, 1) := dk_27 (dk_at dksX1_lakes_2 9 rfl rfl)
theorem dX1_lakes_55 : decode cX1_lakes 55 = .ok (.iload_n 2, 1) := dk_28 (dk_at dksX1_lakes_2 10 rfl rfl)
theorem dX1_lakes_56 : decode cX1_lakes 56 = .ok (.invokevirtual 218, 3) := dk_182 0 218 (dk_at dksX1_lakes_2 11 rfl rfl)
theorem dX1_lakes_59 : decode cX1_lakes 59 = .ok (.istore 4, 2) := dk_54 4 (dk_at dksX1_lakes_2 14 rfl rfl)
theorem dX1_lakes_61 : decode cX1_lakes 61 = .ok (.iload 4, 2) := dk_21 4 (dk_at dksX1_lakes_2 16 rfl rfl)
theorem dX1_lakes_63 : decode cX1_lakes 63 = .ok (.ifCond .ge 6, 3) := dk_156 0 6 (dk_at dksX1_lakes_2 18 rfl rfl)
theorem dX1_lakes_66 : decode cX1_lakes 66 = .ok (.iload 4, 2) := dk_21 4 (dk_at dksX1_lakes_2 21 rfl rfl)
theorem dX1_lakes_68 : decode cX1_lakes 68 = .ok (.ireturn, 1) := dk_172 (dk_at dksX1_lakes_2 23 rfl rfl)
theorem dX1_lakes_69 : decode cX1_lakes 69 = .ok (.iconst 0, 1) := dk_3 (dk_at dksX1_lakes_3 0 rfl rfl)
theorem dX1_lakes_70 : decode cX1_lakes 70 = .ok (.istore 5, 2) := dk_54 5 (dk_at dksX1_lakes_3 1 rfl rfl)
theorem dX1_lakes_72 : decode cX1_lakes 72 = .ok (.iload 5, 2) := dk_21 5 (dk_at dksX1_lakes_3 3 rfl rfl)
theorem dX1_lakes_74 : decode cX1_lakes 74 = .ok (.aload_n 0, 1) := dk_42 (dk_at dksX1_lakes_3 5 rfl rfl)
theorem dX1_lakes_75 : decode cX1_lakes 75 = .ok (.getfield 186, 3) := dk_180 0 186 (dk_at dksX1_lakes_3 6 rfl rfl)
theorem dX1_lakes_78 : decode cX1_lakes 78 = .ok (.if_icmp .ge 15, 3) := dk_162 0 15 (dk_at dksX1_lakes_3 9 rfl rfl)
theorem dX1_lakes_81 : decode cX1_lakes 81 = .ok (.aload_n 0, 1) := dk_42 (dk_at dksX1_lakes_3 12 rfl rfl)
theorem dX1_lakes_82 : decode cX1_lakes 82 = .ok (.iload 5, 2) := dk_21 5 (dk_at dksX1_lakes_3 13 rfl rfl)
theorem dX1_lakes_84 : decode cX1_lakes 84 = .ok (.invokevirtual 222, 3) := dk_182 0 222 (dk_at dksX1_lakes_3 15 rfl rfl)
theorem dX1_lakes_87 : decode cX1_lakes 87 = .ok (.iinc 5 1, 3) := dk_132 5 1 (dk_at dksX1_lakes_3 18 rfl rfl)
theorem dX1_lakes_90 : decode cX1_lakes 90 = .ok (.goto (-18), 3) := dk_167 255 238 (dk_at dksX1_lakes_3 21 rfl rfl)
theorem dX1_lakes_93 : decode cX1_lakes 93 = .ok (.aload_n 0, 1) := dk_42 (dk_at dksX1_lakes_4 0 rfl rfl)
theorem dX1_lakes_94 : decode cX1_lakes 94 = .ok (.iconst 0, 1) := dk_3 (dk_at dksX1_lakes_4 1 rfl rfl)
theorem dX1_lakes_95 : decode cX1_lakes 95 = .ok (.putfield 226, 3) := dk_181 0 226 (dk_at dksX1_lakes_4 2 rfl rfl)
theorem dX1_lakes_98 : decode cX1_lakes 98 = .ok (.aload_n 0, 1) := dk_42 (dk_at dksX1_lakes_4 5 rfl rfl)
theorem dX1_lakes_99 : decode cX1_lakes 99 = .ok (.dup, 1) := dk_89 (dk_at dksX1_lakes_4 6 rfl rfl)
theorem dX1_lakes_100 : decode cX1_lakes 100 = .ok (.getfield 229, 3) := dk_180 0 229 (dk_at dksX1_lakes_4 7 rfl rfl)
theorem dX1_lakes_103 : decode cX1_lakes 103 = .ok (.iconst 1, 1) := dk_4 (dk_at dksX1_lakes_4 10 rfl rfl)
theorem dX1_lakes_104 : decode cX1_lakes 104 = .ok (.iadd, 1) := dk_96 (dk_at dksX1_lakes_4 11 rfl rfl)
theorem dX1_lakes_105 : decode cX1_lakes 105 = .ok (.putfield 229, 3) := dk_181 0 229 (dk_at dksX1_lakes_4 12 rfl rfl)
theorem dX1_lakes_108 : decode cX1_lakes 108 = .ok (.aload_n 0, 1) := dk_42 (dk_at dksX1_lakes_4 15 rfl rfl)
theorem dX1_lakes_109 : decode cX1_lakes 109 = .ok (.getfield 186, 3) := dk_180 0 186 (dk_at dksX1_lakes_4 16 rfl rfl)
theorem dX1_lakes_112 : decode cX1_lakes 112 = .ok (.ireturn, 1) := dk_172 (dk_at dksX1_lakes_4 19 rfl rfl)
abbrev cX1_begins : ByteArray := prog_1_method_14_code
def yX1_begins : MethodName := ⟨RX1, "begins", "(I)I"⟩
def dkwX1_begins_1 : List UInt8 := [184, 0, 152, 181, 0, 158, 28, 172]
abbrev dktX1_begins_1 : List UInt8 := dkwX1_begins_1 ++ []
def dkwX1_begins_0 : List UInt8 := [42, 180, 0, 143, 61, 42, 3, 181, 0, 143, 42, 3, 181, 0, 146, 42, 3, 181, 0, 149, 42, 28, 27]
abbrev dktX1_begins_0 : List UInt8 := dkwX1_begins_0 ++ dktX1_begins_1
theorem dksX1_begins_0 : cX1_begins.data.toList.drop 0 = dktX1_begins_0 := by decide +kernel
theorem dksX1_begins_1 : cX1_begins.data.toList.drop 23 = dktX1_begins_1 := dk_seg dksX1_begins_0 23 rfl rfl
theorem dX1_begins_0 : decode cX1_begins 0 = .ok (.aload_n 0, 1) := dk_42 (dk_at dksX1_begins_0 0 rfl rfl)
theorem dX1_begins_1 : decode cX1_begins 1 = .ok (.getfield 143, 3) := dk_180 0 143 (dk_at dksX1_begins_0 1 rfl rfl)
theorem dX1_begins_4 : decode cX1_begins 4 = .ok (.istore_n 2, 1) := dk_61 (dk_at dksX1_begins_0 4 rfl rfl)
theorem dX1_begins_5 : decode cX1_begins 5 = .ok (.aload_n 0, 1) := dk_42 (dk_at dksX1_begins_0 5 rfl rfl)
theorem dX1_begins_6 : decode cX1_begins 6 = .ok (.iconst 0, 1) := dk_3 (dk_at dksX1_begins_0 6 rfl rfl)
theorem dX1_begins_7 : decode cX1_begins 7 = .ok (.putfield 143, 3) := dk_181 0 143 (dk_at dksX1_begins_0 7 rfl rfl)
theorem dX1_begins_10 : decode cX1_begins 10 = .ok (.aload_n 0, 1) := dk_42 (dk_at dksX1_begins_0 10 rfl rfl)
theorem dX1_begins_11 : decode cX1_begins 11 = .ok (.iconst 0, 1) := dk_3 (dk_at dksX1_begins_0 11 rfl rfl)
theorem dX1_begins_12 : decode cX1_begins 12 = .ok (.putfield 146, 3) := dk_181 0 146 (dk_at dksX1_begins_0 12 rfl rfl)
theorem dX1_begins_15 : decode cX1_begins 15 = .ok (.aload_n 0, 1) := dk_42 (dk_at dksX1_begins_0 15 rfl rfl)
theorem dX1_begins_16 : decode cX1_begins 16 = .ok (.iconst 0, 1) := dk_3 (dk_at dksX1_begins_0 16 rfl rfl)
theorem dX1_begins_17 : decode cX1_begins 17 = .ok (.putfield 149, 3) := dk_181 0 149 (dk_at dksX1_begins_0 17 rfl rfl)
theorem dX1_begins_20 : decode cX1_begins 20 = .ok (.aload_n 0, 1) := dk_42 (dk_at dksX1_begins_0 20 rfl rfl)
theorem dX1_begins_21 : decode cX1_begins 21 = .ok (.iload_n 2, 1) := dk_28 (dk_at dksX1_begins_0 21 rfl rfl)
theorem dX1_begins_22 : decode cX1_begins 22 = .ok (.iload_n 1, 1) := dk_27 (dk_at dksX1_begins_0 22 rfl rfl)
theorem dX1_begins_23 : decode cX1_begins 23 = .ok (.invokestatic 152, 3) := dk_184 0 152 (dk_at dksX1_begins_1 0 rfl rfl)
theorem dX1_begins_26 : decode cX1_begins 26 = .ok (.putfield 158, 3) := dk_181 0 158 (dk_at dksX1_begins_1 3 rfl rfl)
theorem dX1_begins_29 : decode cX1_begins 29 = .ok (.iload_n 2, 1) := dk_28 (dk_at dksX1_begins_1 6 rfl rfl)
theorem dX1_begins_30 : decode cX1_begins 30 = .ok (.ireturn, 1) := dk_172 (dk_at dksX1_begins_1 7 rfl rfl)
abbrev cX1_readsLake : ByteArray := prog_1_method_23_code
def yX1_readsLake : MethodName := ⟨RX1, "readsLake", "()Z"⟩
def dkwX1_readsLake_7 : List UInt8 := [180, 0, 186, 4, 96, 181, 0, 186, 4, 172]
abbrev dktX1_readsLake_7 : List UInt8 := dkwX1_readsLake_7 ++ []
def dkwX1_readsLake_6 : List UInt8 := [182, 0, 202, 182, 0, 194, 79, 28, 154, 0, 14, 42, 180, 0, 44, 27, 46, 156, 0, 5, 3, 172, 42, 89]
abbrev dktX1_readsLake_6 : List UInt8 := dkwX1_readsLake_6 ++ dktX1_readsLake_7
def dkwX1_readsLake_5 : List UInt8 := [180, 0, 44, 27, 28, 153, 0, 7, 2, 167, 0, 19, 42, 18, 200, 3, 42, 180, 0, 117, 27, 96]
abbrev dktX1_readsLake_5 : List UInt8 := dkwX1_readsLake_5 ++ dktX1_readsLake_6
def dkwX1_readsLake_4 : List UInt8 := [182, 0, 194, 79, 42, 180, 0, 41, 27, 46, 156, 0, 5, 3, 172, 42, 16, 45, 182, 0, 197, 61, 42]
abbrev dktX1_readsLake_4 : List UInt8 := dkwX1_readsLake_4 ++ dktX1_readsLake_5
def dkwX1_readsLake_3 : List UInt8 := [182, 0, 183, 79, 42, 180, 0, 38, 27, 46, 156, 0, 5, 3, 172, 42, 180, 0, 41, 27, 42, 18, 192]
abbrev dktX1_readsLake_3 : List UInt8 := dkwX1_readsLake_3 ++ dktX1_readsLake_4
def dkwX1_readsLake_2 : List UInt8 := [182, 0, 183, 79, 42, 180, 0, 35, 27, 46, 156, 0, 5, 3, 172, 42, 180, 0, 38, 27, 42, 4]
abbrev dktX1_readsLake_2 : List UInt8 := dkwX1_readsLake_2 ++ dktX1_readsLake_3
def dkwX1_readsLake_1 : List UInt8 := [182, 0, 189, 79, 42, 180, 0, 32, 27, 46, 156, 0, 5, 3, 172, 42, 180, 0, 35, 27, 42, 4]
abbrev dktX1_readsLake_1 : List UInt8 := dkwX1_readsLake_1 ++ dktX1_readsLake_2
def dkwX1_readsLake_0 : List UInt8 := [42, 180, 0, 186, 60, 42, 180, 0, 117, 27, 96, 16, 6, 160, 0, 5, 3, 172, 42, 180, 0, 32, 27, 42]
abbrev dktX1_readsLake_0 : List UInt8 := dkwX1_readsLake_0 ++ dktX1_readsLake_1
theorem dksX1_readsLake_0 : cX1_readsLake.data.toList.drop 0 = dktX1_readsLake_0 := by decide +kernel
theorem dksX1_readsLake_1 : cX1_readsLake.data.toList.drop 24 = dktX1_readsLake_1 := dk_seg dksX1_readsLake_0 24 rfl rfl
theorem dksX1_readsLake_2 : cX1_readsLake.data.toList.drop 46 = dktX1_readsLake_2 := dk_seg dksX1_readsLake_1 22 rfl rfl
theorem dksX1_readsLake_3 : cX1_readsLake.data.toList.drop 68 = dktX1_readsLake_3 := dk_seg dksX1_readsLake_2 22 rfl rfl
theorem dksX1_readsLake_4 : cX1_readsLake.data.toList.drop 91 = dktX1_readsLake_4 := dk_seg dksX1_readsLake_3 23 rfl rfl
theorem dksX1_readsLake_5 : cX1_readsLake.data.toList.drop 114 = dktX1_readsLake_5 := dk_seg dksX1_readsLake_4 23 rfl rfl
theorem dksX1_readsLake_6 : cX1_readsLake.data.toList.drop 136 = dktX1_readsLake_6 := dk_seg dksX1_readsLake_5 22 rfl rfl
theorem dksX1_readsLake_7 : cX1_readsLake.data.toList.drop 160 = dktX1_readsLake_7 := dk_seg dksX1_readsLake_6 24 rfl rfl
theorem dX1_readsLake_0 : decode cX1_readsLake 0 = .ok (.aload_n 0, 1) := dk_42 (dk_at dksX1_readsLake_0 0 rfl rfl)
theorem dX1_readsLake_1 : decode cX1_readsLake 1 = .ok (.getfield 186, 3) := dk_180 0 186 (dk_at dksX1_readsLake_0 1 rfl rfl)
theorem dX1_readsLake_4 : decode cX1_readsLake 4 = .ok (.istore_n 1, 1) := dk_60 (dk_at dksX1_readsLake_0 4 rfl rfl)
theorem dX1_readsLake_5 : decode cX1_readsLake 5 = .ok (.aload_n 0, 1) := dk_42 (dk_at dksX1_readsLake_0 5 rfl rfl)
theorem dX1_readsLake_6 : decode cX1_readsLake 6 = .ok (.getfield 117, 3) := dk_180 0 117 (dk_at dksX1_readsLake_0 6 rfl rfl)
theorem dX1_readsLake_9 : decode cX1_readsLake 9 = .ok (.iload_n 1, 1) := dk_27 (dk_at dksX1_readsLake_0 9 rfl rfl)
theorem dX1_readsLake_10 : decode cX1_readsLake 10 = .ok (.iadd, 1) := dk_96 (dk_at dksX1_readsLake_0 10 rfl rfl)
theorem dX1_readsLake_11 : decode cX1_readsLake 11 = .ok (.bipush 6, 2) := dk_16 6 (dk_at dksX1_readsLake_0 11 rfl rfl)
theorem dX1_readsLake_13 : decode cX1_readsLake 13 = .ok (.if_icmp .ne 5, 3) := dk_160 0 5 (dk_at dksX1_readsLake_0 13 rfl rfl)
theorem dX1_readsLake_16 : decode cX1_readsLake 16 = .ok (.iconst 0, 1) := dk_3 (dk_at dksX1_readsLake_0 16 rfl rfl)
theorem dX1_readsLake_17 : decode cX1_readsLake 17 = .ok (.ireturn, 1) := dk_172 (dk_at dksX1_readsLake_0 17 rfl rfl)
theorem dX1_readsLake_18 : decode cX1_readsLake 18 = .ok (.aload_n 0, 1) := dk_42 (dk_at dksX1_readsLake_0 18 rfl rfl)
theorem dX1_readsLake_19 : decode cX1_readsLake 19 = .ok (.getfield 32, 3) := dk_180 0 32 (dk_at dksX1_readsLake_0 19 rfl rfl)
theorem dX1_readsLake_22 : decode cX1_readsLake 22 = .ok (.iload_n 1, 1) := dk_27 (dk_at dksX1_readsLake_0 22 rfl rfl)
theorem dX1_readsLake_23 : decode cX1_readsLake 23 = .ok (.aload_n 0, 1) := dk_42 (dk_at dksX1_readsLake_0 23 rfl rfl)
theorem dX1_readsLake_24 : decode cX1_readsLake 24 = .ok (.invokevirtual 189, 3) := dk_182 0 189 (dk_at dksX1_readsLake_1 0 rfl rfl)
theorem dX1_readsLake_27 : decode cX1_readsLake 27 = .ok (.iastore, 1) := dk_79 (dk_at dksX1_readsLake_1 3 rfl rfl)
theorem dX1_readsLake_28 : decode cX1_readsLake 28 = .ok (.aload_n 0, 1) := dk_42 (dk_at dksX1_readsLake_1 4 rfl rfl)
theorem dX1_readsLake_29 : decode cX1_readsLake 29 = .ok (.getfield 32, 3) := dk_180 0 32 (dk_at dksX1_readsLake_1 5 rfl rfl)
theorem dX1_readsLake_32 : decode cX1_readsLake 32 = .ok (.iload_n 1, 1) := dk_27 (dk_at dksX1_readsLake_1 8 rfl rfl)
theorem dX1_readsLake_33 : decode cX1_readsLake 33 = .ok (.iaload, 1) := dk_46 (dk_at dksX1_readsLake_1 9 rfl rfl)
theorem dX1_readsLake_34 : decode cX1_readsLake 34 = .ok (.ifCond .ge 5, 3) := dk_156 0 5 (dk_at dksX1_readsLake_1 10 rfl rfl)
theorem dX1_readsLake_37 : decode cX1_readsLake 37 = .ok (.iconst 0, 1) := dk_3 (dk_at dksX1_readsLake_1 13 rfl rfl)
theorem dX1_readsLake_38 : decode cX1_readsLake 38 = .ok (.ireturn, 1) := dk_172 (dk_at dksX1_readsLake_1 14 rfl rfl)
theorem dX1_readsLake_39 : decode cX1_readsLake 39 = .ok (.aload_n 0, 1) := dk_42 (dk_at dksX1_readsLake_1 15 rfl rfl)
theorem dX1_readsLake_40 : decode cX1_readsLake 40 = .ok (.getfield 35, 3) := dk_180 0 35 (dk_at dksX1_readsLake_1 16 rfl rfl)
theorem dX1_readsLake_43 : decode cX1_readsLake 43 = .ok (.iload_n 1, 1) := dk_27 (dk_at dksX1_readsLake_1 19 rfl rfl)
theorem dX1_readsLake_44 : decode cX1_readsLake 44 = .ok (.aload_n 0, 1) := dk_42 (dk_at dksX1_readsLake_1 20 rfl rfl)
theorem dX1_readsLake_45 : decode cX1_readsLake 45 = .ok (.iconst 1, 1) := dk_4 (dk_at dksX1_readsLake_1 21 rfl rfl)
theorem dX1_readsLake_46 : decode cX1_readsLake 46 = .ok (.invokevirtual 183, 3) := dk_182 0 183 (dk_at dksX1_readsLake_2 0 rfl rfl)
theorem dX1_readsLake_49 : decode cX1_readsLake 49 = .ok (.iastore, 1) := dk_79 (dk_at dksX1_readsLake_2 3 rfl rfl)
theorem dX1_readsLake_50 : decode cX1_readsLake 50 = .ok (.aload_n 0, 1) := dk_42 (dk_at dksX1_readsLake_2 4 rfl rfl)
theorem dX1_readsLake_51 : decode cX1_readsLake 51 = .ok (.getfield 35, 3) := dk_180 0 35 (dk_at dksX1_readsLake_2 5 rfl rfl)
theorem dX1_readsLake_54 : decode cX1_readsLake 54 = .ok (.iload_n 1, 1) := dk_27 (dk_at dksX1_readsLake_2 8 rfl rfl)
theorem dX1_readsLake_55 : decode cX1_readsLake 55 = .ok (.iaload, 1) := dk_46 (dk_at dksX1_readsLake_2 9 rfl rfl)
theorem dX1_readsLake_56 : decode cX1_readsLake 56 = .ok (.ifCond .ge 5, 3) := dk_156 0 5 (dk_at dksX1_readsLake_2 10 rfl rfl)
theorem dX1_readsLake_59 : decode cX1_readsLake 59 = .ok (.iconst 0, 1) := dk_3 (dk_at dksX1_readsLake_2 13 rfl rfl)
theorem dX1_readsLake_60 : decode cX1_readsLake 60 = .ok (.ireturn, 1) := dk_172 (dk_at dksX1_readsLake_2 14 rfl rfl)
theorem dX1_readsLake_61 : decode cX1_readsLake 61 = .ok (.aload_n 0, 1) := dk_42 (dk_at dksX1_readsLake_2 15 rfl rfl)
theorem dX1_readsLake_62 : decode cX1_readsLake 62 = .ok (.getfield 38, 3) := dk_180 0 38 (dk_at dksX1_readsLake_2 16 rfl rfl)
theorem dX1_readsLake_65 : decode cX1_readsLake 65 = .ok (.iload_n 1, 1) := dk_27 (dk_at dksX1_readsLake_2 19 rfl rfl)
theorem dX1_readsLake_66 : decode cX1_readsLake 66 = .ok (.aload_n 0, 1) := dk_42 (dk_at dksX1_readsLake_2 20 rfl rfl)
theorem dX1_readsLake_67 : decode cX1_readsLake 67 = .ok (.iconst 1, 1) := dk_4 (dk_at dksX1_readsLake_2 21 rfl rfl)
theorem dX1_readsLake_68 : decode cX1_readsLake 68 = .ok (.invokevirtual 183, 3) := dk_182 0 183 (dk_at dksX1_readsLake_3 0 rfl rfl)
theorem dX1_readsLake_71 : decode cX1_readsLake 71 = .ok (.iastore, 1) := dk_79 (dk_at dksX1_readsLake_3 3 rfl rfl)
theorem dX1_readsLake_72 : decode cX1_readsLake 72 = .ok (.aload_n 0, 1) := dk_42 (dk_at dksX1_readsLake_3 4 rfl rfl)
theorem dX1_readsLake_73 : decode cX1_readsLake 73 = .ok (.getfield 38, 3) := dk_180 0 38 (dk_at dksX1_readsLake_3 5 rfl rfl)
theorem dX1_readsLake_76 : decode cX1_readsLake 76 = .ok (.iload_n 1, 1) := dk_27 (dk_at dksX1_readsLake_3 8 rfl rfl)
theorem dX1_readsLake_77 : decode cX1_readsLake 77 = .ok (.iaload, 1) := dk_46 (dk_at dksX1_readsLake_3 9 rfl rfl)
theorem dX1_readsLake_78 : decode cX1_readsLake 78 = .ok (.ifCond .ge 5, 3) := dk_156 0 5 (dk_at dksX1_readsLake_3 10 rfl rfl)
theorem dX1_readsLake_81 : decode cX1_readsLake 81 = .ok (.iconst 0, 1) := dk_3 (dk_at dksX1_readsLake_3 13 rfl rfl)
theorem dX1_readsLake_82 : decode cX1_readsLake 82 = .ok (.ireturn, 1) := dk_172 (dk_at dksX1_readsLake_3 14 rfl rfl)
theorem dX1_readsLake_83 : decode cX1_readsLake 83 = .ok (.aload_n 0, 1) := dk_42 (dk_at dksX1_readsLake_3 15 rfl rfl)
theorem dX1_readsLake_84 : decode cX1_readsLake 84 = .ok (.getfield 41, 3) := dk_180 0 41 (dk_at dksX1_readsLake_3 16 rfl rfl)
theorem dX1_readsLake_87 : decode cX1_readsLake 87 = .ok (.iload_n 1, 1) := dk_27 (dk_at dksX1_readsLake_3 19 rfl rfl)
theorem dX1_readsLake_88 : decode cX1_readsLake 88 = .ok (.aload_n 0, 1) := dk_42 (dk_at dksX1_readsLake_3 20 rfl rfl)
theorem dX1_readsLake_89 : decode cX1_readsLake 89 = .ok (.ldc 192, 2) := dk_18 192 (dk_at dksX1_readsLake_3 21 rfl rfl)
theorem dX1_readsLake_91 : decode cX1_readsLake 91 = .ok (.invokevirtual 194, 3) := dk_182 0 194 (dk_at dksX1_readsLake_4 0 rfl rfl)
theorem dX1_readsLake_94 : decode cX1_readsLake 94 = .ok (.iastore, 1) := dk_79 (dk_at dksX1_readsLake_4 3 rfl rfl)
theorem dX1_readsLake_95 : decode cX1_readsLake 95 = .ok (.aload_n 0, 1) := dk_42 (dk_at dksX1_readsLake_4 4 rfl rfl)
theorem dX1_readsLake_96 : decode cX1_readsLake 96 = .ok (.getfield 41, 3) := dk_180 0 41 (dk_at dksX1_readsLake_4 5 rfl rfl)
theorem dX1_readsLake_99 : decode cX1_readsLake 99 = .ok (.iload_n 1, 1) := dk_27 (dk_at dksX1_readsLake_4 8 rfl rfl)
theorem dX1_readsLake_100 : decode cX1_readsLake 100 = .ok (.iaload, 1) := dk_46 (dk_at dksX1_readsLake_4 9 rfl rfl)
theorem dX1_readsLake_101 : decode cX1_readsLake 101 = .ok (.ifCond .ge 5, 3) := dk_156 0 5 (dk_at dksX1_readsLake_4 10 rfl rfl)
theorem dX1_readsLake_104 : decode cX1_readsLake 104 = .ok (.iconst 0, 1) := dk_3 (dk_at dksX1_readsLake_4 13 rfl rfl)
theorem dX1_readsLake_105 : decode cX1_readsLake 105 = .ok (.ireturn, 1) := dk_172 (dk_at dksX1_readsLake_4 14 rfl rfl)
theorem dX1_readsLake_106 : decode cX1_readsLake 106 = .ok (.aload_n 0, 1) := dk_42 (dk_at dksX1_readsLake_4 15 rfl rfl)
theorem dX1_readsLake_107 : decode cX1_readsLake 107 = .ok (.bipush 45, 2) := dk_16 45 (dk_at dksX1_readsLake_4 16 rfl rfl)
theorem dX1_readsLake_109 : decode cX1_readsLake 109 = .ok (.invokevirtual 197, 3) := dk_182 0 197 (dk_at dksX1_readsLake_4 18 rfl rfl)
theorem dX1_readsLake_112 : decode cX1_readsLake 112 = .ok (.istore_n 2, 1) := dk_61 (dk_at dksX1_readsLake_4 21 rfl rfl)
theorem dX1_readsLake_113 : decode cX1_readsLake 113 = .ok (.aload_n 0, 1) := dk_42 (dk_at dksX1_readsLake_4 22 rfl rfl)
theorem dX1_readsLake_114 : decode cX1_readsLake 114 = .ok (.getfield 44, 3) := dk_180 0 44 (dk_at dksX1_readsLake_5 0 rfl rfl)
theorem dX1_readsLake_117 : decode cX1_readsLake 117 = .ok (.iload_n 1, 1) := dk_27 (dk_at dksX1_readsLake_5 3 rfl rfl)
theorem dX1_readsLake_118 : decode cX1_readsLake 118 = .ok (.iload_n 2, 1) := dk_28 (dk_at dksX1_readsLake_5 4 rfl rfl)
theorem dX1_readsLake_119 : decode cX1_readsLake 119 = .ok (.ifCond .eq 7, 3) := dk_153 0 7 (dk_at dksX1_readsLake_5 5 rfl rfl)
theorem dX1_readsLake_122 : decode cX1_readsLake 122 = .ok (.iconst (-1), 1) := dk_2 (dk_at dksX1_readsLake_5 8 rfl rfl)
theorem dX1_readsLake_123 : decode cX1_readsLake 123 = .ok (.goto 19, 3) := dk_167 0 19 (dk_at dksX1_readsLake_5 9 rfl rfl)
theorem dX1_readsLake_126 : decode cX1_readsLake 126 = .ok (.aload_n 0, 1) := dk_42 (dk_at dksX1_readsLake_5 12 rfl rfl)
theorem dX1_readsLake_127 : decode cX1_readsLake 127 = .ok (.ldc 200, 2) := dk_18 200 (dk_at dksX1_readsLake_5 13 rfl rfl)
theorem dX1_readsLake_129 : decode cX1_readsLake 129 = .ok (.iconst 0, 1) := dk_3 (dk_at dksX1_readsLake_5 15 rfl rfl)
theorem dX1_readsLake_130 : decode cX1_readsLake 130 = .ok (.aload_n 0, 1) := dk_42 (dk_at dksX1_readsLake_5 16 rfl rfl)
theorem dX1_readsLake_131 : decode cX1_readsLake 131 = .ok (.getfield 117, 3) := dk_180 0 117 (dk_at dksX1_readsLake_5 17 rfl rfl)
theorem dX1_readsLake_134 : decode cX1_readsLake 134 = .ok (.iload_n 1, 1) := dk_27 (dk_at dksX1_readsLake_5 20 rfl rfl)
theorem dX1_readsLake_135 : decode cX1_readsLake 135 = .ok (.iadd, 1) := dk_96 (dk_at dksX1_readsLake_5 21 rfl rfl)
theorem dX1_readsLake_136 : decode cX1_readsLake 136 = .ok (.invokevirtual 202, 3) := dk_182 0 202 (dk_at dksX1_readsLake_6 0 rfl rfl)
theorem dX1_readsLake_139 : decode cX1_readsLake 139 = .ok (.invokevirtual 194, 3) := dk_182 0 194 (dk_at dksX1_readsLake_6 3 rfl rfl)
theorem dX1_readsLake_142 : decode cX1_readsLake 142 = .ok (.iastore, 1) := dk_79 (dk_at dksX1_readsLake_6 6 rfl rfl)
theorem dX1_readsLake_143 : decode cX1_readsLake 143 = .ok (.iload_n 2, 1) := dk_28 (dk_at dksX1_readsLake_6 7 rfl rfl)
theorem dX1_readsLake_144 : decode cX1_readsLake 144 = .ok (.ifCond .ne 14, 3) := dk_154 0 14 (dk_at dksX1_readsLake_6 8 rfl rfl)
theorem dX1_readsLake_147 : decode cX1_readsLake 147 = .ok (.aload_n 0, 1) := dk_42 (dk_at dksX1_readsLake_6 11 rfl rfl)
theorem dX1_readsLake_148 : decode cX1_readsLake 148 = .ok (.getfield 44, 3) := dk_180 0 44 (dk_at dksX1_readsLake_6 12 rfl rfl)
theorem dX1_readsLake_151 : decode cX1_readsLake 151 = .ok (.iload_n 1, 1) := dk_27 (dk_at dksX1_readsLake_6 15 rfl rfl)
theorem dX1_readsLake_152 : decode cX1_readsLake 152 = .ok (.iaload, 1) := dk_46 (dk_at dksX1_readsLake_6 16 rfl rfl)
theorem dX1_readsLake_153 : decode cX1_readsLake 153 = .ok (.ifCond .ge 5, 3) := dk_156 0 5 (dk_at dksX1_readsLake_6 17 rfl rfl)
theorem dX1_readsLake_156 : decode cX1_readsLake 156 = .ok (.iconst 0, 1) := dk_3 (dk_at dksX1_readsLake_6 20 rfl rfl)
theorem dX1_readsLake_157 : decode cX1_readsLake 157 = .ok (.ireturn, 1) := dk_172 (dk_at dksX1_readsLake_6 21 rfl rfl)
theorem dX1_readsLake_158 : decode cX1_readsLake 158 = .ok (.aload_n 0, 1) := dk_42 (dk_at dksX1_readsLake_6 22 rfl rfl)
theorem dX1_readsLake_159 : decode cX1_readsLake 159 = .ok (.dup, 1) := dk_89 (dk_at dksX1_readsLake_6 23 rfl rfl)
theorem dX1_readsLake_160 : decode cX1_readsLake 160 = .ok (.getfield 186, 3) := dk_180 0 186 (dk_at dksX1_readsLake_7 0 rfl rfl)
theorem dX1_readsLake_163 : decode cX1_readsLake 163 = .ok (.iconst 1, 1) := dk_4 (dk_at dksX1_readsLake_7 3 rfl rfl)
theorem dX1_readsLake_164 : decode cX1_readsLake 164 = .ok (.iadd, 1) := dk_96 (dk_at dksX1_readsLake_7 4 rfl rfl)
theorem dX1_readsLake_165 : decode cX1_readsLake 165 = .ok (.putfield 186, 3) := dk_181 0 186 (dk_at dksX1_readsLake_7 5 rfl rfl)
theorem dX1_readsLake_168 : decode cX1_readsLake 168 = .ok (.iconst 1, 1) := dk_4 (dk_at dksX1_readsLake_7 8 rfl rfl)
theorem dX1_readsLake_169 : decode cX1_readsLake 169 = .ok (.ireturn, 1) := dk_172 (dk_at dksX1_readsLake_7 9 rfl rfl)
abbrev cX1_readsBrim : ByteArray := prog_1_method_22_code
def yX1_readsBrim : MethodName := ⟨RX1, "readsBrim", "()I"⟩
def dkwX1_readsBrim_2 : List UInt8 := [96, 154, 0, 7, 2, 167, 0, 9, 16, 10, 27, 104, 28, 96, 172]
abbrev dktX1_readsBrim_2 : List UInt8 := dkwX1_readsBrim_2 ++ []
def dkwX1_readsBrim_1 : List UInt8 := [2, 172, 42, 89, 180, 0, 146, 27, 28, 96, 154, 0, 7, 4, 167, 0, 4, 3, 100, 181, 0, 146, 27, 28]
abbrev dktX1_readsBrim_1 : List UInt8 := dkwX1_readsBrim_1 ++ dktX1_readsBrim_2
def dkwX1_readsBrim_0 : List UInt8 := [42, 4, 182, 0, 183, 60, 27, 156, 0, 7, 2, 167, 0, 8, 42, 4, 182, 0, 183, 61, 28, 156, 0, 5]
abbrev dktX1_readsBrim_0 : List UInt8 := dkwX1_readsBrim_0 ++ dktX1_readsBrim_1
theorem dksX1_readsBrim_0 : cX1_readsBrim.data.toList.drop 0 = dktX1_readsBrim_0 := by decide +kernel
theorem dksX1_readsBrim_1 : cX1_readsBrim.data.toList.drop 24 = dktX1_readsBrim_1 := dk_seg dksX1_readsBrim_0 24 rfl rfl
theorem dksX1_readsBrim_2 : cX1_readsBrim.data.toList.drop 48 = dktX1_readsBrim_2 := dk_seg dksX1_readsBrim_1 24 rfl rfl
theorem dX1_readsBrim_0 : decode cX1_readsBrim 0 = .ok (.aload_n 0, 1) := dk_42 (dk_at dksX1_readsBrim_0 0 rfl rfl)
theorem dX1_readsBrim_1 : decode cX1_readsBrim 1 = .ok (.iconst 1, 1) := dk_4 (dk_at dksX1_readsBrim_0 1 rfl rfl)
theorem dX1_readsBrim_2 : decode cX1_readsBrim 2 = .ok (.invokevirtual 183, 3) := dk_182 0 183 (dk_at dksX1_readsBrim_0 2 rfl rfl)
theorem dX1_readsBrim_5 : decode cX1_readsBrim 5 = .ok (.istore_n 1, 1) := dk_60 (dk_at dksX1_readsBrim_0 5 rfl rfl)
theorem dX1_readsBrim_6 : decode cX1_readsBrim 6 = .ok (.iload_n 1, 1) := dk_27 (dk_at dksX1_readsBrim_0 6 rfl rfl)
theorem dX1_readsBrim_7 : decode cX1_readsBrim 7 = .ok (.ifCond .ge 7, 3) := dk_156 0 7 (dk_at dksX1_readsBrim_0 7 rfl rfl)
theorem dX1_readsBrim_10 : decode cX1_readsBrim 10 = .ok (.iconst (-1), 1) := dk_2 (dk_at dksX1_readsBrim_0 10 rfl rfl)
theorem dX1_readsBrim_11 : decode cX1_readsBrim 11 = .ok (.goto 8, 3) := dk_167 0 8 (dk_at dksX1_readsBrim_0 11 rfl rfl)
theorem dX1_readsBrim_14 : decode cX1_readsBrim 14 = .ok (.aload_n 0, 1) := dk_42 (dk_at dksX1_readsBrim_0 14 rfl rfl)
theorem dX1_readsBrim_15 : decode cX1_readsBrim 15 = .ok (.iconst 1, 1) := dk_4 (dk_at dksX1_readsBrim_0 15 rfl rfl)
theorem dX1_readsBrim_16 : decode cX1_readsBrim 16 = .ok (.invokevirtual 183, 3) := dk_182 0 183 (dk_at dksX1_readsBrim_0 16 rfl rfl)
theorem dX1_readsBrim_19 : decode cX1_readsBrim 19 = .ok (.istore_n 2, 1) := dk_61 (dk_at dksX1_readsBrim_0 19 rfl rfl)
theorem dX1_readsBrim_20 : decode cX1_readsBrim 20 = .ok (.iload_n 2, 1) := dk_28 (dk_at dksX1_readsBrim_0 20 rfl rfl)
theorem dX1_readsBrim_21 : decode cX1_readsBrim 21 = .ok (.ifCond .ge 5, 3) := dk_156 0 5 (dk_at dksX1_readsBrim_0 21 rfl rfl)
theorem dX1_readsBrim_24 : decode cX1_readsBrim 24 = .ok (.iconst (-1), 1) := dk_2 (dk_at dksX1_readsBrim_1 0 rfl rfl)
theorem dX1_readsBrim_25 : decode cX1_readsBrim 25 = .ok (.ireturn, 1) := dk_172 (dk_at dksX1_readsBrim_1 1 rfl rfl)
theorem dX1_readsBrim_26 : decode cX1_readsBrim 26 = .ok (.aload_n 0, 1) := dk_42 (dk_at dksX1_readsBrim_1 2 rfl rfl)
theorem dX1_readsBrim_27 : decode cX1_readsBrim 27 = .ok (.dup, 1) := dk_89 (dk_at dksX1_readsBrim_1 3 rfl rfl)
theorem dX1_readsBrim_28 : decode cX1_readsBrim 28 = .ok (.getfield 146, 3) := dk_180 0 146 (dk_at dksX1_readsBrim_1 4 rfl rfl)
theorem dX1_readsBrim_31 : decode cX1_readsBrim 31 = .ok (.iload_n 1, 1) := dk_27 (dk_at dksX1_readsBrim_1 7 rfl rfl)
theorem dX1_readsBrim_32 : decode cX1_readsBrim 32 = .ok (.iload_n 2, 1) := dk_28 (dk_at dksX1_readsBrim_1 8 rfl rfl)
theorem dX1_readsBrim_33 : decode cX1_readsBrim 33 = .ok (.iadd, 1) := dk_96 (dk_at dksX1_readsBrim_1 9 rfl rfl)
theorem dX1_readsBrim_34 : decode cX1_readsBrim 34 = .ok (.ifCond .ne 7, 3) := dk_154 0 7 (dk_at dksX1_readsBrim_1 10 rfl rfl)
theorem dX1_readsBrim_37 : decode cX1_readsBrim 37 = .ok (.iconst 1, 1) := dk_4 (dk_at dksX1_readsBrim_1 13 rfl rfl)
theorem dX1_readsBrim_38 : decode cX1_readsBrim 38 = .ok (.goto 4, 3) := dk_167 0 4 (dk_at dksX1_readsBrim_1 14 rfl rfl)
theorem dX1_readsBrim_41 : decode cX1_readsBrim 41 = .ok (.iconst 0, 1) := dk_3 (dk_at dksX1_readsBrim_1 17 rfl rfl)
theorem dX1_readsBrim_42 : decode cX1_readsBrim 42 = .ok (.isub, 1) := dk_100 (dk_at dksX1_readsBrim_1 18 rfl rfl)
theorem dX1_readsBrim_43 : decode cX1_readsBrim 43 = .ok (.putfield 146, 3) := dk_181 0 146 (dk_at dksX1_readsBrim_1 19 rfl rfl)
theorem dX1_readsBrim_46 : decode cX1_readsBrim 46 = .ok (.iload_n 1, 1) := dk_27 (dk_at dksX1_readsBrim_1 22 rfl rfl)
theorem dX1_readsBrim_47 : decode cX1_readsBrim 47 = .ok (.iload_n 2, 1) := dk_28 (dk_at dksX1_readsBrim_1 23 rfl rfl)
theorem dX1_readsBrim_48 : decode cX1_readsBrim 48 = .ok (.iadd, 1) := dk_96 (dk_at dksX1_readsBrim_2 0 rfl rfl)
theorem dX1_readsBrim_49 : decode cX1_readsBrim 49 = .ok (.ifCond .ne 7, 3) := dk_154 0 7 (dk_at dksX1_readsBrim_2 1 rfl rfl)
theorem dX1_readsBrim_52 : decode cX1_readsBrim 52 = .ok (.iconst (-1), 1) := dk_2 (dk_at dksX1_readsBrim_2 4 rfl rfl)
theorem dX1_readsBrim_53 : decode cX1_readsBrim 53 = .ok (.goto 9, 3) := dk_167 0 9 (dk_at dksX1_readsBrim_2 5 rfl rfl)
theorem dX1_readsBrim_56 : decode cX1_readsBrim 56 = .ok (.bipush 10, 2) := dk_16 10 (dk_at dksX1_readsBrim_2 8 rfl rfl)
theorem dX1_readsBrim_58 : decode cX1_readsBrim 58 = .ok (.iload_n 1, 1) := dk_27 (dk_at dksX1_readsBrim_2 10 rfl rfl)
theorem dX1_readsBrim_59 : decode cX1_readsBrim 59 = .ok (.imul, 1) := dk_104 (dk_at dksX1_readsBrim_2 11 rfl rfl)
theorem dX1_readsBrim_60 : decode cX1_readsBrim 60 = .ok (.iload_n 2, 1) := dk_28 (dk_at dksX1_readsBrim_2 12 rfl rfl)
theorem dX1_readsBrim_61 : decode cX1_readsBrim 61 = .ok (.iadd, 1) := dk_96 (dk_at dksX1_readsBrim_2 13 rfl rfl)
theorem dX1_readsBrim_62 : decode cX1_readsBrim 62 = .ok (.ireturn, 1) := dk_172 (dk_at dksX1_readsBrim_2 14 rfl rfl)
abbrev cX1_number : ByteArray := prog_1_method_20_code
def yX1_number : MethodName := ⟨RX1, "number", "(I)I"⟩
def dkwX1_number_2 : List UInt8 := [180, 0, 146, 4, 96, 181, 0, 146, 132, 3, 1, 167, 255, 213, 28, 172]
abbrev dktX1_number_2 : List UInt8 := dkwX1_number_2 ++ []
def dkwX1_number_1 : List UInt8 := [153, 0, 37, 16, 10, 28, 104, 42, 180, 0, 29, 42, 180, 0, 146, 46, 96, 16, 48, 100, 61, 42, 89]
abbrev dktX1_number_1 : List UInt8 := dkwX1_number_1 ++ dktX1_number_2
def dkwX1_number_0 : List UInt8 := [42, 182, 0, 179, 154, 0, 5, 2, 172, 3, 61, 3, 62, 29, 27, 162, 0, 44, 42, 182, 0, 179]
abbrev dktX1_number_0 : List UInt8 := dkwX1_number_0 ++ dktX1_number_1
theorem dksX1_number_0 : cX1_number.data.toList.drop 0 = dktX1_number_0 := by decide +kernel
theorem dksX1_number_1 : cX1_number.data.toList.drop 22 = dktX1_number_1 := dk_seg dksX1_number_0 22 rfl rfl
theorem dksX1_number_2 : cX1_number.data.toList.drop 45 = dktX1_number_2 := dk_seg dksX1_number_1 23 rfl rfl
theorem dX1_number_0 : decode cX1_number 0 = .ok (.aload_n 0, 1) := dk_42 (dk_at dksX1_number_0 0 rfl rfl)
theorem dX1_number_1 : decode cX1_number 1 = .ok (.invokevirtual 179, 3) := dk_182 0 179 (dk_at dksX1_number_0 1 rfl rfl)
theorem dX1_number_4 : decode cX1_number 4 = .ok (.ifCond .ne 5, 3) := dk_154 0 5 (dk_at dksX1_number_0 4 rfl rfl)
theorem dX1_number_7 : decode cX1_number 7 = .ok (.iconst (-1), 1) := dk_2 (dk_at dksX1_number_0 7 rfl rfl)
theorem dX1_number_8 : decode cX1_number 8 = .ok (.ireturn, 1) := dk_172 (dk_at dksX1_number_0 8 rfl rfl)
theorem dX1_number_9 : decode cX1_number 9 = .ok (.iconst 0, 1) := dk_3 (dk_at dksX1_number_0 9 rfl rfl)
theorem dX1_number_10 : decode cX1_number 10 = .ok (.istore_n 2, 1) := dk_61 (dk_at dksX1_number_0 10 rfl rfl)
theorem dX1_number_11 : decode cX1_number 11 = .ok (.iconst 0, 1) := dk_3 (dk_at dksX1_number_0 11 rfl rfl)
theorem dX1_number_12 : decode cX1_number 12 = .ok (.istore_n 3, 1) := dk_62 (dk_at dksX1_number_0 12 rfl rfl)
theorem dX1_number_13 : decode cX1_number 13 = .ok (.iload_n 3, 1) := dk_29 (dk_at dksX1_number_0 13 rfl rfl)
theorem dX1_number_14 : decode cX1_number 14 = .ok (.iload_n 1, 1) := dk_27 (dk_at dksX1_number_0 14 rfl rfl)
theorem dX1_number_15 : decode cX1_number 15 = .ok (.if_icmp .ge 44, 3) := dk_162 0 44 (dk_at dksX1_number_0 15 rfl rfl)
theorem dX1_number_18 : decode cX1_number 18 = .ok (.aload_n 0, 1) := dk_42 (dk_at dksX1_number_0 18 rfl rfl)
theorem dX1_number_19 : decode cX1_number 19 = .ok (.invokevirtual 179, 3) := dk_182 0 179 (dk_at dksX1_number_0 19 rfl rfl)
theorem dX1_number_22 : decode cX1_number 22 = .ok (.ifCond .eq 37, 3) := dk_153 0 37 (dk_at dksX1_number_1 0 rfl rfl)
theorem dX1_number_25 : decode cX1_number 25 = .ok (.bipush 10, 2) := dk_16 10 (dk_at dksX1_number_1 3 rfl rfl)
theorem dX1_number_27 : decode cX1_number 27 = .ok (.iload_n 2, 1) := dk_28 (dk_at dksX1_number_1 5 rfl rfl)
theorem dX1_number_28 : decode cX1_number 28 = .ok (.imul, 1) := dk_104 (dk_at dksX1_number_1 6 rfl rfl)
theorem dX1_number_29 : decode cX1_number 29 = .ok (.aload_n 0, 1) := dk_42 (dk_at dksX1_number_1 7 rfl rfl)
theorem dX1_number_30 : decode cX1_number 30 = .ok (.getfield 29, 3) := dk_180 0 29 (dk_at dksX1_number_1 8 rfl rfl)
theorem dX1_number_33 : decode cX1_number 33 = .ok (.aload_n 0, 1) := dk_42 (dk_at dksX1_number_1 11 rfl rfl)
theorem dX1_number_34 : decode cX1_number 34 = .ok (.getfield 146, 3) := dk_180 0 146 (dk_at dksX1_number_1 12 rfl rfl)
theorem dX1_number_37 : decode cX1_number 37 = .ok (.iaload, 1) := dk_46 (dk_at dksX1_number_1 15 rfl rfl)
theorem dX1_number_38 : decode cX1_number 38 = .ok (.iadd, 1) := dk_96 (dk_at dksX1_number_1 16 rfl rfl)
theorem dX1_number_39 : decode cX1_number 39 = .ok (.bipush 48, 2) := dk_16 48 (dk_at dksX1_number_1 17 rfl rfl)
theorem dX1_number_41 : decode cX1_number 41 = .ok (.isub, 1) := dk_100 (dk_at dksX1_number_1 19 rfl rfl)
theorem dX1_number_42 : decode cX1_number 42 = .ok (.istore_n 2, 1) := dk_61 (dk_at dksX1_number_1 20 rfl rfl)
theorem dX1_number_43 : decode cX1_number 43 = .ok (.aload_n 0, 1) := dk_42 (dk_at dksX1_number_1 21 rfl rfl)
theorem dX1_number_44 : decode cX1_number 44 = .ok (.dup, 1) := dk_89 (dk_at dksX1_number_1 22 rfl rfl)
theorem dX1_number_45 : decode cX1_number 45 = .ok (.getfield 146, 3) := dk_180 0 146 (dk_at dksX1_number_2 0 rfl rfl)
theorem dX1_number_48 : decode cX1_number 48 = .ok (.iconst 1, 1) := dk_4 (dk_at dksX1_number_2 3 rfl rfl)
theorem dX1_number_49 : decode cX1_number 49 = .ok (.iadd, 1) := dk_96 (dk_at dksX1_number_2 4 rfl rfl)
theorem dX1_number_50 : decode cX1_number 50 = .ok (.putfield 146, 3) := dk_181 0 146 (dk_at dksX1_number_2 5 rfl rfl)
theorem dX1_number_53 : decode cX1_number 53 = .ok (.iinc 3 1, 3) := dk_132 3 1 (dk_at dksX1_number_2 8 rfl rfl)
theorem dX1_number_56 : decode cX1_number 56 = .ok (.goto (-43), 3) := dk_167 255 213 (dk_at dksX1_number_2 11 rfl rfl)
theorem dX1_number_59 : decode cX1_number 59 = .ok (.iload_n 2, 1) := dk_28 (dk_at dksX1_number_2 14 rfl rfl)
theorem dX1_number_60 : decode cX1_number 60 = .ok (.ireturn, 1) := dk_172 (dk_at dksX1_number_2 15 rfl rfl)
abbrev cX1_isDigit : ByteArray := prog_1_method_19_code
def yX1_isDigit : MethodName := ⟨RX1, "isDigit", "()Z"⟩
def dkwX1_isDigit_1 : List UInt8 := [20, 0, 177, 184, 0, 121, 153, 0, 7, 4, 167, 0, 4, 3, 172]
abbrev dktX1_isDigit_1 : List UInt8 := dkwX1_isDigit_1 ++ []
def dkwX1_isDigit_0 : List UInt8 := [42, 180, 0, 146, 42, 180, 0, 158, 162, 0, 29, 42, 180, 0, 29, 42, 180, 0, 146, 46, 133, 20, 0, 175]
abbrev dktX1_isDigit_0 : List UInt8 := dkwX1_isDigit_0 ++ dktX1_isDigit_1
theorem dksX1_isDigit_0 : cX1_isDigit.data.toList.drop 0 = dktX1_isDigit_0 := by decide +kernel
theorem dksX1_isDigit_1 : cX1_isDigit.data.toList.drop 24 = dktX1_isDigit_1 := dk_seg dksX1_isDigit_0 24 rfl rfl
theorem dX1_isDigit_0 : decode cX1_isDigit 0 = .ok (.aload_n 0, 1) := dk_42 (dk_at dksX1_isDigit_0 0 rfl rfl)
theorem dX1_isDigit_1 : decode cX1_isDigit 1 = .ok (.getfield 146, 3) := dk_180 0 146 (dk_at dksX1_isDigit_0 1 rfl rfl)
theorem dX1_isDigit_4 : decode cX1_isDigit 4 = .ok (.aload_n 0, 1) := dk_42 (dk_at dksX1_isDigit_0 4 rfl rfl)
theorem dX1_isDigit_5 : decode cX1_isDigit 5 = .ok (.getfield 158, 3) := dk_180 0 158 (dk_at dksX1_isDigit_0 5 rfl rfl)
theorem dX1_isDigit_8 : decode cX1_isDigit 8 = .ok (.if_icmp .ge 29, 3) := dk_162 0 29 (dk_at dksX1_isDigit_0 8 rfl rfl)
theorem dX1_isDigit_11 : decode cX1_isDigit 11 = .ok (.aload_n 0, 1) := dk_42 (dk_at dksX1_isDigit_0 11 rfl rfl)
theorem dX1_isDigit_12 : decode cX1_isDigit 12 = .ok (.getfield 29, 3) := dk_180 0 29 (dk_at dksX1_isDigit_0 12 rfl rfl)
theorem dX1_isDigit_15 : decode cX1_isDigit 15 = .ok (.aload_n 0, 1) := dk_42 (dk_at dksX1_isDigit_0 15 rfl rfl)
theorem dX1_isDigit_16 : decode cX1_isDigit 16 = .ok (.getfield 146, 3) := dk_180 0 146 (dk_at dksX1_isDigit_0 16 rfl rfl)
theorem dX1_isDigit_19 : decode cX1_isDigit 19 = .ok (.iaload, 1) := dk_46 (dk_at dksX1_isDigit_0 19 rfl rfl)
theorem dX1_isDigit_20 : decode cX1_isDigit 20 = .ok (.i2l, 1) := dk_133 (dk_at dksX1_isDigit_0 20 rfl rfl)
theorem dX1_isDigit_21 : decode cX1_isDigit 21 = .ok (.ldc2_w 175, 3) := dk_20 0 175 (dk_at dksX1_isDigit_0 21 rfl rfl)
theorem dX1_isDigit_24 : decode cX1_isDigit 24 = .ok (.ldc2_w 177, 3) := dk_20 0 177 (dk_at dksX1_isDigit_1 0 rfl rfl)
theorem dX1_isDigit_27 : decode cX1_isDigit 27 = .ok (.invokestatic 121, 3) := dk_184 0 121 (dk_at dksX1_isDigit_1 3 rfl rfl)
theorem dX1_isDigit_30 : decode cX1_isDigit 30 = .ok (.ifCond .eq 7, 3) := dk_153 0 7 (dk_at dksX1_isDigit_1 6 rfl rfl)
theorem dX1_isDigit_33 : decode cX1_isDigit 33 = .ok (.iconst 1, 1) := dk_4 (dk_at dksX1_isDigit_1 9 rfl rfl)
theorem dX1_isDigit_34 : decode cX1_isDigit 34 = .ok (.goto 4, 3) := dk_167 0 4 (dk_at dksX1_isDigit_1 10 rfl rfl)
theorem dX1_isDigit_37 : decode cX1_isDigit 37 = .ok (.iconst 0, 1) := dk_3 (dk_at dksX1_isDigit_1 13 rfl rfl)
theorem dX1_isDigit_38 : decode cX1_isDigit 38 = .ok (.ireturn, 1) := dk_172 (dk_at dksX1_isDigit_1 14 rfl rfl)
abbrev cX1_takesOf : ByteArray := prog_1_method_18_code
def yX1_takesOf : MethodName := ⟨RX1, "takesOf", "(Ljava/lang/String;)I"⟩
def dkwX1_takesOf_1 : List UInt8 := [28, 172]
abbrev dktX1_takesOf_1 : List UInt8 := dkwX1_takesOf_1 ++ []
def dkwX1_takesOf_0 : List UInt8 := [42, 43, 182, 0, 171, 61, 42, 89, 180, 0, 146, 28, 155, 0, 7, 4, 167, 0, 4, 3, 96, 181, 0, 146]
abbrev dktX1_takesOf_0 : List UInt8 := dkwX1_takesOf_0 ++ dktX1_takesOf_1
theorem dksX1_takesOf_0 : cX1_takesOf.data.toList.drop 0 = dktX1_takesOf_0 := by decide +kernel
theorem dksX1_takesOf_1 : cX1_takesOf.data.toList.drop 24 = dktX1_takesOf_1 := dk_seg dksX1_takesOf_0 24 rfl rfl
theorem dX1_takesOf_0 : decode cX1_takesOf 0 = .ok (.aload_n 0, 1) := dk_42 (dk_at dksX1_takesOf_0 0 rfl rfl)
theorem dX1_takesOf_1 : decode cX1_takesOf 1 = .ok (.aload_n 1, 1) := dk_43 (dk_at dksX1_takesOf_0 1 rfl rfl)
theorem dX1_takesOf_2 : decode cX1_takesOf 2 = .ok (.invokevirtual 171, 3) := dk_182 0 171 (dk_at dksX1_takesOf_0 2 rfl rfl)
theorem dX1_takesOf_5 : decode cX1_takesOf 5 = .ok (.istore_n 2, 1) := dk_61 (dk_at dksX1_takesOf_0 5 rfl rfl)
theorem dX1_takesOf_6 : decode cX1_takesOf 6 = .ok (.aload_n 0, 1) := dk_42 (dk_at dksX1_takesOf_0 6 rfl rfl)
theorem dX1_takesOf_7 : decode cX1_takesOf 7 = .ok (.dup, 1) := dk_89 (dk_at dksX1_takesOf_0 7 rfl rfl)
theorem dX1_takesOf_8 : decode cX1_takesOf 8 = .ok (.getfield 146, 3) := dk_180 0 146 (dk_at dksX1_takesOf_0 8 rfl rfl)
theorem dX1_takesOf_11 : decode cX1_takesOf 11 = .ok (.iload_n 2, 1) := dk_28 (dk_at dksX1_takesOf_0 11 rfl rfl)
theorem dX1_takesOf_12 : decode cX1_takesOf 12 = .ok (.ifCond .lt 7, 3) := dk_155 0 7 (dk_at dksX1_takesOf_0 12 rfl rfl)
theorem dX1_takesOf_15 : decode cX1_takesOf 15 = .ok (.iconst 1, 1) := dk_4 (dk_at dksX1_takesOf_0 15 rfl rfl)
theorem dX1_takesOf_16 : decode cX1_takesOf 16 = .ok (.goto 4, 3) := dk_167 0 4 (dk_at dksX1_takesOf_0 16 rfl rfl)
theorem dX1_takesOf_19 : decode cX1_takesOf 19 = .ok (.iconst 0, 1) := dk_3 (dk_at dksX1_takesOf_0 19 rfl rfl)
theorem dX1_takesOf_20 : decode cX1_takesOf 20 = .ok (.iadd, 1) := dk_96 (dk_at dksX1_takesOf_0 20 rfl rfl)
theorem dX1_takesOf_21 : decode cX1_takesOf 21 = .ok (.putfield 146, 3) := dk_181 0 146 (dk_at dksX1_takesOf_0 21 rfl rfl)
theorem dX1_takesOf_24 : decode cX1_takesOf 24 = .ok (.iload_n 2, 1) := dk_28 (dk_at dksX1_takesOf_1 0 rfl rfl)
theorem dX1_takesOf_25 : decode cX1_takesOf 25 = .ok (.ireturn, 1) := dk_172 (dk_at dksX1_takesOf_1 1 rfl rfl)
abbrev cX1_among : ByteArray := prog_1_method_17_code
def yX1_among : MethodName := ⟨RX1, "among", "(Ljava/lang/String;)I"⟩
def dkwX1_among_1 : List UInt8 := [42, 180, 0, 29, 42, 180, 0, 146, 46, 182, 0, 165, 167, 0, 4, 2, 172]
abbrev dktX1_among_1 : List UInt8 := dkwX1_among_1 ++ []
def dkwX1_among_0 : List UInt8 := [42, 180, 0, 146, 42, 180, 0, 158, 162, 0, 31, 42, 180, 0, 29, 42, 180, 0, 146, 46, 158, 0, 19, 43]
abbrev dktX1_among_0 : List UInt8 := dkwX1_among_0 ++ dktX1_among_1
theorem dksX1_among_0 : cX1_among.data.toList.drop 0 = dktX1_among_0 := by decide +kernel
theorem dksX1_among_1 : cX1_among.data.toList.drop 24 = dktX1_among_1 := dk_seg dksX1_among_0 24 rfl rfl
theorem dX1_among_0 : decode cX1_among 0 = .ok (.aload_n 0, 1) := dk_42 (dk_at dksX1_among_0 0 rfl rfl)
theorem dX1_among_1 : decode cX1_among 1 = .ok (.getfield 146, 3) := dk_180 0 146 (dk_at dksX1_among_0 1 rfl rfl)
theorem dX1_among_4 : decode cX1_among 4 = .ok (.aload_n 0, 1) := dk_42 (dk_at dksX1_among_0 4 rfl rfl)
theorem dX1_among_5 : decode cX1_among 5 = .ok (.getfield 158, 3) := dk_180 0 158 (dk_at dksX1_among_0 5 rfl rfl)
theorem dX1_among_8 : decode cX1_among 8 = .ok (.if_icmp .ge 31, 3) := dk_162 0 31 (dk_at dksX1_among_0 8 rfl rfl)
theorem dX1_among_11 : decode cX1_among 11 = .ok (.aload_n 0, 1) := dk_42 (dk_at dksX1_among_0 11 rfl rfl)
theorem dX1_among_12 : decode cX1_among 12 = .ok (.getfield 29, 3) := dk_180 0 29 (dk_at dksX1_among_0 12 rfl rfl)
theorem dX1_among_15 : decode cX1_among 15 = .ok (.aload_n 0, 1) := dk_42 (dk_at dksX1_among_0 15 rfl rfl)
theorem dX1_among_16 : decode cX1_among 16 = .ok (.getfield 146, 3) := dk_180 0 146 (dk_at dksX1_among_0 16 rfl rfl)
theorem dX1_among_19 : decode cX1_among 19 = .ok (.iaload, 1) := dk_46 (dk_at dksX1_among_0 19 rfl rfl)
theorem dX1_among_20 : decode cX1_among 20 = .ok (.ifCond .le 19, 3) := dk_158 0 19 (dk_at dksX1_among_0 20 rfl rfl)
theorem dX1_among_23 : decode cX1_among 23 = .ok (.aload_n 1, 1) := dk_43 (dk_at dksX1_among_0 23 rfl rfl)
theorem dX1_among_24 : decode cX1_among 24 = .ok (.aload_n 0, 1) := dk_42 (dk_at dksX1_among_1 0 rfl rfl)
theorem dX1_among_25 : decode cX1_among 25 = .ok (.getfield 29, 3) := dk_180 0 29 (dk_at dksX1_among_1 1 rfl rfl)
theorem dX1_among_28 : decode cX1_among 28 = .ok (.aload_n 0, 1) := dk_42 (dk_at dksX1_among_1 4 rfl rfl)
theorem dX1_among_29 : decode cX1_among 29 = .ok (.getfield 146, 3) := dk_180 0 146 (dk_at dksX1_among_1 5 rfl rfl)
theorem dX1_among_32 : decode cX1_among 32 = .ok (.iaload, 1) := dk_46 (dk_at dksX1_among_1 8 rfl rfl)
theorem dX1_among_33 : decode cX1_among 33 = .ok (.invokevirtual 165, 3) := dk_182 0 165 (dk_at dksX1_among_1 9 rfl rfl)
theorem dX1_among_36 : decode cX1_among 36 = .ok (.goto 4, 3) := dk_167 0 4 (dk_at dksX1_among_1 12 rfl rfl)
theorem dX1_among_39 : decode cX1_among 39 = .ok (.iconst (-1), 1) := dk_2 (dk_at dksX1_among_1 15 rfl rfl)
theorem dX1_among_40 : decode cX1_among 40 = .ok (.ireturn, 1) := dk_172 (dk_at dksX1_among_1 16 rfl rfl)
abbrev cX1_takes : ByteArray := prog_1_method_16_code
def yX1_takes : MethodName := ⟨RX1, "takes", "(C)Z"⟩
def dkwX1_takes_1 : List UInt8 := [28, 172]
abbrev dktX1_takes_1 : List UInt8 := dkwX1_takes_1 ++ []
def dkwX1_takes_0 : List UInt8 := [42, 27, 182, 0, 161, 61, 42, 89, 180, 0, 146, 28, 153, 0, 7, 4, 167, 0, 4, 3, 96, 181, 0, 146]
abbrev dktX1_takes_0 : List UInt8 := dkwX1_takes_0 ++ dktX1_takes_1
theorem dksX1_takes_0 : cX1_takes.data.toList.drop 0 = dktX1_takes_0 := by decide +kernel
theorem dksX1_takes_1 : cX1_takes.data.toList.drop 24 = dktX1_takes_1 := dk_seg dksX1_takes_0 24 rfl rfl
theorem dX1_takes_0 : decode cX1_takes 0 = .ok (.aload_n 0, 1) := dk_42 (dk_at dksX1_takes_0 0 rfl rfl)
theorem dX1_takes_1 : decode cX1_takes 1 = .ok (.iload_n 1, 1) := dk_27 (dk_at dksX1_takes_0 1 rfl rfl)
theorem dX1_takes_2 : decode cX1_takes 2 = .ok (.invokevirtual 161, 3) := dk_182 0 161 (dk_at dksX1_takes_0 2 rfl rfl)
theorem dX1_takes_5 : decode cX1_takes 5 = .ok (.istore_n 2, 1) := dk_61 (dk_at dksX1_takes_0 5 rfl rfl)
theorem dX1_takes_6 : decode cX1_takes 6 = .ok (.aload_n 0, 1) := dk_42 (dk_at dksX1_takes_0 6 rfl rfl)
theorem dX1_takes_7 : decode cX1_takes 7 = .ok (.dup, 1) := dk_89 (dk_at dksX1_takes_0 7 rfl rfl)
theorem dX1_takes_8 : decode cX1_takes 8 = .ok (.getfield 146, 3) := dk_180 0 146 (dk_at dksX1_takes_0 8 rfl rfl)
theorem dX1_takes_11 : decode cX1_takes 11 = .ok (.iload_n 2, 1) := dk_28 (dk_at dksX1_takes_0 11 rfl rfl)
theorem dX1_takes_12 : decode cX1_takes 12 = .ok (.ifCond .eq 7, 3) := dk_153 0 7 (dk_at dksX1_takes_0 12 rfl rfl)
theorem dX1_takes_15 : decode cX1_takes 15 = .ok (.iconst 1, 1) := dk_4 (dk_at dksX1_takes_0 15 rfl rfl)
theorem dX1_takes_16 : decode cX1_takes 16 = .ok (.goto 4, 3) := dk_167 0 4 (dk_at dksX1_takes_0 16 rfl rfl)
theorem dX1_takes_19 : decode cX1_takes 19 = .ok (.iconst 0, 1) := dk_3 (dk_at dksX1_takes_0 19 rfl rfl)
theorem dX1_takes_20 : decode cX1_takes 20 = .ok (.iadd, 1) := dk_96 (dk_at dksX1_takes_0 20 rfl rfl)
theorem dX1_takes_21 : decode cX1_takes 21 = .ok (.putfield 146, 3) := dk_181 0 146 (dk_at dksX1_takes_0 21 rfl rfl)
theorem dX1_takes_24 : decode cX1_takes 24 = .ok (.iload_n 2, 1) := dk_28 (dk_at dksX1_takes_1 0 rfl rfl)
theorem dX1_takes_25 : decode cX1_takes 25 = .ok (.ireturn, 1) := dk_172 (dk_at dksX1_takes_1 1 rfl rfl)
abbrev cX1_isAt : ByteArray := prog_1_method_15_code
def yX1_isAt : MethodName := ⟨RX1, "isAt", "(C)Z"⟩
def dkwX1_isAt_1 : List UInt8 := [4, 167, 0, 4, 3, 172]
abbrev dktX1_isAt_1 : List UInt8 := dkwX1_isAt_1 ++ []
def dkwX1_isAt_0 : List UInt8 := [42, 180, 0, 146, 42, 180, 0, 158, 162, 0, 20, 42, 180, 0, 29, 42, 180, 0, 146, 46, 27, 160, 0, 7]
abbrev dktX1_isAt_0 : List UInt8 := dkwX1_isAt_0 ++ dktX1_isAt_1
theorem dksX1_isAt_0 : cX1_isAt.data.toList.drop 0 = dktX1_isAt_0 := by decide +kernel
theorem dksX1_isAt_1 : cX1_isAt.data.toList.drop 24 = dktX1_isAt_1 := dk_seg dksX1_isAt_0 24 rfl rfl
theorem dX1_isAt_0 : decode cX1_isAt 0 = .ok (.aload_n 0, 1) := dk_42 (dk_at dksX1_isAt_0 0 rfl rfl)
theorem dX1_isAt_1 : decode cX1_isAt 1 = .ok (.getfield 146, 3) := dk_180 0 146 (dk_at dksX1_isAt_0 1 rfl rfl)
theorem dX1_isAt_4 : decode cX1_isAt 4 = .ok (.aload_n 0, 1) := dk_42 (dk_at dksX1_isAt_0 4 rfl rfl)
theorem dX1_isAt_5 : decode cX1_isAt 5 = .ok (.getfield 158, 3) := dk_180 0 158 (dk_at dksX1_isAt_0 5 rfl rfl)
theorem dX1_isAt_8 : decode cX1_isAt 8 = .ok (.if_icmp .ge 20, 3) := dk_162 0 20 (dk_at dksX1_isAt_0 8 rfl rfl)
theorem dX1_isAt_11 : decode cX1_isAt 11 = .ok (.aload_n 0, 1) := dk_42 (dk_at dksX1_isAt_0 11 rfl rfl)
theorem dX1_isAt_12 : decode cX1_isAt 12 = .ok (.getfield 29, 3) := dk_180 0 29 (dk_at dksX1_isAt_0 12 rfl rfl)
theorem dX1_isAt_15 : decode cX1_isAt 15 = .ok (.aload_n 0, 1) := dk_42 (dk_at dksX1_isAt_0 15 rfl rfl)
theorem dX1_isAt_16 : decode cX1_isAt 16 = .ok (.getfield 146, 3) := dk_180 0 146 (dk_at dksX1_isAt_0 16 rfl rfl)
theorem dX1_isAt_19 : decode cX1_isAt 19 = .ok (.iaload, 1) := dk_46 (dk_at dksX1_isAt_0 19 rfl rfl)
theorem dX1_isAt_20 : decode cX1_isAt 20 = .ok (.iload_n 1, 1) := dk_27 (dk_at dksX1_isAt_0 20 rfl rfl)
theorem dX1_isAt_21 : decode cX1_isAt 21 = .ok (.if_icmp .ne 7, 3) := dk_160 0 7 (dk_at dksX1_isAt_0 21 rfl rfl)
theorem dX1_isAt_24 : decode cX1_isAt 24 = .ok (.iconst 1, 1) := dk_4 (dk_at dksX1_isAt_1 0 rfl rfl)
theorem dX1_isAt_25 : decode cX1_isAt 25 = .ok (.goto 4, 3) := dk_167 0 4 (dk_at dksX1_isAt_1 1 rfl rfl)
theorem dX1_isAt_28 : decode cX1_isAt 28 = .ok (.iconst 0, 1) := dk_3 (dk_at dksX1_isAt_1 4 rfl rfl)
theorem dX1_isAt_29 : decode cX1_isAt 29 = .ok (.ireturn, 1) := dk_172 (dk_at dksX1_isAt_1 5 rfl rfl)
abbrev cX1_faultOf : ByteArray := prog_1_method_21_code
def yX1_faultOf : MethodName := ⟨RX1, "faultOf", "(IZ)I"⟩
def dkwX1_faultOf_2 : List UInt8 := [180, 0, 158, 100, 172, 29, 153, 0, 7, 3, 167, 0, 9, 2, 42, 180, 0, 146, 100, 172]
abbrev dktX1_faultOf_2 : List UInt8 := dkwX1_faultOf_2 ++ []
def dkwX1_faultOf_1 : List UInt8 := [180, 0, 158, 164, 0, 25, 29, 154, 0, 14, 42, 180, 0, 146, 42, 180, 0, 158, 160, 0, 10, 2, 42]
abbrev dktX1_faultOf_1 : List UInt8 := dkwX1_faultOf_1 ++ dktX1_faultOf_2
def dkwX1_faultOf_0 : List UInt8 := [28, 153, 0, 18, 42, 180, 0, 146, 42, 180, 0, 158, 160, 0, 7, 4, 167, 0, 4, 3, 62, 27, 42]
abbrev dktX1_faultOf_0 : List UInt8 := dkwX1_faultOf_0 ++ dktX1_faultOf_1
theorem dksX1_faultOf_0 : cX1_faultOf.data.toList.drop 0 = dktX1_faultOf_0 := by decide +kernel
theorem dksX1_faultOf_1 : cX1_faultOf.data.toList.drop 23 = dktX1_faultOf_1 := dk_seg dksX1_faultOf_0 23 rfl rfl
theorem dksX1_faultOf_2 : cX1_faultOf.data.toList.drop 46 = dktX1_faultOf_2 := dk_seg dksX1_faultOf_1 23 rfl rfl
theorem dX1_faultOf_0 : decode cX1_faultOf 0 = .ok (.iload_n 2, 1) := dk_28 (dk_at dksX1_faultOf_0 0 rfl rfl)
theorem dX1_faultOf_1 : decode cX1_faultOf 1 = .ok (.ifCond .eq 18, 3) := dk_153 0 18 (dk_at dksX1_faultOf_0 1 rfl rfl)
theorem dX1_faultOf_4 : decode cX1_faultOf 4 = .ok (.aload_n 0, 1) := dk_42 (dk_at dksX1_faultOf_0 4 rfl rfl)
theorem dX1_faultOf_5 : decode cX1_faultOf 5 = .ok (.getfield 146, 3) := dk_180 0 146 (dk_at dksX1_faultOf_0 5 rfl rfl)
theorem dX1_faultOf_8 : decode cX1_faultOf 8 = .ok (.aload_n 0, 1) := dk_42 (dk_at dksX1_faultOf_0 8 rfl rfl)
theorem dX1_faultOf_9 : decode cX1_faultOf 9 = .ok (.getfield 158, 3) := dk_180 0 158 (dk_at dksX1_faultOf_0 9 rfl rfl)
theorem dX1_faultOf_12 : decode cX1_faultOf 12 = .ok (.if_icmp .ne 7, 3) := dk_160 0 7 (dk_at dksX1_faultOf_0 12 rfl rfl)
theorem dX1_faultOf_15 : decode cX1_faultOf 15 = .ok (.iconst 1, 1) := dk_4 (dk_at dksX1_faultOf_0 15 rfl rfl)
theorem dX1_faultOf_16 : decode cX1_faultOf 16 = .ok (.goto 4, 3) := dk_167 0 4 (dk_at dksX1_faultOf_0 16 rfl rfl)
theorem dX1_faultOf_19 : decode cX1_faultOf 19 = .ok (.iconst 0, 1) := dk_3 (dk_at dksX1_faultOf_0 19 rfl rfl)
theorem dX1_faultOf_20 : decode cX1_faultOf 20 = .ok (.istore_n 3, 1) := dk_62 (dk_at dksX1_faultOf_0 20 rfl rfl)
theorem dX1_faultOf_21 : decode cX1_faultOf 21 = .ok (.iload_n 1, 1) := dk_27 (dk_at dksX1_faultOf_0 21 rfl rfl)
theorem dX1_faultOf_22 : decode cX1_faultOf 22 = .ok (.aload_n 0, 1) := dk_42 (dk_at dksX1_faultOf_0 22 rfl rfl)
theorem dX1_faultOf_23 : decode cX1_faultOf 23 = .ok (.getfield 158, 3) := dk_180 0 158 (dk_at dksX1_faultOf_1 0 rfl rfl)
theorem dX1_faultOf_26 : decode cX1_faultOf 26 = .ok (.if_icmp .le 25, 3) := dk_164 0 25 (dk_at dksX1_faultOf_1 3 rfl rfl)
theorem dX1_faultOf_29 : decode cX1_faultOf 29 = .ok (.iload_n 3, 1) := dk_29 (dk_at dksX1_faultOf_1 6 rfl rfl)
theorem dX1_faultOf_30 : decode cX1_faultOf 30 = .ok (.ifCond .ne 14, 3) := dk_154 0 14 (dk_at dksX1_faultOf_1 7 rfl rfl)
theorem dX1_faultOf_33 : decode cX1_faultOf 33 = .ok (.aload_n 0, 1) := dk_42 (dk_at dksX1_faultOf_1 10 rfl rfl)
theorem dX1_faultOf_34 : decode cX1_faultOf 34 = .ok (.getfield 146, 3) := dk_180 0 146 (dk_at dksX1_faultOf_1 11 rfl rfl)
theorem dX1_faultOf_37 : decode cX1_faultOf 37 = .ok (.aload_n 0, 1) := dk_42 (dk_at dksX1_faultOf_1 14 rfl rfl)
theorem dX1_faultOf_38 : decode cX1_faultOf 38 = .ok (.getfield 158, 3) := dk_180 0 158 (dk_at dksX1_faultOf_1 15 rfl rfl)
theorem dX1_faultOf_41 : decode cX1_faultOf 41 = .ok (.if_icmp .ne 10, 3) := dk_160 0 10 (dk_at dksX1_faultOf_1 18 rfl rfl)
theorem dX1_faultOf_44 : decode cX1_faultOf 44 = .ok (.iconst (-1), 1) := dk_2 (dk_at dksX1_faultOf_1 21 rfl rfl)
theorem dX1_faultOf_45 : decode cX1_faultOf 45 = .ok (.aload_n 0, 1) := dk_42 (dk_at dksX1_faultOf_1 22 rfl rfl)
theorem dX1_faultOf_46 : decode cX1_faultOf 46 = .ok (.getfield 158, 3) := dk_180 0 158 (dk_at dksX1_faultOf_2 0 rfl rfl)
theorem dX1_faultOf_49 : decode cX1_faultOf 49 = .ok (.isub, 1) := dk_100 (dk_at dksX1_faultOf_2 3 rfl rfl)
theorem dX1_faultOf_50 : decode cX1_faultOf 50 = .ok (.ireturn, 1) := dk_172 (dk_at dksX1_faultOf_2 4 rfl rfl)
theorem dX1_faultOf_51 : decode cX1_faultOf 51 = .ok (.iload_n 3, 1) := dk_29 (dk_at dksX1_faultOf_2 5 rfl rfl)
theorem dX1_faultOf_52 : decode cX1_faultOf 52 = .ok (.ifCond .eq 7, 3) := dk_153 0 7 (dk_at dksX1_faultOf_2 6 rfl rfl)
theorem dX1_faultOf_55 : decode cX1_faultOf 55 = .ok (.iconst 0, 1) := dk_3 (dk_at dksX1_faultOf_2 9 rfl rfl)
theorem dX1_faultOf_56 : decode cX1_faultOf 56 = .ok (.goto 9, 3) := dk_167 0 9 (dk_at dksX1_faultOf_2 10 rfl rfl)
theorem dX1_faultOf_59 : decode cX1_faultOf 59 = .ok (.iconst (-1), 1) := dk_2 (dk_at dksX1_faultOf_2 13 rfl rfl)
theorem dX1_faultOf_60 : decode cX1_faultOf 60 = .ok (.aload_n 0, 1) := dk_42 (dk_at dksX1_faultOf_2 14 rfl rfl)
theorem dX1_faultOf_61 : decode cX1_faultOf 61 = .ok (.getfield 146, 3) := dk_180 0 146 (dk_at dksX1_faultOf_2 15 rfl rfl)
theorem dX1_faultOf_64 : decode cX1_faultOf 64 = .ok (.isub, 1) := dk_100 (dk_at dksX1_faultOf_2 18 rfl rfl)
theorem dX1_faultOf_65 : decode cX1_faultOf 65 = .ok (.ireturn, 1) := dk_172 (dk_at dksX1_faultOf_2 19 rfl rfl)
abbrev cX1_comes : ByteArray := prog_1_method_24_code
def yX1_comes : MethodName := ⟨RX1, "comes", "(I)V"⟩
def dkwX1_comes_4 : List UInt8 := [28, 3, 79, 42, 89, 180, 0, 117, 4, 96, 181, 0, 117, 177]
abbrev dktX1_comes_4 : List UInt8 := dkwX1_comes_4 ++ []
def dkwX1_comes_3 : List UInt8 := [46, 79, 42, 180, 0, 12, 180, 0, 133, 28, 42, 180, 0, 32, 27, 46, 79, 42, 180, 0, 12, 180, 0, 209]
abbrev dktX1_comes_3 : List UInt8 := dkwX1_comes_3 ++ dktX1_comes_4
def dkwX1_comes_2 : List UInt8 := [180, 0, 206, 28, 42, 180, 0, 35, 27, 46, 79, 42, 180, 0, 12, 180, 0, 140, 28, 42, 180, 0, 41, 27]
abbrev dktX1_comes_2 : List UInt8 := dkwX1_comes_2 ++ dktX1_comes_3
def dkwX1_comes_1 : List UInt8 := [180, 0, 38, 27, 46, 79, 42, 180, 0, 26, 28, 42, 180, 0, 44, 27, 46, 79, 42, 180, 0, 12]
abbrev dktX1_comes_1 : List UInt8 := dkwX1_comes_1 ++ dktX1_comes_2
def dkwX1_comes_0 : List UInt8 := [42, 180, 0, 117, 61, 42, 180, 0, 19, 28, 42, 180, 0, 32, 27, 46, 79, 42, 180, 0, 23, 28, 42]
abbrev dktX1_comes_0 : List UInt8 := dkwX1_comes_0 ++ dktX1_comes_1
theorem dksX1_comes_0 : cX1_comes.data.toList.drop 0 = dktX1_comes_0 := by decide +kernel
theorem dksX1_comes_1 : cX1_comes.data.toList.drop 23 = dktX1_comes_1 := dk_seg dksX1_comes_0 23 rfl rfl
theorem dksX1_comes_2 : cX1_comes.data.toList.drop 45 = dktX1_comes_2 := dk_seg dksX1_comes_1 22 rfl rfl
theorem dksX1_comes_3 : cX1_comes.data.toList.drop 69 = dktX1_comes_3 := dk_seg dksX1_comes_2 24 rfl rfl
theorem dksX1_comes_4 : cX1_comes.data.toList.drop 93 = dktX1_comes_4 := dk_seg dksX1_comes_3 24 rfl rfl
theorem dX1_comes_0 : decode cX1_comes 0 = .ok (.aload_n 0, 1) := dk_42 (dk_at dksX1_comes_0 0 rfl rfl)
theorem dX1_comes_1 : decode cX1_comes 1 = .ok (.getfield 117, 3) := dk_180 0 117 (dk_at dksX1_comes_0 1 rfl rfl)
theorem dX1_comes_4 : decode cX1_comes 4 = .ok (.istore_n 2, 1) := dk_61 (dk_at dksX1_comes_0 4 rfl rfl)
theorem dX1_comes_5 : decode cX1_comes 5 = .ok (.aload_n 0, 1) := dk_42 (dk_at dksX1_comes_0 5 rfl rfl)
theorem dX1_comes_6 : decode cX1_comes 6 = .ok (.getfield 19, 3) := dk_180 0 19 (dk_at dksX1_comes_0 6 rfl rfl)
theorem dX1_comes_9 : decode cX1_comes 9 = .ok (.iload_n 2, 1) := dk_28 (dk_at dksX1_comes_0 9 rfl rfl)
theorem dX1_comes_10 : decode cX1_comes 10 = .ok (.aload_n 0, 1) := dk_42 (dk_at dksX1_comes_0 10 rfl rfl)
theorem dX1_comes_11 : decode cX1_comes 11 = .ok (.getfield 32, 3) := dk_180 0 32 (dk_at dksX1_comes_0 11 rfl rfl)
theorem dX1_comes_14 : decode cX1_comes 14 = .ok (.iload_n 1, 1) := dk_27 (dk_at dksX1_comes_0 14 rfl rfl)
theorem dX1_comes_15 : decode cX1_comes 15 = .ok (.iaload, 1) := dk_46 (dk_at dksX1_comes_0 15 rfl rfl)
theorem dX1_comes_16 : decode cX1_comes 16 = .ok (.iastore, 1) := dk_79 (dk_at dksX1_comes_0 16 rfl rfl)
theorem dX1_comes_17 : decode cX1_comes 17 = .ok (.aload_n 0, 1) := dk_42 (dk_at dksX1_comes_0 17 rfl rfl)
theorem dX1_comes_18 : decode cX1_comes 18 = .ok (.getfield 23, 3) := dk_180 0 23 (dk_at dksX1_comes_0 18 rfl rfl)
theorem dX1_comes_21 : decode cX1_comes 21 = .ok (.iload_n 2, 1) := dk_28 (dk_at dksX1_comes_0 21 rfl rfl)
theorem dX1_comes_22 : decode cX1_comes 22 = .ok (.aload_n 0, 1) := dk_42 (dk_at dksX1_comes_0 22 rfl rfl)
theorem dX1_comes_23 : decode cX1_comes 23 = .ok (.getfield 38, 3) := dk_180 0 38 (dk_at dksX1_comes_1 0 rfl rfl)
theorem dX1_comes_26 : decode cX1_comes 26 = .ok (.iload_n 1, 1) := dk_27 (dk_at dksX1_comes_1 3 rfl rfl)
theorem dX1_comes_27 : decode cX1_comes 27 = .ok (.iaload, 1) := dk_46 (dk_at dksX1_comes_1 4 rfl rfl)
theorem dX1_comes_28 : decode cX1_comes 28 = .ok (.iastore, 1) := dk_79 (dk_at dksX1_comes_1 5 rfl rfl)
theorem dX1_comes_29 : decode cX1_comes 29 = .ok (.aload_n 0, 1) := dk_42 (dk_at dksX1_comes_1 6 rfl rfl)
theorem dX1_comes_30 : decode cX1_comes 30 = .ok (.getfield 26, 3) := dk_180 0 26 (dk_at dksX1_comes_1 7 rfl rfl)
theorem dX1_comes_33 : decode cX1_comes 33 = .ok (.iload_n 2, 1) := dk_28 (dk_at dksX1_comes_1 10 rfl rfl)
theorem dX1_comes_34 : decode cX1_comes 34 = .ok (.aload_n 0, 1) := dk_42 (dk_at dksX1_comes_1 11 rfl rfl)
theorem dX1_comes_35 : decode cX1_comes 35 = .ok (.getfield 44, 3) := dk_180 0 44 (dk_at dksX1_comes_1 12 rfl rfl)
theorem dX1_comes_38 : decode cX1_comes 38 = .ok (.iload_n 1, 1) := dk_27 (dk_at dksX1_comes_1 15 rfl rfl)
theorem dX1_comes_39 : decode cX1_comes 39 = .ok (.iaload, 1) := dk_46 (dk_at dksX1_comes_1 16 rfl rfl)
theorem dX1_comes_40 : decode cX1_comes 40 = .ok (.iastore, 1) := dk_79 (dk_at dksX1_comes_1 17 rfl rfl)
theorem dX1_comes_41 : decode cX1_comes 41 = .ok (.aload_n 0, 1) := dk_42 (dk_at dksX1_comes_1 18 rfl rfl)
theorem dX1_comes_42 : decode cX1_comes 42 = .ok (.getfield 12, 3) := dk_180 0 12 (dk_at dksX1_comes_1 19 rfl rfl)
theorem dX1_comes_45 : decode cX1_comes 45 = .ok (.getfield 206, 3) := dk_180 0 206 (dk_at dksX1_comes_2 0 rfl rfl)
theorem dX1_comes_48 : decode cX1_comes 48 = .ok (.iload_n 2, 1) := dk_28 (dk_at dksX1_comes_2 3 rfl rfl)
theorem dX1_comes_49 : decode cX1_comes 49 = .ok (.aload_n 0, 1) := dk_42 (dk_at dksX1_comes_2 4 rfl rfl)
theorem dX1_comes_50 : decode cX1_comes 50 = .ok (.getfield 35, 3) := dk_180 0 35 (dk_at dksX1_comes_2 5 rfl rfl)
theorem dX1_comes_53 : decode cX1_comes 53 = .ok (.iload_n 1, 1) := dk_27 (dk_at dksX1_comes_2 8 rfl rfl)
theorem dX1_comes_54 : decode cX1_comes 54 = .ok (.iaload, 1) := dk_46 (dk_at dksX1_comes_2 9 rfl rfl)
theorem dX1_comes_55 : decode cX1_comes 55 = .ok (.iastore, 1) := dk_79 (dk_at dksX1_comes_2 10 rfl rfl)
theorem dX1_comes_56 : decode cX1_comes 56 = .ok (.aload_n 0, 1) := dk_42 (dk_at dksX1_comes_2 11 rfl rfl)
theorem dX1_comes_57 : decode cX1_comes 57 = .ok (.getfield 12, 3) := dk_180 0 12 (dk_at dksX1_comes_2 12 rfl rfl)
theorem dX1_comes_60 : decode cX1_comes 60 = .ok (.getfield 140, 3) := dk_180 0 140 (dk_at dksX1_comes_2 15 rfl rfl)
theorem dX1_comes_63 : decode cX1_comes 63 = .ok (.iload_n 2, 1) := dk_28 (dk_at dksX1_comes_2 18 rfl rfl)
theorem dX1_comes_64 : decode cX1_comes 64 = .ok (.aload_n 0, 1) := dk_42 (dk_at dksX1_comes_2 19 rfl rfl)
theorem dX1_comes_65 : decode cX1_comes 65 = .ok (.getfield 41, 3) := dk_180 0 41 (dk_at dksX1_comes_2 20 rfl rfl)
theorem dX1_comes_68 : decode cX1_comes 68 = .ok (.iload_n 1, 1) := dk_27 (dk_at dksX1_comes_2 23 rfl rfl)
theorem dX1_comes_69 : decode cX1_comes 69 = .ok (.iaload, 1) := dk_46 (dk_at dksX1_comes_3 0 rfl rfl)
theorem dX1_comes_70 : decode cX1_comes 70 = .ok (.iastore, 1) := dk_79 (dk_at dksX1_comes_3 1 rfl rfl)
theorem dX1_comes_71 : decode cX1_comes 71 = .ok (.aload_n 0, 1) := dk_42 (dk_at dksX1_comes_3 2 rfl rfl)
theorem dX1_comes_72 : decode cX1_comes 72 = .ok (.getfield 12, 3) := dk_180 0 12 (dk_at dksX1_comes_3 3 rfl rfl)
theorem dX1_comes_75 : decode cX1_comes 75 = .ok (.getfield 133, 3) := dk_180 0 133 (dk_at dksX1_comes_3 6 rfl rfl)
theorem dX1_comes_78 : decode cX1_comes 78 = .ok (.iload_n 2, 1) := dk_28 (dk_at dksX1_comes_3 9 rfl rfl)
theorem dX1_comes_79 : decode cX1_comes 79 = .ok (.aload_n 0, 1) := dk_42 (dk_at dksX1_comes_3 10 rfl rfl)
theorem dX1_comes_80 : decode cX1_comes 80 = .ok (.getfield 32, 3) := dk_180 0 32 (dk_at dksX1_comes_3 11 rfl rfl)
theorem dX1_comes_83 : decode cX1_comes 83 = .ok (.iload_n 1, 1) := dk_27 (dk_at dksX1_comes_3 14 rfl rfl)
theorem dX1_comes_84 : decode cX1_comes 84 = .ok (.iaload, 1) := dk_46 (dk_at dksX1_comes_3 15 rfl rfl)
theorem dX1_comes_85 : decode cX1_comes 85 = .ok (.iastore, 1) := dk_79 (dk_at dksX1_comes_3 16 rfl rfl)
theorem dX1_comes_86 : decode cX1_comes 86 = .ok (.aload_n 0, 1) := dk_42 (dk_at dksX1_comes_3 17 rfl rfl)
theorem dX1_comes_87 : decode cX1_comes 87 = .ok (.getfield 12, 3) := dk_180 0 12 (dk_at dksX1_comes_3 18 rfl rfl)
theorem dX1_comes_90 : decode cX1_comes 90 = .ok (.getfield 209, 3) := dk_180 0 209 (dk_at dksX1_comes_3 21 rfl rfl)
theorem dX1_comes_93 : decode cX1_comes 93 = .ok (.iload_n 2, 1) := dk_28 (dk_at dksX1_comes_4 0 rfl rfl)
theorem dX1_comes_94 : decode cX1_comes 94 = .ok (.iconst 0, 1) := dk_3 (dk_at dksX1_comes_4 1 rfl rfl)
theorem dX1_comes_95 : decode cX1_comes 95 = .ok (.iastore, 1) := dk_79 (dk_at dksX1_comes_4 2 rfl rfl)
theorem dX1_comes_96 : decode cX1_comes 96 = .ok (.aload_n 0, 1) := dk_42 (dk_at dksX1_comes_4 3 rfl rfl)
theorem dX1_comes_97 : decode cX1_comes 97 = .ok (.dup, 1) := dk_89 (dk_at dksX1_comes_4 4 rfl rfl)
theorem dX1_comes_98 : decode cX1_comes 98 = .ok (.getfield 117, 3) := dk_180 0 117 (dk_at dksX1_comes_4 5 rfl rfl)
theorem dX1_comes_101 : decode cX1_comes 101 = .ok (.iconst 1, 1) := dk_4 (dk_at dksX1_comes_4 8 rfl rfl)
theorem dX1_comes_102 : decode cX1_comes 102 = .ok (.iadd, 1) := dk_96 (dk_at dksX1_comes_4 9 rfl rfl)
theorem dX1_comes_103 : decode cX1_comes 103 = .ok (.putfield 117, 3) := dk_181 0 117 (dk_at dksX1_comes_4 10 rfl rfl)
theorem dX1_comes_106 : decode cX1_comes 106 = .ok (.return_, 1) := dk_177 (dk_at dksX1_comes_4 13 rfl rfl)
abbrev cX1_rule : ByteArray := prog_1_method_30_code
def yX1_rule : MethodName := ⟨RX1, "rule", "()I"⟩
def dkwX1_rule_0 : List UInt8 := [42, 182, 1, 18, 60, 27, 154, 0, 11, 42, 42, 180, 1, 14, 181, 1, 21, 27, 172]
abbrev dktX1_rule_0 : List UInt8 := dkwX1_rule_0 ++ []
theorem dksX1_rule_0 : cX1_rule.data.toList.drop 0 = dktX1_rule_0 := by decide +kernel
theorem dX1_rule_0 : decode cX1_rule 0 = .ok (.aload_n 0, 1) := dk_42 (dk_at dksX1_rule_0 0 rfl rfl)
theorem dX1_rule_1 : decode cX1_rule 1 = .ok (.invokevirtual 274, 3) := dk_182 1 18 (dk_at dksX1_rule_0 1 rfl rfl)
theorem dX1_rule_4 : decode cX1_rule 4 = .ok (.istore_n 1, 1) := dk_60 (dk_at dksX1_rule_0 4 rfl rfl)
theorem dX1_rule_5 : decode cX1_rule 5 = .ok (.iload_n 1, 1) := dk_27 (dk_at dksX1_rule_0 5 rfl rfl)
theorem dX1_rule_6 : decode cX1_rule 6 = .ok (.ifCond .ne 11, 3) := dk_154 0 11 (dk_at dksX1_rule_0 6 rfl rfl)
theorem dX1_rule_9 : decode cX1_rule 9 = .ok (.aload_n 0, 1) := dk_42 (dk_at dksX1_rule_0 9 rfl rfl)
theorem dX1_rule_10 : decode cX1_rule 10 = .ok (.aload_n 0, 1) := dk_42 (dk_at dksX1_rule_0 10 rfl rfl)
theorem dX1_rule_11 : decode cX1_rule 11 = .ok (.getfield 270, 3) := dk_180 1 14 (dk_at dksX1_rule_0 11 rfl rfl)
theorem dX1_rule_14 : decode cX1_rule 14 = .ok (.putfield 277, 3) := dk_181 1 21 (dk_at dksX1_rule_0 14 rfl rfl)
theorem dX1_rule_17 : decode cX1_rule 17 = .ok (.iload_n 1, 1) := dk_27 (dk_at dksX1_rule_0 17 rfl rfl)
theorem dX1_rule_18 : decode cX1_rule 18 = .ok (.ireturn, 1) := dk_172 (dk_at dksX1_rule_0 18 rfl rfl)
abbrev cX1_readsRule : ByteArray := prog_1_method_29_code
def yX1_readsRule : MethodName := ⟨RX1, "readsRule", "()I"⟩
def dkwX1_readsRule_2 : List UInt8 := [182, 0, 218, 172]
abbrev dktX1_readsRule_2 : List UInt8 := dkwX1_readsRule_2 ++ []
def dkwX1_readsRule_1 : List UInt8 := [27, 154, 0, 7, 3, 167, 0, 20, 42, 27, 42, 180, 1, 14, 198, 0, 7, 4, 167, 0, 4, 3]
abbrev dktX1_readsRule_1 : List UInt8 := dkwX1_readsRule_1 ++ dktX1_readsRule_2
def dkwX1_readsRule_0 : List UInt8 := [42, 16, 40, 182, 0, 212, 60, 42, 27, 154, 0, 7, 1, 167, 0, 8, 42, 3, 182, 0, 251, 181, 1, 14]
abbrev dktX1_readsRule_0 : List UInt8 := dkwX1_readsRule_0 ++ dktX1_readsRule_1
theorem dksX1_readsRule_0 : cX1_readsRule.data.toList.drop 0 = dktX1_readsRule_0 := by decide +kernel
theorem dksX1_readsRule_1 : cX1_readsRule.data.toList.drop 24 = dktX1_readsRule_1 := dk_seg dksX1_readsRule_0 24 rfl rfl
theorem dksX1_readsRule_2 : cX1_readsRule.data.toList.drop 46 = dktX1_readsRule_2 := dk_seg dksX1_readsRule_1 22 rfl rfl
theorem dX1_readsRule_0 : decode cX1_readsRule 0 = .ok (.aload_n 0, 1) := dk_42 (dk_at dksX1_readsRule_0 0 rfl rfl)
theorem dX1_readsRule_1 : decode cX1_readsRule 1 = .ok (.bipush 40, 2) := dk_16 40 (dk_at dksX1_readsRule_0 1 rfl rfl)
theorem dX1_readsRule_3 : decode cX1_readsRule 3 = .ok (.invokevirtual 212, 3) := dk_182 0 212 (dk_at dksX1_readsRule_0 3 rfl rfl)
theorem dX1_readsRule_6 : decode cX1_readsRule 6 = .ok (.istore_n 1, 1) := dk_60 (dk_at dksX1_readsRule_0 6 rfl rfl)
theorem dX1_readsRule_7 : decode cX1_readsRule 7 = .ok (.aload_n 0, 1) := dk_42 (dk_at dksX1_readsRule_0 7 rfl rfl)
theorem dX1_readsRule_8 : decode cX1_readsRule 8 = .ok (.iload_n 1, 1) := dk_27 (dk_at dksX1_readsRule_0 8 rfl rfl)
theorem dX1_readsRule_9 : decode cX1_readsRule 9 = .ok (.ifCond .ne 7, 3) := dk_154 0 7 (dk_at dksX1_readsRule_0 9 rfl rfl)
theorem dX1_readsRule_12 : decode cX1_readsRule 12 = .ok (.aconst_null, 1) := dk_1 (dk_at dksX1_readsRule_0 12 rfl rfl)
theorem dX1_readsRule_13 : decode cX1_readsRule 13 = .ok (.goto 8, 3) := dk_167 0 8 (dk_at dksX1_readsRule_0 13 rfl rfl)
theorem dX1_readsRule_16 : decode cX1_readsRule 16 = .ok (.aload_n 0, 1) := dk_42 (dk_at dksX1_readsRule_0 16 rfl rfl)
theorem dX1_readsRule_17 : decode cX1_readsRule 17 = .ok (.iconst 0, 1) := dk_3 (dk_at dksX1_readsRule_0 17 rfl rfl)
theorem dX1_readsRule_18 : decode cX1_readsRule 18 = .ok (.invokevirtual 251, 3) := dk_182 0 251 (dk_at dksX1_readsRule_0 18 rfl rfl)
theorem dX1_readsRule_21 : decode cX1_readsRule 21 = .ok (.putfield 270, 3) := dk_181 1 14 (dk_at dksX1_readsRule_0 21 rfl rfl)
theorem dX1_readsRule_24 : decode cX1_readsRule 24 = .ok (.iload_n 1, 1) := dk_27 (dk_at dksX1_readsRule_1 0 rfl rfl)
theorem dX1_readsRule_25 : decode cX1_readsRule 25 = .ok (.ifCond .ne 7, 3) := dk_154 0 7 (dk_at dksX1_readsRule_1 1 rfl rfl)
theorem dX1_readsRule_28 : decode cX1_readsRule 28 = .ok (.iconst 0, 1) := dk_3 (dk_at dksX1_readsRule_1 4 rfl rfl)
theorem dX1_readsRule_29 : decode cX1_readsRule 29 = .ok (.goto 20, 3) := dk_167 0 20 (dk_at dksX1_readsRule_1 5 rfl rfl)
theorem dX1_readsRule_32 : decode cX1_readsRule 32 = .ok (.aload_n 0, 1) := dk_42 (dk_at dksX1_readsRule_1 8 rfl rfl)
theorem dX1_readsRule_33 : decode cX1_readsRule 33 = .ok (.iload_n 1, 1) := dk_27 (dk_at dksX1_readsRule_1 9 rfl rfl)
theorem dX1_readsRule_34 : decode cX1_readsRule 34 = .ok (.aload_n 0, 1) := dk_42 (dk_at dksX1_readsRule_1 10 rfl rfl)
theorem dX1_readsRule_35 : decode cX1_readsRule 35 = .ok (.getfield 270, 3) := dk_180 1 14 (dk_at dksX1_readsRule_1 11 rfl rfl)
theorem dX1_readsRule_38 : decode cX1_readsRule 38 = .ok (.ifnull 7, 3) := dk_198 0 7 (dk_at dksX1_readsRule_1 14 rfl rfl)
theorem dX1_readsRule_41 : decode cX1_readsRule 41 = .ok (.iconst 1, 1) := dk_4 (dk_at dksX1_readsRule_1 17 rfl rfl)
theorem dX1_readsRule_42 : decode cX1_readsRule 42 = .ok (.goto 4, 3) := dk_167 0 4 (dk_at dksX1_readsRule_1 18 rfl rfl)
theorem dX1_readsRule_45 : decode cX1_readsRule 45 = .ok (.iconst 0, 1) := dk_3 (dk_at dksX1_readsRule_1 21 rfl rfl)
theorem dX1_readsRule_46 : decode cX1_readsRule 46 = .ok (.invokevirtual 218, 3) := dk_182 0 218 (dk_at dksX1_readsRule_2 0 rfl rfl)
theorem dX1_readsRule_49 : decode cX1_readsRule 49 = .ok (.ireturn, 1) := dk_172 (dk_at dksX1_readsRule_2 3 rfl rfl)
abbrev cX1_parses : ByteArray := prog_1_method_28_code
def yX1_parses : MethodName := ⟨RX1, "parses", "(I)LPullThePlug$Node;"⟩
def dkwX1_parses_4 : List UInt8 := [158, 0, 7, 4, 167, 0, 4, 3, 62, 167, 255, 173, 44, 176]
abbrev dktX1_parses_4 : List UInt8 := dkwX1_parses_4 ++ []
def dkwX1_parses_3 : List UInt8 := [199, 0, 7, 1, 167, 0, 16, 187, 1, 9, 89, 42, 21, 4, 44, 25, 5, 183, 1, 11, 77, 27]
abbrev dktX1_parses_3 : List UInt8 := dkwX1_parses_3 ++ dktX1_parses_4
def dkwX1_parses_2 : List UInt8 := [146, 54, 4, 42, 89, 180, 0, 146, 4, 96, 181, 0, 146, 42, 27, 4, 96, 182, 0, 251, 58, 5, 25, 5]
abbrev dktX1_parses_2 : List UInt8 := dkwX1_parses_2 ++ dktX1_parses_3
def dkwX1_parses_1 : List UInt8 := [29, 153, 0, 81, 42, 27, 184, 1, 5, 182, 0, 171, 155, 0, 70, 42, 180, 0, 29, 42, 180, 0, 146, 46]
abbrev dktX1_parses_1 : List UInt8 := dkwX1_parses_1 ++ dktX1_parses_2
def dkwX1_parses_0 : List UInt8 := [27, 6, 160, 0, 8, 42, 182, 0, 232, 176, 42, 27, 4, 96, 182, 0, 251, 77, 4, 62, 44, 198, 0, 85]
abbrev dktX1_parses_0 : List UInt8 := dkwX1_parses_0 ++ dktX1_parses_1
theorem dksX1_parses_0 : cX1_parses.data.toList.drop 0 = dktX1_parses_0 := by decide +kernel
theorem dksX1_parses_1 : cX1_parses.data.toList.drop 24 = dktX1_parses_1 := dk_seg dksX1_parses_0 24 rfl rfl
theorem dksX1_parses_2 : cX1_parses.data.toList.drop 48 = dktX1_parses_2 := dk_seg dksX1_parses_1 24 rfl rfl
theorem dksX1_parses_3 : cX1_parses.data.toList.drop 72 = dktX1_parses_3 := dk_seg dksX1_parses_2 24 rfl rfl
theorem dksX1_parses_4 : cX1_parses.data.toList.drop 94 = dktX1_parses_4 := dk_seg dksX1_parses_3 22 rfl rfl
theorem dX1_parses_0 : decode cX1_parses 0 = .ok (.iload_n 1, 1) := dk_27 (dk_at dksX1_parses_0 0 rfl rfl)
theorem dX1_parses_1 : decode cX1_parses 1 = .ok (.iconst 3, 1) := dk_6 (dk_at dksX1_parses_0 1 rfl rfl)
theorem dX1_parses_2 : decode cX1_parses 2 = .ok (.if_icmp .ne 8, 3) := dk_160 0 8 (dk_at dksX1_parses_0 2 rfl rfl)
theorem dX1_parses_5 : decode cX1_parses 5 = .ok (.aload_n 0, 1) := dk_42 (dk_at dksX1_parses_0 5 rfl rfl)
theorem dX1_parses_6 : decode cX1_parses 6 = .ok (.invokevirtual 232, 3) := dk_182 0 232 (dk_at dksX1_parses_0 6 rfl rfl)
theorem dX1_parses_9 : decode cX1_parses 9 = .ok (.areturn, 1) := dk_176 (dk_at dksX1_parses_0 9 rfl rfl)
theorem dX1_parses_10 : decode cX1_parses 10 = .ok (.aload_n 0, 1) := dk_42 (dk_at dksX1_parses_0 10 rfl rfl)
theorem dX1_parses_11 : decode cX1_parses 11 = .ok (.iload_n 1, 1) := dk_27 (dk_at dksX1_parses_0 11 rfl rfl)
theorem dX1_parses_12 : decode cX1_parses 12 = .ok (.iconst 1, 1) := dk_4 (dk_at dksX1_parses_0 12 rfl rfl)
theorem dX1_parses_13 : decode cX1_parses 13 = .ok (.iadd, 1) := dk_96 (dk_at dksX1_parses_0 13 rfl rfl)
theorem dX1_parses_14 : decode cX1_parses 14 = .ok (.invokevirtual 251, 3) := dk_182 0 251 (dk_at dksX1_parses_0 14 rfl rfl)
theorem dX1_parses_17 : decode cX1_parses 17 = .ok (.astore_n 2, 1) := dk_77 (dk_at dksX1_parses_0 17 rfl rfl)
theorem dX1_parses_18 : decode cX1_parses 18 = .ok (.iconst 1, 1) := dk_4 (dk_at dksX1_parses_0 18 rfl rfl)
theorem dX1_parses_19 : decode cX1_parses 19 = .ok (.istore_n 3, 1) := dk_62 (dk_at dksX1_parses_0 19 rfl rfl)
theorem dX1_parses_20 : decode cX1_parses 20 = .ok (.aload_n 2, 1) := dk_44 (dk_at dksX1_parses_0 20 rfl rfl)
theorem dX1_parses_21 : decode cX1_parses 21 = .ok (.ifnull 85, 3) := dk_198 0 85 (dk_at dksX1_parses_0 21 rfl rfl)
theorem dX1_parses_24 : decode cX1_parses 24 = .ok (.iload_n 3, 1) := dk_29 (dk_at dksX1_parses_1 0 rfl rfl)
theorem dX1_parses_25 : decode cX1_parses 25 = .ok (.ifCond .eq 81, 3) := dk_153 0 81 (dk_at dksX1_parses_1 1 rfl rfl)
theorem dX1_parses_28 : decode cX1_parses 28 = .ok (.aload_n 0, 1) := dk_42 (dk_at dksX1_parses_1 4 rfl rfl)
theorem dX1_parses_29 : decode cX1_parses 29 = .ok (.iload_n 1, 1) := dk_27 (dk_at dksX1_parses_1 5 rfl rfl)
theorem dX1_parses_30 : decode cX1_parses 30 = .ok (.invokestatic 261, 3) := dk_184 1 5 (dk_at dksX1_parses_1 6 rfl rfl)
theorem dX1_parses_33 : decode cX1_parses 33 = .ok (.invokevirtual 171, 3) := dk_182 0 171 (dk_at dksX1_parses_1 9 rfl rfl)
theorem dX1_parses_36 : decode cX1_parses 36 = .ok (.ifCond .lt 70, 3) := dk_155 0 70 (dk_at dksX1_parses_1 12 rfl rfl)
theorem dX1_parses_39 : decode cX1_parses 39 = .ok (.aload_n 0, 1) := dk_42 (dk_at dksX1_parses_1 15 rfl rfl)
theorem dX1_parses_40 : decode cX1_parses 40 = .ok (.getfield 29, 3) := dk_180 0 29 (dk_at dksX1_parses_1 16 rfl rfl)
theorem dX1_parses_43 : decode cX1_parses 43 = .ok (.aload_n 0, 1) := dk_42 (dk_at dksX1_parses_1 19 rfl rfl)
theorem dX1_parses_44 : decode cX1_parses 44 = .ok (.getfield 146, 3) := dk_180 0 146 (dk_at dksX1_parses_1 20 rfl rfl)
theorem dX1_parses_47 : decode cX1_parses 47 = .ok (.iaload, 1) := dk_46 (dk_at dksX1_parses_1 23 rfl rfl)
theorem dX1_parses_48 : decode cX1_parses 48 = .ok (.i2c, 1) := dk_146 (dk_at dksX1_parses_2 0 rfl rfl)
theorem dX1_parses_49 : decode cX1_parses 49 = .ok (.istore 4, 2) := dk_54 4 (dk_at dksX1_parses_2 1 rfl rfl)
theorem dX1_parses_51 : decode cX1_parses 51 = .ok (.aload_n 0, 1) := dk_42 (dk_at dksX1_parses_2 3 rfl rfl)
theorem dX1_parses_52 : decode cX1_parses 52 = .ok (.dup, 1) := dk_89 (dk_at dksX1_parses_2 4 rfl rfl)
theorem dX1_parses_53 : decode cX1_parses 53 = .ok (.getfield 146, 3) := dk_180 0 146 (dk_at dksX1_parses_2 5 rfl rfl)
theorem dX1_parses_56 : decode cX1_parses 56 = .ok (.iconst 1, 1) := dk_4 (dk_at dksX1_parses_2 8 rfl rfl)
theorem dX1_parses_57 : decode cX1_parses 57 = .ok (.iadd, 1) := dk_96 (dk_at dksX1_parses_2 9 rfl rfl)
theorem dX1_parses_58 : decode cX1_parses 58 = .ok (.putfield 146, 3) := dk_181 0 146 (dk_at dksX1_parses_2 10 rfl rfl)
theorem dX1_parses_61 : decode cX1_parses 61 = .ok (.aload_n 0, 1) := dk_42 (dk_at dksX1_parses_2 13 rfl rfl)
theorem dX1_parses_62 : decode cX1_parses 62 = .ok (.iload_n 1, 1) := dk_27 (dk_at dksX1_parses_2 14 rfl rfl)
theorem dX1_parses_63 : decode cX1_parses 63 = .ok (.iconst 1, 1) := dk_4 (dk_at dksX1_parses_2 15 rfl rfl)
theorem dX1_parses_64 : decode cX1_parses 64 = .ok (.iadd, 1) := dk_96 (dk_at dksX1_parses_2 16 rfl rfl)
theorem dX1_parses_65 : decode cX1_parses 65 = .ok (.invokevirtual 251, 3) := dk_182 0 251 (dk_at dksX1_parses_2 17 rfl rfl)
theorem dX1_parses_68 : decode cX1_parses 68 = .ok (.astore 5, 2) := dk_58 5 (dk_at dksX1_parses_2 20 rfl rfl)
theorem dX1_parses_70 : decode cX1_parses 70 = .ok (.aload 5, 2) := dk_25 5 (dk_at dksX1_parses_2 22 rfl rfl)
theorem dX1_parses_72 : decode cX1_parses 72 = .ok (.ifnonnull 7, 3) := dk_199 0 7 (dk_at dksX1_parses_3 0 rfl rfl)
theorem dX1_parses_75 : decode cX1_parses 75 = .ok (.aconst_null, 1) := dk_1 (dk_at dksX1_parses_3 3 rfl rfl)
theorem dX1_parses_76 : decode cX1_parses 76 = .ok (.goto 16, 3) := dk_167 0 16 (dk_at dksX1_parses_3 4 rfl rfl)
theorem dX1_parses_79 : decode cX1_parses 79 = .ok (.new 265, 3) := dk_187 1 9 (dk_at dksX1_parses_3 7 rfl rfl)
theorem dX1_parses_82 : decode cX1_parses 82 = .ok (.dup, 1) := dk_89 (dk_at dksX1_parses_3 10 rfl rfl)
theorem dX1_parses_83 : decode cX1_parses 83 = .ok (.aload_n 0, 1) := dk_42 (dk_at dksX1_parses_3 11 rfl rfl)
theorem dX1_parses_84 : decode cX1_parses 84 = .ok (.iload 4, 2) := dk_21 4 (dk_at dksX1_parses_3 12 rfl rfl)
theorem dX1_parses_86 : decode cX1_parses 86 = .ok (.aload_n 2, 1) := dk_44 (dk_at dksX1_parses_3 14 rfl rfl)
theorem dX1_parses_87 : decode cX1_parses 87 = .ok (.aload 5, 2) := dk_25 5 (dk_at dksX1_parses_3 15 rfl rfl)
theorem dX1_parses_89 : decode cX1_parses 89 = .ok (.invokespecial 267, 3) := dk_183 1 11 (dk_at dksX1_parses_3 17 rfl rfl)
theorem dX1_parses_92 : decode cX1_parses 92 = .ok (.astore_n 2, 1) := dk_77 (dk_at dksX1_parses_3 20 rfl rfl)
theorem dX1_parses_93 : decode cX1_parses 93 = .ok (.iload_n 1, 1) := dk_27 (dk_at dksX1_parses_3 21 rfl rfl)
theorem dX1_parses_94 : decode cX1_parses 94 = .ok (.ifCond .le 7, 3) := dk_158 0 7 (dk_at dksX1_parses_4 0 rfl rfl)
theorem dX1_parses_97 : decode cX1_parses 97 = .ok (.iconst 1, 1) := dk_4 (dk_at dksX1_parses_4 3 rfl rfl)
theorem dX1_parses_98 : decode cX1_parses 98 = .ok (.goto 4, 3) := dk_167 0 4 (dk_at dksX1_parses_4 4 rfl rfl)
theorem dX1_parses_101 : decode cX1_parses 101 = .ok (.iconst 0, 1) := dk_3 (dk_at dksX1_parses_4 7 rfl rfl)
theorem dX1_parses_102 : decode cX1_parses 102 = .ok (.istore_n 3, 1) := dk_62 (dk_at dksX1_parses_4 8 rfl rfl)
theorem dX1_parses_103 : decode cX1_parses 103 = .ok (.goto (-83), 3) := dk_167 255 173 (dk_at dksX1_parses_4 9 rfl rfl)
theorem dX1_parses_106 : decode cX1_parses 106 = .ok (.aload_n 2, 1) := dk_44 (dk_at dksX1_parses_4 12 rfl rfl)
theorem dX1_parses_107 : decode cX1_parses 107 = .ok (.areturn, 1) := dk_176 (dk_at dksX1_parses_4 13 rfl rfl)
abbrev cX1_readsThing : ByteArray := prog_1_method_26_code
def yX1_readsThing : MethodName := ⟨RX1, "readsThing", "()LPullThePlug$Node;"⟩
def dkwX1_readsThing_6 : List UInt8 := [42, 16, 41, 182, 0, 197, 154, 0, 5, 1, 176, 42, 89, 180, 0, 149, 4, 100, 181, 0, 149, 43, 176]
abbrev dktX1_readsThing_6 : List UInt8 := dkwX1_readsThing_6 ++ []
def dkwX1_readsThing_5 : List UInt8 := [96, 181, 0, 146, 42, 89, 180, 0, 149, 4, 96, 181, 0, 149, 42, 3, 182, 0, 251, 76, 43, 198, 0, 12]
abbrev dktX1_readsThing_5 : List UInt8 := dkwX1_readsThing_5 ++ dktX1_readsThing_6
def dkwX1_readsThing_4 : List UInt8 := [16, 40, 182, 0, 161, 153, 0, 11, 42, 180, 0, 149, 7, 160, 0, 5, 1, 176, 42, 89, 180, 0, 146, 4]
abbrev dktX1_readsThing_4 : List UInt8 := dkwX1_readsThing_4 ++ dktX1_readsThing_5
def dkwX1_readsThing_3 : List UInt8 := [181, 0, 146, 187, 0, 248, 89, 42, 42, 180, 0, 29, 42, 180, 0, 146, 4, 100, 46, 183, 0, 250, 176, 42]
abbrev dktX1_readsThing_3 : List UInt8 := dkwX1_readsThing_3 ++ dktX1_readsThing_4
def dkwX1_readsThing_2 : List UInt8 := [182, 0, 183, 183, 0, 243, 176, 42, 18, 246, 182, 0, 171, 155, 0, 33, 42, 89, 180, 0, 146, 4, 96]
abbrev dktX1_readsThing_2 : List UInt8 := dkwX1_readsThing_2 ++ dktX1_readsThing_3
def dkwX1_readsThing_1 : List UInt8 := [187, 0, 236, 89, 42, 43, 183, 0, 238, 176, 42, 182, 0, 179, 153, 0, 17, 187, 0, 241, 89, 42, 42, 6]
abbrev dktX1_readsThing_1 : List UInt8 := dkwX1_readsThing_1 ++ dktX1_readsThing_2
def dkwX1_readsThing_0 : List UInt8 := [42, 16, 45, 182, 0, 197, 153, 0, 26, 42, 182, 0, 232, 76, 43, 199, 0, 7, 1, 167, 0, 12]
abbrev dktX1_readsThing_0 : List UInt8 := dkwX1_readsThing_0 ++ dktX1_readsThing_1
theorem dksX1_readsThing_0 : cX1_readsThing.data.toList.drop 0 = dktX1_readsThing_0 := by decide +kernel
theorem dksX1_readsThing_1 : cX1_readsThing.data.toList.drop 22 = dktX1_readsThing_1 := dk_seg dksX1_readsThing_0 22 rfl rfl
theorem dksX1_readsThing_2 : cX1_readsThing.data.toList.drop 46 = dktX1_readsThing_2 := dk_seg dksX1_readsThing_1 24 rfl rfl
theorem dksX1_readsThing_3 : cX1_readsThing.data.toList.drop 69 = dktX1_readsThing_3 := dk_seg dksX1_readsThing_2 23 rfl rfl
theorem dksX1_readsThing_4 : cX1_readsThing.data.toList.drop 93 = dktX1_readsThing_4 := dk_seg dksX1_readsThing_3 24 rfl rfl
theorem dksX1_readsThing_5 : cX1_readsThing.data.toList.drop 117 = dktX1_readsThing_5 := dk_seg dksX1_readsThing_4 24 rfl rfl
theorem dksX1_readsThing_6 : cX1_readsThing.data.toList.drop 141 = dktX1_readsThing_6 := dk_seg dksX1_readsThing_5 24 rfl rfl
theorem dX1_readsThing_0 : decode cX1_readsThing 0 = .ok (.aload_n 0, 1) := dk_42 (dk_at dksX1_readsThing_0 0 rfl rfl)
theorem dX1_readsThing_1 : decode cX1_readsThing 1 = .ok (.bipush 45, 2) := dk_16 45 (dk_at dksX1_readsThing_0 1 rfl rfl)
theorem dX1_readsThing_3 : decode cX1_readsThing 3 = .ok (.invokevirtual 197, 3) := dk_182 0 197 (dk_at dksX1_readsThing_0 3 rfl rfl)
theorem dX1_readsThing_6 : decode cX1_readsThing 6 = .ok (.ifCond .eq 26, 3) := dk_153 0 26 (dk_at dksX1_readsThing_0 6 rfl rfl)
theorem dX1_readsThing_9 : decode cX1_readsThing 9 = .ok (.aload_n 0, 1) := dk_42 (dk_at dksX1_readsThing_0 9 rfl rfl)
theorem dX1_readsThing_10 : decode cX1_readsThing 10 = .ok (.invokevirtual 232, 3) := dk_182 0 232 (dk_at dksX1_readsThing_0 10 rfl rfl)
theorem dX1_readsThing_13 : decode cX1_readsThing 13 = .ok (.astore_n 1, 1) := dk_76 (dk_at dksX1_readsThing_0 13 rfl rfl)
theorem dX1_readsThing_14 : decode cX1_readsThing 14 = .ok (.aload_n 1, 1) := dk_43 (dk_at dksX1_readsThing_0 14 rfl rfl)
theorem dX1_readsThing_15 : decode cX1_readsThing 15 = .ok (.ifnonnull 7, 3) := dk_199 0 7 (dk_at dksX1_readsThing_0 15 rfl rfl)
theorem dX1_readsThing_18 : decode cX1_readsThing 18 = .ok (.aconst_null, 1) := dk_1 (dk_at dksX1_readsThing_0 18 rfl rfl)
theorem dX1_readsThing_19 : decode cX1_readsThing 19 = .ok (.goto 12, 3) := dk_167 0 12 (dk_at dksX1_readsThing_0 19 rfl rfl)
theorem dX1_readsThing_22 : decode cX1_readsThing 22 = .ok (.new 236, 3) := dk_187 0 236 (dk_at dksX1_readsThing_1 0 rfl rfl)
theorem dX1_readsThing_25 : decode cX1_readsThing 25 = .ok (.dup, 1) := dk_89 (dk_at dksX1_readsThing_1 3 rfl rfl)
theorem dX1_readsThing_26 : decode cX1_readsThing 26 = .ok (.aload_n 0, 1) := dk_42 (dk_at dksX1_readsThing_1 4 rfl rfl)
theorem dX1_readsThing_27 : decode cX1_readsThing 27 = .ok (.aload_n 1, 1) := dk_43 (dk_at dksX1_readsThing_1 5 rfl rfl)
theorem dX1_readsThing_28 : decode cX1_readsThing 28 = .ok (.invokespecial 238, 3) := dk_183 0 238 (dk_at dksX1_readsThing_1 6 rfl rfl)
theorem dX1_readsThing_31 : decode cX1_readsThing 31 = .ok (.areturn, 1) := dk_176 (dk_at dksX1_readsThing_1 9 rfl rfl)
theorem dX1_readsThing_32 : decode cX1_readsThing 32 = .ok (.aload_n 0, 1) := dk_42 (dk_at dksX1_readsThing_1 10 rfl rfl)
theorem dX1_readsThing_33 : decode cX1_readsThing 33 = .ok (.invokevirtual 179, 3) := dk_182 0 179 (dk_at dksX1_readsThing_1 11 rfl rfl)
theorem dX1_readsThing_36 : decode cX1_readsThing 36 = .ok (.ifCond .eq 17, 3) := dk_153 0 17 (dk_at dksX1_readsThing_1 14 rfl rfl)
theorem dX1_readsThing_39 : decode cX1_readsThing 39 = .ok (.new 241, 3) := dk_187 0 241 (dk_at dksX1_readsThing_1 17 rfl rfl)
theorem dX1_readsThing_42 : decode cX1_readsThing 42 = .ok (.dup, 1) := dk_89 (dk_at dksX1_readsThing_1 20 rfl rfl)
theorem dX1_readsThing_43 : decode cX1_readsThing 43 = .ok (.aload_n 0, 1) := dk_42 (dk_at dksX1_readsThing_1 21 rfl rfl)
theorem dX1_readsThing_44 : decode cX1_readsThing 44 = .ok (.aload_n 0, 1) := dk_42 (dk_at dksX1_readsThing_1 22 rfl rfl)
theorem dX1_readsThing_45 : decode cX1_readsThing 45 = .ok (.iconst 3, 1) := dk_6 (dk_at dksX1_readsThing_1 23 rfl rfl)
theorem dX1_readsThing_46 : decode cX1_readsThing 46 = .ok (.invokevirtual 183, 3) := dk_182 0 183 (dk_at dksX1_readsThing_2 0 rfl rfl)
theorem dX1_readsThing_49 : decode cX1_readsThing 49 = .ok (.invokespecial 243, 3) := dk_183 0 243 (dk_at dksX1_readsThing_2 3 rfl rfl)
theorem dX1_readsThing_52 : decode cX1_readsThing 52 = .ok (.areturn, 1) := dk_176 (dk_at dksX1_readsThing_2 6 rfl rfl)
theorem dX1_readsThing_53 : decode cX1_readsThing 53 = .ok (.aload_n 0, 1) := dk_42 (dk_at dksX1_readsThing_2 7 rfl rfl)
theorem dX1_readsThing_54 : decode cX1_readsThing 54 = .ok (.ldc 246, 2) := dk_18 246 (dk_at dksX1_readsThing_2 8 rfl rfl)
theorem dX1_readsThing_56 : decode cX1_readsThing 56 = .ok (.invokevirtual 171, 3) := dk_182 0 171 (dk_at dksX1_readsThing_2 10 rfl rfl)
theorem dX1_readsThing_59 : decode cX1_readsThing 59 = .ok (.ifCond .lt 33, 3) := dk_155 0 33 (dk_at dksX1_readsThing_2 13 rfl rfl)
theorem dX1_readsThing_62 : decode cX1_readsThing 62 = .ok (.aload_n 0, 1) := dk_42 (dk_at dksX1_readsThing_2 16 rfl rfl)
theorem dX1_readsThing_63 : decode cX1_readsThing 63 = .ok (.dup, 1) := dk_89 (dk_at dksX1_readsThing_2 17 rfl rfl)
theorem dX1_readsThing_64 : decode cX1_readsThing 64 = .ok (.getfield 146, 3) := dk_180 0 146 (dk_at dksX1_readsThing_2 18 rfl rfl)
theorem dX1_readsThing_67 : decode cX1_readsThing 67 = .ok (.iconst 1, 1) := dk_4 (dk_at dksX1_readsThing_2 21 rfl rfl)
theorem dX1_readsThing_68 : decode cX1_readsThing 68 = .ok (.iadd, 1) := dk_96 (dk_at dksX1_readsThing_2 22 rfl rfl)
theorem dX1_readsThing_69 : decode cX1_readsThing 69 = .ok (.putfield 146, 3) := dk_181 0 146 (dk_at dksX1_readsThing_3 0 rfl rfl)
theorem dX1_readsThing_72 : decode cX1_readsThing 72 = .ok (.new 248, 3) := dk_187 0 248 (dk_at dksX1_readsThing_3 3 rfl rfl)
theorem dX1_readsThing_75 : decode cX1_readsThing 75 = .ok (.dup, 1) := dk_89 (dk_at dksX1_readsThing_3 6 rfl rfl)
theorem dX1_readsThing_76 : decode cX1_readsThing 76 = .ok (.aload_n 0, 1) := dk_42 (dk_at dksX1_readsThing_3 7 rfl rfl)
theorem dX1_readsThing_77 : decode cX1_readsThing 77 = .ok (.aload_n 0, 1) := dk_42 (dk_at dksX1_readsThing_3 8 rfl rfl)
theorem dX1_readsThing_78 : decode cX1_readsThing 78 = .ok (.getfield 29, 3) := dk_180 0 29 (dk_at dksX1_readsThing_3 9 rfl rfl)
theorem dX1_readsThing_81 : decode cX1_readsThing 81 = .ok (.aload_n 0, 1) := dk_42 (dk_at dksX1_readsThing_3 12 rfl rfl)
theorem dX1_readsThing_82 : decode cX1_readsThing 82 = .ok (.getfield 146, 3) := dk_180 0 146 (dk_at dksX1_readsThing_3 13 rfl rfl)
theorem dX1_readsThing_85 : decode cX1_readsThing 85 = .ok (.iconst 1, 1) := dk_4 (dk_at dksX1_readsThing_3 16 rfl rfl)
theorem dX1_readsThing_86 : decode cX1_readsThing 86 = .ok (.isub, 1) := dk_100 (dk_at dksX1_readsThing_3 17 rfl rfl)
theorem dX1_readsThing_87 : decode cX1_readsThing 87 = .ok (.iaload, 1) := dk_46 (dk_at dksX1_readsThing_3 18 rfl rfl)
theorem dX1_readsThing_88 : decode cX1_readsThing 88 = .ok (.invokespecial 250, 3) := dk_183 0 250 (dk_at dksX1_readsThing_3 19 rfl rfl)
theorem dX1_readsThing_91 : decode cX1_readsThing 91 = .ok (.areturn, 1) := dk_176 (dk_at dksX1_readsThing_3 22 rfl rfl)
theorem dX1_readsThing_92 : decode cX1_readsThing 92 = .ok (.aload_n 0, 1) := dk_42 (dk_at dksX1_readsThing_3 23 rfl rfl)
theorem dX1_readsThing_93 : decode cX1_readsThing 93 = .ok (.bipush 40, 2) := dk_16 40 (dk_at dksX1_readsThing_4 0 rfl rfl)
theorem dX1_readsThing_95 : decode cX1_readsThing 95 = .ok (.invokevirtual 161, 3) := dk_182 0 161 (dk_at dksX1_readsThing_4 2 rfl rfl)
theorem dX1_readsThing_98 : decode cX1_readsThing 98 = .ok (.ifCond .eq 11, 3) := dk_153 0 11 (dk_at dksX1_readsThing_4 5 rfl rfl)
theorem dX1_readsThing_101 : decode cX1_readsThing 101 = .ok (.aload_n 0, 1) := dk_42 (dk_at dksX1_readsThing_4 8 rfl rfl)
theorem dX1_readsThing_102 : decode cX1_readsThing 102 = .ok (.getfield 149, 3) := dk_180 0 149 (dk_at dksX1_readsThing_4 9 rfl rfl)
theorem dX1_readsThing_105 : decode cX1_readsThing 105 = .ok (.iconst 4, 1) := dk_7 (dk_at dksX1_readsThing_4 12 rfl rfl)
theorem dX1_readsThing_106 : decode cX1_readsThing 106 = .ok (.if_icmp .ne 5, 3) := dk_160 0 5 (dk_at dksX1_readsThing_4 13 rfl rfl)
theorem dX1_readsThing_109 : decode cX1_readsThing 109 = .ok (.aconst_null, 1) := dk_1 (dk_at dksX1_readsThing_4 16 rfl rfl)
theorem dX1_readsThing_110 : decode cX1_readsThing 110 = .ok (.areturn, 1) := dk_176 (dk_at dksX1_readsThing_4 17 rfl rfl)
theorem dX1_readsThing_111 : decode cX1_readsThing 111 = .ok (.aload_n 0, 1) := dk_42 (dk_at dksX1_readsThing_4 18 rfl rfl)
theorem dX1_readsThing_112 : decode cX1_readsThing 112 = .ok (.dup, 1) := dk_89 (dk_at dksX1_readsThing_4 19 rfl rfl)
theorem dX1_readsThing_113 : decode cX1_readsThing 113 = .ok (.getfield 146, 3) := dk_180 0 146 (dk_at dksX1_readsThing_4 20 rfl rfl)
theorem dX1_readsThing_116 : decode cX1_readsThing 116 = .ok (.iconst 1, 1) := dk_4 (dk_at dksX1_readsThing_4 23 rfl rfl)
theorem dX1_readsThing_117 : decode cX1_readsThing 117 = .ok (.iadd, 1) := dk_96 (dk_at dksX1_readsThing_5 0 rfl rfl)
theorem dX1_readsThing_118 : decode cX1_readsThing 118 = .ok (.putfield 146, 3) := dk_181 0 146 (dk_at dksX1_readsThing_5 1 rfl rfl)
theorem dX1_readsThing_121 : decode cX1_readsThing 121 = .ok (.aload_n 0, 1) := dk_42 (dk_at dksX1_readsThing_5 4 rfl rfl)
theorem dX1_readsThing_122 : decode cX1_readsThing 122 = .ok (.dup, 1) := dk_89 (dk_at dksX1_readsThing_5 5 rfl rfl)
theorem dX1_readsThing_123 : decode cX1_readsThing 123 = .ok (.getfield 149, 3) := dk_180 0 149 (dk_at dksX1_readsThing_5 6 rfl rfl)
theorem dX1_readsThing_126 : decode cX1_readsThing 126 = .ok (.iconst 1, 1) := dk_4 (dk_at dksX1_readsThing_5 9 rfl rfl)
theorem dX1_readsThing_127 : decode cX1_readsThing 127 = .ok (.iadd, 1) := dk_96 (dk_at dksX1_readsThing_5 10 rfl rfl)
theorem dX1_readsThing_128 : decode cX1_readsThing 128 = .ok (.putfield 149, 3) := dk_181 0 149 (dk_at dksX1_readsThing_5 11 rfl rfl)
theorem dX1_readsThing_131 : decode cX1_readsThing 131 = .ok (.aload_n 0, 1) := dk_42 (dk_at dksX1_readsThing_5 14 rfl rfl)
theorem dX1_readsThing_132 : decode cX1_readsThing 132 = .ok (.iconst 0, 1) := dk_3 (dk_at dksX1_readsThing_5 15 rfl rfl)
theorem dX1_readsThing_133 : decode cX1_readsThing 133 = .ok (.invokevirtual 251, 3) := dk_182 0 251 (dk_at dksX1_readsThing_5 16 rfl rfl)
theorem dX1_readsThing_136 : decode cX1_readsThing 136 = .ok (.astore_n 1, 1) := dk_76 (dk_at dksX1_readsThing_5 19 rfl rfl)
theorem dX1_readsThing_137 : decode cX1_readsThing 137 = .ok (.aload_n 1, 1) := dk_43 (dk_at dksX1_readsThing_5 20 rfl rfl)
theorem dX1_readsThing_138 : decode cX1_readsThing 138 = .ok (.ifnull 12, 3) := dk_198 0 12 (dk_at dksX1_readsThing_5 21 rfl rfl)
theorem dX1_readsThing_141 : decode cX1_readsThing 141 = .ok (.aload_n 0, 1) := dk_42 (dk_at dksX1_readsThing_6 0 rfl rfl)
theorem dX1_readsThing_142 : decode cX1_readsThing 142 = .ok (.bipush 41, 2) := dk_16 41 (dk_at dksX1_readsThing_6 1 rfl rfl)
theorem dX1_readsThing_144 : decode cX1_readsThing 144 = .ok (.invokevirtual 197, 3) := dk_182 0 197 (dk_at dksX1_readsThing_6 3 rfl rfl)
theorem dX1_readsThing_147 : decode cX1_readsThing 147 = .ok (.ifCond .ne 5, 3) := dk_154 0 5 (dk_at dksX1_readsThing_6 6 rfl rfl)
theorem dX1_readsThing_150 : decode cX1_readsThing 150 = .ok (.aconst_null, 1) := dk_1 (dk_at dksX1_readsThing_6 9 rfl rfl)
theorem dX1_readsThing_151 : decode cX1_readsThing 151 = .ok (.areturn, 1) := dk_176 (dk_at dksX1_readsThing_6 10 rfl rfl)
theorem dX1_readsThing_152 : decode cX1_readsThing 152 = .ok (.aload_n 0, 1) := dk_42 (dk_at dksX1_readsThing_6 11 rfl rfl)
theorem dX1_readsThing_153 : decode cX1_readsThing 153 = .ok (.dup, 1) := dk_89 (dk_at dksX1_readsThing_6 12 rfl rfl)
theorem dX1_readsThing_154 : decode cX1_readsThing 154 = .ok (.getfield 149, 3) := dk_180 0 149 (dk_at dksX1_readsThing_6 13 rfl rfl)
theorem dX1_readsThing_157 : decode cX1_readsThing 157 = .ok (.iconst 1, 1) := dk_4 (dk_at dksX1_readsThing_6 16 rfl rfl)
theorem dX1_readsThing_158 : decode cX1_readsThing 158 = .ok (.isub, 1) := dk_100 (dk_at dksX1_readsThing_6 17 rfl rfl)
theorem dX1_readsThing_159 : decode cX1_readsThing 159 = .ok (.putfield 149, 3) := dk_181 0 149 (dk_at dksX1_readsThing_6 18 rfl rfl)
theorem dX1_readsThing_162 : decode cX1_readsThing 162 = .ok (.aload_n 1, 1) := dk_43 (dk_at dksX1_readsThing_6 21 rfl rfl)
theorem dX1_readsThing_163 : decode cX1_readsThing 163 = .ok (.areturn, 1) := dk_176 (dk_at dksX1_readsThing_6 22 rfl rfl)
abbrev cX1_acts : ByteArray := prog_1_method_27_code
def yX1_acts : MethodName := ⟨RX1, "acts", "(I)Ljava/lang/String;"⟩
def dkwX1_acts_0 : List UInt8 := [26, 154, 0, 8, 18, 255, 167, 0, 17, 26, 4, 160, 0, 9, 19, 1, 1, 167, 0, 6, 19, 1, 3, 176]
abbrev dktX1_acts_0 : List UInt8 := dkwX1_acts_0 ++ []
theorem dksX1_acts_0 : cX1_acts.data.toList.drop 0 = dktX1_acts_0 := by decide +kernel
theorem dX1_acts_0 : decode cX1_acts 0 = .ok (.iload_n 0, 1) := dk_26 (dk_at dksX1_acts_0 0 rfl rfl)
theorem dX1_acts_1 : decode cX1_acts 1 = .ok (.ifCond .ne 8, 3) := dk_154 0 8 (dk_at dksX1_acts_0 1 rfl rfl)
theorem dX1_acts_4 : decode cX1_acts 4 = .ok (.ldc 255, 2) := dk_18 255 (dk_at dksX1_acts_0 4 rfl rfl)
theorem dX1_acts_6 : decode cX1_acts 6 = .ok (.goto 17, 3) := dk_167 0 17 (dk_at dksX1_acts_0 6 rfl rfl)
theorem dX1_acts_9 : decode cX1_acts 9 = .ok (.iload_n 0, 1) := dk_26 (dk_at dksX1_acts_0 9 rfl rfl)
theorem dX1_acts_10 : decode cX1_acts 10 = .ok (.iconst 1, 1) := dk_4 (dk_at dksX1_acts_0 10 rfl rfl)
theorem dX1_acts_11 : decode cX1_acts 11 = .ok (.if_icmp .ne 9, 3) := dk_160 0 9 (dk_at dksX1_acts_0 11 rfl rfl)
theorem dX1_acts_14 : decode cX1_acts 14 = .ok (.ldc_w 257, 3) := dk_19 1 1 (dk_at dksX1_acts_0 14 rfl rfl)
theorem dX1_acts_17 : decode cX1_acts 17 = .ok (.goto 6, 3) := dk_167 0 6 (dk_at dksX1_acts_0 17 rfl rfl)
theorem dX1_acts_20 : decode cX1_acts 20 = .ok (.ldc_w 259, 3) := dk_19 1 3 (dk_at dksX1_acts_0 20 rfl rfl)
theorem dX1_acts_23 : decode cX1_acts 23 = .ok (.areturn, 1) := dk_176 (dk_at dksX1_acts_0 23 rfl rfl)
abbrev cX1_sheet : ByteArray := prog_1_method_33_code
def yX1_sheet : MethodName := ⟨RX1, "sheet", "(IIII)I"⟩
def dkwX1_sheet_6 : List UInt8 := [180, 0, 12, 182, 1, 54, 172]
abbrev dktX1_sheet_6 : List UInt8 := dkwX1_sheet_6 ++ []
def dkwX1_sheet_5 : List UInt8 := [21, 4, 96, 54, 5, 132, 6, 1, 167, 255, 171, 27, 6, 160, 0, 8, 16, 253, 167, 0, 11, 42, 42]
abbrev dktX1_sheet_5 : List UInt8 := dkwX1_sheet_5 ++ dktX1_sheet_6
def dkwX1_sheet_4 : List UInt8 := [3, 167, 0, 19, 3, 42, 180, 0, 19, 21, 6, 46, 21, 7, 184, 0, 152, 184, 1, 38, 79, 21, 5]
abbrev dktX1_sheet_4 : List UInt8 := dkwX1_sheet_4 ++ dktX1_sheet_5
def dkwX1_sheet_3 : List UInt8 := [21, 5, 54, 7, 42, 180, 0, 12, 180, 0, 133, 21, 6, 27, 6, 159, 0, 9, 21, 6, 28, 161, 0, 7]
abbrev dktX1_sheet_3 : List UInt8 := dkwX1_sheet_3 ++ dktX1_sheet_4
def dkwX1_sheet_2 : List UInt8 := [162, 0, 82, 27, 154, 0, 9, 21, 5, 145, 167, 0, 16, 27, 4, 160, 0, 9, 21, 5, 147, 167, 0, 5]
abbrev dktX1_sheet_2 : List UInt8 := dkwX1_sheet_2 ++ dktX1_sheet_3
def dkwX1_sheet_1 : List UInt8 := [159, 0, 10, 28, 156, 0, 6, 16, 254, 172, 29, 54, 5, 3, 54, 6, 21, 6, 42, 180, 0, 117]
abbrev dktX1_sheet_1 : List UInt8 := dkwX1_sheet_1 ++ dktX1_sheet_2
def dkwX1_sheet_0 : List UInt8 := [27, 133, 9, 20, 1, 52, 184, 0, 121, 153, 0, 9, 28, 16, 6, 164, 0, 5, 2, 172, 27, 6]
abbrev dktX1_sheet_0 : List UInt8 := dkwX1_sheet_0 ++ dktX1_sheet_1
theorem dksX1_sheet_0 : cX1_sheet.data.toList.drop 0 = dktX1_sheet_0 := by decide +kernel
theorem dksX1_sheet_1 : cX1_sheet.data.toList.drop 22 = dktX1_sheet_1 := dk_seg dksX1_sheet_0 22 rfl rfl
theorem dksX1_sheet_2 : cX1_sheet.data.toList.drop 44 = dktX1_sheet_2 := dk_seg dksX1_sheet_1 22 rfl rfl
theorem dksX1_sheet_3 : cX1_sheet.data.toList.drop 68 = dktX1_sheet_3 := dk_seg dksX1_sheet_2 24 rfl rfl
theorem dksX1_sheet_4 : cX1_sheet.data.toList.drop 92 = dktX1_sheet_4 := dk_seg dksX1_sheet_3 24 rfl rfl
theorem dksX1_sheet_5 : cX1_sheet.data.toList.drop 115 = dktX1_sheet_5 := dk_seg dksX1_sheet_4 23 rfl rfl
theorem dksX1_sheet_6 : cX1_sheet.data.toList.drop 138 = dktX1_sheet_6 := dk_seg dksX1_sheet_5 23 rfl rfl
theorem dX1_sheet_0 : decode cX1_sheet 0 = .ok (.iload_n 1, 1) := dk_27 (dk_at dksX1_sheet_0 0 rfl rfl)
theorem dX1_sheet_1 : decode cX1_sheet 1 = .ok (.i2l, 1) := dk_133 (dk_at dksX1_sheet_0 1 rfl rfl)
theorem dX1_sheet_2 : decode cX1_sheet 2 = .ok (.lconst 0, 1) := dk_9 (dk_at dksX1_sheet_0 2 rfl rfl)
theorem dX1_sheet_3 : decode cX1_sheet 3 = .ok (.ldc2_w 308, 3) := dk_20 1 52 (dk_at dksX1_sheet_0 3 rfl rfl)
theorem dX1_sheet_6 : decode cX1_sheet 6 = .ok (.invokestatic 121, 3) := dk_184 0 121 (dk_at dksX1_sheet_0 6 rfl rfl)
theorem dX1_sheet_9 : decode cX1_sheet 9 = .ok (.ifCond .eq 9, 3) := dk_153 0 9 (dk_at dksX1_sheet_0 9 rfl rfl)
theorem dX1_sheet_12 : decode cX1_sheet 12 = .ok (.iload_n 2, 1) := dk_28 (dk_at dksX1_sheet_0 12 rfl rfl)
theorem dX1_sheet_13 : decode cX1_sheet 13 = .ok (.bipush 6, 2) := dk_16 6 (dk_at dksX1_sheet_0 13 rfl rfl)
theorem dX1_sheet_15 : decode cX1_sheet 15 = .ok (.if_icmp .le 5, 3) := dk_164 0 5 (dk_at dksX1_sheet_0 15 rfl rfl)
theorem dX1_sheet_18 : decode cX1_sheet 18 = .ok (.iconst (-1), 1) := dk_2 (dk_at dksX1_sheet_0 18 rfl rfl)
theorem dX1_sheet_19 : decode cX1_sheet 19 = .ok (.ireturn, 1) := dk_172 (dk_at dksX1_sheet_0 19 rfl rfl)
theorem dX1_sheet_20 : decode cX1_sheet 20 = .ok (.iload_n 1, 1) := dk_27 (dk_at dksX1_sheet_0 20 rfl rfl)
theorem dX1_sheet_21 : decode cX1_sheet 21 = .ok (.iconst 3, 1) := dk_6 (dk_at dksX1_sheet_0 21 rfl rfl)
theorem dX1_sheet_22 : decode cX1_sheet 22 = .ok (.if_icmp .eq 10, 3) := dk_159 0 10 (dk_at dksX1_sheet_1 0 rfl rfl)
theorem dX1_sheet_25 : decode cX1_sheet 25 = .ok (.iload_n 2, 1) := dk_28 (dk_at dksX1_sheet_1 3 rfl rfl)
theorem dX1_sheet_26 : decode cX1_sheet 26 = .ok (.ifCond .ge 6, 3) := dk_156 0 6 (dk_at dksX1_sheet_1 4 rfl rfl)
theorem dX1_sheet_29 : decode cX1_sheet 29 = .ok (.bipush (-2), 2) := dk_16 254 (dk_at dksX1_sheet_1 7 rfl rfl)
theorem dX1_sheet_31 : decode cX1_sheet 31 = .ok (.ireturn, 1) := dk_172 (dk_at dksX1_sheet_1 9 rfl rfl)
theorem dX1_sheet_32 : decode cX1_sheet 32 = .ok (.iload_n 3, 1) := dk_29 (dk_at dksX1_sheet_1 10 rfl rfl)
theorem dX1_sheet_33 : decode cX1_sheet 33 = .ok (.istore 5, 2) := dk_54 5 (dk_at dksX1_sheet_1 11 rfl rfl)
theorem dX1_sheet_35 : decode cX1_sheet 35 = .ok (.iconst 0, 1) := dk_3 (dk_at dksX1_sheet_1 13 rfl rfl)
theorem dX1_sheet_36 : decode cX1_sheet 36 = .ok (.istore 6, 2) := dk_54 6 (dk_at dksX1_sheet_1 14 rfl rfl)
theorem dX1_sheet_38 : decode cX1_sheet 38 = .ok (.iload 6, 2) := dk_21 6 (dk_at dksX1_sheet_1 16 rfl rfl)
theorem dX1_sheet_40 : decode cX1_sheet 40 = .ok (.aload_n 0, 1) := dk_42 (dk_at dksX1_sheet_1 18 rfl rfl)
theorem dX1_sheet_41 : decode cX1_sheet 41 = .ok (.getfield 117, 3) := dk_180 0 117 (dk_at dksX1_sheet_1 19 rfl rfl)
theorem dX1_sheet_44 : decode cX1_sheet 44 = .ok (.if_icmp .ge 82, 3) := dk_162 0 82 (dk_at dksX1_sheet_2 0 rfl rfl)
theorem dX1_sheet_47 : decode cX1_sheet 47 = .ok (.iload_n 1, 1) := dk_27 (dk_at dksX1_sheet_2 3 rfl rfl)
theorem dX1_sheet_48 : decode cX1_sheet 48 = .ok (.ifCond .ne 9, 3) := dk_154 0 9 (dk_at dksX1_sheet_2 4 rfl rfl)
theorem dX1_sheet_51 : decode cX1_sheet 51 = .ok (.iload 5, 2) := dk_21 5 (dk_at dksX1_sheet_2 7 rfl rfl)
theorem dX1_sheet_53 : decode cX1_sheet 53 = .ok (.i2b, 1) := dk_145 (dk_at dksX1_sheet_2 9 rfl rfl)
theorem dX1_sheet_54 : decode cX1_sheet 54 = .ok (.goto 16, 3) := dk_167 0 16 (dk_at dksX1_sheet_2 10 rfl rfl)
theorem dX1_sheet_57 : decode cX1_sheet 57 = .ok (.iload_n 1, 1) := dk_27 (dk_at dksX1_sheet_2 13 rfl rfl)
theorem dX1_sheet_58 : decode cX1_sheet 58 = .ok (.iconst 1, 1) := dk_4 (dk_at dksX1_sheet_2 14 rfl rfl)
theorem dX1_sheet_59 : decode cX1_sheet 59 = .ok (.if_icmp .ne 9, 3) := dk_160 0 9 (dk_at dksX1_sheet_2 15 rfl rfl)
theorem dX1_sheet_62 : decode cX1_sheet 62 = .ok (.iload 5, 2) := dk_21 5 (dk_at dksX1_sheet_2 18 rfl rfl)
theorem dX1_sheet_64 : decode cX1_sheet 64 = .ok (.i2s, 1) := dk_147 (dk_at dksX1_sheet_2 20 rfl rfl)
theorem dX1_sheet_65 : decode cX1_sheet 65 = .ok (.goto 5, 3) := dk_167 0 5 (dk_at dksX1_sheet_2 21 rfl rfl)
theorem dX1_sheet_68 : decode cX1_sheet 68 = .ok (.iload 5, 2) := dk_21 5 (dk_at dksX1_sheet_3 0 rfl rfl)
theorem dX1_sheet_70 : decode cX1_sheet 70 = .ok (.istore 7, 2) := dk_54 7 (dk_at dksX1_sheet_3 2 rfl rfl)
theorem dX1_sheet_72 : decode cX1_sheet 72 = .ok (.aload_n 0, 1) := dk_42 (dk_at dksX1_sheet_3 4 rfl rfl)
theorem dX1_sheet_73 : decode cX1_sheet 73 = .ok (.getfield 12, 3) := dk_180 0 12 (dk_at dksX1_sheet_3 5 rfl rfl)
theorem dX1_sheet_76 : decode cX1_sheet 76 = .ok (.getfield 133, 3) := dk_180 0 133 (dk_at dksX1_sheet_3 8 rfl rfl)
theorem dX1_sheet_79 : decode cX1_sheet 79 = .ok (.iload 6, 2) := dk_21 6 (dk_at dksX1_sheet_3 11 rfl rfl)
theorem dX1_sheet_81 : decode cX1_sheet 81 = .ok (.iload_n 1, 1) := dk_27 (dk_at dksX1_sheet_3 13 rfl rfl)
theorem dX1_sheet_82 : decode cX1_sheet 82 = .ok (.iconst 3, 1) := dk_6 (dk_at dksX1_sheet_3 14 rfl rfl)
theorem dX1_sheet_83 : decode cX1_sheet 83 = .ok (.if_icmp .eq 9, 3) := dk_159 0 9 (dk_at dksX1_sheet_3 15 rfl rfl)
theorem dX1_sheet_86 : decode cX1_sheet 86 = .ok (.iload 6, 2) := dk_21 6 (dk_at dksX1_sheet_3 18 rfl rfl)
theorem dX1_sheet_88 : decode cX1_sheet 88 = .ok (.iload_n 2, 1) := dk_28 (dk_at dksX1_sheet_3 20 rfl rfl)
theorem dX1_sheet_89 : decode cX1_sheet 89 = .ok (.if_icmp .lt 7, 3) := dk_161 0 7 (dk_at dksX1_sheet_3 21 rfl rfl)
theorem dX1_sheet_92 : decode cX1_sheet 92 = .ok (.iconst 0, 1) := dk_3 (dk_at dksX1_sheet_4 0 rfl rfl)
theorem dX1_sheet_93 : decode cX1_sheet 93 = .ok (.goto 19, 3) := dk_167 0 19 (dk_at dksX1_sheet_4 1 rfl rfl)
theorem dX1_sheet_96 : decode cX1_sheet 96 = .ok (.iconst 0, 1) := dk_3 (dk_at dksX1_sheet_4 4 rfl rfl)
theorem dX1_sheet_97 : decode cX1_sheet 97 = .ok (.aload_n 0, 1) := dk_42 (dk_at dksX1_sheet_4 5 rfl rfl)
theorem dX1_sheet_98 : decode cX1_sheet 98 = .ok (.getfield 19, 3) := dk_180 0 19 (dk_at dksX1_sheet_4 6 rfl rfl)
theorem dX1_sheet_101 : decode cX1_sheet 101 = .ok (.iload 6, 2) := dk_21 6 (dk_at dksX1_sheet_4 9 rfl rfl)
theorem dX1_sheet_103 : decode cX1_sheet 103 = .ok (.iaload, 1) := dk_46 (dk_at dksX1_sheet_4 11 rfl rfl)
theorem dX1_sheet_104 : decode cX1_sheet 104 = .ok (.iload 7, 2) := dk_21 7 (dk_at dksX1_sheet_4 12 rfl rfl)
theorem dX1_sheet_106 : decode cX1_sheet 106 = .ok (.invokestatic 152, 3) := dk_184 0 152 (dk_at dksX1_sheet_4 14 rfl rfl)
theorem dX1_sheet_109 : decode cX1_sheet 109 = .ok (.invokestatic 294, 3) := dk_184 1 38 (dk_at dksX1_sheet_4 17 rfl rfl)
theorem dX1_sheet_112 : decode cX1_sheet 112 = .ok (.iastore, 1) := dk_79 (dk_at dksX1_sheet_4 20 rfl rfl)
theorem dX1_sheet_113 : decode cX1_sheet 113 = .ok (.iload 5, 2) := dk_21 5 (dk_at dksX1_sheet_4 21 rfl rfl)
theorem dX1_sheet_115 : decode cX1_sheet 115 = .ok (.iload 4, 2) := dk_21 4 (dk_at dksX1_sheet_5 0 rfl rfl)
theorem dX1_sheet_117 : decode cX1_sheet 117 = .ok (.iadd, 1) := dk_96 (dk_at dksX1_sheet_5 2 rfl rfl)
theorem dX1_sheet_118 : decode cX1_sheet 118 = .ok (.istore 5, 2) := dk_54 5 (dk_at dksX1_sheet_5 3 rfl rfl)
theorem dX1_sheet_120 : decode cX1_sheet 120 = .ok (.iinc 6 1, 3) := dk_132 6 1 (dk_at dksX1_sheet_5 5 rfl rfl)
theorem dX1_sheet_123 : decode cX1_sheet 123 = .ok (.goto (-85), 3) := dk_167 255 171 (dk_at dksX1_sheet_5 8 rfl rfl)
theorem dX1_sheet_126 : decode cX1_sheet 126 = .ok (.iload_n 1, 1) := dk_27 (dk_at dksX1_sheet_5 11 rfl rfl)
theorem dX1_sheet_127 : decode cX1_sheet 127 = .ok (.iconst 3, 1) := dk_6 (dk_at dksX1_sheet_5 12 rfl rfl)
theorem dX1_sheet_128 : decode cX1_sheet 128 = .ok (.if_icmp .ne 8, 3) := dk_160 0 8 (dk_at dksX1_sheet_5 13 rfl rfl)
theorem dX1_sheet_131 : decode cX1_sheet 131 = .ok (.bipush (-3), 2) := dk_16 253 (dk_at dksX1_sheet_5 16 rfl rfl)
theorem dX1_sheet_133 : decode cX1_sheet 133 = .ok (.goto 11, 3) := dk_167 0 11 (dk_at dksX1_sheet_5 18 rfl rfl)
theorem dX1_sheet_136 : decode cX1_sheet 136 = .ok (.aload_n 0, 1) := dk_42 (dk_at dksX1_sheet_5 21 rfl rfl)
theorem dX1_sheet_137 : decode cX1_sheet 137 = .ok (.aload_n 0, 1) := dk_42 (dk_at dksX1_sheet_5 22 rfl rfl)
theorem dX1_sheet_138 : decode cX1_sheet 138 = .ok (.getfield 12, 3) := dk_180 0 12 (dk_at dksX1_sheet_6 0 rfl rfl)
theorem dX1_sheet_141 : decode cX1_sheet 141 = .ok (.invokevirtual 310, 3) := dk_182 1 54 (dk_at dksX1_sheet_6 3 rfl rfl)
theorem dX1_sheet_144 : decode cX1_sheet 144 = .ok (.ireturn, 1) := dk_172 (dk_at dksX1_sheet_6 6 rfl rfl)
abbrev cX1_water : ByteArray := prog_1_method_9_code
def yX1_water : MethodName := ⟨RX1, "water", "(LPullThePlug$Water;)I"⟩
def dkwX1_water_0 : List UInt8 := [42, 43, 180, 0, 133, 42, 182, 0, 125, 182, 0, 136, 172]
abbrev dktX1_water_0 : List UInt8 := dkwX1_water_0 ++ []
theorem dksX1_water_0 : cX1_water.data.toList.drop 0 = dktX1_water_0 := by decide +kernel
theorem dX1_water_0 : decode cX1_water 0 = .ok (.aload_n 0, 1) := dk_42 (dk_at dksX1_water_0 0 rfl rfl)
theorem dX1_water_1 : decode cX1_water 1 = .ok (.aload_n 1, 1) := dk_43 (dk_at dksX1_water_0 1 rfl rfl)
theorem dX1_water_2 : decode cX1_water 2 = .ok (.getfield 133, 3) := dk_180 0 133 (dk_at dksX1_water_0 2 rfl rfl)
theorem dX1_water_5 : decode cX1_water 5 = .ok (.aload_n 0, 1) := dk_42 (dk_at dksX1_water_0 5 rfl rfl)
theorem dX1_water_6 : decode cX1_water 6 = .ok (.invokevirtual 125, 3) := dk_182 0 125 (dk_at dksX1_water_0 6 rfl rfl)
theorem dX1_water_9 : decode cX1_water 9 = .ok (.invokevirtual 136, 3) := dk_182 0 136 (dk_at dksX1_water_0 9 rfl rfl)
theorem dX1_water_12 : decode cX1_water 12 = .ok (.ireturn, 1) := dk_172 (dk_at dksX1_water_0 12 rfl rfl)
abbrev cX1_all : ByteArray := prog_1_method_6_code
def yX1_all : MethodName := ⟨RX1, "all", "()I"⟩
def dkwX1_all_0 : List UInt8 := [4, 42, 180, 0, 117, 120, 4, 100, 172]
abbrev dktX1_all_0 : List UInt8 := dkwX1_all_0 ++ []
theorem dksX1_all_0 : cX1_all.data.toList.drop 0 = dktX1_all_0 := by decide +kernel
theorem dX1_all_0 : decode cX1_all 0 = .ok (.iconst 1, 1) := dk_4 (dk_at dksX1_all_0 0 rfl rfl)
theorem dX1_all_1 : decode cX1_all 1 = .ok (.aload_n 0, 1) := dk_42 (dk_at dksX1_all_0 1 rfl rfl)
theorem dX1_all_2 : decode cX1_all 2 = .ok (.getfield 117, 3) := dk_180 0 117 (dk_at dksX1_all_0 2 rfl rfl)
theorem dX1_all_5 : decode cX1_all 5 = .ok (.ishl, 1) := dk_120 (dk_at dksX1_all_0 5 rfl rfl)
theorem dX1_all_6 : decode cX1_all 6 = .ok (.iconst 1, 1) := dk_4 (dk_at dksX1_all_0 6 rfl rfl)
theorem dX1_all_7 : decode cX1_all 7 = .ok (.isub, 1) := dk_100 (dk_at dksX1_all_0 7 rfl rfl)
theorem dX1_all_8 : decode cX1_all 8 = .ok (.ireturn, 1) := dk_172 (dk_at dksX1_all_0 8 rfl rfl)
abbrev cX1_sumOf : ByteArray := prog_1_method_8_code
def yX1_sumOf : MethodName := ⟨RX1, "sumOf", "([II)I"⟩
def dkwX1_sumOf_1 : List UInt8 := [43, 21, 4, 46, 167, 0, 4, 3, 96, 62, 132, 4, 1, 167, 255, 224, 29, 172]
abbrev dktX1_sumOf_1 : List UInt8 := dkwX1_sumOf_1 ++ []
def dkwX1_sumOf_0 : List UInt8 := [3, 62, 3, 54, 4, 21, 4, 42, 180, 0, 117, 162, 0, 29, 29, 28, 21, 4, 184, 0, 129, 153, 0, 10]
abbrev dktX1_sumOf_0 : List UInt8 := dkwX1_sumOf_0 ++ dktX1_sumOf_1
theorem dksX1_sumOf_0 : cX1_sumOf.data.toList.drop 0 = dktX1_sumOf_0 := by decide +kernel
theorem dksX1_sumOf_1 : cX1_sumOf.data.toList.drop 24 = dktX1_sumOf_1 := dk_seg dksX1_sumOf_0 24 rfl rfl
theorem dX1_sumOf_0 : decode cX1_sumOf 0 = .ok (.iconst 0, 1) := dk_3 (dk_at dksX1_sumOf_0 0 rfl rfl)
theorem dX1_sumOf_1 : decode cX1_sumOf 1 = .ok (.istore_n 3, 1) := dk_62 (dk_at dksX1_sumOf_0 1 rfl rfl)
theorem dX1_sumOf_2 : decode cX1_sumOf 2 = .ok (.iconst 0, 1) := dk_3 (dk_at dksX1_sumOf_0 2 rfl rfl)
theorem dX1_sumOf_3 : decode cX1_sumOf 3 = .ok (.istore 4, 2) := dk_54 4 (dk_at dksX1_sumOf_0 3 rfl rfl)
theorem dX1_sumOf_5 : decode cX1_sumOf 5 = .ok (.iload 4, 2) := dk_21 4 (dk_at dksX1_sumOf_0 5 rfl rfl)
theorem dX1_sumOf_7 : decode cX1_sumOf 7 = .ok (.aload_n 0, 1) := dk_42 (dk_at dksX1_sumOf_0 7 rfl rfl)
theorem dX1_sumOf_8 : decode cX1_sumOf 8 = .ok (.getfield 117, 3) := dk_180 0 117 (dk_at dksX1_sumOf_0 8 rfl rfl)
theorem dX1_sumOf_11 : decode cX1_sumOf 11 = .ok (.if_icmp .ge 29, 3) := dk_162 0 29 (dk_at dksX1_sumOf_0 11 rfl rfl)
theorem dX1_sumOf_14 : decode cX1_sumOf 14 = .ok (.iload_n 3, 1) := dk_29 (dk_at dksX1_sumOf_0 14 rfl rfl)
theorem dX1_sumOf_15 : decode cX1_sumOf 15 = .ok (.iload_n 2, 1) := dk_28 (dk_at dksX1_sumOf_0 15 rfl rfl)
theorem dX1_sumOf_16 : decode cX1_sumOf 16 = .ok (.iload 4, 2) := dk_21 4 (dk_at dksX1_sumOf_0 16 rfl rfl)
theorem dX1_sumOf_18 : decode cX1_sumOf 18 = .ok (.invokestatic 129, 3) := dk_184 0 129 (dk_at dksX1_sumOf_0 18 rfl rfl)
theorem dX1_sumOf_21 : decode cX1_sumOf 21 = .ok (.ifCond .eq 10, 3) := dk_153 0 10 (dk_at dksX1_sumOf_0 21 rfl rfl)
theorem dX1_sumOf_24 : decode cX1_sumOf 24 = .ok (.aload_n 1, 1) := dk_43 (dk_at dksX1_sumOf_1 0 rfl rfl)
theorem dX1_sumOf_25 : decode cX1_sumOf 25 = .ok (.iload 4, 2) := dk_21 4 (dk_at dksX1_sumOf_1 1 rfl rfl)
theorem dX1_sumOf_27 : decode cX1_sumOf 27 = .ok (.iaload, 1) := dk_46 (dk_at dksX1_sumOf_1 3 rfl rfl)
theorem dX1_sumOf_28 : decode cX1_sumOf 28 = .ok (.goto 4, 3) := dk_167 0 4 (dk_at dksX1_sumOf_1 4 rfl rfl)
theorem dX1_sumOf_31 : decode cX1_sumOf 31 = .ok (.iconst 0, 1) := dk_3 (dk_at dksX1_sumOf_1 7 rfl rfl)
theorem dX1_sumOf_32 : decode cX1_sumOf 32 = .ok (.iadd, 1) := dk_96 (dk_at dksX1_sumOf_1 8 rfl rfl)
theorem dX1_sumOf_33 : decode cX1_sumOf 33 = .ok (.istore_n 3, 1) := dk_62 (dk_at dksX1_sumOf_1 9 rfl rfl)
theorem dX1_sumOf_34 : decode cX1_sumOf 34 = .ok (.iinc 4 1, 3) := dk_132 4 1 (dk_at dksX1_sumOf_1 10 rfl rfl)
theorem dX1_sumOf_37 : decode cX1_sumOf 37 = .ok (.goto (-32), 3) := dk_167 255 224 (dk_at dksX1_sumOf_1 13 rfl rfl)
theorem dX1_sumOf_40 : decode cX1_sumOf 40 = .ok (.iload_n 3, 1) := dk_29 (dk_at dksX1_sumOf_1 16 rfl rfl)
theorem dX1_sumOf_41 : decode cX1_sumOf 41 = .ok (.ireturn, 1) := dk_172 (dk_at dksX1_sumOf_1 17 rfl rfl)
abbrev cX1_has : ByteArray := prog_1_method_3_code
def yX1_has : MethodName := ⟨RX1, "has", "(II)Z"⟩
def dkwX1_has_0 : List UInt8 := [26, 27, 122, 4, 126, 4, 160, 0, 7, 4, 167, 0, 4, 3, 172]
abbrev dktX1_has_0 : List UInt8 := dkwX1_has_0 ++ []
theorem dksX1_has_0 : cX1_has.data.toList.drop 0 = dktX1_has_0 := by decide +kernel
theorem dX1_has_0 : decode cX1_has 0 = .ok (.iload_n 0, 1) := dk_26 (dk_at dksX1_has_0 0 rfl rfl)
theorem dX1_has_1 : decode cX1_has 1 = .ok (.iload_n 1, 1) := dk_27 (dk_at dksX1_has_0 1 rfl rfl)
theorem dX1_has_2 : decode cX1_has 2 = .ok (.ishr, 1) := dk_122 (dk_at dksX1_has_0 2 rfl rfl)
theorem dX1_has_3 : decode cX1_has 3 = .ok (.iconst 1, 1) := dk_4 (dk_at dksX1_has_0 3 rfl rfl)
theorem dX1_has_4 : decode cX1_has 4 = .ok (.iand, 1) := dk_126 (dk_at dksX1_has_0 4 rfl rfl)
theorem dX1_has_5 : decode cX1_has 5 = .ok (.iconst 1, 1) := dk_4 (dk_at dksX1_has_0 5 rfl rfl)
theorem dX1_has_6 : decode cX1_has 6 = .ok (.if_icmp .ne 7, 3) := dk_160 0 7 (dk_at dksX1_has_0 6 rfl rfl)
theorem dX1_has_9 : decode cX1_has 9 = .ok (.iconst 1, 1) := dk_4 (dk_at dksX1_has_0 9 rfl rfl)
theorem dX1_has_10 : decode cX1_has 10 = .ok (.goto 4, 3) := dk_167 0 4 (dk_at dksX1_has_0 10 rfl rfl)
theorem dX1_has_13 : decode cX1_has 13 = .ok (.iconst 0, 1) := dk_3 (dk_at dksX1_has_0 13 rfl rfl)
theorem dX1_has_14 : decode cX1_has 14 = .ok (.ireturn, 1) := dk_172 (dk_at dksX1_has_0 14 rfl rfl)
abbrev cX1_undo : ByteArray := prog_1_method_35_code
def yX1_undo : MethodName := ⟨RX1, "undo", "()I"⟩
def dkwX1_undo_1 : List UInt8 := [180, 0, 47, 42, 180, 0, 226, 50, 182, 1, 58, 42, 180, 0, 226, 172]
abbrev dktX1_undo_1 : List UInt8 := dkwX1_undo_1 ++ []
def dkwX1_undo_0 : List UInt8 := [42, 180, 0, 226, 154, 0, 5, 2, 172, 42, 89, 180, 0, 226, 4, 100, 181, 0, 226, 42, 180, 0, 12, 42]
abbrev dktX1_undo_0 : List UInt8 := dkwX1_undo_0 ++ dktX1_undo_1
theorem dksX1_undo_0 : cX1_undo.data.toList.drop 0 = dktX1_undo_0 := by decide +kernel
theorem dksX1_undo_1 : cX1_undo.data.toList.drop 24 = dktX1_undo_1 := dk_seg dksX1_undo_0 24 rfl rfl
theorem dX1_undo_0 : decode cX1_undo 0 = .ok (.aload_n 0, 1) := dk_42 (dk_at dksX1_undo_0 0 rfl rfl)
theorem dX1_undo_1 : decode cX1_undo 1 = .ok (.getfield 226, 3) := dk_180 0 226 (dk_at dksX1_undo_0 1 rfl rfl)
theorem dX1_undo_4 : decode cX1_undo 4 = .ok (.ifCond .ne 5, 3) := dk_154 0 5 (dk_at dksX1_undo_0 4 rfl rfl)
theorem dX1_undo_7 : decode cX1_undo 7 = .ok (.iconst (-1), 1) := dk_2 (dk_at dksX1_undo_0 7 rfl rfl)
theorem dX1_undo_8 : decode cX1_undo 8 = .ok (.ireturn, 1) := dk_172 (dk_at dksX1_undo_0 8 rfl rfl)
theorem dX1_undo_9 : decode cX1_undo 9 = .ok (.aload_n 0, 1) := dk_42 (dk_at dksX1_undo_0 9 rfl rfl)
theorem dX1_undo_10 : decode cX1_undo 10 = .ok (.dup, 1) := dk_89 (dk_at dksX1_undo_0 10 rfl rfl)
theorem dX1_undo_11 : decode cX1_undo 11 = .ok (.getfield 226, 3) := dk_180 0 226 (dk_at dksX1_undo_0 11 rfl rfl)
theorem dX1_undo_14 : decode cX1_undo 14 = .ok (.iconst 1, 1) := dk_4 (dk_at dksX1_undo_0 14 rfl rfl)
theorem dX1_undo_15 : decode cX1_undo 15 = .ok (.isub, 1) := dk_100 (dk_at dksX1_undo_0 15 rfl rfl)
theorem dX1_undo_16 : decode cX1_undo 16 = .ok (.putfield 226, 3) := dk_181 0 226 (dk_at dksX1_undo_0 16 rfl rfl)
theorem dX1_undo_19 : decode cX1_undo 19 = .ok (.aload_n 0, 1) := dk_42 (dk_at dksX1_undo_0 19 rfl rfl)
theorem dX1_undo_20 : decode cX1_undo 20 = .ok (.getfield 12, 3) := dk_180 0 12 (dk_at dksX1_undo_0 20 rfl rfl)
theorem dX1_undo_23 : decode cX1_undo 23 = .ok (.aload_n 0, 1) := dk_42 (dk_at dksX1_undo_0 23 rfl rfl)
theorem dX1_undo_24 : decode cX1_undo 24 = .ok (.getfield 47, 3) := dk_180 0 47 (dk_at dksX1_undo_1 0 rfl rfl)
theorem dX1_undo_27 : decode cX1_undo 27 = .ok (.aload_n 0, 1) := dk_42 (dk_at dksX1_undo_1 3 rfl rfl)
theorem dX1_undo_28 : decode cX1_undo 28 = .ok (.getfield 226, 3) := dk_180 0 226 (dk_at dksX1_undo_1 4 rfl rfl)
theorem dX1_undo_31 : decode cX1_undo 31 = .ok (.aaload, 1) := dk_50 (dk_at dksX1_undo_1 7 rfl rfl)
theorem dX1_undo_32 : decode cX1_undo 32 = .ok (.invokevirtual 314, 3) := dk_182 1 58 (dk_at dksX1_undo_1 8 rfl rfl)
theorem dX1_undo_35 : decode cX1_undo 35 = .ok (.aload_n 0, 1) := dk_42 (dk_at dksX1_undo_1 11 rfl rfl)
theorem dX1_undo_36 : decode cX1_undo 36 = .ok (.getfield 226, 3) := dk_180 0 226 (dk_at dksX1_undo_1 12 rfl rfl)
theorem dX1_undo_39 : decode cX1_undo 39 = .ok (.ireturn, 1) := dk_172 (dk_at dksX1_undo_1 15 rfl rfl)
abbrev cX1_days : ByteArray := prog_1_method_44_code
def yX1_days : MethodName := ⟨RX1, "days", "(I)I"⟩
def dkwX1_days_3 : List UInt8 := [42, 180, 0, 12, 180, 1, 68, 29, 100, 133, 182, 1, 97, 42, 42, 180, 0, 12, 182, 1, 54, 172]
abbrev dktX1_days_3 : List UInt8 := dkwX1_days_3 ++ []
def dkwX1_days_2 : List UInt8 := [27, 182, 1, 90, 42, 3, 181, 1, 94, 42, 42, 180, 0, 12, 180, 1, 65, 28, 100, 133, 182, 1, 97, 42]
abbrev dktX1_days_2 : List UInt8 := dkwX1_days_2 ++ dktX1_days_3
def dkwX1_days_1 : List UInt8 := [182, 1, 62, 42, 180, 0, 12, 180, 1, 65, 61, 42, 180, 0, 12, 180, 1, 68, 62, 42, 42, 180, 0, 12]
abbrev dktX1_days_1 : List UInt8 := dkwX1_days_1 ++ dktX1_days_2
def dkwX1_days_0 : List UInt8 := [27, 133, 9, 20, 1, 88, 184, 0, 121, 154, 0, 5, 2, 172, 27, 158, 0, 11, 42, 42, 180, 0, 12]
abbrev dktX1_days_0 : List UInt8 := dkwX1_days_0 ++ dktX1_days_1
theorem dksX1_days_0 : cX1_days.data.toList.drop 0 = dktX1_days_0 := by decide +kernel
theorem dksX1_days_1 : cX1_days.data.toList.drop 23 = dktX1_days_1 := dk_seg dksX1_days_0 23 rfl rfl
theorem dksX1_days_2 : cX1_days.data.toList.drop 47 = dktX1_days_2 := dk_seg dksX1_days_1 24 rfl rfl
theorem dksX1_days_3 : cX1_days.data.toList.drop 71 = dktX1_days_3 := dk_seg dksX1_days_2 24 rfl rfl
theorem dX1_days_0 : decode cX1_days 0 = .ok (.iload_n 1, 1) := dk_27 (dk_at dksX1_days_0 0 rfl rfl)
theorem dX1_days_1 : decode cX1_days 1 = .ok (.i2l, 1) := dk_133 (dk_at dksX1_days_0 1 rfl rfl)
theorem dX1_days_2 : decode cX1_days 2 = .ok (.lconst 0, 1) := dk_9 (dk_at dksX1_days_0 2 rfl rfl)
theorem dX1_days_3 : decode cX1_days 3 = .ok (.ldc2_w 344, 3) := dk_20 1 88 (dk_at dksX1_days_0 3 rfl rfl)
theorem dX1_days_6 : decode cX1_days 6 = .ok (.invokestatic 121, 3) := dk_184 0 121 (dk_at dksX1_days_0 6 rfl rfl)
theorem dX1_days_9 : decode cX1_days 9 = .ok (.ifCond .ne 5, 3) := dk_154 0 5 (dk_at dksX1_days_0 9 rfl rfl)
theorem dX1_days_12 : decode cX1_days 12 = .ok (.iconst (-1), 1) := dk_2 (dk_at dksX1_days_0 12 rfl rfl)
theorem dX1_days_13 : decode cX1_days 13 = .ok (.ireturn, 1) := dk_172 (dk_at dksX1_days_0 13 rfl rfl)
theorem dX1_days_14 : decode cX1_days 14 = .ok (.iload_n 1, 1) := dk_27 (dk_at dksX1_days_0 14 rfl rfl)
theorem dX1_days_15 : decode cX1_days 15 = .ok (.ifCond .le 11, 3) := dk_158 0 11 (dk_at dksX1_days_0 15 rfl rfl)
theorem dX1_days_18 : decode cX1_days 18 = .ok (.aload_n 0, 1) := dk_42 (dk_at dksX1_days_0 18 rfl rfl)
theorem dX1_days_19 : decode cX1_days 19 = .ok (.aload_n 0, 1) := dk_42 (dk_at dksX1_days_0 19 rfl rfl)
theorem dX1_days_20 : decode cX1_days 20 = .ok (.getfield 12, 3) := dk_180 0 12 (dk_at dksX1_days_0 20 rfl rfl)
theorem dX1_days_23 : decode cX1_days 23 = .ok (.invokevirtual 318, 3) := dk_182 1 62 (dk_at dksX1_days_1 0 rfl rfl)
theorem dX1_days_26 : decode cX1_days 26 = .ok (.aload_n 0, 1) := dk_42 (dk_at dksX1_days_1 3 rfl rfl)
theorem dX1_days_27 : decode cX1_days 27 = .ok (.getfield 12, 3) := dk_180 0 12 (dk_at dksX1_days_1 4 rfl rfl)
theorem dX1_days_30 : decode cX1_days 30 = .ok (.getfield 321, 3) := dk_180 1 65 (dk_at dksX1_days_1 7 rfl rfl)
theorem dX1_days_33 : decode cX1_days 33 = .ok (.istore_n 2, 1) := dk_61 (dk_at dksX1_days_1 10 rfl rfl)
theorem dX1_days_34 : decode cX1_days 34 = .ok (.aload_n 0, 1) := dk_42 (dk_at dksX1_days_1 11 rfl rfl)
theorem dX1_days_35 : decode cX1_days 35 = .ok (.getfield 12, 3) := dk_180 0 12 (dk_at dksX1_days_1 12 rfl rfl)
theorem dX1_days_38 : decode cX1_days 38 = .ok (.getfield 324, 3) := dk_180 1 68 (dk_at dksX1_days_1 15 rfl rfl)
theorem dX1_days_41 : decode cX1_days 41 = .ok (.istore_n 3, 1) := dk_62 (dk_at dksX1_days_1 18 rfl rfl)
theorem dX1_days_42 : decode cX1_days 42 = .ok (.aload_n 0, 1) := dk_42 (dk_at dksX1_days_1 19 rfl rfl)
theorem dX1_days_43 : decode cX1_days 43 = .ok (.aload_n 0, 1) := dk_42 (dk_at dksX1_days_1 20 rfl rfl)
theorem dX1_days_44 : decode cX1_days 44 = .ok (.getfield 12, 3) := dk_180 0 12 (dk_at dksX1_days_1 21 rfl rfl)
theorem dX1_days_47 : decode cX1_days 47 = .ok (.iload_n 1, 1) := dk_27 (dk_at dksX1_days_2 0 rfl rfl)
theorem dX1_days_48 : decode cX1_days 48 = .ok (.invokevirtual 346, 3) := dk_182 1 90 (dk_at dksX1_days_2 1 rfl rfl)
theorem dX1_days_51 : decode cX1_days 51 = .ok (.aload_n 0, 1) := dk_42 (dk_at dksX1_days_2 4 rfl rfl)
theorem dX1_days_52 : decode cX1_days 52 = .ok (.iconst 0, 1) := dk_3 (dk_at dksX1_days_2 5 rfl rfl)
theorem dX1_days_53 : decode cX1_days 53 = .ok (.putfield 350, 3) := dk_181 1 94 (dk_at dksX1_days_2 6 rfl rfl)
theorem dX1_days_56 : decode cX1_days 56 = .ok (.aload_n 0, 1) := dk_42 (dk_at dksX1_days_2 9 rfl rfl)
theorem dX1_days_57 : decode cX1_days 57 = .ok (.aload_n 0, 1) := dk_42 (dk_at dksX1_days_2 10 rfl rfl)
theorem dX1_days_58 : decode cX1_days 58 = .ok (.getfield 12, 3) := dk_180 0 12 (dk_at dksX1_days_2 11 rfl rfl)
theorem dX1_days_61 : decode cX1_days 61 = .ok (.getfield 321, 3) := dk_180 1 65 (dk_at dksX1_days_2 14 rfl rfl)
theorem dX1_days_64 : decode cX1_days 64 = .ok (.iload_n 2, 1) := dk_28 (dk_at dksX1_days_2 17 rfl rfl)
theorem dX1_days_65 : decode cX1_days 65 = .ok (.isub, 1) := dk_100 (dk_at dksX1_days_2 18 rfl rfl)
theorem dX1_days_66 : decode cX1_days 66 = .ok (.i2l, 1) := dk_133 (dk_at dksX1_days_2 19 rfl rfl)
theorem dX1_days_67 : decode cX1_days 67 = .ok (.invokevirtual 353, 3) := dk_182 1 97 (dk_at dksX1_days_2 20 rfl rfl)
theorem dX1_days_70 : decode cX1_days 70 = .ok (.aload_n 0, 1) := dk_42 (dk_at dksX1_days_2 23 rfl rfl)
theorem dX1_days_71 : decode cX1_days 71 = .ok (.aload_n 0, 1) := dk_42 (dk_at dksX1_days_3 0 rfl rfl)
theorem dX1_days_72 : decode cX1_days 72 = .ok (.getfield 12, 3) := dk_180 0 12 (dk_at dksX1_days_3 1 rfl rfl)
theorem dX1_days_75 : decode cX1_days 75 = .ok (.getfield 324, 3) := dk_180 1 68 (dk_at dksX1_days_3 4 rfl rfl)
theorem dX1_days_78 : decode cX1_days 78 = .ok (.iload_n 3, 1) := dk_29 (dk_at dksX1_days_3 7 rfl rfl)
theorem dX1_days_79 : decode cX1_days 79 = .ok (.isub, 1) := dk_100 (dk_at dksX1_days_3 8 rfl rfl)
theorem dX1_days_80 : decode cX1_days 80 = .ok (.i2l, 1) := dk_133 (dk_at dksX1_days_3 9 rfl rfl)
theorem dX1_days_81 : decode cX1_days 81 = .ok (.invokevirtual 353, 3) := dk_182 1 97 (dk_at dksX1_days_3 10 rfl rfl)
theorem dX1_days_84 : decode cX1_days 84 = .ok (.aload_n 0, 1) := dk_42 (dk_at dksX1_days_3 13 rfl rfl)
theorem dX1_days_85 : decode cX1_days 85 = .ok (.aload_n 0, 1) := dk_42 (dk_at dksX1_days_3 14 rfl rfl)
theorem dX1_days_86 : decode cX1_days 86 = .ok (.getfield 12, 3) := dk_180 0 12 (dk_at dksX1_days_3 15 rfl rfl)
theorem dX1_days_89 : decode cX1_days 89 = .ok (.invokevirtual 310, 3) := dk_182 1 54 (dk_at dksX1_days_3 18 rfl rfl)
theorem dX1_days_92 : decode cX1_days 92 = .ok (.ireturn, 1) := dk_172 (dk_at dksX1_days_3 21 rfl rfl)
abbrev cX1_putsBy : ByteArray := prog_1_method_34_code
def yX1_putsBy : MethodName := ⟨RX1, "putsBy", "(LPullThePlug$Water;)V"⟩
def dkwX1_putsBy_4 : List UInt8 := [180, 0, 226, 50, 43, 182, 1, 58, 42, 89, 180, 0, 226, 4, 96, 181, 0, 226, 177]
abbrev dktX1_putsBy_4 : List UInt8 := dkwX1_putsBy_4 ++ []
def dkwX1_putsBy_3 : List UInt8 := [199, 0, 19, 42, 180, 0, 47, 42, 180, 0, 226, 187, 0, 9, 89, 183, 0, 11, 83, 42, 180, 0, 47, 42]
abbrev dktX1_putsBy_3 : List UInt8 := dkwX1_putsBy_3 ++ dktX1_putsBy_4
def dkwX1_putsBy_2 : List UInt8 := [16, 11, 44, 83, 42, 89, 180, 0, 226, 4, 100, 181, 0, 226, 42, 180, 0, 47, 42, 180, 0, 226, 50]
abbrev dktX1_putsBy_2 : List UInt8 := dkwX1_putsBy_2 ++ dktX1_putsBy_3
def dkwX1_putsBy_1 : List UInt8 := [42, 180, 0, 47, 29, 4, 100, 42, 180, 0, 47, 29, 50, 83, 132, 3, 1, 167, 255, 233, 42, 180, 0, 47]
abbrev dktX1_putsBy_1 : List UInt8 := dkwX1_putsBy_1 ++ dktX1_putsBy_2
def dkwX1_putsBy_0 : List UInt8 := [42, 180, 0, 226, 16, 12, 160, 0, 56, 42, 180, 0, 47, 3, 50, 77, 4, 62, 29, 16, 12, 162, 0, 23]
abbrev dktX1_putsBy_0 : List UInt8 := dkwX1_putsBy_0 ++ dktX1_putsBy_1
theorem dksX1_putsBy_0 : cX1_putsBy.data.toList.drop 0 = dktX1_putsBy_0 := by decide +kernel
theorem dksX1_putsBy_1 : cX1_putsBy.data.toList.drop 24 = dktX1_putsBy_1 := dk_seg dksX1_putsBy_0 24 rfl rfl
theorem dksX1_putsBy_2 : cX1_putsBy.data.toList.drop 48 = dktX1_putsBy_2 := dk_seg dksX1_putsBy_1 24 rfl rfl
theorem dksX1_putsBy_3 : cX1_putsBy.data.toList.drop 71 = dktX1_putsBy_3 := dk_seg dksX1_putsBy_2 23 rfl rfl
theorem dksX1_putsBy_4 : cX1_putsBy.data.toList.drop 95 = dktX1_putsBy_4 := dk_seg dksX1_putsBy_3 24 rfl rfl
theorem dX1_putsBy_0 : decode cX1_putsBy 0 = .ok (.aload_n 0, 1) := dk_42 (dk_at dksX1_putsBy_0 0 rfl rfl)
theorem dX1_putsBy_1 : decode cX1_putsBy 1 = .ok (.getfield 226, 3) := dk_180 0 226 (dk_at dksX1_putsBy_0 1 rfl rfl)
theorem dX1_putsBy_4 : decode cX1_putsBy 4 = .ok (.bipush 12, 2) := dk_16 12 (dk_at dksX1_putsBy_0 4 rfl rfl)
theorem dX1_putsBy_6 : decode cX1_putsBy 6 = .ok (.if_icmp .ne 56, 3) := dk_160 0 56 (dk_at dksX1_putsBy_0 6 rfl rfl)
theorem dX1_putsBy_9 : decode cX1_putsBy 9 = .ok (.aload_n 0, 1) := dk_42 (dk_at dksX1_putsBy_0 9 rfl rfl)
theorem dX1_putsBy_10 : decode cX1_putsBy 10 = .ok (.getfield 47, 3) := dk_180 0 47 (dk_at dksX1_putsBy_0 10 rfl rfl)
theorem dX1_putsBy_13 : decode cX1_putsBy 13 = .ok (.iconst 0, 1) := dk_3 (dk_at dksX1_putsBy_0 13 rfl rfl)
theorem dX1_putsBy_14 : decode cX1_putsBy 14 = .ok (.aaload, 1) := dk_50 (dk_at dksX1_putsBy_0 14 rfl rfl)
theorem dX1_putsBy_15 : decode cX1_putsBy 15 = .ok (.astore_n 2, 1) := dk_77 (dk_at dksX1_putsBy_0 15 rfl rfl)
theorem dX1_putsBy_16 : decode cX1_putsBy 16 = .ok (.iconst 1, 1) := dk_4 (dk_at dksX1_putsBy_0 16 rfl rfl)
theorem dX1_putsBy_17 : decode cX1_putsBy 17 = .ok (.istore_n 3, 1) := dk_62 (dk_at dksX1_putsBy_0 17 rfl rfl)
theorem dX1_putsBy_18 : decode cX1_putsBy 18 = .ok (.iload_n 3, 1) := dk_29 (dk_at dksX1_putsBy_0 18 rfl rfl)
theorem dX1_putsBy_19 : decode cX1_putsBy 19 = .ok (.bipush 12, 2) := dk_16 12 (dk_at dksX1_putsBy_0 19 rfl rfl)
theorem dX1_putsBy_21 : decode cX1_putsBy 21 = .ok (.if_icmp .ge 23, 3) := dk_162 0 23 (dk_at dksX1_putsBy_0 21 rfl rfl)
theorem dX1_putsBy_24 : decode cX1_putsBy 24 = .ok (.aload_n 0, 1) := dk_42 (dk_at dksX1_putsBy_1 0 rfl rfl)
theorem dX1_putsBy_25 : decode cX1_putsBy 25 = .ok (.getfield 47, 3) := dk_180 0 47 (dk_at dksX1_putsBy_1 1 rfl rfl)
theorem dX1_putsBy_28 : decode cX1_putsBy 28 = .ok (.iload_n 3, 1) := dk_29 (dk_at dksX1_putsBy_1 4 rfl rfl)
theorem dX1_putsBy_29 : decode cX1_putsBy 29 = .ok (.iconst 1, 1) := dk_4 (dk_at dksX1_putsBy_1 5 rfl rfl)
theorem dX1_putsBy_30 : decode cX1_putsBy 30 = .ok (.isub, 1) := dk_100 (dk_at dksX1_putsBy_1 6 rfl rfl)
theorem dX1_putsBy_31 : decode cX1_putsBy 31 = .ok (.aload_n 0, 1) := dk_42 (dk_at dksX1_putsBy_1 7 rfl rfl)
theorem dX1_putsBy_32 : decode cX1_putsBy 32 = .ok (.getfield 47, 3) := dk_180 0 47 (dk_at dksX1_putsBy_1 8 rfl rfl)
theorem dX1_putsBy_35 : decode cX1_putsBy 35 = .ok (.iload_n 3, 1) := dk_29 (dk_at dksX1_putsBy_1 11 rfl rfl)
theorem dX1_putsBy_36 : decode cX1_putsBy 36 = .ok (.aaload, 1) := dk_50 (dk_at dksX1_putsBy_1 12 rfl rfl)
theorem dX1_putsBy_37 : decode cX1_putsBy 37 = .ok (.aastore, 1) := dk_83 (dk_at dksX1_putsBy_1 13 rfl rfl)
theorem dX1_putsBy_38 : decode cX1_putsBy 38 = .ok (.iinc 3 1, 3) := dk_132 3 1 (dk_at dksX1_putsBy_1 14 rfl rfl)
theorem dX1_putsBy_41 : decode cX1_putsBy 41 = .ok (.goto (-23), 3) := dk_167 255 233 (dk_at dksX1_putsBy_1 17 rfl rfl)
theorem dX1_putsBy_44 : decode cX1_putsBy 44 = .ok (.aload_n 0, 1) := dk_42 (dk_at dksX1_putsBy_1 20 rfl rfl)
theorem dX1_putsBy_45 : decode cX1_putsBy 45 = .ok (.getfield 47, 3) := dk_180 0 47 (dk_at dksX1_putsBy_1 21 rfl rfl)
theorem dX1_putsBy_48 : decode cX1_putsBy 48 = .ok (.bipush 11, 2) := dk_16 11 (dk_at dksX1_putsBy_2 0 rfl rfl)
theorem dX1_putsBy_50 : decode cX1_putsBy 50 = .ok (.aload_n 2, 1) := dk_44 (dk_at dksX1_putsBy_2 2 rfl rfl)
theorem dX1_putsBy_51 : decode cX1_putsBy 51 = .ok (.aastore, 1) := dk_83 (dk_at dksX1_putsBy_2 3 rfl rfl)
theorem dX1_putsBy_52 : decode cX1_putsBy 52 = .ok (.aload_n 0, 1) := dk_42 (dk_at dksX1_putsBy_2 4 rfl rfl)
theorem dX1_putsBy_53 : decode cX1_putsBy 53 = .ok (.dup, 1) := dk_89 (dk_at dksX1_putsBy_2 5 rfl rfl)
theorem dX1_putsBy_54 : decode cX1_putsBy 54 = .ok (.getfield 226, 3) := dk_180 0 226 (dk_at dksX1_putsBy_2 6 rfl rfl)
theorem dX1_putsBy_57 : decode cX1_putsBy 57 = .ok (.iconst 1, 1) := dk_4 (dk_at dksX1_putsBy_2 9 rfl rfl)
theorem dX1_putsBy_58 : decode cX1_putsBy 58 = .ok (.isub, 1) := dk_100 (dk_at dksX1_putsBy_2 10 rfl rfl)
theorem dX1_putsBy_59 : decode cX1_putsBy 59 = .ok (.putfield 226, 3) := dk_181 0 226 (dk_at dksX1_putsBy_2 11 rfl rfl)
theorem dX1_putsBy_62 : decode cX1_putsBy 62 = .ok (.aload_n 0, 1) := dk_42 (dk_at dksX1_putsBy_2 14 rfl rfl)
theorem dX1_putsBy_63 : decode cX1_putsBy 63 = .ok (.getfield 47, 3) := dk_180 0 47 (dk_at dksX1_putsBy_2 15 rfl rfl)
theorem dX1_putsBy_66 : decode cX1_putsBy 66 = .ok (.aload_n 0, 1) := dk_42 (dk_at dksX1_putsBy_2 18 rfl rfl)
theorem dX1_putsBy_67 : decode cX1_putsBy 67 = .ok (.getfield 226, 3) := dk_180 0 226 (dk_at dksX1_putsBy_2 19 rfl rfl)
theorem dX1_putsBy_70 : decode cX1_putsBy 70 = .ok (.aaload, 1) := dk_50 (dk_at dksX1_putsBy_2 22 rfl rfl)
theorem dX1_putsBy_71 : decode cX1_putsBy 71 = .ok (.ifnonnull 19, 3) := dk_199 0 19 (dk_at dksX1_putsBy_3 0 rfl rfl)
theorem dX1_putsBy_74 : decode cX1_putsBy 74 = .ok (.aload_n 0, 1) := dk_42 (dk_at dksX1_putsBy_3 3 rfl rfl)
theorem dX1_putsBy_75 : decode cX1_putsBy 75 = .ok (.getfield 47, 3) := dk_180 0 47 (dk_at dksX1_putsBy_3 4 rfl rfl)
theorem dX1_putsBy_78 : decode cX1_putsBy 78 = .ok (.aload_n 0, 1) := dk_42 (dk_at dksX1_putsBy_3 7 rfl rfl)
theorem dX1_putsBy_79 : decode cX1_putsBy 79 = .ok (.getfield 226, 3) := dk_180 0 226 (dk_at dksX1_putsBy_3 8 rfl rfl)
theorem dX1_putsBy_82 : decode cX1_putsBy 82 = .ok (.new 9, 3) := dk_187 0 9 (dk_at dksX1_putsBy_3 11 rfl rfl)
theorem dX1_putsBy_85 : decode cX1_putsBy 85 = .ok (.dup, 1) := dk_89 (dk_at dksX1_putsBy_3 14 rfl rfl)
theorem dX1_putsBy_86 : decode cX1_putsBy 86 = .ok (.invokespecial 11, 3) := dk_183 0 11 (dk_at dksX1_putsBy_3 15 rfl rfl)
theorem dX1_putsBy_89 : decode cX1_putsBy 89 = .ok (.aastore, 1) := dk_83 (dk_at dksX1_putsBy_3 18 rfl rfl)
theorem dX1_putsBy_90 : decode cX1_putsBy 90 = .ok (.aload_n 0, 1) := dk_42 (dk_at dksX1_putsBy_3 19 rfl rfl)
theorem dX1_putsBy_91 : decode cX1_putsBy 91 = .ok (.getfield 47, 3) := dk_180 0 47 (dk_at dksX1_putsBy_3 20 rfl rfl)
theorem dX1_putsBy_94 : decode cX1_putsBy 94 = .ok (.aload_n 0, 1) := dk_42 (dk_at dksX1_putsBy_3 23 rfl rfl)
theorem dX1_putsBy_95 : decode cX1_putsBy 95 = .ok (.getfield 226, 3) := dk_180 0 226 (dk_at dksX1_putsBy_4 0 rfl rfl)
theorem dX1_putsBy_98 : decode cX1_putsBy 98 = .ok (.aaload, 1) := dk_50 (dk_at dksX1_putsBy_4 3 rfl rfl)
theorem dX1_putsBy_99 : decode cX1_putsBy 99 = .ok (.aload_n 1, 1) := dk_43 (dk_at dksX1_putsBy_4 4 rfl rfl)
theorem dX1_putsBy_100 : decode cX1_putsBy 100 = .ok (.invokevirtual 314, 3) := dk_182 1 58 (dk_at dksX1_putsBy_4 5 rfl rfl)
theorem dX1_putsBy_103 : decode cX1_putsBy 103 = .ok (.aload_n 0, 1) := dk_42 (dk_at dksX1_putsBy_4 8 rfl rfl)
theorem dX1_putsBy_104 : decode cX1_putsBy 104 = .ok (.dup, 1) := dk_89 (dk_at dksX1_putsBy_4 9 rfl rfl)
theorem dX1_putsBy_105 : decode cX1_putsBy 105 = .ok (.getfield 226, 3) := dk_180 0 226 (dk_at dksX1_putsBy_4 10 rfl rfl)
theorem dX1_putsBy_108 : decode cX1_putsBy 108 = .ok (.iconst 1, 1) := dk_4 (dk_at dksX1_putsBy_4 13 rfl rfl)
theorem dX1_putsBy_109 : decode cX1_putsBy 109 = .ok (.iadd, 1) := dk_96 (dk_at dksX1_putsBy_4 14 rfl rfl)
theorem dX1_putsBy_110 : decode cX1_putsBy 110 = .ok (.putfield 226, 3) := dk_181 0 226 (dk_at dksX1_putsBy_4 15 rfl rfl)
theorem dX1_putsBy_113 : decode cX1_putsBy 113 = .ok (.return_, 1) := dk_177 (dk_at dksX1_putsBy_4 18 rfl rfl)
abbrev cX1_daysGo : ByteArray := prog_1_method_39_code
def yX1_daysGo : MethodName := ⟨RX1, "daysGo", "(LPullThePlug$Water;I)V"⟩
def dkwX1_daysGo_0 : List UInt8 := [3, 62, 29, 28, 162, 0, 14, 42, 43, 182, 1, 78, 132, 3, 1, 167, 255, 243, 177]
abbrev dktX1_daysGo_0 : List UInt8 := dkwX1_daysGo_0 ++ []
theorem dksX1_daysGo_0 : cX1_daysGo.data.toList.drop 0 = dktX1_daysGo_0 := by decide +kernel
theorem dX1_daysGo_0 : decode cX1_daysGo 0 = .ok (.iconst 0, 1) := dk_3 (dk_at dksX1_daysGo_0 0 rfl rfl)
theorem dX1_daysGo_1 : decode cX1_daysGo 1 = .ok (.istore_n 3, 1) := dk_62 (dk_at dksX1_daysGo_0 1 rfl rfl)
theorem dX1_daysGo_2 : decode cX1_daysGo 2 = .ok (.iload_n 3, 1) := dk_29 (dk_at dksX1_daysGo_0 2 rfl rfl)
theorem dX1_daysGo_3 : decode cX1_daysGo 3 = .ok (.iload_n 2, 1) := dk_28 (dk_at dksX1_daysGo_0 3 rfl rfl)
theorem dX1_daysGo_4 : decode cX1_daysGo 4 = .ok (.if_icmp .ge 14, 3) := dk_162 0 14 (dk_at dksX1_daysGo_0 4 rfl rfl)
theorem dX1_daysGo_7 : decode cX1_daysGo 7 = .ok (.aload_n 0, 1) := dk_42 (dk_at dksX1_daysGo_0 7 rfl rfl)
theorem dX1_daysGo_8 : decode cX1_daysGo 8 = .ok (.aload_n 1, 1) := dk_43 (dk_at dksX1_daysGo_0 8 rfl rfl)
theorem dX1_daysGo_9 : decode cX1_daysGo 9 = .ok (.invokevirtual 334, 3) := dk_182 1 78 (dk_at dksX1_daysGo_0 9 rfl rfl)
theorem dX1_daysGo_12 : decode cX1_daysGo 12 = .ok (.iinc 3 1, 3) := dk_132 3 1 (dk_at dksX1_daysGo_0 12 rfl rfl)
theorem dX1_daysGo_15 : decode cX1_daysGo 15 = .ok (.goto (-13), 3) := dk_167 255 243 (dk_at dksX1_daysGo_0 15 rfl rfl)
theorem dX1_daysGo_18 : decode cX1_daysGo 18 = .ok (.return_, 1) := dk_177 (dk_at dksX1_daysGo_0 18 rfl rfl)
abbrev cX1_dayGoes : ByteArray := prog_1_method_38_code
def yX1_dayGoes : MethodName := ⟨RX1, "dayGoes", "(LPullThePlug$Water;)V"⟩
def dkwX1_dayGoes_0 : List UInt8 := [42, 43, 2, 3, 182, 1, 74, 177]
abbrev dktX1_dayGoes_0 : List UInt8 := dkwX1_dayGoes_0 ++ []
theorem dksX1_dayGoes_0 : cX1_dayGoes.data.toList.drop 0 = dktX1_dayGoes_0 := by decide +kernel
theorem dX1_dayGoes_0 : decode cX1_dayGoes 0 = .ok (.aload_n 0, 1) := dk_42 (dk_at dksX1_dayGoes_0 0 rfl rfl)
theorem dX1_dayGoes_1 : decode cX1_dayGoes 1 = .ok (.aload_n 1, 1) := dk_43 (dk_at dksX1_dayGoes_0 1 rfl rfl)
theorem dX1_dayGoes_2 : decode cX1_dayGoes 2 = .ok (.iconst (-1), 1) := dk_2 (dk_at dksX1_dayGoes_0 2 rfl rfl)
theorem dX1_dayGoes_3 : decode cX1_dayGoes 3 = .ok (.iconst 0, 1) := dk_3 (dk_at dksX1_dayGoes_0 3 rfl rfl)
theorem dX1_dayGoes_4 : decode cX1_dayGoes 4 = .ok (.invokevirtual 330, 3) := dk_182 1 74 (dk_at dksX1_dayGoes_0 4 rfl rfl)
theorem dX1_dayGoes_7 : decode cX1_dayGoes 7 = .ok (.return_, 1) := dk_177 (dk_at dksX1_dayGoes_0 7 rfl rfl)
abbrev cX1_leaksDay : ByteArray := prog_1_method_37_code
def yX1_leaksDay : MethodName := ⟨RX1, "leaksDay", "(LPullThePlug$Water;II)V"⟩
def dkwX1_leaksDay_12 : List UInt8 := [96, 184, 0, 152, 79, 132, 4, 1, 167, 255, 112, 43, 89, 180, 1, 71, 4, 96, 181, 1, 71, 177]
abbrev dktX1_leaksDay_12 : List UInt8 := dkwX1_leaksDay_12 ++ []
def dkwX1_leaksDay_11 : List UInt8 := [43, 180, 0, 209, 21, 4, 46, 43, 180, 1, 24, 21, 4, 184, 0, 129, 153, 0, 7, 4, 167, 0, 4, 3]
abbrev dktX1_leaksDay_11 : List UInt8 := dkwX1_leaksDay_11 ++ dktX1_leaksDay_12
def dkwX1_leaksDay_10 : List UInt8 := [180, 0, 133, 21, 4, 42, 180, 0, 57, 21, 4, 46, 21, 5, 100, 79, 43, 180, 0, 209, 21, 4, 16, 9]
abbrev dktX1_leaksDay_10 : List UInt8 := dkwX1_leaksDay_10 ++ dktX1_leaksDay_11
def dkwX1_leaksDay_9 : List UInt8 := [42, 180, 0, 57, 21, 4, 46, 154, 0, 7, 4, 167, 0, 4, 3, 96, 184, 0, 152, 181, 1, 68, 43]
abbrev dktX1_leaksDay_9 : List UInt8 := dkwX1_leaksDay_9 ++ dktX1_leaksDay_10
def dkwX1_leaksDay_8 : List UInt8 := [184, 0, 152, 181, 1, 65, 43, 17, 3, 231, 43, 180, 1, 68, 43, 180, 0, 133, 21, 4, 46, 158, 0, 17]
abbrev dktX1_leaksDay_8 : List UInt8 := dkwX1_leaksDay_8 ++ dktX1_leaksDay_9
def dkwX1_leaksDay_7 : List UInt8 := [180, 0, 19, 21, 4, 46, 100, 184, 1, 38, 54, 5, 43, 17, 39, 15, 43, 180, 1, 65, 21, 5, 96]
abbrev dktX1_leaksDay_7 : List UInt8 := dkwX1_leaksDay_7 ++ dktX1_leaksDay_8
def dkwX1_leaksDay_6 : List UInt8 := [167, 255, 212, 3, 54, 4, 21, 4, 42, 180, 0, 117, 162, 0, 141, 3, 42, 180, 0, 57, 21, 4, 46, 42]
abbrev dktX1_leaksDay_6 : List UInt8 := dkwX1_leaksDay_6 ++ dktX1_leaksDay_7
def dkwX1_leaksDay_5 : List UInt8 := [180, 0, 57, 42, 180, 0, 26, 21, 4, 46, 92, 46, 42, 180, 0, 54, 21, 4, 46, 96, 79, 132, 4, 1]
abbrev dktX1_leaksDay_5 : List UInt8 := dkwX1_leaksDay_5 ++ dktX1_leaksDay_6
def dkwX1_leaksDay_4 : List UInt8 := [3, 54, 4, 21, 4, 42, 180, 0, 117, 162, 0, 41, 42, 180, 0, 26, 21, 4, 46, 155, 0, 25, 42]
abbrev dktX1_leaksDay_4 : List UInt8 := dkwX1_leaksDay_4 ++ dktX1_leaksDay_5
def dkwX1_leaksDay_3 : List UInt8 := [167, 0, 4, 3, 96, 184, 0, 152, 100, 43, 180, 0, 206, 21, 4, 46, 96, 79, 132, 4, 1, 167, 255, 171]
abbrev dktX1_leaksDay_3 : List UInt8 := dkwX1_leaksDay_3 ++ dktX1_leaksDay_4
def dkwX1_leaksDay_2 : List UInt8 := [180, 0, 57, 21, 4, 21, 5, 21, 5, 42, 180, 0, 23, 21, 4, 46, 21, 4, 28, 160, 0, 7, 29]
abbrev dktX1_leaksDay_2 : List UInt8 := dkwX1_leaksDay_2 ++ dktX1_leaksDay_3
def dkwX1_leaksDay_1 : List UInt8 := [182, 1, 48, 79, 43, 180, 0, 133, 21, 4, 46, 42, 180, 0, 54, 21, 4, 46, 100, 54, 5, 42]
abbrev dktX1_leaksDay_1 : List UInt8 := dkwX1_leaksDay_1 ++ dktX1_leaksDay_2
def dkwX1_leaksDay_0 : List UInt8 := [3, 54, 4, 21, 4, 42, 180, 0, 117, 162, 0, 82, 42, 180, 0, 54, 21, 4, 42, 43, 21, 4]
abbrev dktX1_leaksDay_0 : List UInt8 := dkwX1_leaksDay_0 ++ dktX1_leaksDay_1
theorem dksX1_leaksDay_0 : cX1_leaksDay.data.toList.drop 0 = dktX1_leaksDay_0 := by decide +kernel
theorem dksX1_leaksDay_1 : cX1_leaksDay.data.toList.drop 22 = dktX1_leaksDay_1 := dk_seg dksX1_leaksDay_0 22 rfl rfl
theorem dksX1_leaksDay_2 : cX1_leaksDay.data.toList.drop 44 = dktX1_leaksDay_2 := dk_seg dksX1_leaksDay_1 22 rfl rfl
theorem dksX1_leaksDay_3 : cX1_leaksDay.data.toList.drop 67 = dktX1_leaksDay_3 := dk_seg dksX1_leaksDay_2 23 rfl rfl
theorem dksX1_leaksDay_4 : cX1_leaksDay.data.toList.drop 91 = dktX1_leaksDay_4 := dk_seg dksX1_leaksDay_3 24 rfl rfl
theorem dksX1_leaksDay_5 : cX1_leaksDay.data.toList.drop 114 = dktX1_leaksDay_5 := dk_seg dksX1_leaksDay_4 23 rfl rfl
theorem dksX1_leaksDay_6 : cX1_leaksDay.data.toList.drop 138 = dktX1_leaksDay_6 := dk_seg dksX1_leaksDay_5 24 rfl rfl
theorem dksX1_leaksDay_7 : cX1_leaksDay.data.toList.drop 162 = dktX1_leaksDay_7 := dk_seg dksX1_leaksDay_6 24 rfl rfl
theorem dksX1_leaksDay_8 : cX1_leaksDay.data.toList.drop 185 = dktX1_leaksDay_8 := dk_seg dksX1_leaksDay_7 23 rfl rfl
theorem dksX1_leaksDay_9 : cX1_leaksDay.data.toList.drop 209 = dktX1_leaksDay_9 := dk_seg dksX1_leaksDay_8 24 rfl rfl
theorem dksX1_leaksDay_10 : cX1_leaksDay.data.toList.drop 232 = dktX1_leaksDay_10 := dk_seg dksX1_leaksDay_9 23 rfl rfl
theorem dksX1_leaksDay_11 : cX1_leaksDay.data.toList.drop 256 = dktX1_leaksDay_11 := dk_seg dksX1_leaksDay_10 24 rfl rfl
theorem dksX1_leaksDay_12 : cX1_leaksDay.data.toList.drop 280 = dktX1_leaksDay_12 := dk_seg dksX1_leaksDay_11 24 rfl rfl
theorem dX1_leaksDay_0 : decode cX1_leaksDay 0 = .ok (.iconst 0, 1) := dk_3 (dk_at dksX1_leaksDay_0 0 rfl rfl)
theorem dX1_leaksDay_1 : decode cX1_leaksDay 1 = .ok (.istore 4, 2) := dk_54 4 (dk_at dksX1_leaksDay_0 1 rfl rfl)
theorem dX1_leaksDay_3 : decode cX1_leaksDay 3 = .ok (.iload 4, 2) := dk_21 4 (dk_at dksX1_leaksDay_0 3 rfl rfl)
theorem dX1_leaksDay_5 : decode cX1_leaksDay 5 = .ok (.aload_n 0, 1) := dk_42 (dk_at dksX1_leaksDay_0 5 rfl rfl)
theorem dX1_leaksDay_6 : decode cX1_leaksDay 6 = .ok (.getfield 117, 3) := dk_180 0 117 (dk_at dksX1_leaksDay_0 6 rfl rfl)
theorem dX1_leaksDay_9 : decode cX1_leaksDay 9 = .ok (.if_icmp .ge 82, 3) := dk_162 0 82 (dk_at dksX1_leaksDay_0 9 rfl rfl)
theorem dX1_leaksDay_12 : decode cX1_leaksDay 12 = .ok (.aload_n 0, 1) := dk_42 (dk_at dksX1_leaksDay_0 12 rfl rfl)
theorem dX1_leaksDay_13 : decode cX1_leaksDay 13 = .ok (.getfield 54, 3) := dk_180 0 54 (dk_at dksX1_leaksDay_0 13 rfl rfl)
theorem dX1_leaksDay_16 : decode cX1_leaksDay 16 = .ok (.iload 4, 2) := dk_21 4 (dk_at dksX1_leaksDay_0 16 rfl rfl)
theorem dX1_leaksDay_18 : decode cX1_leaksDay 18 = .ok (.aload_n 0, 1) := dk_42 (dk_at dksX1_leaksDay_0 18 rfl rfl)
theorem dX1_leaksDay_19 : decode cX1_leaksDay 19 = .ok (.aload_n 1, 1) := dk_43 (dk_at dksX1_leaksDay_0 19 rfl rfl)
theorem dX1_leaksDay_20 : decode cX1_leaksDay 20 = .ok (.iload 4, 2) := dk_21 4 (dk_at dksX1_leaksDay_0 20 rfl rfl)
theorem dX1_leaksDay_22 : decode cX1_leaksDay 22 = .ok (.invokevirtual 304, 3) := dk_182 1 48 (dk_at dksX1_leaksDay_1 0 rfl rfl)
theorem dX1_leaksDay_25 : decode cX1_leaksDay 25 = .ok (.iastore, 1) := dk_79 (dk_at dksX1_leaksDay_1 3 rfl rfl)
theorem dX1_leaksDay_26 : decode cX1_leaksDay 26 = .ok (.aload_n 1, 1) := dk_43 (dk_at dksX1_leaksDay_1 4 rfl rfl)
theorem dX1_leaksDay_27 : decode cX1_leaksDay 27 = .ok (.getfield 133, 3) := dk_180 0 133 (dk_at dksX1_leaksDay_1 5 rfl rfl)
theorem dX1_leaksDay_30 : decode cX1_leaksDay 30 = .ok (.iload 4, 2) := dk_21 4 (dk_at dksX1_leaksDay_1 8 rfl rfl)
theorem dX1_leaksDay_32 : decode cX1_leaksDay 32 = .ok (.iaload, 1) := dk_46 (dk_at dksX1_leaksDay_1 10 rfl rfl)
theorem dX1_leaksDay_33 : decode cX1_leaksDay 33 = .ok (.aload_n 0, 1) := dk_42 (dk_at dksX1_leaksDay_1 11 rfl rfl)
theorem dX1_leaksDay_34 : decode cX1_leaksDay 34 = .ok (.getfield 54, 3) := dk_180 0 54 (dk_at dksX1_leaksDay_1 12 rfl rfl)
theorem dX1_leaksDay_37 : decode cX1_leaksDay 37 = .ok (.iload 4, 2) := dk_21 4 (dk_at dksX1_leaksDay_1 15 rfl rfl)
theorem dX1_leaksDay_39 : decode cX1_leaksDay 39 = .ok (.iaload, 1) := dk_46 (dk_at dksX1_leaksDay_1 17 rfl rfl)
theorem dX1_leaksDay_40 : decode cX1_leaksDay 40 = .ok (.isub, 1) := dk_100 (dk_at dksX1_leaksDay_1 18 rfl rfl)
theorem dX1_leaksDay_41 : decode cX1_leaksDay 41 = .ok (.istore 5, 2) := dk_54 5 (dk_at dksX1_leaksDay_1 19 rfl rfl)
theorem dX1_leaksDay_43 : decode cX1_leaksDay 43 = .ok (.aload_n 0, 1) := dk_42 (dk_at dksX1_leaksDay_1 21 rfl rfl)
theorem dX1_leaksDay_44 : decode cX1_leaksDay 44 = .ok (.getfield 57, 3) := dk_180 0 57 (dk_at dksX1_leaksDay_2 0 rfl rfl)
theorem dX1_leaksDay_47 : decode cX1_leaksDay 47 = .ok (.iload 4, 2) := dk_21 4 (dk_at dksX1_leaksDay_2 3 rfl rfl)
theorem dX1_leaksDay_49 : decode cX1_leaksDay 49 = .ok (.iload 5, 2) := dk_21 5 (dk_at dksX1_leaksDay_2 5 rfl rfl)
theorem dX1_leaksDay_51 : decode cX1_leaksDay 51 = .ok (.iload 5, 2) := dk_21 5 (dk_at dksX1_leaksDay_2 7 rfl rfl)
theorem dX1_leaksDay_53 : decode cX1_leaksDay 53 = .ok (.aload_n 0, 1) := dk_42 (dk_at dksX1_leaksDay_2 9 rfl rfl)
theorem dX1_leaksDay_54 : decode cX1_leaksDay 54 = .ok (.getfield 23, 3) := dk_180 0 23 (dk_at dksX1_leaksDay_2 10 rfl rfl)
theorem dX1_leaksDay_57 : decode cX1_leaksDay 57 = .ok (.iload 4, 2) := dk_21 4 (dk_at dksX1_leaksDay_2 13 rfl rfl)
theorem dX1_leaksDay_59 : decode cX1_leaksDay 59 = .ok (.iaload, 1) := dk_46 (dk_at dksX1_leaksDay_2 15 rfl rfl)
theorem dX1_leaksDay_60 : decode cX1_leaksDay 60 = .ok (.iload 4, 2) := dk_21 4 (dk_at dksX1_leaksDay_2 16 rfl rfl)
theorem dX1_leaksDay_62 : decode cX1_leaksDay 62 = .ok (.iload_n 2, 1) := dk_28 (dk_at dksX1_leaksDay_2 18 rfl rfl)
theorem dX1_leaksDay_63 : decode cX1_leaksDay 63 = .ok (.if_icmp .ne 7, 3) := dk_160 0 7 (dk_at dksX1_leaksDay_2 19 rfl rfl)
theorem dX1_leaksDay_66 : decode cX1_leaksDay 66 = .ok (.iload_n 3, 1) := dk_29 (dk_at dksX1_leaksDay_2 22 rfl rfl)
theorem dX1_leaksDay_67 : decode cX1_leaksDay 67 = .ok (.goto 4, 3) := dk_167 0 4 (dk_at dksX1_leaksDay_3 0 rfl rfl)
theorem dX1_leaksDay_70 : decode cX1_leaksDay 70 = .ok (.iconst 0, 1) := dk_3 (dk_at dksX1_leaksDay_3 3 rfl rfl)
theorem dX1_leaksDay_71 : decode cX1_leaksDay 71 = .ok (.iadd, 1) := dk_96 (dk_at dksX1_leaksDay_3 4 rfl rfl)
theorem dX1_leaksDay_72 : decode cX1_leaksDay 72 = .ok (.invokestatic 152, 3) := dk_184 0 152 (dk_at dksX1_leaksDay_3 5 rfl rfl)
theorem dX1_leaksDay_75 : decode cX1_leaksDay 75 = .ok (.isub, 1) := dk_100 (dk_at dksX1_leaksDay_3 8 rfl rfl)
theorem dX1_leaksDay_76 : decode cX1_leaksDay 76 = .ok (.aload_n 1, 1) := dk_43 (dk_at dksX1_leaksDay_3 9 rfl rfl)
theorem dX1_leaksDay_77 : decode cX1_leaksDay 77 = .ok (.getfield 206, 3) := dk_180 0 206 (dk_at dksX1_leaksDay_3 10 rfl rfl)
theorem dX1_leaksDay_80 : decode cX1_leaksDay 80 = .ok (.iload 4, 2) := dk_21 4 (dk_at dksX1_leaksDay_3 13 rfl rfl)
theorem dX1_leaksDay_82 : decode cX1_leaksDay 82 = .ok (.iaload, 1) := dk_46 (dk_at dksX1_leaksDay_3 15 rfl rfl)
theorem dX1_leaksDay_83 : decode cX1_leaksDay 83 = .ok (.iadd, 1) := dk_96 (dk_at dksX1_leaksDay_3 16 rfl rfl)
theorem dX1_leaksDay_84 : decode cX1_leaksDay 84 = .ok (.iastore, 1) := dk_79 (dk_at dksX1_leaksDay_3 17 rfl rfl)
theorem dX1_leaksDay_85 : decode cX1_leaksDay 85 = .ok (.iinc 4 1, 3) := dk_132 4 1 (dk_at dksX1_leaksDay_3 18 rfl rfl)
theorem dX1_leaksDay_88 : decode cX1_leaksDay 88 = .ok (.goto (-85), 3) := dk_167 255 171 (dk_at dksX1_leaksDay_3 21 rfl rfl)
theorem dX1_leaksDay_91 : decode cX1_leaksDay 91 = .ok (.iconst 0, 1) := dk_3 (dk_at dksX1_leaksDay_4 0 rfl rfl)
theorem dX1_leaksDay_92 : decode cX1_leaksDay 92 = .ok (.istore 4, 2) := dk_54 4 (dk_at dksX1_leaksDay_4 1 rfl rfl)
theorem dX1_leaksDay_94 : decode cX1_leaksDay 94 = .ok (.iload 4, 2) := dk_21 4 (dk_at dksX1_leaksDay_4 3 rfl rfl)
theorem dX1_leaksDay_96 : decode cX1_leaksDay 96 = .ok (.aload_n 0, 1) := dk_42 (dk_at dksX1_leaksDay_4 5 rfl rfl)
theorem dX1_leaksDay_97 : decode cX1_leaksDay 97 = .ok (.getfield 117, 3) := dk_180 0 117 (dk_at dksX1_leaksDay_4 6 rfl rfl)
theorem dX1_leaksDay_100 : decode cX1_leaksDay 100 = .ok (.if_icmp .ge 41, 3) := dk_162 0 41 (dk_at dksX1_leaksDay_4 9 rfl rfl)
theorem dX1_leaksDay_103 : decode cX1_leaksDay 103 = .ok (.aload_n 0, 1) := dk_42 (dk_at dksX1_leaksDay_4 12 rfl rfl)
theorem dX1_leaksDay_104 : decode cX1_leaksDay 104 = .ok (.getfield 26, 3) := dk_180 0 26 (dk_at dksX1_leaksDay_4 13 rfl rfl)
theorem dX1_leaksDay_107 : decode cX1_leaksDay 107 = .ok (.iload 4, 2) := dk_21 4 (dk_at dksX1_leaksDay_4 16 rfl rfl)
theorem dX1_leaksDay_109 : decode cX1_leaksDay 109 = .ok (.iaload, 1) := dk_46 (dk_at dksX1_leaksDay_4 18 rfl rfl)
theorem dX1_leaksDay_110 : decode cX1_leaksDay 110 = .ok (.ifCond .lt 25, 3) := dk_155 0 25 (dk_at dksX1_leaksDay_4 19 rfl rfl)
theorem dX1_leaksDay_113 : decode cX1_leaksDay 113 = .ok (.aload_n 0, 1) := dk_42 (dk_at dksX1_leaksDay_4 22 rfl rfl)
theorem dX1_leaksDay_114 : decode cX1_leaksDay 114 = .ok (.getfield 57, 3) := dk_180 0 57 (dk_at dksX1_leaksDay_5 0 rfl rfl)
theorem dX1_leaksDay_117 : decode cX1_leaksDay 117 = .ok (.aload_n 0, 1) := dk_42 (dk_at dksX1_leaksDay_5 3 rfl rfl)
theorem dX1_leaksDay_118 : decode cX1_leaksDay 118 = .ok (.getfield 26, 3) := dk_180 0 26 (dk_at dksX1_leaksDay_5 4 rfl rfl)
theorem dX1_leaksDay_121 : decode cX1_leaksDay 121 = .ok (.iload 4, 2) := dk_21 4 (dk_at dksX1_leaksDay_5 7 rfl rfl)
theorem dX1_leaksDay_123 : decode cX1_leaksDay 123 = .ok (.iaload, 1) := dk_46 (dk_at dksX1_leaksDay_5 9 rfl rfl)
theorem dX1_leaksDay_124 : decode cX1_leaksDay 124 = .ok (.dup2, 1) := dk_92 (dk_at dksX1_leaksDay_5 10 rfl rfl)
theorem dX1_leaksDay_125 : decode cX1_leaksDay 125 = .ok (.iaload, 1) := dk_46 (dk_at dksX1_leaksDay_5 11 rfl rfl)
theorem dX1_leaksDay_126 : decode cX1_leaksDay 126 = .ok (.aload_n 0, 1) := dk_42 (dk_at dksX1_leaksDay_5 12 rfl rfl)
theorem dX1_leaksDay_127 : decode cX1_leaksDay 127 = .ok (.getfield 54, 3) := dk_180 0 54 (dk_at dksX1_leaksDay_5 13 rfl rfl)
theorem dX1_leaksDay_130 : decode cX1_leaksDay 130 = .ok (.iload 4, 2) := dk_21 4 (dk_at dksX1_leaksDay_5 16 rfl rfl)
theorem dX1_leaksDay_132 : decode cX1_leaksDay 132 = .ok (.iaload, 1) := dk_46 (dk_at dksX1_leaksDay_5 18 rfl rfl)
theorem dX1_leaksDay_133 : decode cX1_leaksDay 133 = .ok (.iadd, 1) := dk_96 (dk_at dksX1_leaksDay_5 19 rfl rfl)
theorem dX1_leaksDay_134 : decode cX1_leaksDay 134 = .ok (.iastore, 1) := dk_79 (dk_at dksX1_leaksDay_5 20 rfl rfl)
theorem dX1_leaksDay_135 : decode cX1_leaksDay 135 = .ok (.iinc 4 1, 3) := dk_132 4 1 (dk_at dksX1_leaksDay_5 21 rfl rfl)
theorem dX1_leaksDay_138 : decode cX1_leaksDay 138 = .ok (.goto (-44), 3) := dk_167 255 212 (dk_at dksX1_leaksDay_6 0 rfl rfl)
theorem dX1_leaksDay_141 : decode cX1_leaksDay 141 = .ok (.iconst 0, 1) := dk_3 (dk_at dksX1_leaksDay_6 3 rfl rfl)
theorem dX1_leaksDay_142 : decode cX1_leaksDay 142 = .ok (.istore 4, 2) := dk_54 4 (dk_at dksX1_leaksDay_6 4 rfl rfl)
theorem dX1_leaksDay_144 : decode cX1_leaksDay 144 = .ok (.iload 4, 2) := dk_21 4 (dk_at dksX1_leaksDay_6 6 rfl rfl)
theorem dX1_leaksDay_146 : decode cX1_leaksDay 146 = .ok (.aload_n 0, 1) := dk_42 (dk_at dksX1_leaksDay_6 8 rfl rfl)
theorem dX1_leaksDay_147 : decode cX1_leaksDay 147 = .ok (.getfield 117, 3) := dk_180 0 117 (dk_at dksX1_leaksDay_6 9 rfl rfl)
theorem dX1_leaksDay_150 : decode cX1_leaksDay 150 = .ok (.if_icmp .ge 141, 3) := dk_162 0 141 (dk_at dksX1_leaksDay_6 12 rfl rfl)
theorem dX1_leaksDay_153 : decode cX1_leaksDay 153 = .ok (.iconst 0, 1) := dk_3 (dk_at dksX1_leaksDay_6 15 rfl rfl)
theorem dX1_leaksDay_154 : decode cX1_leaksDay 154 = .ok (.aload_n 0, 1) := dk_42 (dk_at dksX1_leaksDay_6 16 rfl rfl)
theorem dX1_leaksDay_155 : decode cX1_leaksDay 155 = .ok (.getfield 57, 3) := dk_180 0 57 (dk_at dksX1_leaksDay_6 17 rfl rfl)
theorem dX1_leaksDay_158 : decode cX1_leaksDay 158 = .ok (.iload 4, 2) := dk_21 4 (dk_at dksX1_leaksDay_6 20 rfl rfl)
theorem dX1_leaksDay_160 : decode cX1_leaksDay 160 = .ok (.iaload, 1) := dk_46 (dk_at dksX1_leaksDay_6 22 rfl rfl)
theorem dX1_leaksDay_161 : decode cX1_leaksDay 161 = .ok (.aload_n 0, 1) := dk_42 (dk_at dksX1_leaksDay_6 23 rfl rfl)
theorem dX1_leaksDay_162 : decode cX1_leaksDay 162 = .ok (.getfield 19, 3) := dk_180 0 19 (dk_at dksX1_leaksDay_7 0 rfl rfl)
theorem dX1_leaksDay_165 : decode cX1_leaksDay 165 = .ok (.iload 4, 2) := dk_21 4 (dk_at dksX1_leaksDay_7 3 rfl rfl)
theorem dX1_leaksDay_167 : decode cX1_leaksDay 167 = .ok (.iaload, 1) := dk_46 (dk_at dksX1_leaksDay_7 5 rfl rfl)
theorem dX1_leaksDay_168 : decode cX1_leaksDay 168 = .ok (.isub, 1) := dk_100 (dk_at dksX1_leaksDay_7 6 rfl rfl)
theorem dX1_leaksDay_169 : decode cX1_leaksDay 169 = .ok (.invokestatic 294, 3) := dk_184 1 38 (dk_at dksX1_leaksDay_7 7 rfl rfl)
theorem dX1_leaksDay_172 : decode cX1_leaksDay 172 = .ok (.istore 5, 2) := dk_54 5 (dk_at dksX1_leaksDay_7 10 rfl rfl)
theorem dX1_leaksDay_174 : decode cX1_leaksDay 174 = .ok (.aload_n 1, 1) := dk_43 (dk_at dksX1_leaksDay_7 12 rfl rfl)
theorem dX1_leaksDay_175 : decode cX1_leaksDay 175 = .ok (.sipush 9999, 3) := dk_17 39 15 (dk_at dksX1_leaksDay_7 13 rfl rfl)
theorem dX1_leaksDay_178 : decode cX1_leaksDay 178 = .ok (.aload_n 1, 1) := dk_43 (dk_at dksX1_leaksDay_7 16 rfl rfl)
theorem dX1_leaksDay_179 : decode cX1_leaksDay 179 = .ok (.getfield 321, 3) := dk_180 1 65 (dk_at dksX1_leaksDay_7 17 rfl rfl)
theorem dX1_leaksDay_182 : decode cX1_leaksDay 182 = .ok (.iload 5, 2) := dk_21 5 (dk_at dksX1_leaksDay_7 20 rfl rfl)
theorem dX1_leaksDay_184 : decode cX1_leaksDay 184 = .ok (.iadd, 1) := dk_96 (dk_at dksX1_leaksDay_7 22 rfl rfl)
theorem dX1_leaksDay_185 : decode cX1_leaksDay 185 = .ok (.invokestatic 152, 3) := dk_184 0 152 (dk_at dksX1_leaksDay_8 0 rfl rfl)
theorem dX1_leaksDay_188 : decode cX1_leaksDay 188 = .ok (.putfield 321, 3) := dk_181 1 65 (dk_at dksX1_leaksDay_8 3 rfl rfl)
theorem dX1_leaksDay_191 : decode cX1_leaksDay 191 = .ok (.aload_n 1, 1) := dk_43 (dk_at dksX1_leaksDay_8 6 rfl rfl)
theorem dX1_leaksDay_192 : decode cX1_leaksDay 192 = .ok (.sipush 999, 3) := dk_17 3 231 (dk_at dksX1_leaksDay_8 7 rfl rfl)
theorem dX1_leaksDay_195 : decode cX1_leaksDay 195 = .ok (.aload_n 1, 1) := dk_43 (dk_at dksX1_leaksDay_8 10 rfl rfl)
theorem dX1_leaksDay_196 : decode cX1_leaksDay 196 = .ok (.getfield 324, 3) := dk_180 1 68 (dk_at dksX1_leaksDay_8 11 rfl rfl)
theorem dX1_leaksDay_199 : decode cX1_leaksDay 199 = .ok (.aload_n 1, 1) := dk_43 (dk_at dksX1_leaksDay_8 14 rfl rfl)
theorem dX1_leaksDay_200 : decode cX1_leaksDay 200 = .ok (.getfield 133, 3) := dk_180 0 133 (dk_at dksX1_leaksDay_8 15 rfl rfl)
theorem dX1_leaksDay_203 : decode cX1_leaksDay 203 = .ok (.iload 4, 2) := dk_21 4 (dk_at dksX1_leaksDay_8 18 rfl rfl)
theorem dX1_leaksDay_205 : decode cX1_leaksDay 205 = .ok (.iaload, 1) := dk_46 (dk_at dksX1_leaksDay_8 20 rfl rfl)
theorem dX1_leaksDay_206 : decode cX1_leaksDay 206 = .ok (.ifCond .le 17, 3) := dk_158 0 17 (dk_at dksX1_leaksDay_8 21 rfl rfl)
theorem dX1_leaksDay_209 : decode cX1_leaksDay 209 = .ok (.aload_n 0, 1) := dk_42 (dk_at dksX1_leaksDay_9 0 rfl rfl)
theorem dX1_leaksDay_210 : decode cX1_leaksDay 210 = .ok (.getfield 57, 3) := dk_180 0 57 (dk_at dksX1_leaksDay_9 1 rfl rfl)
theorem dX1_leaksDay_213 : decode cX1_leaksDay 213 = .ok (.iload 4, 2) := dk_21 4 (dk_at dksX1_leaksDay_9 4 rfl rfl)
theorem dX1_leaksDay_215 : decode cX1_leaksDay 215 = .ok (.iaload, 1) := dk_46 (dk_at dksX1_leaksDay_9 6 rfl rfl)
theorem dX1_leaksDay_216 : decode cX1_leaksDay 216 = .ok (.ifCond .ne 7, 3) := dk_154 0 7 (dk_at dksX1_leaksDay_9 7 rfl rfl)
theorem dX1_leaksDay_219 : decode cX1_leaksDay 219 = .ok (.iconst 1, 1) := dk_4 (dk_at dksX1_leaksDay_9 10 rfl rfl)
theorem dX1_leaksDay_220 : decode cX1_leaksDay 220 = .ok (.goto 4, 3) := dk_167 0 4 (dk_at dksX1_leaksDay_9 11 rfl rfl)
theorem dX1_leaksDay_223 : decode cX1_leaksDay 223 = .ok (.iconst 0, 1) := dk_3 (dk_at dksX1_leaksDay_9 14 rfl rfl)
theorem dX1_leaksDay_224 : decode cX1_leaksDay 224 = .ok (.iadd, 1) := dk_96 (dk_at dksX1_leaksDay_9 15 rfl rfl)
theorem dX1_leaksDay_225 : decode cX1_leaksDay 225 = .ok (.invokestatic 152, 3) := dk_184 0 152 (dk_at dksX1_leaksDay_9 16 rfl rfl)
theorem dX1_leaksDay_228 : decode cX1_leaksDay 228 = .ok (.putfield 324, 3) := dk_181 1 68 (dk_at dksX1_leaksDay_9 19 rfl rfl)
theorem dX1_leaksDay_231 : decode cX1_leaksDay 231 = .ok (.aload_n 1, 1) := dk_43 (dk_at dksX1_leaksDay_9 22 rfl rfl)
theorem dX1_leaksDay_232 : decode cX1_leaksDay 232 = .ok (.getfield 133, 3) := dk_180 0 133 (dk_at dksX1_leaksDay_10 0 rfl rfl)
theorem dX1_leaksDay_235 : decode cX1_leaksDay 235 = .ok (.iload 4, 2) := dk_21 4 (dk_at dksX1_leaksDay_10 3 rfl rfl)
theorem dX1_leaksDay_237 : decode cX1_leaksDay 237 = .ok (.aload_n 0, 1) := dk_42 (dk_at dksX1_leaksDay_10 5 rfl rfl)
theorem dX1_leaksDay_238 : decode cX1_leaksDay 238 = .ok (.getfield 57, 3) := dk_180 0 57 (dk_at dksX1_leaksDay_10 6 rfl rfl)
theorem dX1_leaksDay_241 : decode cX1_leaksDay 241 = .ok (.iload 4, 2) := dk_21 4 (dk_at dksX1_leaksDay_10 9 rfl rfl)
theorem dX1_leaksDay_243 : decode cX1_leaksDay 243 = .ok (.iaload, 1) := dk_46 (dk_at dksX1_leaksDay_10 11 rfl rfl)
theorem dX1_leaksDay_244 : decode cX1_leaksDay 244 = .ok (.iload 5, 2) := dk_21 5 (dk_at dksX1_leaksDay_10 12 rfl rfl)
theorem dX1_leaksDay_246 : decode cX1_leaksDay 246 = .ok (.isub, 1) := dk_100 (dk_at dksX1_leaksDay_10 14 rfl rfl)
theorem dX1_leaksDay_247 : decode cX1_leaksDay 247 = .ok (.iastore, 1) := dk_79 (dk_at dksX1_leaksDay_10 15 rfl rfl)
theorem dX1_leaksDay_248 : decode cX1_leaksDay 248 = .ok (.aload_n 1, 1) := dk_43 (dk_at dksX1_leaksDay_10 16 rfl rfl)
theorem dX1_leaksDay_249 : decode cX1_leaksDay 249 = .ok (.getfield 209, 3) := dk_180 0 209 (dk_at dksX1_leaksDay_10 17 rfl rfl)
theorem dX1_leaksDay_252 : decode cX1_leaksDay 252 = .ok (.iload 4, 2) := dk_21 4 (dk_at dksX1_leaksDay_10 20 rfl rfl)
theorem dX1_leaksDay_254 : decode cX1_leaksDay 254 = .ok (.bipush 9, 2) := dk_16 9 (dk_at dksX1_leaksDay_10 22 rfl rfl)
theorem dX1_leaksDay_256 : decode cX1_leaksDay 256 = .ok (.aload_n 1, 1) := dk_43 (dk_at dksX1_leaksDay_11 0 rfl rfl)
theorem dX1_leaksDay_257 : decode cX1_leaksDay 257 = .ok (.getfield 209, 3) := dk_180 0 209 (dk_at dksX1_leaksDay_11 1 rfl rfl)
theorem dX1_leaksDay_260 : decode cX1_leaksDay 260 = .ok (.iload 4, 2) := dk_21 4 (dk_at dksX1_leaksDay_11 4 rfl rfl)
theorem dX1_leaksDay_262 : decode cX1_leaksDay 262 = .ok (.iaload, 1) := dk_46 (dk_at dksX1_leaksDay_11 6 rfl rfl)
theorem dX1_leaksDay_263 : decode cX1_leaksDay 263 = .ok (.aload_n 1, 1) := dk_43 (dk_at dksX1_leaksDay_11 7 rfl rfl)
theorem dX1_leaksDay_264 : decode cX1_leaksDay 264 = .ok (.getfield 280, 3) := dk_180 1 24 (dk_at dksX1_leaksDay_11 8 rfl rfl)
theorem dX1_leaksDay_267 : decode cX1_leaksDay 267 = .ok (.iload 4, 2) := dk_21 4 (dk_at dksX1_leaksDay_11 11 rfl rfl)
theorem dX1_leaksDay_269 : decode cX1_leaksDay 269 = .ok (.invokestatic 129, 3) := dk_184 0 129 (dk_at dksX1_leaksDay_11 13 rfl rfl)
theorem dX1_leaksDay_272 : decode cX1_leaksDay 272 = .ok (.ifCond .eq 7, 3) := dk_153 0 7 (dk_at dksX1_leaksDay_11 16 rfl rfl)
theorem dX1_leaksDay_275 : decode cX1_leaksDay 275 = .ok (.iconst 1, 1) := dk_4 (dk_at dksX1_leaksDay_11 19 rfl rfl)
theorem dX1_leaksDay_276 : decode cX1_leaksDay 276 = .ok (.goto 4, 3) := dk_167 0 4 (dk_at dksX1_leaksDay_11 20 rfl rfl)
theorem dX1_leaksDay_279 : decode cX1_leaksDay 279 = .ok (.iconst 0, 1) := dk_3 (dk_at dksX1_leaksDay_11 23 rfl rfl)
theorem dX1_leaksDay_280 : decode cX1_leaksDay 280 = .ok (.iadd, 1) := dk_96 (dk_at dksX1_leaksDay_12 0 rfl rfl)
theorem dX1_leaksDay_281 : decode cX1_leaksDay 281 = .ok (.invokestatic 152, 3) := dk_184 0 152 (dk_at dksX1_leaksDay_12 1 rfl rfl)
theorem dX1_leaksDay_284 : decode cX1_leaksDay 284 = .ok (.iastore, 1) := dk_79 (dk_at dksX1_leaksDay_12 4 rfl rfl)
theorem dX1_leaksDay_285 : decode cX1_leaksDay 285 = .ok (.iinc 4 1, 3) := dk_132 4 1 (dk_at dksX1_leaksDay_12 5 rfl rfl)
theorem dX1_leaksDay_288 : decode cX1_leaksDay 288 = .ok (.goto (-144), 3) := dk_167 255 112 (dk_at dksX1_leaksDay_12 8 rfl rfl)
theorem dX1_leaksDay_291 : decode cX1_leaksDay 291 = .ok (.aload_n 1, 1) := dk_43 (dk_at dksX1_leaksDay_12 11 rfl rfl)
theorem dX1_leaksDay_292 : decode cX1_leaksDay 292 = .ok (.dup, 1) := dk_89 (dk_at dksX1_leaksDay_12 12 rfl rfl)
theorem dX1_leaksDay_293 : decode cX1_leaksDay 293 = .ok (.getfield 327, 3) := dk_180 1 71 (dk_at dksX1_leaksDay_12 13 rfl rfl)
theorem dX1_leaksDay_296 : decode cX1_leaksDay 296 = .ok (.iconst 1, 1) := dk_4 (dk_at dksX1_leaksDay_12 16 rfl rfl)
theorem dX1_leaksDay_297 : decode cX1_leaksDay 297 = .ok (.iadd, 1) := dk_96 (dk_at dksX1_leaksDay_12 17 rfl rfl)
theorem dX1_leaksDay_298 : decode cX1_leaksDay 298 = .ok (.putfield 327, 3) := dk_181 1 71 (dk_at dksX1_leaksDay_12 18 rfl rfl)
theorem dX1_leaksDay_301 : decode cX1_leaksDay 301 = .ok (.return_, 1) := dk_177 (dk_at dksX1_leaksDay_12 21 rfl rfl)
abbrev cX1_run : ByteArray := prog_1_method_31_code
def yX1_run : MethodName := ⟨RX1, "run", "(LPullThePlug$Water;I)I"⟩
def dkwX1_run_3 : List UInt8 := [184, 1, 38, 172]
abbrev dktX1_run_3 : List UInt8 := dkwX1_run_3 ++ []
def dkwX1_run_2 : List UInt8 := [167, 0, 10, 42, 180, 1, 21, 182, 1, 33, 62, 3, 43, 180, 0, 133, 28, 46, 29, 184, 0, 152]
abbrev dktX1_run_2 : List UInt8 := dkwX1_run_2 ++ dktX1_run_3
def dkwX1_run_1 : List UInt8 := [180, 1, 21, 199, 0, 23, 43, 180, 0, 133, 28, 46, 5, 96, 6, 108, 43, 180, 0, 209, 28, 46, 100]
abbrev dktX1_run_1 : List UInt8 := dkwX1_run_1 ++ dktX1_run_2
def dkwX1_run_0 : List UInt8 := [43, 180, 1, 24, 28, 184, 0, 129, 154, 0, 5, 3, 172, 42, 43, 181, 1, 27, 42, 28, 181, 1, 30, 42]
abbrev dktX1_run_0 : List UInt8 := dkwX1_run_0 ++ dktX1_run_1
theorem dksX1_run_0 : cX1_run.data.toList.drop 0 = dktX1_run_0 := by decide +kernel
theorem dksX1_run_1 : cX1_run.data.toList.drop 24 = dktX1_run_1 := dk_seg dksX1_run_0 24 rfl rfl
theorem dksX1_run_2 : cX1_run.data.toList.drop 47 = dktX1_run_2 := dk_seg dksX1_run_1 23 rfl rfl
theorem dksX1_run_3 : cX1_run.data.toList.drop 69 = dktX1_run_3 := dk_seg dksX1_run_2 22 rfl rfl
theorem dX1_run_0 : decode cX1_run 0 = .ok (.aload_n 1, 1) := dk_43 (dk_at dksX1_run_0 0 rfl rfl)
theorem dX1_run_1 : decode cX1_run 1 = .ok (.getfield 280, 3) := dk_180 1 24 (dk_at dksX1_run_0 1 rfl rfl)
theorem dX1_run_4 : decode cX1_run 4 = .ok (.iload_n 2, 1) := dk_28 (dk_at dksX1_run_0 4 rfl rfl)
theorem dX1_run_5 : decode cX1_run 5 = .ok (.invokestatic 129, 3) := dk_184 0 129 (dk_at dksX1_run_0 5 rfl rfl)
theorem dX1_run_8 : decode cX1_run 8 = .ok (.ifCond .ne 5, 3) := dk_154 0 5 (dk_at dksX1_run_0 8 rfl rfl)
theorem dX1_run_11 : decode cX1_run 11 = .ok (.iconst 0, 1) := dk_3 (dk_at dksX1_run_0 11 rfl rfl)
theorem dX1_run_12 : decode cX1_run 12 = .ok (.ireturn, 1) := dk_172 (dk_at dksX1_run_0 12 rfl rfl)
theorem dX1_run_13 : decode cX1_run 13 = .ok (.aload_n 0, 1) := dk_42 (dk_at dksX1_run_0 13 rfl rfl)
theorem dX1_run_14 : decode cX1_run 14 = .ok (.aload_n 1, 1) := dk_43 (dk_at dksX1_run_0 14 rfl rfl)
theorem dX1_run_15 : decode cX1_run 15 = .ok (.putfield 283, 3) := dk_181 1 27 (dk_at dksX1_run_0 15 rfl rfl)
theorem dX1_run_18 : decode cX1_run 18 = .ok (.aload_n 0, 1) := dk_42 (dk_at dksX1_run_0 18 rfl rfl)
theorem dX1_run_19 : decode cX1_run 19 = .ok (.iload_n 2, 1) := dk_28 (dk_at dksX1_run_0 19 rfl rfl)
theorem dX1_run_20 : decode cX1_run 20 = .ok (.putfield 286, 3) := dk_181 1 30 (dk_at dksX1_run_0 20 rfl rfl)
theorem dX1_run_23 : decode cX1_run 23 = .ok (.aload_n 0, 1) := dk_42 (dk_at dksX1_run_0 23 rfl rfl)
theorem dX1_run_24 : decode cX1_run 24 = .ok (.getfield 277, 3) := dk_180 1 21 (dk_at dksX1_run_1 0 rfl rfl)
theorem dX1_run_27 : decode cX1_run 27 = .ok (.ifnonnull 23, 3) := dk_199 0 23 (dk_at dksX1_run_1 3 rfl rfl)
theorem dX1_run_30 : decode cX1_run 30 = .ok (.aload_n 1, 1) := dk_43 (dk_at dksX1_run_1 6 rfl rfl)
theorem dX1_run_31 : decode cX1_run 31 = .ok (.getfield 133, 3) := dk_180 0 133 (dk_at dksX1_run_1 7 rfl rfl)
theorem dX1_run_34 : decode cX1_run 34 = .ok (.iload_n 2, 1) := dk_28 (dk_at dksX1_run_1 10 rfl rfl)
theorem dX1_run_35 : decode cX1_run 35 = .ok (.iaload, 1) := dk_46 (dk_at dksX1_run_1 11 rfl rfl)
theorem dX1_run_36 : decode cX1_run 36 = .ok (.iconst 2, 1) := dk_5 (dk_at dksX1_run_1 12 rfl rfl)
theorem dX1_run_37 : decode cX1_run 37 = .ok (.iadd, 1) := dk_96 (dk_at dksX1_run_1 13 rfl rfl)
theorem dX1_run_38 : decode cX1_run 38 = .ok (.iconst 3, 1) := dk_6 (dk_at dksX1_run_1 14 rfl rfl)
theorem dX1_run_39 : decode cX1_run 39 = .ok (.idiv, 1) := dk_108 (dk_at dksX1_run_1 15 rfl rfl)
theorem dX1_run_40 : decode cX1_run 40 = .ok (.aload_n 1, 1) := dk_43 (dk_at dksX1_run_1 16 rfl rfl)
theorem dX1_run_41 : decode cX1_run 41 = .ok (.getfield 209, 3) := dk_180 0 209 (dk_at dksX1_run_1 17 rfl rfl)
theorem dX1_run_44 : decode cX1_run 44 = .ok (.iload_n 2, 1) := dk_28 (dk_at dksX1_run_1 20 rfl rfl)
theorem dX1_run_45 : decode cX1_run 45 = .ok (.iaload, 1) := dk_46 (dk_at dksX1_run_1 21 rfl rfl)
theorem dX1_run_46 : decode cX1_run 46 = .ok (.isub, 1) := dk_100 (dk_at dksX1_run_1 22 rfl rfl)
theorem dX1_run_47 : decode cX1_run 47 = .ok (.goto 10, 3) := dk_167 0 10 (dk_at dksX1_run_2 0 rfl rfl)
theorem dX1_run_50 : decode cX1_run 50 = .ok (.aload_n 0, 1) := dk_42 (dk_at dksX1_run_2 3 rfl rfl)
theorem dX1_run_51 : decode cX1_run 51 = .ok (.getfield 277, 3) := dk_180 1 21 (dk_at dksX1_run_2 4 rfl rfl)
theorem dX1_run_54 : decode cX1_run 54 = .ok (.invokevirtual 289, 3) := dk_182 1 33 (dk_at dksX1_run_2 7 rfl rfl)
theorem dX1_run_57 : decode cX1_run 57 = .ok (.istore_n 3, 1) := dk_62 (dk_at dksX1_run_2 10 rfl rfl)
theorem dX1_run_58 : decode cX1_run 58 = .ok (.iconst 0, 1) := dk_3 (dk_at dksX1_run_2 11 rfl rfl)
theorem dX1_run_59 : decode cX1_run 59 = .ok (.aload_n 1, 1) := dk_43 (dk_at dksX1_run_2 12 rfl rfl)
theorem dX1_run_60 : decode cX1_run 60 = .ok (.getfield 133, 3) := dk_180 0 133 (dk_at dksX1_run_2 13 rfl rfl)
theorem dX1_run_63 : decode cX1_run 63 = .ok (.iload_n 2, 1) := dk_28 (dk_at dksX1_run_2 16 rfl rfl)
theorem dX1_run_64 : decode cX1_run 64 = .ok (.iaload, 1) := dk_46 (dk_at dksX1_run_2 17 rfl rfl)
theorem dX1_run_65 : decode cX1_run 65 = .ok (.iload_n 3, 1) := dk_29 (dk_at dksX1_run_2 18 rfl rfl)
theorem dX1_run_66 : decode cX1_run 66 = .ok (.invokestatic 152, 3) := dk_184 0 152 (dk_at dksX1_run_2 19 rfl rfl)
theorem dX1_run_69 : decode cX1_run 69 = .ok (.invokestatic 294, 3) := dk_184 1 38 (dk_at dksX1_run_3 0 rfl rfl)
theorem dX1_run_72 : decode cX1_run 72 = .ok (.ireturn, 1) := dk_172 (dk_at dksX1_run_3 3 rfl rfl)
abbrev cX1_tells : ByteArray := prog_1_method_104_code
def yX1_tells : MethodName := ⟨RX1, "tells", "(J)V"⟩
def dkwX1_tells_0 : List UInt8 := [42, 180, 0, 110, 42, 180, 1, 94, 31, 80, 42, 89, 180, 1, 94, 4, 96, 181, 1, 94, 177]
abbrev dktX1_tells_0 : List UInt8 := dkwX1_tells_0 ++ []
theorem dksX1_tells_0 : cX1_tells.data.toList.drop 0 = dktX1_tells_0 := by decide +kernel
theorem dX1_tells_0 : decode cX1_tells 0 = .ok (.aload_n 0, 1) := dk_42 (dk_at dksX1_tells_0 0 rfl rfl)
theorem dX1_tells_1 : decode cX1_tells 1 = .ok (.getfield 110, 3) := dk_180 0 110 (dk_at dksX1_tells_0 1 rfl rfl)
theorem dX1_tells_4 : decode cX1_tells 4 = .ok (.aload_n 0, 1) := dk_42 (dk_at dksX1_tells_0 4 rfl rfl)
theorem dX1_tells_5 : decode cX1_tells 5 = .ok (.getfield 350, 3) := dk_180 1 94 (dk_at dksX1_tells_0 5 rfl rfl)
theorem dX1_tells_8 : decode cX1_tells 8 = .ok (.lload_n 1, 1) := dk_31 (dk_at dksX1_tells_0 8 rfl rfl)
theorem dX1_tells_9 : decode cX1_tells 9 = .ok (.lastore, 1) := dk_80 (dk_at dksX1_tells_0 9 rfl rfl)
theorem dX1_tells_10 : decode cX1_tells 10 = .ok (.aload_n 0, 1) := dk_42 (dk_at dksX1_tells_0 10 rfl rfl)
theorem dX1_tells_11 : decode cX1_tells 11 = .ok (.dup, 1) := dk_89 (dk_at dksX1_tells_0 11 rfl rfl)
theorem dX1_tells_12 : decode cX1_tells 12 = .ok (.getfield 350, 3) := dk_180 1 94 (dk_at dksX1_tells_0 12 rfl rfl)
theorem dX1_tells_15 : decode cX1_tells 15 = .ok (.iconst 1, 1) := dk_4 (dk_at dksX1_tells_0 15 rfl rfl)
theorem dX1_tells_16 : decode cX1_tells 16 = .ok (.iadd, 1) := dk_96 (dk_at dksX1_tells_0 16 rfl rfl)
theorem dX1_tells_17 : decode cX1_tells 17 = .ok (.putfield 350, 3) := dk_181 1 94 (dk_at dksX1_tells_0 17 rfl rfl)
theorem dX1_tells_20 : decode cX1_tells 20 = .ok (.return_, 1) := dk_177 (dk_at dksX1_tells_0 20 rfl rfl)
abbrev cX1_pulls : ByteArray := prog_1_method_45_code
def yX1_pulls : MethodName := ⟨RX1, "pulls", "(I)I"⟩
def dkwX1_pulls_1 : List UInt8 := [182, 1, 105, 172]
abbrev dktX1_pulls_1 : List UInt8 := dkwX1_pulls_1 ++ []
def dkwX1_pulls_0 : List UInt8 := [42, 180, 0, 51, 42, 180, 0, 12, 182, 1, 58, 42, 42, 42, 180, 0, 12, 27, 4, 182, 1, 101]
abbrev dktX1_pulls_0 : List UInt8 := dkwX1_pulls_0 ++ dktX1_pulls_1
theorem dksX1_pulls_0 : cX1_pulls.data.toList.drop 0 = dktX1_pulls_0 := by decide +kernel
theorem dksX1_pulls_1 : cX1_pulls.data.toList.drop 22 = dktX1_pulls_1 := dk_seg dksX1_pulls_0 22 rfl rfl
theorem dX1_pulls_0 : decode cX1_pulls 0 = .ok (.aload_n 0, 1) := dk_42 (dk_at dksX1_pulls_0 0 rfl rfl)
theorem dX1_pulls_1 : decode cX1_pulls 1 = .ok (.getfield 51, 3) := dk_180 0 51 (dk_at dksX1_pulls_0 1 rfl rfl)
theorem dX1_pulls_4 : decode cX1_pulls 4 = .ok (.aload_n 0, 1) := dk_42 (dk_at dksX1_pulls_0 4 rfl rfl)
theorem dX1_pulls_5 : decode cX1_pulls 5 = .ok (.getfield 12, 3) := dk_180 0 12 (dk_at dksX1_pulls_0 5 rfl rfl)
theorem dX1_pulls_8 : decode cX1_pulls 8 = .ok (.invokevirtual 314, 3) := dk_182 1 58 (dk_at dksX1_pulls_0 8 rfl rfl)
theorem dX1_pulls_11 : decode cX1_pulls 11 = .ok (.aload_n 0, 1) := dk_42 (dk_at dksX1_pulls_0 11 rfl rfl)
theorem dX1_pulls_12 : decode cX1_pulls 12 = .ok (.aload_n 0, 1) := dk_42 (dk_at dksX1_pulls_0 12 rfl rfl)
theorem dX1_pulls_13 : decode cX1_pulls 13 = .ok (.aload_n 0, 1) := dk_42 (dk_at dksX1_pulls_0 13 rfl rfl)
theorem dX1_pulls_14 : decode cX1_pulls 14 = .ok (.getfield 12, 3) := dk_180 0 12 (dk_at dksX1_pulls_0 14 rfl rfl)
theorem dX1_pulls_17 : decode cX1_pulls 17 = .ok (.iload_n 1, 1) := dk_27 (dk_at dksX1_pulls_0 17 rfl rfl)
theorem dX1_pulls_18 : decode cX1_pulls 18 = .ok (.iconst 1, 1) := dk_4 (dk_at dksX1_pulls_0 18 rfl rfl)
theorem dX1_pulls_19 : decode cX1_pulls 19 = .ok (.invokevirtual 357, 3) := dk_182 1 101 (dk_at dksX1_pulls_0 19 rfl rfl)
theorem dX1_pulls_22 : decode cX1_pulls 22 = .ok (.invokevirtual 361, 3) := dk_182 1 105 (dk_at dksX1_pulls_1 0 rfl rfl)
theorem dX1_pulls_25 : decode cX1_pulls 25 = .ok (.ireturn, 1) := dk_172 (dk_at dksX1_pulls_1 3 rfl rfl)
abbrev cX1_touches : ByteArray := prog_1_method_40_code
def yX1_touches : MethodName := ⟨RX1, "touches", "(LPullThePlug$Water;IZ)I"⟩
def dkwX1_touches_1 : List UInt8 := [172, 43, 89, 180, 1, 24, 4, 28, 120, 130, 181, 1, 24, 43, 180, 1, 24, 184, 1, 81, 172]
abbrev dktX1_touches_1 : List UInt8 := dkwX1_touches_1 ++ []
def dkwX1_touches_0 : List UInt8 := [42, 28, 182, 1, 41, 154, 0, 5, 2, 172, 43, 180, 1, 24, 28, 184, 0, 129, 29, 160, 0, 6, 16, 254]
abbrev dktX1_touches_0 : List UInt8 := dkwX1_touches_0 ++ dktX1_touches_1
theorem dksX1_touches_0 : cX1_touches.data.toList.drop 0 = dktX1_touches_0 := by decide +kernel
theorem dksX1_touches_1 : cX1_touches.data.toList.drop 24 = dktX1_touches_1 := dk_seg dksX1_touches_0 24 rfl rfl
theorem dX1_touches_0 : decode cX1_touches 0 = .ok (.aload_n 0, 1) := dk_42 (dk_at dksX1_touches_0 0 rfl rfl)
theorem dX1_touches_1 : decode cX1_touches 1 = .ok (.iload_n 2, 1) := dk_28 (dk_at dksX1_touches_0 1 rfl rfl)
theorem dX1_touches_2 : decode cX1_touches 2 = .ok (.invokevirtual 297, 3) := dk_182 1 41 (dk_at dksX1_touches_0 2 rfl rfl)
theorem dX1_touches_5 : decode cX1_touches 5 = .ok (.ifCond .ne 5, 3) := dk_154 0 5 (dk_at dksX1_touches_0 5 rfl rfl)
theorem dX1_touches_8 : decode cX1_touches 8 = .ok (.iconst (-1), 1) := dk_2 (dk_at dksX1_touches_0 8 rfl rfl)
theorem dX1_touches_9 : decode cX1_touches 9 = .ok (.ireturn, 1) := dk_172 (dk_at dksX1_touches_0 9 rfl rfl)
theorem dX1_touches_10 : decode cX1_touches 10 = .ok (.aload_n 1, 1) := dk_43 (dk_at dksX1_touches_0 10 rfl rfl)
theorem dX1_touches_11 : decode cX1_touches 11 = .ok (.getfield 280, 3) := dk_180 1 24 (dk_at dksX1_touches_0 11 rfl rfl)
theorem dX1_touches_14 : decode cX1_touches 14 = .ok (.iload_n 2, 1) := dk_28 (dk_at dksX1_touches_0 14 rfl rfl)
theorem dX1_touches_15 : decode cX1_touches 15 = .ok (.invokestatic 129, 3) := dk_184 0 129 (dk_at dksX1_touches_0 15 rfl rfl)
theorem dX1_touches_18 : decode cX1_touches 18 = .ok (.iload_n 3, 1) := dk_29 (dk_at dksX1_touches_0 18 rfl rfl)
theorem dX1_touches_19 : decode cX1_touches 19 = .ok (.if_icmp .ne 6, 3) := dk_160 0 6 (dk_at dksX1_touches_0 19 rfl rfl)
theorem dX1_touches_22 : decode cX1_touches 22 = .ok (.bipush (-2), 2) := dk_16 254 (dk_at dksX1_touches_0 22 rfl rfl)
theorem dX1_touches_24 : decode cX1_touches 24 = .ok (.ireturn, 1) := dk_172 (dk_at dksX1_touches_1 0 rfl rfl)
theorem dX1_touches_25 : decode cX1_touches 25 = .ok (.aload_n 1, 1) := dk_43 (dk_at dksX1_touches_1 1 rfl rfl)
theorem dX1_touches_26 : decode cX1_touches 26 = .ok (.dup, 1) := dk_89 (dk_at dksX1_touches_1 2 rfl rfl)
theorem dX1_touches_27 : decode cX1_touches 27 = .ok (.getfield 280, 3) := dk_180 1 24 (dk_at dksX1_touches_1 3 rfl rfl)
theorem dX1_touches_30 : decode cX1_touches 30 = .ok (.iconst 1, 1) := dk_4 (dk_at dksX1_touches_1 6 rfl rfl)
theorem dX1_touches_31 : decode cX1_touches 31 = .ok (.iload_n 2, 1) := dk_28 (dk_at dksX1_touches_1 7 rfl rfl)
theorem dX1_touches_32 : decode cX1_touches 32 = .ok (.ishl, 1) := dk_120 (dk_at dksX1_touches_1 8 rfl rfl)
theorem dX1_touches_33 : decode cX1_touches 33 = .ok (.ixor, 1) := dk_130 (dk_at dksX1_touches_1 9 rfl rfl)
theorem dX1_touches_34 : decode cX1_touches 34 = .ok (.putfield 280, 3) := dk_181 1 24 (dk_at dksX1_touches_1 10 rfl rfl)
theorem dX1_touches_37 : decode cX1_touches 37 = .ok (.aload_n 1, 1) := dk_43 (dk_at dksX1_touches_1 13 rfl rfl)
theorem dX1_touches_38 : decode cX1_touches 38 = .ok (.getfield 280, 3) := dk_180 1 24 (dk_at dksX1_touches_1 14 rfl rfl)
theorem dX1_touches_41 : decode cX1_touches 41 = .ok (.invokestatic 337, 3) := dk_184 1 81 (dk_at dksX1_touches_1 17 rfl rfl)
theorem dX1_touches_44 : decode cX1_touches 44 = .ok (.ireturn, 1) := dk_172 (dk_at dksX1_touches_1 20 rfl rfl)
abbrev cX1_isLake : ByteArray := prog_1_method_5_code
def yX1_isLake : MethodName := ⟨RX1, "isLake", "(I)Z"⟩
def dkwX1_isLake_0 : List UInt8 := [27, 133, 9, 42, 180, 0, 117, 4, 100, 133, 184, 0, 121, 172]
abbrev dktX1_isLake_0 : List UInt8 := dkwX1_isLake_0 ++ []
theorem dksX1_isLake_0 : cX1_isLake.data.toList.drop 0 = dktX1_isLake_0 := by decide +kernel
theorem dX1_isLake_0 : decode cX1_isLake 0 = .ok (.iload_n 1, 1) := dk_27 (dk_at dksX1_isLake_0 0 rfl rfl)
theorem dX1_isLake_1 : decode cX1_isLake 1 = .ok (.i2l, 1) := dk_133 (dk_at dksX1_isLake_0 1 rfl rfl)
theorem dX1_isLake_2 : decode cX1_isLake 2 = .ok (.lconst 0, 1) := dk_9 (dk_at dksX1_isLake_0 2 rfl rfl)
theorem dX1_isLake_3 : decode cX1_isLake 3 = .ok (.aload_n 0, 1) := dk_42 (dk_at dksX1_isLake_0 3 rfl rfl)
theorem dX1_isLake_4 : decode cX1_isLake 4 = .ok (.getfield 117, 3) := dk_180 0 117 (dk_at dksX1_isLake_0 4 rfl rfl)
theorem dX1_isLake_7 : decode cX1_isLake 7 = .ok (.iconst 1, 1) := dk_4 (dk_at dksX1_isLake_0 7 rfl rfl)
theorem dX1_isLake_8 : decode cX1_isLake 8 = .ok (.isub, 1) := dk_100 (dk_at dksX1_isLake_0 8 rfl rfl)
theorem dX1_isLake_9 : decode cX1_isLake 9 = .ok (.i2l, 1) := dk_133 (dk_at dksX1_isLake_0 9 rfl rfl)
theorem dX1_isLake_10 : decode cX1_isLake 10 = .ok (.invokestatic 121, 3) := dk_184 0 121 (dk_at dksX1_isLake_0 10 rfl rfl)
theorem dX1_isLake_13 : decode cX1_isLake 13 = .ok (.ireturn, 1) := dk_172 (dk_at dksX1_isLake_0 13 rfl rfl)
abbrev cX1_counts : ByteArray := prog_1_method_36_code
def yX1_counts : MethodName := ⟨RX1, "counts", "(I)I"⟩
def dkwX1_counts_0 : List UInt8 := [27, 155, 0, 11, 42, 42, 180, 0, 51, 182, 1, 62, 27, 172]
abbrev dktX1_counts_0 : List UInt8 := dkwX1_counts_0 ++ []
theorem dksX1_counts_0 : cX1_counts.data.toList.drop 0 = dktX1_counts_0 := by decide +kernel
theorem dX1_counts_0 : decode cX1_counts 0 = .ok (.iload_n 1, 1) := dk_27 (dk_at dksX1_counts_0 0 rfl rfl)
theorem dX1_counts_1 : decode cX1_counts 1 = .ok (.ifCond .lt 11, 3) := dk_155 0 11 (dk_at dksX1_counts_0 1 rfl rfl)
theorem dX1_counts_4 : decode cX1_counts 4 = .ok (.aload_n 0, 1) := dk_42 (dk_at dksX1_counts_0 4 rfl rfl)
theorem dX1_counts_5 : decode cX1_counts 5 = .ok (.aload_n 0, 1) := dk_42 (dk_at dksX1_counts_0 5 rfl rfl)
theorem dX1_counts_6 : decode cX1_counts 6 = .ok (.getfield 51, 3) := dk_180 0 51 (dk_at dksX1_counts_0 6 rfl rfl)
theorem dX1_counts_9 : decode cX1_counts 9 = .ok (.invokevirtual 318, 3) := dk_182 1 62 (dk_at dksX1_counts_0 9 rfl rfl)
theorem dX1_counts_12 : decode cX1_counts 12 = .ok (.iload_n 1, 1) := dk_27 (dk_at dksX1_counts_0 12 rfl rfl)
theorem dX1_counts_13 : decode cX1_counts 13 = .ok (.ireturn, 1) := dk_172 (dk_at dksX1_counts_0 13 rfl rfl)
abbrev cX1_stops : ByteArray := prog_1_method_46_code
def yX1_stops : MethodName := ⟨RX1, "stops", "(I)I"⟩
def dkwX1_stops_1 : List UInt8 := [182, 1, 105, 172]
abbrev dktX1_stops_1 : List UInt8 := dkwX1_stops_1 ++ []
def dkwX1_stops_0 : List UInt8 := [42, 180, 0, 51, 42, 180, 0, 12, 182, 1, 58, 42, 42, 42, 180, 0, 12, 27, 3, 182, 1, 101]
abbrev dktX1_stops_0 : List UInt8 := dkwX1_stops_0 ++ dktX1_stops_1
theorem dksX1_stops_0 : cX1_stops.data.toList.drop 0 = dktX1_stops_0 := by decide +kernel
theorem dksX1_stops_1 : cX1_stops.data.toList.drop 22 = dktX1_stops_1 := dk_seg dksX1_stops_0 22 rfl rfl
theorem dX1_stops_0 : decode cX1_stops 0 = .ok (.aload_n 0, 1) := dk_42 (dk_at dksX1_stops_0 0 rfl rfl)
theorem dX1_stops_1 : decode cX1_stops 1 = .ok (.getfield 51, 3) := dk_180 0 51 (dk_at dksX1_stops_0 1 rfl rfl)
theorem dX1_stops_4 : decode cX1_stops 4 = .ok (.aload_n 0, 1) := dk_42 (dk_at dksX1_stops_0 4 rfl rfl)
theorem dX1_stops_5 : decode cX1_stops 5 = .ok (.getfield 12, 3) := dk_180 0 12 (dk_at dksX1_stops_0 5 rfl rfl)
theorem dX1_stops_8 : decode cX1_stops 8 = .ok (.invokevirtual 314, 3) := dk_182 1 58 (dk_at dksX1_stops_0 8 rfl rfl)
theorem dX1_stops_11 : decode cX1_stops 11 = .ok (.aload_n 0, 1) := dk_42 (dk_at dksX1_stops_0 11 rfl rfl)
theorem dX1_stops_12 : decode cX1_stops 12 = .ok (.aload_n 0, 1) := dk_42 (dk_at dksX1_stops_0 12 rfl rfl)
theorem dX1_stops_13 : decode cX1_stops 13 = .ok (.aload_n 0, 1) := dk_42 (dk_at dksX1_stops_0 13 rfl rfl)
theorem dX1_stops_14 : decode cX1_stops 14 = .ok (.getfield 12, 3) := dk_180 0 12 (dk_at dksX1_stops_0 14 rfl rfl)
theorem dX1_stops_17 : decode cX1_stops 17 = .ok (.iload_n 1, 1) := dk_27 (dk_at dksX1_stops_0 17 rfl rfl)
theorem dX1_stops_18 : decode cX1_stops 18 = .ok (.iconst 0, 1) := dk_3 (dk_at dksX1_stops_0 18 rfl rfl)
theorem dX1_stops_19 : decode cX1_stops 19 = .ok (.invokevirtual 357, 3) := dk_182 1 101 (dk_at dksX1_stops_0 19 rfl rfl)
theorem dX1_stops_22 : decode cX1_stops 22 = .ok (.invokevirtual 361, 3) := dk_182 1 105 (dk_at dksX1_stops_1 0 rfl rfl)
theorem dX1_stops_25 : decode cX1_stops 25 = .ok (.ireturn, 1) := dk_172 (dk_at dksX1_stops_1 3 rfl rfl)
abbrev cX1_combs : ByteArray := prog_1_method_47_code
def yX1_combs : MethodName := ⟨RX1, "combs", "(I)I"⟩
def dkwX1_combs_1 : List UInt8 := [172]
abbrev dktX1_combs_1 : List UInt8 := dkwX1_combs_1 ++ []
def dkwX1_combs_0 : List UInt8 := [42, 180, 0, 51, 42, 180, 0, 12, 182, 1, 58, 42, 42, 42, 180, 0, 12, 27, 182, 1, 108, 182, 1, 105]
abbrev dktX1_combs_0 : List UInt8 := dkwX1_combs_0 ++ dktX1_combs_1
theorem dksX1_combs_0 : cX1_combs.data.toList.drop 0 = dktX1_combs_0 := by decide +kernel
theorem dksX1_combs_1 : cX1_combs.data.toList.drop 24 = dktX1_combs_1 := dk_seg dksX1_combs_0 24 rfl rfl
theorem dX1_combs_0 : decode cX1_combs 0 = .ok (.aload_n 0, 1) := dk_42 (dk_at dksX1_combs_0 0 rfl rfl)
theorem dX1_combs_1 : decode cX1_combs 1 = .ok (.getfield 51, 3) := dk_180 0 51 (dk_at dksX1_combs_0 1 rfl rfl)
theorem dX1_combs_4 : decode cX1_combs 4 = .ok (.aload_n 0, 1) := dk_42 (dk_at dksX1_combs_0 4 rfl rfl)
theorem dX1_combs_5 : decode cX1_combs 5 = .ok (.getfield 12, 3) := dk_180 0 12 (dk_at dksX1_combs_0 5 rfl rfl)
theorem dX1_combs_8 : decode cX1_combs 8 = .ok (.invokevirtual 314, 3) := dk_182 1 58 (dk_at dksX1_combs_0 8 rfl rfl)
theorem dX1_combs_11 : decode cX1_combs 11 = .ok (.aload_n 0, 1) := dk_42 (dk_at dksX1_combs_0 11 rfl rfl)
theorem dX1_combs_12 : decode cX1_combs 12 = .ok (.aload_n 0, 1) := dk_42 (dk_at dksX1_combs_0 12 rfl rfl)
theorem dX1_combs_13 : decode cX1_combs 13 = .ok (.aload_n 0, 1) := dk_42 (dk_at dksX1_combs_0 13 rfl rfl)
theorem dX1_combs_14 : decode cX1_combs 14 = .ok (.getfield 12, 3) := dk_180 0 12 (dk_at dksX1_combs_0 14 rfl rfl)
theorem dX1_combs_17 : decode cX1_combs 17 = .ok (.iload_n 1, 1) := dk_27 (dk_at dksX1_combs_0 17 rfl rfl)
theorem dX1_combs_18 : decode cX1_combs 18 = .ok (.invokevirtual 364, 3) := dk_182 1 108 (dk_at dksX1_combs_0 18 rfl rfl)
theorem dX1_combs_21 : decode cX1_combs 21 = .ok (.invokevirtual 361, 3) := dk_182 1 105 (dk_at dksX1_combs_0 21 rfl rfl)
theorem dX1_combs_24 : decode cX1_combs 24 = .ok (.ireturn, 1) := dk_172 (dk_at dksX1_combs_1 0 rfl rfl)
abbrev cX1_combsOne : ByteArray := prog_1_method_41_code
def yX1_combsOne : MethodName := ⟨RX1, "combsOne", "(LPullThePlug$Water;I)I"⟩
def dkwX1_combsOne_1 : List UInt8 := [29, 154, 0, 8, 16, 254, 167, 0, 4, 29, 172]
abbrev dktX1_combsOne_1 : List UInt8 := dkwX1_combsOne_1 ++ []
def dkwX1_combsOne_0 : List UInt8 := [42, 28, 182, 1, 41, 154, 0, 5, 2, 172, 43, 180, 0, 209, 28, 46, 62, 43, 180, 0, 209, 28, 3, 79]
abbrev dktX1_combsOne_0 : List UInt8 := dkwX1_combsOne_0 ++ dktX1_combsOne_1
theorem dksX1_combsOne_0 : cX1_combsOne.data.toList.drop 0 = dktX1_combsOne_0 := by decide +kernel
theorem dksX1_combsOne_1 : cX1_combsOne.data.toList.drop 24 = dktX1_combsOne_1 := dk_seg dksX1_combsOne_0 24 rfl rfl
theorem dX1_combsOne_0 : decode cX1_combsOne 0 = .ok (.aload_n 0, 1) := dk_42 (dk_at dksX1_combsOne_0 0 rfl rfl)
theorem dX1_combsOne_1 : decode cX1_combsOne 1 = .ok (.iload_n 2, 1) := dk_28 (dk_at dksX1_combsOne_0 1 rfl rfl)
theorem dX1_combsOne_2 : decode cX1_combsOne 2 = .ok (.invokevirtual 297, 3) := dk_182 1 41 (dk_at dksX1_combsOne_0 2 rfl rfl)
theorem dX1_combsOne_5 : decode cX1_combsOne 5 = .ok (.ifCond .ne 5, 3) := dk_154 0 5 (dk_at dksX1_combsOne_0 5 rfl rfl)
theorem dX1_combsOne_8 : decode cX1_combsOne 8 = .ok (.iconst (-1), 1) := dk_2 (dk_at dksX1_combsOne_0 8 rfl rfl)
theorem dX1_combsOne_9 : decode cX1_combsOne 9 = .ok (.ireturn, 1) := dk_172 (dk_at dksX1_combsOne_0 9 rfl rfl)
theorem dX1_combsOne_10 : decode cX1_combsOne 10 = .ok (.aload_n 1, 1) := dk_43 (dk_at dksX1_combsOne_0 10 rfl rfl)
theorem dX1_combsOne_11 : decode cX1_combsOne 11 = .ok (.getfield 209, 3) := dk_180 0 209 (dk_at dksX1_combsOne_0 11 rfl rfl)
theorem dX1_combsOne_14 : decode cX1_combsOne 14 = .ok (.iload_n 2, 1) := dk_28 (dk_at dksX1_combsOne_0 14 rfl rfl)
theorem dX1_combsOne_15 : decode cX1_combsOne 15 = .ok (.iaload, 1) := dk_46 (dk_at dksX1_combsOne_0 15 rfl rfl)
theorem dX1_combsOne_16 : decode cX1_combsOne 16 = .ok (.istore_n 3, 1) := dk_62 (dk_at dksX1_combsOne_0 16 rfl rfl)
theorem dX1_combsOne_17 : decode cX1_combsOne 17 = .ok (.aload_n 1, 1) := dk_43 (dk_at dksX1_combsOne_0 17 rfl rfl)
theorem dX1_combsOne_18 : decode cX1_combsOne 18 = .ok (.getfield 209, 3) := dk_180 0 209 (dk_at dksX1_combsOne_0 18 rfl rfl)
theorem dX1_combsOne_21 : decode cX1_combsOne 21 = .ok (.iload_n 2, 1) := dk_28 (dk_at dksX1_combsOne_0 21 rfl rfl)
theorem dX1_combsOne_22 : decode cX1_combsOne 22 = .ok (.iconst 0, 1) := dk_3 (dk_at dksX1_combsOne_0 22 rfl rfl)
theorem dX1_combsOne_23 : decode cX1_combsOne 23 = .ok (.iastore, 1) := dk_79 (dk_at dksX1_combsOne_0 23 rfl rfl)
theorem dX1_combsOne_24 : decode cX1_combsOne 24 = .ok (.iload_n 3, 1) := dk_29 (dk_at dksX1_combsOne_1 0 rfl rfl)
theorem dX1_combsOne_25 : decode cX1_combsOne 25 = .ok (.ifCond .ne 8, 3) := dk_154 0 8 (dk_at dksX1_combsOne_1 1 rfl rfl)
theorem dX1_combsOne_28 : decode cX1_combsOne 28 = .ok (.bipush (-2), 2) := dk_16 254 (dk_at dksX1_combsOne_1 4 rfl rfl)
theorem dX1_combsOne_30 : decode cX1_combsOne 30 = .ok (.goto 4, 3) := dk_167 0 4 (dk_at dksX1_combsOne_1 6 rfl rfl)
theorem dX1_combsOne_33 : decode cX1_combsOne 33 = .ok (.iload_n 3, 1) := dk_29 (dk_at dksX1_combsOne_1 9 rfl rfl)
theorem dX1_combsOne_34 : decode cX1_combsOne 34 = .ok (.ireturn, 1) := dk_172 (dk_at dksX1_combsOne_1 10 rfl rfl)
abbrev cX1_taps : ByteArray := prog_1_method_48_code
def yX1_taps : MethodName := ⟨RX1, "taps", "(II)I"⟩
def dkwX1_taps_1 : List UInt8 := [182, 1, 105, 172]
abbrev dktX1_taps_1 : List UInt8 := dkwX1_taps_1 ++ []
def dkwX1_taps_0 : List UInt8 := [42, 180, 0, 51, 42, 180, 0, 12, 182, 1, 58, 42, 42, 42, 180, 0, 12, 27, 28, 182, 1, 111]
abbrev dktX1_taps_0 : List UInt8 := dkwX1_taps_0 ++ dktX1_taps_1
theorem dksX1_taps_0 : cX1_taps.data.toList.drop 0 = dktX1_taps_0 := by decide +kernel
theorem dksX1_taps_1 : cX1_taps.data.toList.drop 22 = dktX1_taps_1 := dk_seg dksX1_taps_0 22 rfl rfl
theorem dX1_taps_0 : decode cX1_taps 0 = .ok (.aload_n 0, 1) := dk_42 (dk_at dksX1_taps_0 0 rfl rfl)
theorem dX1_taps_1 : decode cX1_taps 1 = .ok (.getfield 51, 3) := dk_180 0 51 (dk_at dksX1_taps_0 1 rfl rfl)
theorem dX1_taps_4 : decode cX1_taps 4 = .ok (.aload_n 0, 1) := dk_42 (dk_at dksX1_taps_0 4 rfl rfl)
theorem dX1_taps_5 : decode cX1_taps 5 = .ok (.getfield 12, 3) := dk_180 0 12 (dk_at dksX1_taps_0 5 rfl rfl)
theorem dX1_taps_8 : decode cX1_taps 8 = .ok (.invokevirtual 314, 3) := dk_182 1 58 (dk_at dksX1_taps_0 8 rfl rfl)
theorem dX1_taps_11 : decode cX1_taps 11 = .ok (.aload_n 0, 1) := dk_42 (dk_at dksX1_taps_0 11 rfl rfl)
theorem dX1_taps_12 : decode cX1_taps 12 = .ok (.aload_n 0, 1) := dk_42 (dk_at dksX1_taps_0 12 rfl rfl)
theorem dX1_taps_13 : decode cX1_taps 13 = .ok (.aload_n 0, 1) := dk_42 (dk_at dksX1_taps_0 13 rfl rfl)
theorem dX1_taps_14 : decode cX1_taps 14 = .ok (.getfield 12, 3) := dk_180 0 12 (dk_at dksX1_taps_0 14 rfl rfl)
theorem dX1_taps_17 : decode cX1_taps 17 = .ok (.iload_n 1, 1) := dk_27 (dk_at dksX1_taps_0 17 rfl rfl)
theorem dX1_taps_18 : decode cX1_taps 18 = .ok (.iload_n 2, 1) := dk_28 (dk_at dksX1_taps_0 18 rfl rfl)
theorem dX1_taps_19 : decode cX1_taps 19 = .ok (.invokevirtual 367, 3) := dk_182 1 111 (dk_at dksX1_taps_0 19 rfl rfl)
theorem dX1_taps_22 : decode cX1_taps 22 = .ok (.invokevirtual 361, 3) := dk_182 1 105 (dk_at dksX1_taps_1 0 rfl rfl)
theorem dX1_taps_25 : decode cX1_taps 25 = .ok (.ireturn, 1) := dk_172 (dk_at dksX1_taps_1 3 rfl rfl)
abbrev cX1_tapsOne : ByteArray := prog_1_method_42_code
def yX1_tapsOne : MethodName := ⟨RX1, "tapsOne", "(LPullThePlug$Water;II)I"⟩
def dkwX1_tapsOne_2 : List UInt8 := [167, 0, 8, 16, 10, 21, 4, 96, 172]
abbrev dktX1_tapsOne_2 : List UInt8 := dkwX1_tapsOne_2 ++ []
def dkwX1_tapsOne_1 : List UInt8 := [180, 0, 206, 28, 46, 54, 4, 43, 180, 0, 206, 28, 29, 79, 21, 4, 29, 160, 0, 8, 16, 254]
abbrev dktX1_tapsOne_1 : List UInt8 := dkwX1_tapsOne_1 ++ dktX1_tapsOne_2
def dkwX1_tapsOne_0 : List UInt8 := [42, 28, 182, 1, 41, 153, 0, 15, 29, 133, 9, 20, 1, 86, 184, 0, 121, 154, 0, 5, 2, 172, 43]
abbrev dktX1_tapsOne_0 : List UInt8 := dkwX1_tapsOne_0 ++ dktX1_tapsOne_1
theorem dksX1_tapsOne_0 : cX1_tapsOne.data.toList.drop 0 = dktX1_tapsOne_0 := by decide +kernel
theorem dksX1_tapsOne_1 : cX1_tapsOne.data.toList.drop 23 = dktX1_tapsOne_1 := dk_seg dksX1_tapsOne_0 23 rfl rfl
theorem dksX1_tapsOne_2 : cX1_tapsOne.data.toList.drop 45 = dktX1_tapsOne_2 := dk_seg dksX1_tapsOne_1 22 rfl rfl
theorem dX1_tapsOne_0 : decode cX1_tapsOne 0 = .ok (.aload_n 0, 1) := dk_42 (dk_at dksX1_tapsOne_0 0 rfl rfl)
theorem dX1_tapsOne_1 : decode cX1_tapsOne 1 = .ok (.iload_n 2, 1) := dk_28 (dk_at dksX1_tapsOne_0 1 rfl rfl)
theorem dX1_tapsOne_2 : decode cX1_tapsOne 2 = .ok (.invokevirtual 297, 3) := dk_182 1 41 (dk_at dksX1_tapsOne_0 2 rfl rfl)
theorem dX1_tapsOne_5 : decode cX1_tapsOne 5 = .ok (.ifCond .eq 15, 3) := dk_153 0 15 (dk_at dksX1_tapsOne_0 5 rfl rfl)
theorem dX1_tapsOne_8 : decode cX1_tapsOne 8 = .ok (.iload_n 3, 1) := dk_29 (dk_at dksX1_tapsOne_0 8 rfl rfl)
theorem dX1_tapsOne_9 : decode cX1_tapsOne 9 = .ok (.i2l, 1) := dk_133 (dk_at dksX1_tapsOne_0 9 rfl rfl)
theorem dX1_tapsOne_10 : decode cX1_tapsOne 10 = .ok (.lconst 0, 1) := dk_9 (dk_at dksX1_tapsOne_0 10 rfl rfl)
theorem dX1_tapsOne_11 : decode cX1_tapsOne 11 = .ok (.ldc2_w 342, 3) := dk_20 1 86 (dk_at dksX1_tapsOne_0 11 rfl rfl)
theorem dX1_tapsOne_14 : decode cX1_tapsOne 14 = .ok (.invokestatic 121, 3) := dk_184 0 121 (dk_at dksX1_tapsOne_0 14 rfl rfl)
theorem dX1_tapsOne_17 : decode cX1_tapsOne 17 = .ok (.ifCond .ne 5, 3) := dk_154 0 5 (dk_at dksX1_tapsOne_0 17 rfl rfl)
theorem dX1_tapsOne_20 : decode cX1_tapsOne 20 = .ok (.iconst (-1), 1) := dk_2 (dk_at dksX1_tapsOne_0 20 rfl rfl)
theorem dX1_tapsOne_21 : decode cX1_tapsOne 21 = .ok (.ireturn, 1) := dk_172 (dk_at dksX1_tapsOne_0 21 rfl rfl)
theorem dX1_tapsOne_22 : decode cX1_tapsOne 22 = .ok (.aload_n 1, 1) := dk_43 (dk_at dksX1_tapsOne_0 22 rfl rfl)
theorem dX1_tapsOne_23 : decode cX1_tapsOne 23 = .ok (.getfield 206, 3) := dk_180 0 206 (dk_at dksX1_tapsOne_1 0 rfl rfl)
theorem dX1_tapsOne_26 : decode cX1_tapsOne 26 = .ok (.iload_n 2, 1) := dk_28 (dk_at dksX1_tapsOne_1 3 rfl rfl)
theorem dX1_tapsOne_27 : decode cX1_tapsOne 27 = .ok (.iaload, 1) := dk_46 (dk_at dksX1_tapsOne_1 4 rfl rfl)
theorem dX1_tapsOne_28 : decode cX1_tapsOne 28 = .ok (.istore 4, 2) := dk_54 4 (dk_at dksX1_tapsOne_1 5 rfl rfl)
theorem dX1_tapsOne_30 : decode cX1_tapsOne 30 = .ok (.aload_n 1, 1) := dk_43 (dk_at dksX1_tapsOne_1 7 rfl rfl)
theorem dX1_tapsOne_31 : decode cX1_tapsOne 31 = .ok (.getfield 206, 3) := dk_180 0 206 (dk_at dksX1_tapsOne_1 8 rfl rfl)
theorem dX1_tapsOne_34 : decode cX1_tapsOne 34 = .ok (.iload_n 2, 1) := dk_28 (dk_at dksX1_tapsOne_1 11 rfl rfl)
theorem dX1_tapsOne_35 : decode cX1_tapsOne 35 = .ok (.iload_n 3, 1) := dk_29 (dk_at dksX1_tapsOne_1 12 rfl rfl)
theorem dX1_tapsOne_36 : decode cX1_tapsOne 36 = .ok (.iastore, 1) := dk_79 (dk_at dksX1_tapsOne_1 13 rfl rfl)
theorem dX1_tapsOne_37 : decode cX1_tapsOne 37 = .ok (.iload 4, 2) := dk_21 4 (dk_at dksX1_tapsOne_1 14 rfl rfl)
theorem dX1_tapsOne_39 : decode cX1_tapsOne 39 = .ok (.iload_n 3, 1) := dk_29 (dk_at dksX1_tapsOne_1 16 rfl rfl)
theorem dX1_tapsOne_40 : decode cX1_tapsOne 40 = .ok (.if_icmp .ne 8, 3) := dk_160 0 8 (dk_at dksX1_tapsOne_1 17 rfl rfl)
theorem dX1_tapsOne_43 : decode cX1_tapsOne 43 = .ok (.bipush (-2), 2) := dk_16 254 (dk_at dksX1_tapsOne_1 20 rfl rfl)
theorem dX1_tapsOne_45 : decode cX1_tapsOne 45 = .ok (.goto 8, 3) := dk_167 0 8 (dk_at dksX1_tapsOne_2 0 rfl rfl)
theorem dX1_tapsOne_48 : decode cX1_tapsOne 48 = .ok (.bipush 10, 2) := dk_16 10 (dk_at dksX1_tapsOne_2 3 rfl rfl)
theorem dX1_tapsOne_50 : decode cX1_tapsOne 50 = .ok (.iload 4, 2) := dk_21 4 (dk_at dksX1_tapsOne_2 5 rfl rfl)
theorem dX1_tapsOne_52 : decode cX1_tapsOne 52 = .ok (.iadd, 1) := dk_96 (dk_at dksX1_tapsOne_2 7 rfl rfl)
theorem dX1_tapsOne_53 : decode cX1_tapsOne 53 = .ok (.ireturn, 1) := dk_172 (dk_at dksX1_tapsOne_2 8 rfl rfl)
abbrev cX1_gives : ByteArray := prog_1_method_49_code
def yX1_gives : MethodName := ⟨RX1, "gives", "(II)I"⟩
def dkwX1_gives_1 : List UInt8 := [182, 1, 105, 172]
abbrev dktX1_gives_1 : List UInt8 := dkwX1_gives_1 ++ []
def dkwX1_gives_0 : List UInt8 := [42, 180, 0, 51, 42, 180, 0, 12, 182, 1, 58, 42, 42, 42, 180, 0, 12, 27, 28, 182, 1, 115]
abbrev dktX1_gives_0 : List UInt8 := dkwX1_gives_0 ++ dktX1_gives_1
theorem dksX1_gives_0 : cX1_gives.data.toList.drop 0 = dktX1_gives_0 := by decide +kernel
theorem dksX1_gives_1 : cX1_gives.data.toList.drop 22 = dktX1_gives_1 := dk_seg dksX1_gives_0 22 rfl rfl
theorem dX1_gives_0 : decode cX1_gives 0 = .ok (.aload_n 0, 1) := dk_42 (dk_at dksX1_gives_0 0 rfl rfl)
theorem dX1_gives_1 : decode cX1_gives 1 = .ok (.getfield 51, 3) := dk_180 0 51 (dk_at dksX1_gives_0 1 rfl rfl)
theorem dX1_gives_4 : decode cX1_gives 4 = .ok (.aload_n 0, 1) := dk_42 (dk_at dksX1_gives_0 4 rfl rfl)
theorem dX1_gives_5 : decode cX1_gives 5 = .ok (.getfield 12, 3) := dk_180 0 12 (dk_at dksX1_gives_0 5 rfl rfl)
theorem dX1_gives_8 : decode cX1_gives 8 = .ok (.invokevirtual 314, 3) := dk_182 1 58 (dk_at dksX1_gives_0 8 rfl rfl)
theorem dX1_gives_11 : decode cX1_gives 11 = .ok (.aload_n 0, 1) := dk_42 (dk_at dksX1_gives_0 11 rfl rfl)
theorem dX1_gives_12 : decode cX1_gives 12 = .ok (.aload_n 0, 1) := dk_42 (dk_at dksX1_gives_0 12 rfl rfl)
theorem dX1_gives_13 : decode cX1_gives 13 = .ok (.aload_n 0, 1) := dk_42 (dk_at dksX1_gives_0 13 rfl rfl)
theorem dX1_gives_14 : decode cX1_gives 14 = .ok (.getfield 12, 3) := dk_180 0 12 (dk_at dksX1_gives_0 14 rfl rfl)
theorem dX1_gives_17 : decode cX1_gives 17 = .ok (.iload_n 1, 1) := dk_27 (dk_at dksX1_gives_0 17 rfl rfl)
theorem dX1_gives_18 : decode cX1_gives 18 = .ok (.iload_n 2, 1) := dk_28 (dk_at dksX1_gives_0 18 rfl rfl)
theorem dX1_gives_19 : decode cX1_gives 19 = .ok (.invokevirtual 371, 3) := dk_182 1 115 (dk_at dksX1_gives_0 19 rfl rfl)
theorem dX1_gives_22 : decode cX1_gives 22 = .ok (.invokevirtual 361, 3) := dk_182 1 105 (dk_at dksX1_gives_1 0 rfl rfl)
theorem dX1_gives_25 : decode cX1_gives 25 = .ok (.ireturn, 1) := dk_172 (dk_at dksX1_gives_1 3 rfl rfl)
abbrev cX1_givesOne : ByteArray := prog_1_method_43_code
def yX1_givesOne : MethodName := ⟨RX1, "givesOne", "(LPullThePlug$Water;II)I"⟩
def dkwX1_givesOne_2 : List UInt8 := [167, 0, 8, 16, 10, 21, 4, 96, 172]
abbrev dktX1_givesOne_2 : List UInt8 := dkwX1_givesOne_2 ++ []
def dkwX1_givesOne_1 : List UInt8 := [180, 0, 140, 28, 46, 54, 4, 43, 180, 0, 140, 28, 29, 79, 21, 4, 29, 160, 0, 8, 16, 254]
abbrev dktX1_givesOne_1 : List UInt8 := dkwX1_givesOne_1 ++ dktX1_givesOne_2
def dkwX1_givesOne_0 : List UInt8 := [42, 28, 182, 1, 41, 153, 0, 15, 29, 133, 9, 20, 1, 52, 184, 0, 121, 154, 0, 5, 2, 172, 43]
abbrev dktX1_givesOne_0 : List UInt8 := dkwX1_givesOne_0 ++ dktX1_givesOne_1
theorem dksX1_givesOne_0 : cX1_givesOne.data.toList.drop 0 = dktX1_givesOne_0 := by decide +kernel
theorem dksX1_givesOne_1 : cX1_givesOne.data.toList.drop 23 = dktX1_givesOne_1 := dk_seg dksX1_givesOne_0 23 rfl rfl
theorem dksX1_givesOne_2 : cX1_givesOne.data.toList.drop 45 = dktX1_givesOne_2 := dk_seg dksX1_givesOne_1 22 rfl rfl
theorem dX1_givesOne_0 : decode cX1_givesOne 0 = .ok (.aload_n 0, 1) := dk_42 (dk_at dksX1_givesOne_0 0 rfl rfl)
theorem dX1_givesOne_1 : decode cX1_givesOne 1 = .ok (.iload_n 2, 1) := dk_28 (dk_at dksX1_givesOne_0 1 rfl rfl)
theorem dX1_givesOne_2 : decode cX1_givesOne 2 = .ok (.invokevirtual 297, 3) := dk_182 1 41 (dk_at dksX1_givesOne_0 2 rfl rfl)
theorem dX1_givesOne_5 : decode cX1_givesOne 5 = .ok (.ifCond .eq 15, 3) := dk_153 0 15 (dk_at dksX1_givesOne_0 5 rfl rfl)
theorem dX1_givesOne_8 : decode cX1_givesOne 8 = .ok (.iload_n 3, 1) := dk_29 (dk_at dksX1_givesOne_0 8 rfl rfl)
theorem dX1_givesOne_9 : decode cX1_givesOne 9 = .ok (.i2l, 1) := dk_133 (dk_at dksX1_givesOne_0 9 rfl rfl)
theorem dX1_givesOne_10 : decode cX1_givesOne 10 = .ok (.lconst 0, 1) := dk_9 (dk_at dksX1_givesOne_0 10 rfl rfl)
theorem dX1_givesOne_11 : decode cX1_givesOne 11 = .ok (.ldc2_w 308, 3) := dk_20 1 52 (dk_at dksX1_givesOne_0 11 rfl rfl)
theorem dX1_givesOne_14 : decode cX1_givesOne 14 = .ok (.invokestatic 121, 3) := dk_184 0 121 (dk_at dksX1_givesOne_0 14 rfl rfl)
theorem dX1_givesOne_17 : decode cX1_givesOne 17 = .ok (.ifCond .ne 5, 3) := dk_154 0 5 (dk_at dksX1_givesOne_0 17 rfl rfl)
theorem dX1_givesOne_20 : decode cX1_givesOne 20 = .ok (.iconst (-1), 1) := dk_2 (dk_at dksX1_givesOne_0 20 rfl rfl)
theorem dX1_givesOne_21 : decode cX1_givesOne 21 = .ok (.ireturn, 1) := dk_172 (dk_at dksX1_givesOne_0 21 rfl rfl)
theorem dX1_givesOne_22 : decode cX1_givesOne 22 = .ok (.aload_n 1, 1) := dk_43 (dk_at dksX1_givesOne_0 22 rfl rfl)
theorem dX1_givesOne_23 : decode cX1_givesOne 23 = .ok (.getfield 140, 3) := dk_180 0 140 (dk_at dksX1_givesOne_1 0 rfl rfl)
theorem dX1_givesOne_26 : decode cX1_givesOne 26 = .ok (.iload_n 2, 1) := dk_28 (dk_at dksX1_givesOne_1 3 rfl rfl)
theorem dX1_givesOne_27 : decode cX1_givesOne 27 = .ok (.iaload, 1) := dk_46 (dk_at dksX1_givesOne_1 4 rfl rfl)
theorem dX1_givesOne_28 : decode cX1_givesOne 28 = .ok (.istore 4, 2) := dk_54 4 (dk_at dksX1_givesOne_1 5 rfl rfl)
theorem dX1_givesOne_30 : decode cX1_givesOne 30 = .ok (.aload_n 1, 1) := dk_43 (dk_at dksX1_givesOne_1 7 rfl rfl)
theorem dX1_givesOne_31 : decode cX1_givesOne 31 = .ok (.getfield 140, 3) := dk_180 0 140 (dk_at dksX1_givesOne_1 8 rfl rfl)
theorem dX1_givesOne_34 : decode cX1_givesOne 34 = .ok (.iload_n 2, 1) := dk_28 (dk_at dksX1_givesOne_1 11 rfl rfl)
theorem dX1_givesOne_35 : decode cX1_givesOne 35 = .ok (.iload_n 3, 1) := dk_29 (dk_at dksX1_givesOne_1 12 rfl rfl)
theorem dX1_givesOne_36 : decode cX1_givesOne 36 = .ok (.iastore, 1) := dk_79 (dk_at dksX1_givesOne_1 13 rfl rfl)
theorem dX1_givesOne_37 : decode cX1_givesOne 37 = .ok (.iload 4, 2) := dk_21 4 (dk_at dksX1_givesOne_1 14 rfl rfl)
theorem dX1_givesOne_39 : decode cX1_givesOne 39 = .ok (.iload_n 3, 1) := dk_29 (dk_at dksX1_givesOne_1 16 rfl rfl)
theorem dX1_givesOne_40 : decode cX1_givesOne 40 = .ok (.if_icmp .ne 8, 3) := dk_160 0 8 (dk_at dksX1_givesOne_1 17 rfl rfl)
theorem dX1_givesOne_43 : decode cX1_givesOne 43 = .ok (.bipush (-2), 2) := dk_16 254 (dk_at dksX1_givesOne_1 20 rfl rfl)
theorem dX1_givesOne_45 : decode cX1_givesOne 45 = .ok (.goto 8, 3) := dk_167 0 8 (dk_at dksX1_givesOne_2 0 rfl rfl)
theorem dX1_givesOne_48 : decode cX1_givesOne 48 = .ok (.bipush 10, 2) := dk_16 10 (dk_at dksX1_givesOne_2 3 rfl rfl)
theorem dX1_givesOne_50 : decode cX1_givesOne 50 = .ok (.iload 4, 2) := dk_21 4 (dk_at dksX1_givesOne_2 5 rfl rfl)
theorem dX1_givesOne_52 : decode cX1_givesOne 52 = .ok (.iadd, 1) := dk_96 (dk_at dksX1_givesOne_2 7 rfl rfl)
theorem dX1_givesOne_53 : decode cX1_givesOne 53 = .ok (.ireturn, 1) := dk_172 (dk_at dksX1_givesOne_2 8 rfl rfl)
abbrev cX1_year : ByteArray := prog_1_method_52_code
def yX1_year : MethodName := ⟨RX1, "year", "()I"⟩
def dkwX1_year_6 : List UInt8 := [21, 4, 172]
abbrev dktX1_year_6 : List UInt8 := dkwX1_year_6 ++ []
def dkwX1_year_5 : List UInt8 := [162, 0, 7, 10, 167, 0, 4, 9, 182, 1, 97, 42, 42, 42, 180, 0, 12, 182, 1, 54, 133, 182, 1, 97]
abbrev dktX1_year_5 : List UInt8 := dkwX1_year_5 ++ dktX1_year_6
def dkwX1_year_4 : List UInt8 := [158, 0, 11, 42, 42, 180, 0, 51, 182, 1, 62, 42, 3, 181, 1, 94, 42, 21, 4, 42, 180, 1, 118]
abbrev dktX1_year_4 : List UInt8 := dkwX1_year_4 ++ dktX1_year_5
def dkwX1_year_3 : List UInt8 := [180, 1, 118, 162, 0, 18, 42, 21, 4, 182, 1, 126, 153, 0, 9, 132, 4, 1, 167, 255, 235, 21, 4]
abbrev dktX1_year_3 : List UInt8 := dkwX1_year_3 ++ dktX1_year_4
def dkwX1_year_2 : List UInt8 := [156, 0, 5, 29, 172, 42, 180, 0, 51, 42, 180, 0, 12, 182, 1, 58, 3, 54, 4, 21, 4, 42]
abbrev dktX1_year_2 : List UInt8 := dkwX1_year_2 ++ dktX1_year_3
def dkwX1_year_1 : List UInt8 := [180, 0, 158, 162, 0, 11, 42, 182, 1, 123, 61, 167, 255, 236, 42, 27, 28, 182, 0, 218, 62, 29]
abbrev dktX1_year_1 : List UInt8 := dkwX1_year_1 ++ dktX1_year_2
def dkwX1_year_0 : List UInt8 := [42, 16, 60, 182, 0, 212, 60, 42, 3, 181, 1, 118, 4, 61, 28, 153, 0, 22, 42, 180, 0, 146, 42]
abbrev dktX1_year_0 : List UInt8 := dkwX1_year_0 ++ dktX1_year_1
theorem dksX1_year_0 : cX1_year.data.toList.drop 0 = dktX1_year_0 := by decide +kernel
theorem dksX1_year_1 : cX1_year.data.toList.drop 23 = dktX1_year_1 := dk_seg dksX1_year_0 23 rfl rfl
theorem dksX1_year_2 : cX1_year.data.toList.drop 45 = dktX1_year_2 := dk_seg dksX1_year_1 22 rfl rfl
theorem dksX1_year_3 : cX1_year.data.toList.drop 67 = dktX1_year_3 := dk_seg dksX1_year_2 22 rfl rfl
theorem dksX1_year_4 : cX1_year.data.toList.drop 90 = dktX1_year_4 := dk_seg dksX1_year_3 23 rfl rfl
theorem dksX1_year_5 : cX1_year.data.toList.drop 113 = dktX1_year_5 := dk_seg dksX1_year_4 23 rfl rfl
theorem dksX1_year_6 : cX1_year.data.toList.drop 137 = dktX1_year_6 := dk_seg dksX1_year_5 24 rfl rfl
theorem dX1_year_0 : decode cX1_year 0 = .ok (.aload_n 0, 1) := dk_42 (dk_at dksX1_year_0 0 rfl rfl)
theorem dX1_year_1 : decode cX1_year 1 = .ok (.bipush 60, 2) := dk_16 60 (dk_at dksX1_year_0 1 rfl rfl)
theorem dX1_year_3 : decode cX1_year 3 = .ok (.invokevirtual 212, 3) := dk_182 0 212 (dk_at dksX1_year_0 3 rfl rfl)
theorem dX1_year_6 : decode cX1_year 6 = .ok (.istore_n 1, 1) := dk_60 (dk_at dksX1_year_0 6 rfl rfl)
theorem dX1_year_7 : decode cX1_year 7 = .ok (.aload_n 0, 1) := dk_42 (dk_at dksX1_year_0 7 rfl rfl)
theorem dX1_year_8 : decode cX1_year 8 = .ok (.iconst 0, 1) := dk_3 (dk_at dksX1_year_0 8 rfl rfl)
theorem dX1_year_9 : decode cX1_year 9 = .ok (.putfield 374, 3) := dk_181 1 118 (dk_at dksX1_year_0 9 rfl rfl)
theorem dX1_year_12 : decode cX1_year 12 = .ok (.iconst 1, 1) := dk_4 (dk_at dksX1_year_0 12 rfl rfl)
theorem dX1_year_13 : decode cX1_year 13 = .ok (.istore_n 2, 1) := dk_61 (dk_at dksX1_year_0 13 rfl rfl)
theorem dX1_year_14 : decode cX1_year 14 = .ok (.iload_n 2, 1) := dk_28 (dk_at dksX1_year_0 14 rfl rfl)
theorem dX1_year_15 : decode cX1_year 15 = .ok (.ifCond .eq 22, 3) := dk_153 0 22 (dk_at dksX1_year_0 15 rfl rfl)
theorem dX1_year_18 : decode cX1_year 18 = .ok (.aload_n 0, 1) := dk_42 (dk_at dksX1_year_0 18 rfl rfl)
theorem dX1_year_19 : decode cX1_year 19 = .ok (.getfield 146, 3) := dk_180 0 146 (dk_at dksX1_year_0 19 rfl rfl)
theorem dX1_year_22 : decode cX1_year 22 = .ok (.aload_n 0, 1) := dk_42 (dk_at dksX1_year_0 22 rfl rfl)
theorem dX1_year_23 : decode cX1_year 23 = .ok (.getfield 158, 3) := dk_180 0 158 (dk_at dksX1_year_1 0 rfl rfl)
theorem dX1_year_26 : decode cX1_year 26 = .ok (.if_icmp .ge 11, 3) := dk_162 0 11 (dk_at dksX1_year_1 3 rfl rfl)
theorem dX1_year_29 : decode cX1_year 29 = .ok (.aload_n 0, 1) := dk_42 (dk_at dksX1_year_1 6 rfl rfl)
theorem dX1_year_30 : decode cX1_year 30 = .ok (.invokevirtual 379, 3) := dk_182 1 123 (dk_at dksX1_year_1 7 rfl rfl)
theorem dX1_year_33 : decode cX1_year 33 = .ok (.istore_n 2, 1) := dk_61 (dk_at dksX1_year_1 10 rfl rfl)
theorem dX1_year_34 : decode cX1_year 34 = .ok (.goto (-20), 3) := dk_167 255 236 (dk_at dksX1_year_1 11 rfl rfl)
theorem dX1_year_37 : decode cX1_year 37 = .ok (.aload_n 0, 1) := dk_42 (dk_at dksX1_year_1 14 rfl rfl)
theorem dX1_year_38 : decode cX1_year 38 = .ok (.iload_n 1, 1) := dk_27 (dk_at dksX1_year_1 15 rfl rfl)
theorem dX1_year_39 : decode cX1_year 39 = .ok (.iload_n 2, 1) := dk_28 (dk_at dksX1_year_1 16 rfl rfl)
theorem dX1_year_40 : decode cX1_year 40 = .ok (.invokevirtual 218, 3) := dk_182 0 218 (dk_at dksX1_year_1 17 rfl rfl)
theorem dX1_year_43 : decode cX1_year 43 = .ok (.istore_n 3, 1) := dk_62 (dk_at dksX1_year_1 20 rfl rfl)
theorem dX1_year_44 : decode cX1_year 44 = .ok (.iload_n 3, 1) := dk_29 (dk_at dksX1_year_1 21 rfl rfl)
theorem dX1_year_45 : decode cX1_year 45 = .ok (.ifCond .ge 5, 3) := dk_156 0 5 (dk_at dksX1_year_2 0 rfl rfl)
theorem dX1_year_48 : decode cX1_year 48 = .ok (.iload_n 3, 1) := dk_29 (dk_at dksX1_year_2 3 rfl rfl)
theorem dX1_year_49 : decode cX1_year 49 = .ok (.ireturn, 1) := dk_172 (dk_at dksX1_year_2 4 rfl rfl)
theorem dX1_year_50 : decode cX1_year 50 = .ok (.aload_n 0, 1) := dk_42 (dk_at dksX1_year_2 5 rfl rfl)
theorem dX1_year_51 : decode cX1_year 51 = .ok (.getfield 51, 3) := dk_180 0 51 (dk_at dksX1_year_2 6 rfl rfl)
theorem dX1_year_54 : decode cX1_year 54 = .ok (.aload_n 0, 1) := dk_42 (dk_at dksX1_year_2 9 rfl rfl)
theorem dX1_year_55 : decode cX1_year 55 = .ok (.getfield 12, 3) := dk_180 0 12 (dk_at dksX1_year_2 10 rfl rfl)
theorem dX1_year_58 : decode cX1_year 58 = .ok (.invokevirtual 314, 3) := dk_182 1 58 (dk_at dksX1_year_2 13 rfl rfl)
theorem dX1_year_61 : decode cX1_year 61 = .ok (.iconst 0, 1) := dk_3 (dk_at dksX1_year_2 16 rfl rfl)
theorem dX1_year_62 : decode cX1_year 62 = .ok (.istore 4, 2) := dk_54 4 (dk_at dksX1_year_2 17 rfl rfl)
theorem dX1_year_64 : decode cX1_year 64 = .ok (.iload 4, 2) := dk_21 4 (dk_at dksX1_year_2 19 rfl rfl)
theorem dX1_year_66 : decode cX1_year 66 = .ok (.aload_n 0, 1) := dk_42 (dk_at dksX1_year_2 21 rfl rfl)
theorem dX1_year_67 : decode cX1_year 67 = .ok (.getfield 374, 3) := dk_180 1 118 (dk_at dksX1_year_3 0 rfl rfl)
theorem dX1_year_70 : decode cX1_year 70 = .ok (.if_icmp .ge 18, 3) := dk_162 0 18 (dk_at dksX1_year_3 3 rfl rfl)
theorem dX1_year_73 : decode cX1_year 73 = .ok (.aload_n 0, 1) := dk_42 (dk_at dksX1_year_3 6 rfl rfl)
theorem dX1_year_74 : decode cX1_year 74 = .ok (.iload 4, 2) := dk_21 4 (dk_at dksX1_year_3 7 rfl rfl)
theorem dX1_year_76 : decode cX1_year 76 = .ok (.invokevirtual 382, 3) := dk_182 1 126 (dk_at dksX1_year_3 9 rfl rfl)
theorem dX1_year_79 : decode cX1_year 79 = .ok (.ifCond .eq 9, 3) := dk_153 0 9 (dk_at dksX1_year_3 12 rfl rfl)
theorem dX1_year_82 : decode cX1_year 82 = .ok (.iinc 4 1, 3) := dk_132 4 1 (dk_at dksX1_year_3 15 rfl rfl)
theorem dX1_year_85 : decode cX1_year 85 = .ok (.goto (-21), 3) := dk_167 255 235 (dk_at dksX1_year_3 18 rfl rfl)
theorem dX1_year_88 : decode cX1_year 88 = .ok (.iload 4, 2) := dk_21 4 (dk_at dksX1_year_3 21 rfl rfl)
theorem dX1_year_90 : decode cX1_year 90 = .ok (.ifCond .le 11, 3) := dk_158 0 11 (dk_at dksX1_year_4 0 rfl rfl)
theorem dX1_year_93 : decode cX1_year 93 = .ok (.aload_n 0, 1) := dk_42 (dk_at dksX1_year_4 3 rfl rfl)
theorem dX1_year_94 : decode cX1_year 94 = .ok (.aload_n 0, 1) := dk_42 (dk_at dksX1_year_4 4 rfl rfl)
theorem dX1_year_95 : decode cX1_year 95 = .ok (.getfield 51, 3) := dk_180 0 51 (dk_at dksX1_year_4 5 rfl rfl)
theorem dX1_year_98 : decode cX1_year 98 = .ok (.invokevirtual 318, 3) := dk_182 1 62 (dk_at dksX1_year_4 8 rfl rfl)
theorem dX1_year_101 : decode cX1_year 101 = .ok (.aload_n 0, 1) := dk_42 (dk_at dksX1_year_4 11 rfl rfl)
theorem dX1_year_102 : decode cX1_year 102 = .ok (.iconst 0, 1) := dk_3 (dk_at dksX1_year_4 12 rfl rfl)
theorem dX1_year_103 : decode cX1_year 103 = .ok (.putfield 350, 3) := dk_181 1 94 (dk_at dksX1_year_4 13 rfl rfl)
theorem dX1_year_106 : decode cX1_year 106 = .ok (.aload_n 0, 1) := dk_42 (dk_at dksX1_year_4 16 rfl rfl)
theorem dX1_year_107 : decode cX1_year 107 = .ok (.iload 4, 2) := dk_21 4 (dk_at dksX1_year_4 17 rfl rfl)
theorem dX1_year_109 : decode cX1_year 109 = .ok (.aload_n 0, 1) := dk_42 (dk_at dksX1_year_4 19 rfl rfl)
theorem dX1_year_110 : decode cX1_year 110 = .ok (.getfield 374, 3) := dk_180 1 118 (dk_at dksX1_year_4 20 rfl rfl)
theorem dX1_year_113 : decode cX1_year 113 = .ok (.if_icmp .ge 7, 3) := dk_162 0 7 (dk_at dksX1_year_5 0 rfl rfl)
theorem dX1_year_116 : decode cX1_year 116 = .ok (.lconst 1, 1) := dk_10 (dk_at dksX1_year_5 3 rfl rfl)
theorem dX1_year_117 : decode cX1_year 117 = .ok (.goto 4, 3) := dk_167 0 4 (dk_at dksX1_year_5 4 rfl rfl)
theorem dX1_year_120 : decode cX1_year 120 = .ok (.lconst 0, 1) := dk_9 (dk_at dksX1_year_5 7 rfl rfl)
theorem dX1_year_121 : decode cX1_year 121 = .ok (.invokevirtual 353, 3) := dk_182 1 97 (dk_at dksX1_year_5 8 rfl rfl)
theorem dX1_year_124 : decode cX1_year 124 = .ok (.aload_n 0, 1) := dk_42 (dk_at dksX1_year_5 11 rfl rfl)
theorem dX1_year_125 : decode cX1_year 125 = .ok (.aload_n 0, 1) := dk_42 (dk_at dksX1_year_5 12 rfl rfl)
theorem dX1_year_126 : decode cX1_year 126 = .ok (.aload_n 0, 1) := dk_42 (dk_at dksX1_year_5 13 rfl rfl)
theorem dX1_year_127 : decode cX1_year 127 = .ok (.getfield 12, 3) := dk_180 0 12 (dk_at dksX1_year_5 14 rfl rfl)
theorem dX1_year_130 : decode cX1_year 130 = .ok (.invokevirtual 310, 3) := dk_182 1 54 (dk_at dksX1_year_5 17 rfl rfl)
theorem dX1_year_133 : decode cX1_year 133 = .ok (.i2l, 1) := dk_133 (dk_at dksX1_year_5 20 rfl rfl)
theorem dX1_year_134 : decode cX1_year 134 = .ok (.invokevirtual 353, 3) := dk_182 1 97 (dk_at dksX1_year_5 21 rfl rfl)
theorem dX1_year_137 : decode cX1_year 137 = .ok (.iload 4, 2) := dk_21 4 (dk_at dksX1_year_6 0 rfl rfl)
theorem dX1_year_139 : decode cX1_year 139 = .ok (.ireturn, 1) := dk_172 (dk_at dksX1_year_6 2 rfl rfl)
abbrev cX1_readsAct : ByteArray := prog_1_method_50_code
def yX1_readsAct : MethodName := ⟨RX1, "readsAct", "()Z"⟩
def dkwX1_readsAct_6 : List UInt8 := [167, 0, 4, 3, 172]
abbrev dktX1_readsAct_6 : List UInt8 := dkwX1_readsAct_6 ++ []
def dkwX1_readsAct_5 : List UInt8 := [182, 0, 183, 167, 0, 9, 42, 18, 192, 182, 0, 194, 79, 42, 180, 0, 66, 27, 46, 155, 0, 7, 4]
abbrev dktX1_readsAct_5 : List UInt8 := dkwX1_readsAct_5 ++ dktX1_readsAct_6
def dkwX1_readsAct_4 : List UInt8 := [155, 0, 7, 4, 167, 0, 4, 3, 172, 42, 180, 0, 66, 27, 28, 16, 116, 160, 0, 11, 42, 4]
abbrev dktX1_readsAct_4 : List UInt8 := dkwX1_readsAct_4 ++ dktX1_readsAct_5
def dkwX1_readsAct_3 : List UInt8 := [46, 155, 0, 15, 28, 16, 116, 159, 0, 24, 28, 16, 103, 159, 0, 18, 42, 180, 0, 63, 27, 46]
abbrev dktX1_readsAct_3 : List UInt8 := dkwX1_readsAct_3 ++ dktX1_readsAct_4
def dkwX1_readsAct_2 : List UInt8 := [180, 1, 118, 4, 96, 181, 1, 118, 42, 180, 0, 63, 27, 42, 4, 182, 0, 183, 79, 42, 180, 0, 63, 27]
abbrev dktX1_readsAct_2 : List UInt8 := dkwX1_readsAct_2 ++ dktX1_readsAct_3
def dkwX1_readsAct_1 : List UInt8 := [180, 0, 146, 46, 61, 42, 180, 0, 60, 27, 28, 79, 42, 89, 180, 0, 146, 4, 96, 181, 0, 146, 42, 89]
abbrev dktX1_readsAct_1 : List UInt8 := dkwX1_readsAct_1 ++ dktX1_readsAct_2
def dkwX1_readsAct_0 : List UInt8 := [42, 180, 1, 118, 60, 42, 19, 1, 121, 182, 0, 171, 156, 0, 5, 3, 172, 42, 180, 0, 29, 42]
abbrev dktX1_readsAct_0 : List UInt8 := dkwX1_readsAct_0 ++ dktX1_readsAct_1
theorem dksX1_readsAct_0 : cX1_readsAct.data.toList.drop 0 = dktX1_readsAct_0 := by decide +kernel
theorem dksX1_readsAct_1 : cX1_readsAct.data.toList.drop 22 = dktX1_readsAct_1 := dk_seg dksX1_readsAct_0 22 rfl rfl
theorem dksX1_readsAct_2 : cX1_readsAct.data.toList.drop 46 = dktX1_readsAct_2 := dk_seg dksX1_readsAct_1 24 rfl rfl
theorem dksX1_readsAct_3 : cX1_readsAct.data.toList.drop 70 = dktX1_readsAct_3 := dk_seg dksX1_readsAct_2 24 rfl rfl
theorem dksX1_readsAct_4 : cX1_readsAct.data.toList.drop 92 = dktX1_readsAct_4 := dk_seg dksX1_readsAct_3 22 rfl rfl
theorem dksX1_readsAct_5 : cX1_readsAct.data.toList.drop 114 = dktX1_readsAct_5 := dk_seg dksX1_readsAct_4 22 rfl rfl
theorem dksX1_readsAct_6 : cX1_readsAct.data.toList.drop 137 = dktX1_readsAct_6 := dk_seg dksX1_readsAct_5 23 rfl rfl
theorem dX1_readsAct_0 : decode cX1_readsAct 0 = .ok (.aload_n 0, 1) := dk_42 (dk_at dksX1_readsAct_0 0 rfl rfl)
theorem dX1_readsAct_1 : decode cX1_readsAct 1 = .ok (.getfield 374, 3) := dk_180 1 118 (dk_at dksX1_readsAct_0 1 rfl rfl)
theorem dX1_readsAct_4 : decode cX1_readsAct 4 = .ok (.istore_n 1, 1) := dk_60 (dk_at dksX1_readsAct_0 4 rfl rfl)
theorem dX1_readsAct_5 : decode cX1_readsAct 5 = .ok (.aload_n 0, 1) := dk_42 (dk_at dksX1_readsAct_0 5 rfl rfl)
theorem dX1_readsAct_6 : decode cX1_readsAct 6 = .ok (.ldc_w 377, 3) := dk_19 1 121 (dk_at dksX1_readsAct_0 6 rfl rfl)
theorem dX1_readsAct_9 : decode cX1_readsAct 9 = .ok (.invokevirtual 171, 3) := dk_182 0 171 (dk_at dksX1_readsAct_0 9 rfl rfl)
theorem dX1_readsAct_12 : decode cX1_readsAct 12 = .ok (.ifCond .ge 5, 3) := dk_156 0 5 (dk_at dksX1_readsAct_0 12 rfl rfl)
theorem dX1_readsAct_15 : decode cX1_readsAct 15 = .ok (.iconst 0, 1) := dk_3 (dk_at dksX1_readsAct_0 15 rfl rfl)
theorem dX1_readsAct_16 : decode cX1_readsAct 16 = .ok (.ireturn, 1) := dk_172 (dk_at dksX1_readsAct_0 16 rfl rfl)
theorem dX1_readsAct_17 : decode cX1_readsAct 17 = .ok (.aload_n 0, 1) := dk_42 (dk_at dksX1_readsAct_0 17 rfl rfl)
theorem dX1_readsAct_18 : decode cX1_readsAct 18 = .ok (.getfield 29, 3) := dk_180 0 29 (dk_at dksX1_readsAct_0 18 rfl rfl)
theorem dX1_readsAct_21 : decode cX1_readsAct 21 = .ok (.aload_n 0, 1) := dk_42 (dk_at dksX1_readsAct_0 21 rfl rfl)
theorem dX1_readsAct_22 : decode cX1_readsAct 22 = .ok (.getfield 146, 3) := dk_180 0 146 (dk_at dksX1_readsAct_1 0 rfl rfl)
theorem dX1_readsAct_25 : decode cX1_readsAct 25 = .ok (.iaload, 1) := dk_46 (dk_at dksX1_readsAct_1 3 rfl rfl)
theorem dX1_readsAct_26 : decode cX1_readsAct 26 = .ok (.istore_n 2, 1) := dk_61 (dk_at dksX1_readsAct_1 4 rfl rfl)
theorem dX1_readsAct_27 : decode cX1_readsAct 27 = .ok (.aload_n 0, 1) := dk_42 (dk_at dksX1_readsAct_1 5 rfl rfl)
theorem dX1_readsAct_28 : decode cX1_readsAct 28 = .ok (.getfield 60, 3) := dk_180 0 60 (dk_at dksX1_readsAct_1 6 rfl rfl)
theorem dX1_readsAct_31 : decode cX1_readsAct 31 = .ok (.iload_n 1, 1) := dk_27 (dk_at dksX1_readsAct_1 9 rfl rfl)
theorem dX1_readsAct_32 : decode cX1_readsAct 32 = .ok (.iload_n 2, 1) := dk_28 (dk_at dksX1_readsAct_1 10 rfl rfl)
theorem dX1_readsAct_33 : decode cX1_readsAct 33 = .ok (.iastore, 1) := dk_79 (dk_at dksX1_readsAct_1 11 rfl rfl)
theorem dX1_readsAct_34 : decode cX1_readsAct 34 = .ok (.aload_n 0, 1) := dk_42 (dk_at dksX1_readsAct_1 12 rfl rfl)
theorem dX1_readsAct_35 : decode cX1_readsAct 35 = .ok (.dup, 1) := dk_89 (dk_at dksX1_readsAct_1 13 rfl rfl)
theorem dX1_readsAct_36 : decode cX1_readsAct 36 = .ok (.getfield 146, 3) := dk_180 0 146 (dk_at dksX1_readsAct_1 14 rfl rfl)
theorem dX1_readsAct_39 : decode cX1_readsAct 39 = .ok (.iconst 1, 1) := dk_4 (dk_at dksX1_readsAct_1 17 rfl rfl)
theorem dX1_readsAct_40 : decode cX1_readsAct 40 = .ok (.iadd, 1) := dk_96 (dk_at dksX1_readsAct_1 18 rfl rfl)
theorem dX1_readsAct_41 : decode cX1_readsAct 41 = .ok (.putfield 146, 3) := dk_181 0 146 (dk_at dksX1_readsAct_1 19 rfl rfl)
theorem dX1_readsAct_44 : decode cX1_readsAct 44 = .ok (.aload_n 0, 1) := dk_42 (dk_at dksX1_readsAct_1 22 rfl rfl)
theorem dX1_readsAct_45 : decode cX1_readsAct 45 = .ok (.dup, 1) := dk_89 (dk_at dksX1_readsAct_1 23 rfl rfl)
theorem dX1_readsAct_46 : decode cX1_readsAct 46 = .ok (.getfield 374, 3) := dk_180 1 118 (dk_at dksX1_readsAct_2 0 rfl rfl)
theorem dX1_readsAct_49 : decode cX1_readsAct 49 = .ok (.iconst 1, 1) := dk_4 (dk_at dksX1_readsAct_2 3 rfl rfl)
theorem dX1_readsAct_50 : decode cX1_readsAct 50 = .ok (.iadd, 1) := dk_96 (dk_at dksX1_readsAct_2 4 rfl rfl)
theorem dX1_readsAct_51 : decode cX1_readsAct 51 = .ok (.putfield 374, 3) := dk_181 1 118 (dk_at dksX1_readsAct_2 5 rfl rfl)
theorem dX1_readsAct_54 : decode cX1_readsAct 54 = .ok (.aload_n 0, 1) := dk_42 (dk_at dksX1_readsAct_2 8 rfl rfl)
theorem dX1_readsAct_55 : decode cX1_readsAct 55 = .ok (.getfield 63, 3) := dk_180 0 63 (dk_at dksX1_readsAct_2 9 rfl rfl)
theorem dX1_readsAct_58 : decode cX1_readsAct 58 = .ok (.iload_n 1, 1) := dk_27 (dk_at dksX1_readsAct_2 12 rfl rfl)
theorem dX1_readsAct_59 : decode cX1_readsAct 59 = .ok (.aload_n 0, 1) := dk_42 (dk_at dksX1_readsAct_2 13 rfl rfl)
theorem dX1_readsAct_60 : decode cX1_readsAct 60 = .ok (.iconst 1, 1) := dk_4 (dk_at dksX1_readsAct_2 14 rfl rfl)
theorem dX1_readsAct_61 : decode cX1_readsAct 61 = .ok (.invokevirtual 183, 3) := dk_182 0 183 (dk_at dksX1_readsAct_2 15 rfl rfl)
theorem dX1_readsAct_64 : decode cX1_readsAct 64 = .ok (.iastore, 1) := dk_79 (dk_at dksX1_readsAct_2 18 rfl rfl)
theorem dX1_readsAct_65 : decode cX1_readsAct 65 = .ok (.aload_n 0, 1) := dk_42 (dk_at dksX1_readsAct_2 19 rfl rfl)
theorem dX1_readsAct_66 : decode cX1_readsAct 66 = .ok (.getfield 63, 3) := dk_180 0 63 (dk_at dksX1_readsAct_2 20 rfl rfl)
theorem dX1_readsAct_69 : decode cX1_readsAct 69 = .ok (.iload_n 1, 1) := dk_27 (dk_at dksX1_readsAct_2 23 rfl rfl)
theorem dX1_readsAct_70 : decode cX1_readsAct 70 = .ok (.iaload, 1) := dk_46 (dk_at dksX1_readsAct_3 0 rfl rfl)
theorem dX1_readsAct_71 : decode cX1_readsAct 71 = .ok (.ifCond .lt 15, 3) := dk_155 0 15 (dk_at dksX1_readsAct_3 1 rfl rfl)
theorem dX1_readsAct_74 : decode cX1_readsAct 74 = .ok (.iload_n 2, 1) := dk_28 (dk_at dksX1_readsAct_3 4 rfl rfl)
theorem dX1_readsAct_75 : decode cX1_readsAct 75 = .ok (.bipush 116, 2) := dk_16 116 (dk_at dksX1_readsAct_3 5 rfl rfl)
theorem dX1_readsAct_77 : decode cX1_readsAct 77 = .ok (.if_icmp .eq 24, 3) := dk_159 0 24 (dk_at dksX1_readsAct_3 7 rfl rfl)
theorem dX1_readsAct_80 : decode cX1_readsAct 80 = .ok (.iload_n 2, 1) := dk_28 (dk_at dksX1_readsAct_3 10 rfl rfl)
theorem dX1_readsAct_81 : decode cX1_readsAct 81 = .ok (.bipush 103, 2) := dk_16 103 (dk_at dksX1_readsAct_3 11 rfl rfl)
theorem dX1_readsAct_83 : decode cX1_readsAct 83 = .ok (.if_icmp .eq 18, 3) := dk_159 0 18 (dk_at dksX1_readsAct_3 13 rfl rfl)
theorem dX1_readsAct_86 : decode cX1_readsAct 86 = .ok (.aload_n 0, 1) := dk_42 (dk_at dksX1_readsAct_3 16 rfl rfl)
theorem dX1_readsAct_87 : decode cX1_readsAct 87 = .ok (.getfield 63, 3) := dk_180 0 63 (dk_at dksX1_readsAct_3 17 rfl rfl)
theorem dX1_readsAct_90 : decode cX1_readsAct 90 = .ok (.iload_n 1, 1) := dk_27 (dk_at dksX1_readsAct_3 20 rfl rfl)
theorem dX1_readsAct_91 : decode cX1_readsAct 91 = .ok (.iaload, 1) := dk_46 (dk_at dksX1_readsAct_3 21 rfl rfl)
theorem dX1_readsAct_92 : decode cX1_readsAct 92 = .ok (.ifCond .lt 7, 3) := dk_155 0 7 (dk_at dksX1_readsAct_4 0 rfl rfl)
theorem dX1_readsAct_95 : decode cX1_readsAct 95 = .ok (.iconst 1, 1) := dk_4 (dk_at dksX1_readsAct_4 3 rfl rfl)
theorem dX1_readsAct_96 : decode cX1_readsAct 96 = .ok (.goto 4, 3) := dk_167 0 4 (dk_at dksX1_readsAct_4 4 rfl rfl)
theorem dX1_readsAct_99 : decode cX1_readsAct 99 = .ok (.iconst 0, 1) := dk_3 (dk_at dksX1_readsAct_4 7 rfl rfl)
theorem dX1_readsAct_100 : decode cX1_readsAct 100 = .ok (.ireturn, 1) := dk_172 (dk_at dksX1_readsAct_4 8 rfl rfl)
theorem dX1_readsAct_101 : decode cX1_readsAct 101 = .ok (.aload_n 0, 1) := dk_42 (dk_at dksX1_readsAct_4 9 rfl rfl)
theorem dX1_readsAct_102 : decode cX1_readsAct 102 = .ok (.getfield 66, 3) := dk_180 0 66 (dk_at dksX1_readsAct_4 10 rfl rfl)
theorem dX1_readsAct_105 : decode cX1_readsAct 105 = .ok (.iload_n 1, 1) := dk_27 (dk_at dksX1_readsAct_4 13 rfl rfl)
theorem dX1_readsAct_106 : decode cX1_readsAct 106 = .ok (.iload_n 2, 1) := dk_28 (dk_at dksX1_readsAct_4 14 rfl rfl)
theorem dX1_readsAct_107 : decode cX1_readsAct 107 = .ok (.bipush 116, 2) := dk_16 116 (dk_at dksX1_readsAct_4 15 rfl rfl)
theorem dX1_readsAct_109 : decode cX1_readsAct 109 = .ok (.if_icmp .ne 11, 3) := dk_160 0 11 (dk_at dksX1_readsAct_4 17 rfl rfl)
theorem dX1_readsAct_112 : decode cX1_readsAct 112 = .ok (.aload_n 0, 1) := dk_42 (dk_at dksX1_readsAct_4 20 rfl rfl)
theorem dX1_readsAct_113 : decode cX1_readsAct 113 = .ok (.iconst 1, 1) := dk_4 (dk_at dksX1_readsAct_4 21 rfl rfl)
theorem dX1_readsAct_114 : decode cX1_readsAct 114 = .ok (.invokevirtual 183, 3) := dk_182 0 183 (dk_at dksX1_readsAct_5 0 rfl rfl)
theorem dX1_readsAct_117 : decode cX1_readsAct 117 = .ok (.goto 9, 3) := dk_167 0 9 (dk_at dksX1_readsAct_5 3 rfl rfl)
theorem dX1_readsAct_120 : decode cX1_readsAct 120 = .ok (.aload_n 0, 1) := dk_42 (dk_at dksX1_readsAct_5 6 rfl rfl)
theorem dX1_readsAct_121 : decode cX1_readsAct 121 = .ok (.ldc 192, 2) := dk_18 192 (dk_at dksX1_readsAct_5 7 rfl rfl)
theorem dX1_readsAct_123 : decode cX1_readsAct 123 = .ok (.invokevirtual 194, 3) := dk_182 0 194 (dk_at dksX1_readsAct_5 9 rfl rfl)
theorem dX1_readsAct_126 : decode cX1_readsAct 126 = .ok (.iastore, 1) := dk_79 (dk_at dksX1_readsAct_5 12 rfl rfl)
theorem dX1_readsAct_127 : decode cX1_readsAct 127 = .ok (.aload_n 0, 1) := dk_42 (dk_at dksX1_readsAct_5 13 rfl rfl)
theorem dX1_readsAct_128 : decode cX1_readsAct 128 = .ok (.getfield 66, 3) := dk_180 0 66 (dk_at dksX1_readsAct_5 14 rfl rfl)
theorem dX1_readsAct_131 : decode cX1_readsAct 131 = .ok (.iload_n 1, 1) := dk_27 (dk_at dksX1_readsAct_5 17 rfl rfl)
theorem dX1_readsAct_132 : decode cX1_readsAct 132 = .ok (.iaload, 1) := dk_46 (dk_at dksX1_readsAct_5 18 rfl rfl)
theorem dX1_readsAct_133 : decode cX1_readsAct 133 = .ok (.ifCond .lt 7, 3) := dk_155 0 7 (dk_at dksX1_readsAct_5 19 rfl rfl)
theorem dX1_readsAct_136 : decode cX1_readsAct 136 = .ok (.iconst 1, 1) := dk_4 (dk_at dksX1_readsAct_5 22 rfl rfl)
theorem dX1_readsAct_137 : decode cX1_readsAct 137 = .ok (.goto 4, 3) := dk_167 0 4 (dk_at dksX1_readsAct_6 0 rfl rfl)
theorem dX1_readsAct_140 : decode cX1_readsAct 140 = .ok (.iconst 0, 1) := dk_3 (dk_at dksX1_readsAct_6 3 rfl rfl)
theorem dX1_readsAct_141 : decode cX1_readsAct 141 = .ok (.ireturn, 1) := dk_172 (dk_at dksX1_readsAct_6 4 rfl rfl)
abbrev cX1_does : ByteArray := prog_1_method_51_code
def yX1_does : MethodName := ⟨RX1, "does", "(I)Z"⟩
def dkwX1_does_6 : List UInt8 := [155, 0, 7, 4, 167, 0, 4, 3, 172, 42, 42, 180, 0, 12, 28, 182, 1, 90, 4, 172]
abbrev dktX1_does_6 : List UInt8 := dkwX1_does_6 ++ []
def dkwX1_does_5 : List UInt8 := [155, 0, 7, 4, 167, 0, 4, 3, 172, 42, 42, 180, 0, 12, 28, 42, 180, 0, 66, 27, 46, 182, 1, 115]
abbrev dktX1_does_5 : List UInt8 := dkwX1_does_5 ++ dktX1_does_6
def dkwX1_does_4 : List UInt8 := [155, 0, 7, 4, 167, 0, 4, 3, 172, 42, 42, 180, 0, 12, 28, 42, 180, 0, 66, 27, 46, 182, 1, 111]
abbrev dktX1_does_4 : List UInt8 := dkwX1_does_4 ++ dktX1_does_5
def dkwX1_does_3 : List UInt8 := [28, 3, 182, 1, 101, 155, 0, 7, 4, 167, 0, 4, 3, 172, 42, 42, 180, 0, 12, 28, 182, 1, 108]
abbrev dktX1_does_3 : List UInt8 := dkwX1_does_3 ++ dktX1_does_4
def dkwX1_does_2 : List UInt8 := [42, 42, 180, 0, 12, 28, 4, 182, 1, 101, 155, 0, 7, 4, 167, 0, 4, 3, 172, 42, 42, 180, 0, 12]
abbrev dktX1_does_2 : List UInt8 := dkwX1_does_2 ++ dktX1_does_3
def dkwX1_does_1 : List UInt8 := [171, 0, 0, 0, 0, 0, 155, 0, 0, 0, 5, 0, 0, 0, 99, 0, 0, 0, 89, 0, 0, 0, 103, 0, 0, 0, 131, 0, 0, 0, 112, 0, 0, 0, 51, 0, 0, 0, 115, 0, 0, 0, 70, 0, 0, 0, 116, 0, 0, 0, 107]
abbrev dktX1_does_1 : List UInt8 := dkwX1_does_1 ++ dktX1_does_2
def dkwX1_does_0 : List UInt8 := [42, 180, 0, 63, 27, 46, 61, 42, 180, 0, 60, 27, 46]
abbrev dktX1_does_0 : List UInt8 := dkwX1_does_0 ++ dktX1_does_1
theorem dksX1_does_0 : cX1_does.data.toList.drop 0 = dktX1_does_0 := by decide +kernel
theorem dksX1_does_1 : cX1_does.data.toList.drop 13 = dktX1_does_1 := dk_seg dksX1_does_0 13 rfl rfl
theorem dksX1_does_2 : cX1_does.data.toList.drop 64 = dktX1_does_2 := dk_seg dksX1_does_1 51 rfl rfl
theorem dksX1_does_3 : cX1_does.data.toList.drop 88 = dktX1_does_3 := dk_seg dksX1_does_2 24 rfl rfl
theorem dksX1_does_4 : cX1_does.data.toList.drop 111 = dktX1_does_4 := dk_seg dksX1_does_3 23 rfl rfl
theorem dksX1_does_5 : cX1_does.data.toList.drop 135 = dktX1_does_5 := dk_seg dksX1_does_4 24 rfl rfl
theorem dksX1_does_6 : cX1_does.data.toList.drop 159 = dktX1_does_6 := dk_seg dksX1_does_5 24 rfl rfl
theorem dX1_does_0 : decode cX1_does 0 = .ok (.aload_n 0, 1) := dk_42 (dk_at dksX1_does_0 0 rfl rfl)
theorem dX1_does_1 : decode cX1_does 1 = .ok (.getfield 63, 3) := dk_180 0 63 (dk_at dksX1_does_0 1 rfl rfl)
theorem dX1_does_4 : decode cX1_does 4 = .ok (.iload_n 1, 1) := dk_27 (dk_at dksX1_does_0 4 rfl rfl)
theorem dX1_does_5 : decode cX1_does 5 = .ok (.iaload, 1) := dk_46 (dk_at dksX1_does_0 5 rfl rfl)
theorem dX1_does_6 : decode cX1_does 6 = .ok (.istore_n 2, 1) := dk_61 (dk_at dksX1_does_0 6 rfl rfl)
theorem dX1_does_7 : decode cX1_does 7 = .ok (.aload_n 0, 1) := dk_42 (dk_at dksX1_does_0 7 rfl rfl)
theorem dX1_does_8 : decode cX1_does 8 = .ok (.getfield 60, 3) := dk_180 0 60 (dk_at dksX1_does_0 8 rfl rfl)
theorem dX1_does_11 : decode cX1_does 11 = .ok (.iload_n 1, 1) := dk_27 (dk_at dksX1_does_0 11 rfl rfl)
theorem dX1_does_12 : decode cX1_does 12 = .ok (.iaload, 1) := dk_46 (dk_at dksX1_does_0 12 rfl rfl)
theorem dX1_does_13 : decode cX1_does 13 = .ok (.lookupswitch 155 #[(99, 89), (103, 131), (112, 51), (115, 70), (116, 107)], 51) := by decide +kernel
theorem dX1_does_64 : decode cX1_does 64 = .ok (.aload_n 0, 1) := dk_42 (dk_at dksX1_does_2 0 rfl rfl)
theorem dX1_does_65 : decode cX1_does 65 = .ok (.aload_n 0, 1) := dk_42 (dk_at dksX1_does_2 1 rfl rfl)
theorem dX1_does_66 : decode cX1_does 66 = .ok (.getfield 12, 3) := dk_180 0 12 (dk_at dksX1_does_2 2 rfl rfl)
theorem dX1_does_69 : decode cX1_does 69 = .ok (.iload_n 2, 1) := dk_28 (dk_at dksX1_does_2 5 rfl rfl)
theorem dX1_does_70 : decode cX1_does 70 = .ok (.iconst 1, 1) := dk_4 (dk_at dksX1_does_2 6 rfl rfl)
theorem dX1_does_71 : decode cX1_does 71 = .ok (.invokevirtual 357, 3) := dk_182 1 101 (dk_at dksX1_does_2 7 rfl rfl)
theorem dX1_does_74 : decode cX1_does 74 = .ok (.ifCond .lt 7, 3) := dk_155 0 7 (dk_at dksX1_does_2 10 rfl rfl)
theorem dX1_does_77 : decode cX1_does 77 = .ok (.iconst 1, 1) := dk_4 (dk_at dksX1_does_2 13 rfl rfl)
theorem dX1_does_78 : decode cX1_does 78 = .ok (.goto 4, 3) := dk_167 0 4 (dk_at dksX1_does_2 14 rfl rfl)
theorem dX1_does_81 : decode cX1_does 81 = .ok (.iconst 0, 1) := dk_3 (dk_at dksX1_does_2 17 rfl rfl)
theorem dX1_does_82 : decode cX1_does 82 = .ok (.ireturn, 1) := dk_172 (dk_at dksX1_does_2 18 rfl rfl)
theorem dX1_does_83 : decode cX1_does 83 = .ok (.aload_n 0, 1) := dk_42 (dk_at dksX1_does_2 19 rfl rfl)
theorem dX1_does_84 : decode cX1_does 84 = .ok (.aload_n 0, 1) := dk_42 (dk_at dksX1_does_2 20 rfl rfl)
theorem dX1_does_85 : decode cX1_does 85 = .ok (.getfield 12, 3) := dk_180 0 12 (dk_at dksX1_does_2 21 rfl rfl)
theorem dX1_does_88 : decode cX1_does 88 = .ok (.iload_n 2, 1) := dk_28 (dk_at dksX1_does_3 0 rfl rfl)
theorem dX1_does_89 : decode cX1_does 89 = .ok (.iconst 0, 1) := dk_3 (dk_at dksX1_does_3 1 rfl rfl)
theorem dX1_does_90 : decode cX1_does 90 = .ok (.invokevirtual 357, 3) := dk_182 1 101 (dk_at dksX1_does_3 2 rfl rfl)
theorem dX1_does_93 : decode cX1_does 93 = .ok (.ifCond .lt 7, 3) := dk_155 0 7 (dk_at dksX1_does_3 5 rfl rfl)
theorem dX1_does_96 : decode cX1_does 96 = .ok (.iconst 1, 1) := dk_4 (dk_at dksX1_does_3 8 rfl rfl)
theorem dX1_does_97 : decode cX1_does 97 = .ok (.goto 4, 3) := dk_167 0 4 (dk_at dksX1_does_3 9 rfl rfl)
theorem dX1_does_100 : decode cX1_does 100 = .ok (.iconst 0, 1) := dk_3 (dk_at dksX1_does_3 12 rfl rfl)
theorem dX1_does_101 : decode cX1_does 101 = .ok (.ireturn, 1) := dk_172 (dk_at dksX1_does_3 13 rfl rfl)
theorem dX1_does_102 : decode cX1_does 102 = .ok (.aload_n 0, 1) := dk_42 (dk_at dksX1_does_3 14 rfl rfl)
theorem dX1_does_103 : decode cX1_does 103 = .ok (.aload_n 0, 1) := dk_42 (dk_at dksX1_does_3 15 rfl rfl)
theorem dX1_does_104 : decode cX1_does 104 = .ok (.getfield 12, 3) := dk_180 0 12 (dk_at dksX1_does_3 16 rfl rfl)
theorem dX1_does_107 : decode cX1_does 107 = .ok (.iload_n 2, 1) := dk_28 (dk_at dksX1_does_3 19 rfl rfl)
theorem dX1_does_108 : decode cX1_does 108 = .ok (.invokevirtual 364, 3) := dk_182 1 108 (dk_at dksX1_does_3 20 rfl rfl)
theorem dX1_does_111 : decode cX1_does 111 = .ok (.ifCond .lt 7, 3) := dk_155 0 7 (dk_at dksX1_does_4 0 rfl rfl)
theorem dX1_does_114 : decode cX1_does 114 = .ok (.iconst 1, 1) := dk_4 (dk_at dksX1_does_4 3 rfl rfl)
theorem dX1_does_115 : decode cX1_does 115 = .ok (.goto 4, 3) := dk_167 0 4 (dk_at dksX1_does_4 4 rfl rfl)
theorem dX1_does_118 : decode cX1_does 118 = .ok (.iconst 0, 1) := dk_3 (dk_at dksX1_does_4 7 rfl rfl)
theorem dX1_does_119 : decode cX1_does 119 = .ok (.ireturn, 1) := dk_172 (dk_at dksX1_does_4 8 rfl rfl)
theorem dX1_does_120 : decode cX1_does 120 = .ok (.aload_n 0, 1) := dk_42 (dk_at dksX1_does_4 9 rfl rfl)
theorem dX1_does_121 : decode cX1_does 121 = .ok (.aload_n 0, 1) := dk_42 (dk_at dksX1_does_4 10 rfl rfl)
theorem dX1_does_122 : decode cX1_does 122 = .ok (.getfield 12, 3) := dk_180 0 12 (dk_at dksX1_does_4 11 rfl rfl)
theorem dX1_does_125 : decode cX1_does 125 = .ok (.iload_n 2, 1) := dk_28 (dk_at dksX1_does_4 14 rfl rfl)
theorem dX1_does_126 : decode cX1_does 126 = .ok (.aload_n 0, 1) := dk_42 (dk_at dksX1_does_4 15 rfl rfl)
theorem dX1_does_127 : decode cX1_does 127 = .ok (.getfield 66, 3) := dk_180 0 66 (dk_at dksX1_does_4 16 rfl rfl)
theorem dX1_does_130 : decode cX1_does 130 = .ok (.iload_n 1, 1) := dk_27 (dk_at dksX1_does_4 19 rfl rfl)
theorem dX1_does_131 : decode cX1_does 131 = .ok (.iaload, 1) := dk_46 (dk_at dksX1_does_4 20 rfl rfl)
theorem dX1_does_132 : decode cX1_does 132 = .ok (.invokevirtual 367, 3) := dk_182 1 111 (dk_at dksX1_does_4 21 rfl rfl)
theorem dX1_does_135 : decode cX1_does 135 = .ok (.ifCond .lt 7, 3) := dk_155 0 7 (dk_at dksX1_does_5 0 rfl rfl)
theorem dX1_does_138 : decode cX1_does 138 = .ok (.iconst 1, 1) := dk_4 (dk_at dksX1_does_5 3 rfl rfl)
theorem dX1_does_139 : decode cX1_does 139 = .ok (.goto 4, 3) := dk_167 0 4 (dk_at dksX1_does_5 4 rfl rfl)
theorem dX1_does_142 : decode cX1_does 142 = .ok (.iconst 0, 1) := dk_3 (dk_at dksX1_does_5 7 rfl rfl)
theorem dX1_does_143 : decode cX1_does 143 = .ok (.ireturn, 1) := dk_172 (dk_at dksX1_does_5 8 rfl rfl)
theorem dX1_does_144 : decode cX1_does 144 = .ok (.aload_n 0, 1) := dk_42 (dk_at dksX1_does_5 9 rfl rfl)
theorem dX1_does_145 : decode cX1_does 145 = .ok (.aload_n 0, 1) := dk_42 (dk_at dksX1_does_5 10 rfl rfl)
theorem dX1_does_146 : decode cX1_does 146 = .ok (.getfield 12, 3) := dk_180 0 12 (dk_at dksX1_does_5 11 rfl rfl)
theorem dX1_does_149 : decode cX1_does 149 = .ok (.iload_n 2, 1) := dk_28 (dk_at dksX1_does_5 14 rfl rfl)
theorem dX1_does_150 : decode cX1_does 150 = .ok (.aload_n 0, 1) := dk_42 (dk_at dksX1_does_5 15 rfl rfl)
theorem dX1_does_151 : decode cX1_does 151 = .ok (.getfield 66, 3) := dk_180 0 66 (dk_at dksX1_does_5 16 rfl rfl)
theorem dX1_does_154 : decode cX1_does 154 = .ok (.iload_n 1, 1) := dk_27 (dk_at dksX1_does_5 19 rfl rfl)
theorem dX1_does_155 : decode cX1_does 155 = .ok (.iaload, 1) := dk_46 (dk_at dksX1_does_5 20 rfl rfl)
theorem dX1_does_156 : decode cX1_does 156 = .ok (.invokevirtual 371, 3) := dk_182 1 115 (dk_at dksX1_does_5 21 rfl rfl)
theorem dX1_does_159 : decode cX1_does 159 = .ok (.ifCond .lt 7, 3) := dk_155 0 7 (dk_at dksX1_does_6 0 rfl rfl)
theorem dX1_does_162 : decode cX1_does 162 = .ok (.iconst 1, 1) := dk_4 (dk_at dksX1_does_6 3 rfl rfl)
theorem dX1_does_163 : decode cX1_does 163 = .ok (.goto 4, 3) := dk_167 0 4 (dk_at dksX1_does_6 4 rfl rfl)
theorem dX1_does_166 : decode cX1_does 166 = .ok (.iconst 0, 1) := dk_3 (dk_at dksX1_does_6 7 rfl rfl)
theorem dX1_does_167 : decode cX1_does 167 = .ok (.ireturn, 1) := dk_172 (dk_at dksX1_does_6 8 rfl rfl)
theorem dX1_does_168 : decode cX1_does 168 = .ok (.aload_n 0, 1) := dk_42 (dk_at dksX1_does_6 9 rfl rfl)
theorem dX1_does_169 : decode cX1_does 169 = .ok (.aload_n 0, 1) := dk_42 (dk_at dksX1_does_6 10 rfl rfl)
theorem dX1_does_170 : decode cX1_does 170 = .ok (.getfield 12, 3) := dk_180 0 12 (dk_at dksX1_does_6 11 rfl rfl)
theorem dX1_does_173 : decode cX1_does 173 = .ok (.iload_n 2, 1) := dk_28 (dk_at dksX1_does_6 14 rfl rfl)
theorem dX1_does_174 : decode cX1_does 174 = .ok (.invokevirtual 346, 3) := dk_182 1 90 (dk_at dksX1_does_6 15 rfl rfl)
theorem dX1_does_177 : decode cX1_does 177 = .ok (.iconst 1, 1) := dk_4 (dk_at dksX1_does_6 18 rfl rfl)
theorem dX1_does_178 : decode cX1_does 178 = .ok (.ireturn, 1) := dk_172 (dk_at dksX1_does_6 19 rfl rfl)
abbrev cX1_later : ByteArray := prog_1_method_53_code
def yX1_later : MethodName := ⟨RX1, "later", "(II)I"⟩
def dkwX1_later_3 : List UInt8 := [132, 3, 1, 167, 255, 231, 42, 180, 0, 16, 180, 0, 133, 27, 46, 172]
abbrev dktX1_later_3 : List UInt8 := dkwX1_later_3 ++ []
def dkwX1_later_2 : List UInt8 := [3, 62, 29, 42, 180, 0, 117, 162, 0, 23, 42, 42, 180, 0, 16, 180, 0, 133, 29, 46, 133, 182, 1, 97]
abbrev dktX1_later_2 : List UInt8 := dkwX1_later_2 ++ dktX1_later_3
def dkwX1_later_1 : List UInt8 := [180, 0, 16, 42, 180, 0, 12, 182, 1, 58, 42, 42, 180, 0, 16, 28, 182, 1, 90, 42, 3, 181, 1, 94]
abbrev dktX1_later_1 : List UInt8 := dkwX1_later_1 ++ dktX1_later_2
def dkwX1_later_0 : List UInt8 := [42, 27, 182, 1, 41, 153, 0, 15, 28, 133, 9, 20, 1, 129, 184, 0, 121, 154, 0, 5, 2, 172, 42]
abbrev dktX1_later_0 : List UInt8 := dkwX1_later_0 ++ dktX1_later_1
theorem dksX1_later_0 : cX1_later.data.toList.drop 0 = dktX1_later_0 := by decide +kernel
theorem dksX1_later_1 : cX1_later.data.toList.drop 23 = dktX1_later_1 := dk_seg dksX1_later_0 23 rfl rfl
theorem dksX1_later_2 : cX1_later.data.toList.drop 47 = dktX1_later_2 := dk_seg dksX1_later_1 24 rfl rfl
theorem dksX1_later_3 : cX1_later.data.toList.drop 71 = dktX1_later_3 := dk_seg dksX1_later_2 24 rfl rfl
theorem dX1_later_0 : decode cX1_later 0 = .ok (.aload_n 0, 1) := dk_42 (dk_at dksX1_later_0 0 rfl rfl)
theorem dX1_later_1 : decode cX1_later 1 = .ok (.iload_n 1, 1) := dk_27 (dk_at dksX1_later_0 1 rfl rfl)
theorem dX1_later_2 : decode cX1_later 2 = .ok (.invokevirtual 297, 3) := dk_182 1 41 (dk_at dksX1_later_0 2 rfl rfl)
theorem dX1_later_5 : decode cX1_later 5 = .ok (.ifCond .eq 15, 3) := dk_153 0 15 (dk_at dksX1_later_0 5 rfl rfl)
theorem dX1_later_8 : decode cX1_later 8 = .ok (.iload_n 2, 1) := dk_28 (dk_at dksX1_later_0 8 rfl rfl)
theorem dX1_later_9 : decode cX1_later 9 = .ok (.i2l, 1) := dk_133 (dk_at dksX1_later_0 9 rfl rfl)
theorem dX1_later_10 : decode cX1_later 10 = .ok (.lconst 0, 1) := dk_9 (dk_at dksX1_later_0 10 rfl rfl)
theorem dX1_later_11 : decode cX1_later 11 = .ok (.ldc2_w 385, 3) := dk_20 1 129 (dk_at dksX1_later_0 11 rfl rfl)
theorem dX1_later_14 : decode cX1_later 14 = .ok (.invokestatic 121, 3) := dk_184 0 121 (dk_at dksX1_later_0 14 rfl rfl)
theorem dX1_later_17 : decode cX1_later 17 = .ok (.ifCond .ne 5, 3) := dk_154 0 5 (dk_at dksX1_later_0 17 rfl rfl)
theorem dX1_later_20 : decode cX1_later 20 = .ok (.iconst (-1), 1) := dk_2 (dk_at dksX1_later_0 20 rfl rfl)
theorem dX1_later_21 : decode cX1_later 21 = .ok (.ireturn, 1) := dk_172 (dk_at dksX1_later_0 21 rfl rfl)
theorem dX1_later_22 : decode cX1_later 22 = .ok (.aload_n 0, 1) := dk_42 (dk_at dksX1_later_0 22 rfl rfl)
theorem dX1_later_23 : decode cX1_later 23 = .ok (.getfield 16, 3) := dk_180 0 16 (dk_at dksX1_later_1 0 rfl rfl)
theorem dX1_later_26 : decode cX1_later 26 = .ok (.aload_n 0, 1) := dk_42 (dk_at dksX1_later_1 3 rfl rfl)
theorem dX1_later_27 : decode cX1_later 27 = .ok (.getfield 12, 3) := dk_180 0 12 (dk_at dksX1_later_1 4 rfl rfl)
theorem dX1_later_30 : decode cX1_later 30 = .ok (.invokevirtual 314, 3) := dk_182 1 58 (dk_at dksX1_later_1 7 rfl rfl)
theorem dX1_later_33 : decode cX1_later 33 = .ok (.aload_n 0, 1) := dk_42 (dk_at dksX1_later_1 10 rfl rfl)
theorem dX1_later_34 : decode cX1_later 34 = .ok (.aload_n 0, 1) := dk_42 (dk_at dksX1_later_1 11 rfl rfl)
theorem dX1_later_35 : decode cX1_later 35 = .ok (.getfield 16, 3) := dk_180 0 16 (dk_at dksX1_later_1 12 rfl rfl)
theorem dX1_later_38 : decode cX1_later 38 = .ok (.iload_n 2, 1) := dk_28 (dk_at dksX1_later_1 15 rfl rfl)
theorem dX1_later_39 : decode cX1_later 39 = .ok (.invokevirtual 346, 3) := dk_182 1 90 (dk_at dksX1_later_1 16 rfl rfl)
theorem dX1_later_42 : decode cX1_later 42 = .ok (.aload_n 0, 1) := dk_42 (dk_at dksX1_later_1 19 rfl rfl)
theorem dX1_later_43 : decode cX1_later 43 = .ok (.iconst 0, 1) := dk_3 (dk_at dksX1_later_1 20 rfl rfl)
theorem dX1_later_44 : decode cX1_later 44 = .ok (.putfield 350, 3) := dk_181 1 94 (dk_at dksX1_later_1 21 rfl rfl)
theorem dX1_later_47 : decode cX1_later 47 = .ok (.iconst 0, 1) := dk_3 (dk_at dksX1_later_2 0 rfl rfl)
theorem dX1_later_48 : decode cX1_later 48 = .ok (.istore_n 3, 1) := dk_62 (dk_at dksX1_later_2 1 rfl rfl)
theorem dX1_later_49 : decode cX1_later 49 = .ok (.iload_n 3, 1) := dk_29 (dk_at dksX1_later_2 2 rfl rfl)
theorem dX1_later_50 : decode cX1_later 50 = .ok (.aload_n 0, 1) := dk_42 (dk_at dksX1_later_2 3 rfl rfl)
theorem dX1_later_51 : decode cX1_later 51 = .ok (.getfield 117, 3) := dk_180 0 117 (dk_at dksX1_later_2 4 rfl rfl)
theorem dX1_later_54 : decode cX1_later 54 = .ok (.if_icmp .ge 23, 3) := dk_162 0 23 (dk_at dksX1_later_2 7 rfl rfl)
theorem dX1_later_57 : decode cX1_later 57 = .ok (.aload_n 0, 1) := dk_42 (dk_at dksX1_later_2 10 rfl rfl)
theorem dX1_later_58 : decode cX1_later 58 = .ok (.aload_n 0, 1) := dk_42 (dk_at dksX1_later_2 11 rfl rfl)
theorem dX1_later_59 : decode cX1_later 59 = .ok (.getfield 16, 3) := dk_180 0 16 (dk_at dksX1_later_2 12 rfl rfl)
theorem dX1_later_62 : decode cX1_later 62 = .ok (.getfield 133, 3) := dk_180 0 133 (dk_at dksX1_later_2 15 rfl rfl)
theorem dX1_later_65 : decode cX1_later 65 = .ok (.iload_n 3, 1) := dk_29 (dk_at dksX1_later_2 18 rfl rfl)
theorem dX1_later_66 : decode cX1_later 66 = .ok (.iaload, 1) := dk_46 (dk_at dksX1_later_2 19 rfl rfl)
theorem dX1_later_67 : decode cX1_later 67 = .ok (.i2l, 1) := dk_133 (dk_at dksX1_later_2 20 rfl rfl)
theorem dX1_later_68 : decode cX1_later 68 = .ok (.invokevirtual 353, 3) := dk_182 1 97 (dk_at dksX1_later_2 21 rfl rfl)
theorem dX1_later_71 : decode cX1_later 71 = .ok (.iinc 3 1, 3) := dk_132 3 1 (dk_at dksX1_later_3 0 rfl rfl)
theorem dX1_later_74 : decode cX1_later 74 = .ok (.goto (-25), 3) := dk_167 255 231 (dk_at dksX1_later_3 3 rfl rfl)
theorem dX1_later_77 : decode cX1_later 77 = .ok (.aload_n 0, 1) := dk_42 (dk_at dksX1_later_3 6 rfl rfl)
theorem dX1_later_78 : decode cX1_later 78 = .ok (.getfield 16, 3) := dk_180 0 16 (dk_at dksX1_later_3 7 rfl rfl)
theorem dX1_later_81 : decode cX1_later 81 = .ok (.getfield 133, 3) := dk_180 0 133 (dk_at dksX1_later_3 10 rfl rfl)
theorem dX1_later_84 : decode cX1_later 84 = .ok (.iload_n 1, 1) := dk_27 (dk_at dksX1_later_3 13 rfl rfl)
theorem dX1_later_85 : decode cX1_later 85 = .ok (.iaload, 1) := dk_46 (dk_at dksX1_later_3 14 rfl rfl)
theorem dX1_later_86 : decode cX1_later 86 = .ok (.ireturn, 1) := dk_172 (dk_at dksX1_later_3 15 rfl rfl)
abbrev cX1_dries : ByteArray := prog_1_method_55_code
def yX1_dries : MethodName := ⟨RX1, "dries", "(I)I"⟩
def dkwX1_dries_1 : List UInt8 := [42, 3, 181, 1, 94, 42, 42, 42, 180, 0, 16, 182, 1, 54, 133, 182, 1, 97, 28, 172]
abbrev dktX1_dries_1 : List UInt8 := dkwX1_dries_1 ++ []
def dkwX1_dries_0 : List UInt8 := [42, 27, 182, 1, 41, 154, 0, 5, 2, 172, 42, 27, 3, 182, 1, 131, 61, 28, 156, 0, 6, 16, 254, 172]
abbrev dktX1_dries_0 : List UInt8 := dkwX1_dries_0 ++ dktX1_dries_1
theorem dksX1_dries_0 : cX1_dries.data.toList.drop 0 = dktX1_dries_0 := by decide +kernel
theorem dksX1_dries_1 : cX1_dries.data.toList.drop 24 = dktX1_dries_1 := dk_seg dksX1_dries_0 24 rfl rfl
theorem dX1_dries_0 : decode cX1_dries 0 = .ok (.aload_n 0, 1) := dk_42 (dk_at dksX1_dries_0 0 rfl rfl)
theorem dX1_dries_1 : decode cX1_dries 1 = .ok (.iload_n 1, 1) := dk_27 (dk_at dksX1_dries_0 1 rfl rfl)
theorem dX1_dries_2 : decode cX1_dries 2 = .ok (.invokevirtual 297, 3) := dk_182 1 41 (dk_at dksX1_dries_0 2 rfl rfl)
theorem dX1_dries_5 : decode cX1_dries 5 = .ok (.ifCond .ne 5, 3) := dk_154 0 5 (dk_at dksX1_dries_0 5 rfl rfl)
theorem dX1_dries_8 : decode cX1_dries 8 = .ok (.iconst (-1), 1) := dk_2 (dk_at dksX1_dries_0 8 rfl rfl)
theorem dX1_dries_9 : decode cX1_dries 9 = .ok (.ireturn, 1) := dk_172 (dk_at dksX1_dries_0 9 rfl rfl)
theorem dX1_dries_10 : decode cX1_dries 10 = .ok (.aload_n 0, 1) := dk_42 (dk_at dksX1_dries_0 10 rfl rfl)
theorem dX1_dries_11 : decode cX1_dries 11 = .ok (.iload_n 1, 1) := dk_27 (dk_at dksX1_dries_0 11 rfl rfl)
theorem dX1_dries_12 : decode cX1_dries 12 = .ok (.iconst 0, 1) := dk_3 (dk_at dksX1_dries_0 12 rfl rfl)
theorem dX1_dries_13 : decode cX1_dries 13 = .ok (.invokevirtual 387, 3) := dk_182 1 131 (dk_at dksX1_dries_0 13 rfl rfl)
theorem dX1_dries_16 : decode cX1_dries 16 = .ok (.istore_n 2, 1) := dk_61 (dk_at dksX1_dries_0 16 rfl rfl)
theorem dX1_dries_17 : decode cX1_dries 17 = .ok (.iload_n 2, 1) := dk_28 (dk_at dksX1_dries_0 17 rfl rfl)
theorem dX1_dries_18 : decode cX1_dries 18 = .ok (.ifCond .ge 6, 3) := dk_156 0 6 (dk_at dksX1_dries_0 18 rfl rfl)
theorem dX1_dries_21 : decode cX1_dries 21 = .ok (.bipush (-2), 2) := dk_16 254 (dk_at dksX1_dries_0 21 rfl rfl)
theorem dX1_dries_23 : decode cX1_dries 23 = .ok (.ireturn, 1) := dk_172 (dk_at dksX1_dries_0 23 rfl rfl)
theorem dX1_dries_24 : decode cX1_dries 24 = .ok (.aload_n 0, 1) := dk_42 (dk_at dksX1_dries_1 0 rfl rfl)
theorem dX1_dries_25 : decode cX1_dries 25 = .ok (.iconst 0, 1) := dk_3 (dk_at dksX1_dries_1 1 rfl rfl)
theorem dX1_dries_26 : decode cX1_dries 26 = .ok (.putfield 350, 3) := dk_181 1 94 (dk_at dksX1_dries_1 2 rfl rfl)
theorem dX1_dries_29 : decode cX1_dries 29 = .ok (.aload_n 0, 1) := dk_42 (dk_at dksX1_dries_1 5 rfl rfl)
theorem dX1_dries_30 : decode cX1_dries 30 = .ok (.aload_n 0, 1) := dk_42 (dk_at dksX1_dries_1 6 rfl rfl)
theorem dX1_dries_31 : decode cX1_dries 31 = .ok (.aload_n 0, 1) := dk_42 (dk_at dksX1_dries_1 7 rfl rfl)
theorem dX1_dries_32 : decode cX1_dries 32 = .ok (.getfield 16, 3) := dk_180 0 16 (dk_at dksX1_dries_1 8 rfl rfl)
theorem dX1_dries_35 : decode cX1_dries 35 = .ok (.invokevirtual 310, 3) := dk_182 1 54 (dk_at dksX1_dries_1 11 rfl rfl)
theorem dX1_dries_38 : decode cX1_dries 38 = .ok (.i2l, 1) := dk_133 (dk_at dksX1_dries_1 14 rfl rfl)
theorem dX1_dries_39 : decode cX1_dries 39 = .ok (.invokevirtual 353, 3) := dk_182 1 97 (dk_at dksX1_dries_1 15 rfl rfl)
theorem dX1_dries_42 : decode cX1_dries 42 = .ok (.iload_n 2, 1) := dk_28 (dk_at dksX1_dries_1 18 rfl rfl)
theorem dX1_dries_43 : decode cX1_dries 43 = .ok (.ireturn, 1) := dk_172 (dk_at dksX1_dries_1 19 rfl rfl)
abbrev cX1_daysTill : ByteArray := prog_1_method_54_code
def yX1_daysTill : MethodName := ⟨RX1, "daysTill", "(II)I"⟩
def dkwX1_daysTill_2 : List UInt8 := [167, 255, 224, 2, 172]
abbrev dktX1_daysTill_2 : List UInt8 := dkwX1_daysTill_2 ++ []
def dkwX1_daysTill_1 : List UInt8 := [180, 0, 133, 27, 46, 28, 160, 0, 5, 29, 172, 42, 42, 180, 0, 16, 182, 1, 78, 132, 3, 1]
abbrev dktX1_daysTill_1 : List UInt8 := dkwX1_daysTill_1 ++ dktX1_daysTill_2
def dkwX1_daysTill_0 : List UInt8 := [42, 180, 0, 16, 42, 180, 0, 12, 182, 1, 58, 3, 62, 29, 16, 99, 163, 0, 32, 42, 180, 0, 16]
abbrev dktX1_daysTill_0 : List UInt8 := dkwX1_daysTill_0 ++ dktX1_daysTill_1
theorem dksX1_daysTill_0 : cX1_daysTill.data.toList.drop 0 = dktX1_daysTill_0 := by decide +kernel
theorem dksX1_daysTill_1 : cX1_daysTill.data.toList.drop 23 = dktX1_daysTill_1 := dk_seg dksX1_daysTill_0 23 rfl rfl
theorem dksX1_daysTill_2 : cX1_daysTill.data.toList.drop 45 = dktX1_daysTill_2 := dk_seg dksX1_daysTill_1 22 rfl rfl
theorem dX1_daysTill_0 : decode cX1_daysTill 0 = .ok (.aload_n 0, 1) := dk_42 (dk_at dksX1_daysTill_0 0 rfl rfl)
theorem dX1_daysTill_1 : decode cX1_daysTill 1 = .ok (.getfield 16, 3) := dk_180 0 16 (dk_at dksX1_daysTill_0 1 rfl rfl)
theorem dX1_daysTill_4 : decode cX1_daysTill 4 = .ok (.aload_n 0, 1) := dk_42 (dk_at dksX1_daysTill_0 4 rfl rfl)
theorem dX1_daysTill_5 : decode cX1_daysTill 5 = .ok (.getfield 12, 3) := dk_180 0 12 (dk_at dksX1_daysTill_0 5 rfl rfl)
theorem dX1_daysTill_8 : decode cX1_daysTill 8 = .ok (.invokevirtual 314, 3) := dk_182 1 58 (dk_at dksX1_daysTill_0 8 rfl rfl)
theorem dX1_daysTill_11 : decode cX1_daysTill 11 = .ok (.iconst 0, 1) := dk_3 (dk_at dksX1_daysTill_0 11 rfl rfl)
theorem dX1_daysTill_12 : decode cX1_daysTill 12 = .ok (.istore_n 3, 1) := dk_62 (dk_at dksX1_daysTill_0 12 rfl rfl)
theorem dX1_daysTill_13 : decode cX1_daysTill 13 = .ok (.iload_n 3, 1) := dk_29 (dk_at dksX1_daysTill_0 13 rfl rfl)
theorem dX1_daysTill_14 : decode cX1_daysTill 14 = .ok (.bipush 99, 2) := dk_16 99 (dk_at dksX1_daysTill_0 14 rfl rfl)
theorem dX1_daysTill_16 : decode cX1_daysTill 16 = .ok (.if_icmp .gt 32, 3) := dk_163 0 32 (dk_at dksX1_daysTill_0 16 rfl rfl)
theorem dX1_daysTill_19 : decode cX1_daysTill 19 = .ok (.aload_n 0, 1) := dk_42 (dk_at dksX1_daysTill_0 19 rfl rfl)
theorem dX1_daysTill_20 : decode cX1_daysTill 20 = .ok (.getfield 16, 3) := dk_180 0 16 (dk_at dksX1_daysTill_0 20 rfl rfl)
theorem dX1_daysTill_23 : decode cX1_daysTill 23 = .ok (.getfield 133, 3) := dk_180 0 133 (dk_at dksX1_daysTill_1 0 rfl rfl)
theorem dX1_daysTill_26 : decode cX1_daysTill 26 = .ok (.iload_n 1, 1) := dk_27 (dk_at dksX1_daysTill_1 3 rfl rfl)
theorem dX1_daysTill_27 : decode cX1_daysTill 27 = .ok (.iaload, 1) := dk_46 (dk_at dksX1_daysTill_1 4 rfl rfl)
theorem dX1_daysTill_28 : decode cX1_daysTill 28 = .ok (.iload_n 2, 1) := dk_28 (dk_at dksX1_daysTill_1 5 rfl rfl)
theorem dX1_daysTill_29 : decode cX1_daysTill 29 = .ok (.if_icmp .ne 5, 3) := dk_160 0 5 (dk_at dksX1_daysTill_1 6 rfl rfl)
theorem dX1_daysTill_32 : decode cX1_daysTill 32 = .ok (.iload_n 3, 1) := dk_29 (dk_at dksX1_daysTill_1 9 rfl rfl)
theorem dX1_daysTill_33 : decode cX1_daysTill 33 = .ok (.ireturn, 1) := dk_172 (dk_at dksX1_daysTill_1 10 rfl rfl)
theorem dX1_daysTill_34 : decode cX1_daysTill 34 = .ok (.aload_n 0, 1) := dk_42 (dk_at dksX1_daysTill_1 11 rfl rfl)
theorem dX1_daysTill_35 : decode cX1_daysTill 35 = .ok (.aload_n 0, 1) := dk_42 (dk_at dksX1_daysTill_1 12 rfl rfl)
theorem dX1_daysTill_36 : decode cX1_daysTill 36 = .ok (.getfield 16, 3) := dk_180 0 16 (dk_at dksX1_daysTill_1 13 rfl rfl)
theorem dX1_daysTill_39 : decode cX1_daysTill 39 = .ok (.invokevirtual 334, 3) := dk_182 1 78 (dk_at dksX1_daysTill_1 16 rfl rfl)
theorem dX1_daysTill_42 : decode cX1_daysTill 42 = .ok (.iinc 3 1, 3) := dk_132 3 1 (dk_at dksX1_daysTill_1 19 rfl rfl)
theorem dX1_daysTill_45 : decode cX1_daysTill 45 = .ok (.goto (-32), 3) := dk_167 255 224 (dk_at dksX1_daysTill_2 0 rfl rfl)
theorem dX1_daysTill_48 : decode cX1_daysTill 48 = .ok (.iconst (-1), 1) := dk_2 (dk_at dksX1_daysTill_2 3 rfl rfl)
theorem dX1_daysTill_49 : decode cX1_daysTill 49 = .ok (.ireturn, 1) := dk_172 (dk_at dksX1_daysTill_2 4 rfl rfl)
abbrev cX1_brims : ByteArray := prog_1_method_56_code
def yX1_brims : MethodName := ⟨RX1, "brims", "(I)I"⟩
def dkwX1_brims_2 : List UInt8 := [180, 1, 65, 100, 133, 182, 1, 97, 28, 172]
abbrev dktX1_brims_2 : List UInt8 := dkwX1_brims_2 ++ []
def dkwX1_brims_1 : List UInt8 := [156, 0, 6, 16, 254, 172, 42, 3, 181, 1, 94, 42, 42, 180, 0, 16, 180, 1, 65, 42, 180, 0, 12]
abbrev dktX1_brims_1 : List UInt8 := dkwX1_brims_1 ++ dktX1_brims_2
def dkwX1_brims_0 : List UInt8 := [42, 27, 182, 1, 41, 154, 0, 5, 2, 172, 42, 27, 42, 180, 0, 19, 27, 46, 182, 1, 131, 61, 28]
abbrev dktX1_brims_0 : List UInt8 := dkwX1_brims_0 ++ dktX1_brims_1
theorem dksX1_brims_0 : cX1_brims.data.toList.drop 0 = dktX1_brims_0 := by decide +kernel
theorem dksX1_brims_1 : cX1_brims.data.toList.drop 23 = dktX1_brims_1 := dk_seg dksX1_brims_0 23 rfl rfl
theorem dksX1_brims_2 : cX1_brims.data.toList.drop 46 = dktX1_brims_2 := dk_seg dksX1_brims_1 23 rfl rfl
theorem dX1_brims_0 : decode cX1_brims 0 = .ok (.aload_n 0, 1) := dk_42 (dk_at dksX1_brims_0 0 rfl rfl)
theorem dX1_brims_1 : decode cX1_brims 1 = .ok (.iload_n 1, 1) := dk_27 (dk_at dksX1_brims_0 1 rfl rfl)
theorem dX1_brims_2 : decode cX1_brims 2 = .ok (.invokevirtual 297, 3) := dk_182 1 41 (dk_at dksX1_brims_0 2 rfl rfl)
theorem dX1_brims_5 : decode cX1_brims 5 = .ok (.ifCond .ne 5, 3) := dk_154 0 5 (dk_at dksX1_brims_0 5 rfl rfl)
theorem dX1_brims_8 : decode cX1_brims 8 = .ok (.iconst (-1), 1) := dk_2 (dk_at dksX1_brims_0 8 rfl rfl)
theorem dX1_brims_9 : decode cX1_brims 9 = .ok (.ireturn, 1) := dk_172 (dk_at dksX1_brims_0 9 rfl rfl)
theorem dX1_brims_10 : decode cX1_brims 10 = .ok (.aload_n 0, 1) := dk_42 (dk_at dksX1_brims_0 10 rfl rfl)
theorem dX1_brims_11 : decode cX1_brims 11 = .ok (.iload_n 1, 1) := dk_27 (dk_at dksX1_brims_0 11 rfl rfl)
theorem dX1_brims_12 : decode cX1_brims 12 = .ok (.aload_n 0, 1) := dk_42 (dk_at dksX1_brims_0 12 rfl rfl)
theorem dX1_brims_13 : decode cX1_brims 13 = .ok (.getfield 19, 3) := dk_180 0 19 (dk_at dksX1_brims_0 13 rfl rfl)
theorem dX1_brims_16 : decode cX1_brims 16 = .ok (.iload_n 1, 1) := dk_27 (dk_at dksX1_brims_0 16 rfl rfl)
theorem dX1_brims_17 : decode cX1_brims 17 = .ok (.iaload, 1) := dk_46 (dk_at dksX1_brims_0 17 rfl rfl)
theorem dX1_brims_18 : decode cX1_brims 18 = .ok (.invokevirtual 387, 3) := dk_182 1 131 (dk_at dksX1_brims_0 18 rfl rfl)
theorem dX1_brims_21 : decode cX1_brims 21 = .ok (.istore_n 2, 1) := dk_61 (dk_at dksX1_brims_0 21 rfl rfl)
theorem dX1_brims_22 : decode cX1_brims 22 = .ok (.iload_n 2, 1) := dk_28 (dk_at dksX1_brims_0 22 rfl rfl)
theorem dX1_brims_23 : decode cX1_brims 23 = .ok (.ifCond .ge 6, 3) := dk_156 0 6 (dk_at dksX1_brims_1 0 rfl rfl)
theorem dX1_brims_26 : decode cX1_brims 26 = .ok (.bipush (-2), 2) := dk_16 254 (dk_at dksX1_brims_1 3 rfl rfl)
theorem dX1_brims_28 : decode cX1_brims 28 = .ok (.ireturn, 1) := dk_172 (dk_at dksX1_brims_1 5 rfl rfl)
theorem dX1_brims_29 : decode cX1_brims 29 = .ok (.aload_n 0, 1) := dk_42 (dk_at dksX1_brims_1 6 rfl rfl)
theorem dX1_brims_30 : decode cX1_brims 30 = .ok (.iconst 0, 1) := dk_3 (dk_at dksX1_brims_1 7 rfl rfl)
theorem dX1_brims_31 : decode cX1_brims 31 = .ok (.putfield 350, 3) := dk_181 1 94 (dk_at dksX1_brims_1 8 rfl rfl)
theorem dX1_brims_34 : decode cX1_brims 34 = .ok (.aload_n 0, 1) := dk_42 (dk_at dksX1_brims_1 11 rfl rfl)
theorem dX1_brims_35 : decode cX1_brims 35 = .ok (.aload_n 0, 1) := dk_42 (dk_at dksX1_brims_1 12 rfl rfl)
theorem dX1_brims_36 : decode cX1_brims 36 = .ok (.getfield 16, 3) := dk_180 0 16 (dk_at dksX1_brims_1 13 rfl rfl)
theorem dX1_brims_39 : decode cX1_brims 39 = .ok (.getfield 321, 3) := dk_180 1 65 (dk_at dksX1_brims_1 16 rfl rfl)
theorem dX1_brims_42 : decode cX1_brims 42 = .ok (.aload_n 0, 1) := dk_42 (dk_at dksX1_brims_1 19 rfl rfl)
theorem dX1_brims_43 : decode cX1_brims 43 = .ok (.getfield 12, 3) := dk_180 0 12 (dk_at dksX1_brims_1 20 rfl rfl)
theorem dX1_brims_46 : decode cX1_brims 46 = .ok (.getfield 321, 3) := dk_180 1 65 (dk_at dksX1_brims_2 0 rfl rfl)
theorem dX1_brims_49 : decode cX1_brims 49 = .ok (.isub, 1) := dk_100 (dk_at dksX1_brims_2 3 rfl rfl)
theorem dX1_brims_50 : decode cX1_brims 50 = .ok (.i2l, 1) := dk_133 (dk_at dksX1_brims_2 4 rfl rfl)
theorem dX1_brims_51 : decode cX1_brims 51 = .ok (.invokevirtual 353, 3) := dk_182 1 97 (dk_at dksX1_brims_2 5 rfl rfl)
theorem dX1_brims_54 : decode cX1_brims 54 = .ok (.iload_n 2, 1) := dk_28 (dk_at dksX1_brims_2 8 rfl rfl)
theorem dX1_brims_55 : decode cX1_brims 55 = .ok (.ireturn, 1) := dk_172 (dk_at dksX1_brims_2 9 rfl rfl)
abbrev cX1_marks : ByteArray := prog_1_method_57_code
def yX1_marks : MethodName := ⟨RX1, "marks", "(II)I"⟩
def dkwX1_marks_6 : List UInt8 := [133, 182, 1, 97, 42, 21, 4, 133, 182, 1, 97, 42, 21, 6, 133, 182, 1, 97, 29, 172]
abbrev dktX1_marks_6 : List UInt8 := dkwX1_marks_6 ++ []
def dkwX1_marks_5 : List UInt8 := [62, 21, 4, 21, 8, 184, 1, 38, 54, 4, 132, 7, 1, 167, 255, 181, 42, 3, 181, 1, 94, 42, 21, 5]
abbrev dktX1_marks_5 : List UInt8 := dkwX1_marks_5 ++ dktX1_marks_6
def dkwX1_marks_4 : List UInt8 := [54, 5, 21, 8, 21, 4, 164, 0, 8, 21, 7, 167, 0, 5, 21, 6, 54, 6, 29, 21, 8, 184, 0, 152]
abbrev dktX1_marks_4 : List UInt8 := dkwX1_marks_4 ++ dktX1_marks_5
def dkwX1_marks_3 : List UInt8 := [180, 0, 16, 180, 0, 133, 27, 46, 54, 8, 21, 8, 29, 162, 0, 8, 21, 7, 167, 0, 5, 21, 5]
abbrev dktX1_marks_3 : List UInt8 := dkwX1_marks_3 ++ dktX1_marks_4
def dkwX1_marks_2 : List UInt8 := [54, 5, 3, 54, 6, 4, 54, 7, 21, 7, 28, 163, 0, 75, 42, 42, 180, 0, 16, 182, 1, 78, 42]
abbrev dktX1_marks_2 : List UInt8 := dkwX1_marks_2 ++ dktX1_marks_3
def dkwX1_marks_1 : List UInt8 := [180, 0, 16, 42, 180, 0, 12, 182, 1, 58, 42, 180, 0, 12, 180, 0, 133, 27, 46, 62, 29, 54, 4, 3]
abbrev dktX1_marks_1 : List UInt8 := dkwX1_marks_1 ++ dktX1_marks_2
def dkwX1_marks_0 : List UInt8 := [42, 27, 182, 1, 41, 153, 0, 15, 28, 133, 9, 20, 1, 129, 184, 0, 121, 154, 0, 5, 2, 172, 42]
abbrev dktX1_marks_0 : List UInt8 := dkwX1_marks_0 ++ dktX1_marks_1
theorem dksX1_marks_0 : cX1_marks.data.toList.drop 0 = dktX1_marks_0 := by decide +kernel
theorem dksX1_marks_1 : cX1_marks.data.toList.drop 23 = dktX1_marks_1 := dk_seg dksX1_marks_0 23 rfl rfl
theorem dksX1_marks_2 : cX1_marks.data.toList.drop 47 = dktX1_marks_2 := dk_seg dksX1_marks_1 24 rfl rfl
theorem dksX1_marks_3 : cX1_marks.data.toList.drop 70 = dktX1_marks_3 := dk_seg dksX1_marks_2 23 rfl rfl
theorem dksX1_marks_4 : cX1_marks.data.toList.drop 93 = dktX1_marks_4 := dk_seg dksX1_marks_3 23 rfl rfl
theorem dksX1_marks_5 : cX1_marks.data.toList.drop 117 = dktX1_marks_5 := dk_seg dksX1_marks_4 24 rfl rfl
theorem dksX1_marks_6 : cX1_marks.data.toList.drop 141 = dktX1_marks_6 := dk_seg dksX1_marks_5 24 rfl rfl
theorem dX1_marks_0 : decode cX1_marks 0 = .ok (.aload_n 0, 1) := dk_42 (dk_at dksX1_marks_0 0 rfl rfl)
theorem dX1_marks_1 : decode cX1_marks 1 = .ok (.iload_n 1, 1) := dk_27 (dk_at dksX1_marks_0 1 rfl rfl)
theorem dX1_marks_2 : decode cX1_marks 2 = .ok (.invokevirtual 297, 3) := dk_182 1 41 (dk_at dksX1_marks_0 2 rfl rfl)
theorem dX1_marks_5 : decode cX1_marks 5 = .ok (.ifCond .eq 15, 3) := dk_153 0 15 (dk_at dksX1_marks_0 5 rfl rfl)
theorem dX1_marks_8 : decode cX1_marks 8 = .ok (.iload_n 2, 1) := dk_28 (dk_at dksX1_marks_0 8 rfl rfl)
theorem dX1_marks_9 : decode cX1_marks 9 = .ok (.i2l, 1) := dk_133 (dk_at dksX1_marks_0 9 rfl rfl)
theorem dX1_marks_10 : decode cX1_marks 10 = .ok (.lconst 0, 1) := dk_9 (dk_at dksX1_marks_0 10 rfl rfl)
theorem dX1_marks_11 : decode cX1_marks 11 = .ok (.ldc2_w 385, 3) := dk_20 1 129 (dk_at dksX1_marks_0 11 rfl rfl)
theorem dX1_marks_14 : decode cX1_marks 14 = .ok (.invokestatic 121, 3) := dk_184 0 121 (dk_at dksX1_marks_0 14 rfl rfl)
theorem dX1_marks_17 : decode cX1_marks 17 = .ok (.ifCond .ne 5, 3) := dk_154 0 5 (dk_at dksX1_marks_0 17 rfl rfl)
theorem dX1_marks_20 : decode cX1_marks 20 = .ok (.iconst (-1), 1) := dk_2 (dk_at dksX1_marks_0 20 rfl rfl)
theorem dX1_marks_21 : decode cX1_marks 21 = .ok (.ireturn, 1) := dk_172 (dk_at dksX1_marks_0 21 rfl rfl)
theorem dX1_marks_22 : decode cX1_marks 22 = .ok (.aload_n 0, 1) := dk_42 (dk_at dksX1_marks_0 22 rfl rfl)
theorem dX1_marks_23 : decode cX1_marks 23 = .ok (.getfield 16, 3) := dk_180 0 16 (dk_at dksX1_marks_1 0 rfl rfl)
theorem dX1_marks_26 : decode cX1_marks 26 = .ok (.aload_n 0, 1) := dk_42 (dk_at dksX1_marks_1 3 rfl rfl)
theorem dX1_marks_27 : decode cX1_marks 27 = .ok (.getfield 12, 3) := dk_180 0 12 (dk_at dksX1_marks_1 4 rfl rfl)
theorem dX1_marks_30 : decode cX1_marks 30 = .ok (.invokevirtual 314, 3) := dk_182 1 58 (dk_at dksX1_marks_1 7 rfl rfl)
theorem dX1_marks_33 : decode cX1_marks 33 = .ok (.aload_n 0, 1) := dk_42 (dk_at dksX1_marks_1 10 rfl rfl)
theorem dX1_marks_34 : decode cX1_marks 34 = .ok (.getfield 12, 3) := dk_180 0 12 (dk_at dksX1_marks_1 11 rfl rfl)
theorem dX1_marks_37 : decode cX1_marks 37 = .ok (.getfield 133, 3) := dk_180 0 133 (dk_at dksX1_marks_1 14 rfl rfl)
theorem dX1_marks_40 : decode cX1_marks 40 = .ok (.iload_n 1, 1) := dk_27 (dk_at dksX1_marks_1 17 rfl rfl)
theorem dX1_marks_41 : decode cX1_marks 41 = .ok (.iaload, 1) := dk_46 (dk_at dksX1_marks_1 18 rfl rfl)
theorem dX1_marks_42 : decode cX1_marks 42 = .ok (.istore_n 3, 1) := dk_62 (dk_at dksX1_marks_1 19 rfl rfl)
theorem dX1_marks_43 : decode cX1_marks 43 = .ok (.iload_n 3, 1) := dk_29 (dk_at dksX1_marks_1 20 rfl rfl)
theorem dX1_marks_44 : decode cX1_marks 44 = .ok (.istore 4, 2) := dk_54 4 (dk_at dksX1_marks_1 21 rfl rfl)
theorem dX1_marks_46 : decode cX1_marks 46 = .ok (.iconst 0, 1) := dk_3 (dk_at dksX1_marks_1 23 rfl rfl)
theorem dX1_marks_47 : decode cX1_marks 47 = .ok (.istore 5, 2) := dk_54 5 (dk_at dksX1_marks_2 0 rfl rfl)
theorem dX1_marks_49 : decode cX1_marks 49 = .ok (.iconst 0, 1) := dk_3 (dk_at dksX1_marks_2 2 rfl rfl)
theorem dX1_marks_50 : decode cX1_marks 50 = .ok (.istore 6, 2) := dk_54 6 (dk_at dksX1_marks_2 3 rfl rfl)
theorem dX1_marks_52 : decode cX1_marks 52 = .ok (.iconst 1, 1) := dk_4 (dk_at dksX1_marks_2 5 rfl rfl)
theorem dX1_marks_53 : decode cX1_marks 53 = .ok (.istore 7, 2) := dk_54 7 (dk_at dksX1_marks_2 6 rfl rfl)
theorem dX1_marks_55 : decode cX1_marks 55 = .ok (.iload 7, 2) := dk_21 7 (dk_at dksX1_marks_2 8 rfl rfl)
theorem dX1_marks_57 : decode cX1_marks 57 = .ok (.iload_n 2, 1) := dk_28 (dk_at dksX1_marks_2 10 rfl rfl)
theorem dX1_marks_58 : decode cX1_marks 58 = .ok (.if_icmp .gt 75, 3) := dk_163 0 75 (dk_at dksX1_marks_2 11 rfl rfl)
theorem dX1_marks_61 : decode cX1_marks 61 = .ok (.aload_n 0, 1) := dk_42 (dk_at dksX1_marks_2 14 rfl rfl)
theorem dX1_marks_62 : decode cX1_marks 62 = .ok (.aload_n 0, 1) := dk_42 (dk_at dksX1_marks_2 15 rfl rfl)
theorem dX1_marks_63 : decode cX1_marks 63 = .ok (.getfield 16, 3) := dk_180 0 16 (dk_at dksX1_marks_2 16 rfl rfl)
theorem dX1_marks_66 : decode cX1_marks 66 = .ok (.invokevirtual 334, 3) := dk_182 1 78 (dk_at dksX1_marks_2 19 rfl rfl)
theorem dX1_marks_69 : decode cX1_marks 69 = .ok (.aload_n 0, 1) := dk_42 (dk_at dksX1_marks_2 22 rfl rfl)
theorem dX1_marks_70 : decode cX1_marks 70 = .ok (.getfield 16, 3) := dk_180 0 16 (dk_at dksX1_marks_3 0 rfl rfl)
theorem dX1_marks_73 : decode cX1_marks 73 = .ok (.getfield 133, 3) := dk_180 0 133 (dk_at dksX1_marks_3 3 rfl rfl)
theorem dX1_marks_76 : decode cX1_marks 76 = .ok (.iload_n 1, 1) := dk_27 (dk_at dksX1_marks_3 6 rfl rfl)
theorem dX1_marks_77 : decode cX1_marks 77 = .ok (.iaload, 1) := dk_46 (dk_at dksX1_marks_3 7 rfl rfl)
theorem dX1_marks_78 : decode cX1_marks 78 = .ok (.istore 8, 2) := dk_54 8 (dk_at dksX1_marks_3 8 rfl rfl)
theorem dX1_marks_80 : decode cX1_marks 80 = .ok (.iload 8, 2) := dk_21 8 (dk_at dksX1_marks_3 10 rfl rfl)
theorem dX1_marks_82 : decode cX1_marks 82 = .ok (.iload_n 3, 1) := dk_29 (dk_at dksX1_marks_3 12 rfl rfl)
theorem dX1_marks_83 : decode cX1_marks 83 = .ok (.if_icmp .ge 8, 3) := dk_162 0 8 (dk_at dksX1_marks_3 13 rfl rfl)
theorem dX1_marks_86 : decode cX1_marks 86 = .ok (.iload 7, 2) := dk_21 7 (dk_at dksX1_marks_3 16 rfl rfl)
theorem dX1_marks_88 : decode cX1_marks 88 = .ok (.goto 5, 3) := dk_167 0 5 (dk_at dksX1_marks_3 18 rfl rfl)
theorem dX1_marks_91 : decode cX1_marks 91 = .ok (.iload 5, 2) := dk_21 5 (dk_at dksX1_marks_3 21 rfl rfl)
theorem dX1_marks_93 : decode cX1_marks 93 = .ok (.istore 5, 2) := dk_54 5 (dk_at dksX1_marks_4 0 rfl rfl)
theorem dX1_marks_95 : decode cX1_marks 95 = .ok (.iload 8, 2) := dk_21 8 (dk_at dksX1_marks_4 2 rfl rfl)
theorem dX1_marks_97 : decode cX1_marks 97 = .ok (.iload 4, 2) := dk_21 4 (dk_at dksX1_marks_4 4 rfl rfl)
theorem dX1_marks_99 : decode cX1_marks 99 = .ok (.if_icmp .le 8, 3) := dk_164 0 8 (dk_at dksX1_marks_4 6 rfl rfl)
theorem dX1_marks_102 : decode cX1_marks 102 = .ok (.iload 7, 2) := dk_21 7 (dk_at dksX1_marks_4 9 rfl rfl)
theorem dX1_marks_104 : decode cX1_marks 104 = .ok (.goto 5, 3) := dk_167 0 5 (dk_at dksX1_marks_4 11 rfl rfl)
theorem dX1_marks_107 : decode cX1_marks 107 = .ok (.iload 6, 2) := dk_21 6 (dk_at dksX1_marks_4 14 rfl rfl)
theorem dX1_marks_109 : decode cX1_marks 109 = .ok (.istore 6, 2) := dk_54 6 (dk_at dksX1_marks_4 16 rfl rfl)
theorem dX1_marks_111 : decode cX1_marks 111 = .ok (.iload_n 3, 1) := dk_29 (dk_at dksX1_marks_4 18 rfl rfl)
theorem dX1_marks_112 : decode cX1_marks 112 = .ok (.iload 8, 2) := dk_21 8 (dk_at dksX1_marks_4 19 rfl rfl)
theorem dX1_marks_114 : decode cX1_marks 114 = .ok (.invokestatic 152, 3) := dk_184 0 152 (dk_at dksX1_marks_4 21 rfl rfl)
theorem dX1_marks_117 : decode cX1_marks 117 = .ok (.istore_n 3, 1) := dk_62 (dk_at dksX1_marks_5 0 rfl rfl)
theorem dX1_marks_118 : decode cX1_marks 118 = .ok (.iload 4, 2) := dk_21 4 (dk_at dksX1_marks_5 1 rfl rfl)
theorem dX1_marks_120 : decode cX1_marks 120 = .ok (.iload 8, 2) := dk_21 8 (dk_at dksX1_marks_5 3 rfl rfl)
theorem dX1_marks_122 : decode cX1_marks 122 = .ok (.invokestatic 294, 3) := dk_184 1 38 (dk_at dksX1_marks_5 5 rfl rfl)
theorem dX1_marks_125 : decode cX1_marks 125 = .ok (.istore 4, 2) := dk_54 4 (dk_at dksX1_marks_5 8 rfl rfl)
theorem dX1_marks_127 : decode cX1_marks 127 = .ok (.iinc 7 1, 3) := dk_132 7 1 (dk_at dksX1_marks_5 10 rfl rfl)
theorem dX1_marks_130 : decode cX1_marks 130 = .ok (.goto (-75), 3) := dk_167 255 181 (dk_at dksX1_marks_5 13 rfl rfl)
theorem dX1_marks_133 : decode cX1_marks 133 = .ok (.aload_n 0, 1) := dk_42 (dk_at dksX1_marks_5 16 rfl rfl)
theorem dX1_marks_134 : decode cX1_marks 134 = .ok (.iconst 0, 1) := dk_3 (dk_at dksX1_marks_5 17 rfl rfl)
theorem dX1_marks_135 : decode cX1_marks 135 = .ok (.putfield 350, 3) := dk_181 1 94 (dk_at dksX1_marks_5 18 rfl rfl)
theorem dX1_marks_138 : decode cX1_marks 138 = .ok (.aload_n 0, 1) := dk_42 (dk_at dksX1_marks_5 21 rfl rfl)
theorem dX1_marks_139 : decode cX1_marks 139 = .ok (.iload 5, 2) := dk_21 5 (dk_at dksX1_marks_5 22 rfl rfl)
theorem dX1_marks_141 : decode cX1_marks 141 = .ok (.i2l, 1) := dk_133 (dk_at dksX1_marks_6 0 rfl rfl)
theorem dX1_marks_142 : decode cX1_marks 142 = .ok (.invokevirtual 353, 3) := dk_182 1 97 (dk_at dksX1_marks_6 1 rfl rfl)
theorem dX1_marks_145 : decode cX1_marks 145 = .ok (.aload_n 0, 1) := dk_42 (dk_at dksX1_marks_6 4 rfl rfl)
theorem dX1_marks_146 : decode cX1_marks 146 = .ok (.iload 4, 2) := dk_21 4 (dk_at dksX1_marks_6 5 rfl rfl)
theorem dX1_marks_148 : decode cX1_marks 148 = .ok (.i2l, 1) := dk_133 (dk_at dksX1_marks_6 7 rfl rfl)
theorem dX1_marks_149 : decode cX1_marks 149 = .ok (.invokevirtual 353, 3) := dk_182 1 97 (dk_at dksX1_marks_6 8 rfl rfl)
theorem dX1_marks_152 : decode cX1_marks 152 = .ok (.aload_n 0, 1) := dk_42 (dk_at dksX1_marks_6 11 rfl rfl)
theorem dX1_marks_153 : decode cX1_marks 153 = .ok (.iload 6, 2) := dk_21 6 (dk_at dksX1_marks_6 12 rfl rfl)
theorem dX1_marks_155 : decode cX1_marks 155 = .ok (.i2l, 1) := dk_133 (dk_at dksX1_marks_6 14 rfl rfl)
theorem dX1_marks_156 : decode cX1_marks 156 = .ok (.invokevirtual 353, 3) := dk_182 1 97 (dk_at dksX1_marks_6 15 rfl rfl)
theorem dX1_marks_159 : decode cX1_marks 159 = .ok (.iload_n 3, 1) := dk_29 (dk_at dksX1_marks_6 18 rfl rfl)
theorem dX1_marks_160 : decode cX1_marks 160 = .ok (.ireturn, 1) := dk_172 (dk_at dksX1_marks_6 19 rfl rfl)
abbrev cX1_realm : ByteArray := prog_1_method_58_code
def yX1_realm : MethodName := ⟨RX1, "realm", "(I)I"⟩
def dkwX1_realm_2 : List UInt8 := [180, 0, 19, 28, 182, 0, 136, 133, 182, 1, 97, 28, 172]
abbrev dktX1_realm_2 : List UInt8 := dkwX1_realm_2 ++ []
def dkwX1_realm_1 : List UInt8 := [181, 1, 94, 42, 42, 42, 180, 0, 12, 180, 0, 133, 28, 182, 0, 136, 133, 182, 1, 97, 42, 42, 42]
abbrev dktX1_realm_1 : List UInt8 := dkwX1_realm_1 ++ dktX1_realm_2
def dkwX1_realm_0 : List UInt8 := [27, 133, 9, 20, 1, 52, 184, 0, 121, 154, 0, 5, 2, 172, 42, 27, 182, 1, 134, 61, 42, 3]
abbrev dktX1_realm_0 : List UInt8 := dkwX1_realm_0 ++ dktX1_realm_1
theorem dksX1_realm_0 : cX1_realm.data.toList.drop 0 = dktX1_realm_0 := by decide +kernel
theorem dksX1_realm_1 : cX1_realm.data.toList.drop 22 = dktX1_realm_1 := dk_seg dksX1_realm_0 22 rfl rfl
theorem dksX1_realm_2 : cX1_realm.data.toList.drop 45 = dktX1_realm_2 := dk_seg dksX1_realm_1 23 rfl rfl
theorem dX1_realm_0 : decode cX1_realm 0 = .ok (.iload_n 1, 1) := dk_27 (dk_at dksX1_realm_0 0 rfl rfl)
theorem dX1_realm_1 : decode cX1_realm 1 = .ok (.i2l, 1) := dk_133 (dk_at dksX1_realm_0 1 rfl rfl)
theorem dX1_realm_2 : decode cX1_realm 2 = .ok (.lconst 0, 1) := dk_9 (dk_at dksX1_realm_0 2 rfl rfl)
theorem dX1_realm_3 : decode cX1_realm 3 = .ok (.ldc2_w 308, 3) := dk_20 1 52 (dk_at dksX1_realm_0 3 rfl rfl)
theorem dX1_realm_6 : decode cX1_realm 6 = .ok (.invokestatic 121, 3) := dk_184 0 121 (dk_at dksX1_realm_0 6 rfl rfl)
theorem dX1_realm_9 : decode cX1_realm 9 = .ok (.ifCond .ne 5, 3) := dk_154 0 5 (dk_at dksX1_realm_0 9 rfl rfl)
theorem dX1_realm_12 : decode cX1_realm 12 = .ok (.iconst (-1), 1) := dk_2 (dk_at dksX1_realm_0 12 rfl rfl)
theorem dX1_realm_13 : decode cX1_realm 13 = .ok (.ireturn, 1) := dk_172 (dk_at dksX1_realm_0 13 rfl rfl)
theorem dX1_realm_14 : decode cX1_realm 14 = .ok (.aload_n 0, 1) := dk_42 (dk_at dksX1_realm_0 14 rfl rfl)
theorem dX1_realm_15 : decode cX1_realm 15 = .ok (.iload_n 1, 1) := dk_27 (dk_at dksX1_realm_0 15 rfl rfl)
theorem dX1_realm_16 : decode cX1_realm 16 = .ok (.invokevirtual 390, 3) := dk_182 1 134 (dk_at dksX1_realm_0 16 rfl rfl)
theorem dX1_realm_19 : decode cX1_realm 19 = .ok (.istore_n 2, 1) := dk_61 (dk_at dksX1_realm_0 19 rfl rfl)
theorem dX1_realm_20 : decode cX1_realm 20 = .ok (.aload_n 0, 1) := dk_42 (dk_at dksX1_realm_0 20 rfl rfl)
theorem dX1_realm_21 : decode cX1_realm 21 = .ok (.iconst 0, 1) := dk_3 (dk_at dksX1_realm_0 21 rfl rfl)
theorem dX1_realm_22 : decode cX1_realm 22 = .ok (.putfield 350, 3) := dk_181 1 94 (dk_at dksX1_realm_1 0 rfl rfl)
theorem dX1_realm_25 : decode cX1_realm 25 = .ok (.aload_n 0, 1) := dk_42 (dk_at dksX1_realm_1 3 rfl rfl)
theorem dX1_realm_26 : decode cX1_realm 26 = .ok (.aload_n 0, 1) := dk_42 (dk_at dksX1_realm_1 4 rfl rfl)
theorem dX1_realm_27 : decode cX1_realm 27 = .ok (.aload_n 0, 1) := dk_42 (dk_at dksX1_realm_1 5 rfl rfl)
theorem dX1_realm_28 : decode cX1_realm 28 = .ok (.getfield 12, 3) := dk_180 0 12 (dk_at dksX1_realm_1 6 rfl rfl)
theorem dX1_realm_31 : decode cX1_realm 31 = .ok (.getfield 133, 3) := dk_180 0 133 (dk_at dksX1_realm_1 9 rfl rfl)
theorem dX1_realm_34 : decode cX1_realm 34 = .ok (.iload_n 2, 1) := dk_28 (dk_at dksX1_realm_1 12 rfl rfl)
theorem dX1_realm_35 : decode cX1_realm 35 = .ok (.invokevirtual 136, 3) := dk_182 0 136 (dk_at dksX1_realm_1 13 rfl rfl)
theorem dX1_realm_38 : decode cX1_realm 38 = .ok (.i2l, 1) := dk_133 (dk_at dksX1_realm_1 16 rfl rfl)
theorem dX1_realm_39 : decode cX1_realm 39 = .ok (.invokevirtual 353, 3) := dk_182 1 97 (dk_at dksX1_realm_1 17 rfl rfl)
theorem dX1_realm_42 : decode cX1_realm 42 = .ok (.aload_n 0, 1) := dk_42 (dk_at dksX1_realm_1 20 rfl rfl)
theorem dX1_realm_43 : decode cX1_realm 43 = .ok (.aload_n 0, 1) := dk_42 (dk_at dksX1_realm_1 21 rfl rfl)
theorem dX1_realm_44 : decode cX1_realm 44 = .ok (.aload_n 0, 1) := dk_42 (dk_at dksX1_realm_1 22 rfl rfl)
theorem dX1_realm_45 : decode cX1_realm 45 = .ok (.getfield 19, 3) := dk_180 0 19 (dk_at dksX1_realm_2 0 rfl rfl)
theorem dX1_realm_48 : decode cX1_realm 48 = .ok (.iload_n 2, 1) := dk_28 (dk_at dksX1_realm_2 3 rfl rfl)
theorem dX1_realm_49 : decode cX1_realm 49 = .ok (.invokevirtual 136, 3) := dk_182 0 136 (dk_at dksX1_realm_2 4 rfl rfl)
theorem dX1_realm_52 : decode cX1_realm 52 = .ok (.i2l, 1) := dk_133 (dk_at dksX1_realm_2 7 rfl rfl)
theorem dX1_realm_53 : decode cX1_realm 53 = .ok (.invokevirtual 353, 3) := dk_182 1 97 (dk_at dksX1_realm_2 8 rfl rfl)
theorem dX1_realm_56 : decode cX1_realm 56 = .ok (.iload_n 2, 1) := dk_28 (dk_at dksX1_realm_2 11 rfl rfl)
theorem dX1_realm_57 : decode cX1_realm 57 = .ok (.ireturn, 1) := dk_172 (dk_at dksX1_realm_2 12 rfl rfl)
abbrev cX1_lakesOf : ByteArray := prog_1_method_11_code
def yX1_lakesOf : MethodName := ⟨RX1, "lakesOf", "(I)I"⟩
def dkwX1_lakesOf_1 : List UInt8 := [160, 0, 9, 4, 29, 120, 167, 0, 4, 3, 128, 61, 132, 3, 1, 167, 255, 222, 28, 172]
abbrev dktX1_lakesOf_1 : List UInt8 := dkwX1_lakesOf_1 ++ []
def dkwX1_lakesOf_0 : List UInt8 := [3, 61, 3, 62, 29, 42, 180, 0, 117, 162, 0, 32, 28, 42, 180, 0, 12, 180, 0, 140, 29, 46, 27]
abbrev dktX1_lakesOf_0 : List UInt8 := dkwX1_lakesOf_0 ++ dktX1_lakesOf_1
theorem dksX1_lakesOf_0 : cX1_lakesOf.data.toList.drop 0 = dktX1_lakesOf_0 := by decide +kernel
theorem dksX1_lakesOf_1 : cX1_lakesOf.data.toList.drop 23 = dktX1_lakesOf_1 := dk_seg dksX1_lakesOf_0 23 rfl rfl
theorem dX1_lakesOf_0 : decode cX1_lakesOf 0 = .ok (.iconst 0, 1) := dk_3 (dk_at dksX1_lakesOf_0 0 rfl rfl)
theorem dX1_lakesOf_1 : decode cX1_lakesOf 1 = .ok (.istore_n 2, 1) := dk_61 (dk_at dksX1_lakesOf_0 1 rfl rfl)
theorem dX1_lakesOf_2 : decode cX1_lakesOf 2 = .ok (.iconst 0, 1) := dk_3 (dk_at dksX1_lakesOf_0 2 rfl rfl)
theorem dX1_lakesOf_3 : decode cX1_lakesOf 3 = .ok (.istore_n 3, 1) := dk_62 (dk_at dksX1_lakesOf_0 3 rfl rfl)
theorem dX1_lakesOf_4 : decode cX1_lakesOf 4 = .ok (.iload_n 3, 1) := dk_29 (dk_at dksX1_lakesOf_0 4 rfl rfl)
theorem dX1_lakesOf_5 : decode cX1_lakesOf 5 = .ok (.aload_n 0, 1) := dk_42 (dk_at dksX1_lakesOf_0 5 rfl rfl)
theorem dX1_lakesOf_6 : decode cX1_lakesOf 6 = .ok (.getfield 117, 3) := dk_180 0 117 (dk_at dksX1_lakesOf_0 6 rfl rfl)
theorem dX1_lakesOf_9 : decode cX1_lakesOf 9 = .ok (.if_icmp .ge 32, 3) := dk_162 0 32 (dk_at dksX1_lakesOf_0 9 rfl rfl)
theorem dX1_lakesOf_12 : decode cX1_lakesOf 12 = .ok (.iload_n 2, 1) := dk_28 (dk_at dksX1_lakesOf_0 12 rfl rfl)
theorem dX1_lakesOf_13 : decode cX1_lakesOf 13 = .ok (.aload_n 0, 1) := dk_42 (dk_at dksX1_lakesOf_0 13 rfl rfl)
theorem dX1_lakesOf_14 : decode cX1_lakesOf 14 = .ok (.getfield 12, 3) := dk_180 0 12 (dk_at dksX1_lakesOf_0 14 rfl rfl)
theorem dX1_lakesOf_17 : decode cX1_lakesOf 17 = .ok (.getfield 140, 3) := dk_180 0 140 (dk_at dksX1_lakesOf_0 17 rfl rfl)
theorem dX1_lakesOf_20 : decode cX1_lakesOf 20 = .ok (.iload_n 3, 1) := dk_29 (dk_at dksX1_lakesOf_0 20 rfl rfl)
theorem dX1_lakesOf_21 : decode cX1_lakesOf 21 = .ok (.iaload, 1) := dk_46 (dk_at dksX1_lakesOf_0 21 rfl rfl)
theorem dX1_lakesOf_22 : decode cX1_lakesOf 22 = .ok (.iload_n 1, 1) := dk_27 (dk_at dksX1_lakesOf_0 22 rfl rfl)
theorem dX1_lakesOf_23 : decode cX1_lakesOf 23 = .ok (.if_icmp .ne 9, 3) := dk_160 0 9 (dk_at dksX1_lakesOf_1 0 rfl rfl)
theorem dX1_lakesOf_26 : decode cX1_lakesOf 26 = .ok (.iconst 1, 1) := dk_4 (dk_at dksX1_lakesOf_1 3 rfl rfl)
theorem dX1_lakesOf_27 : decode cX1_lakesOf 27 = .ok (.iload_n 3, 1) := dk_29 (dk_at dksX1_lakesOf_1 4 rfl rfl)
theorem dX1_lakesOf_28 : decode cX1_lakesOf 28 = .ok (.ishl, 1) := dk_120 (dk_at dksX1_lakesOf_1 5 rfl rfl)
theorem dX1_lakesOf_29 : decode cX1_lakesOf 29 = .ok (.goto 4, 3) := dk_167 0 4 (dk_at dksX1_lakesOf_1 6 rfl rfl)
theorem dX1_lakesOf_32 : decode cX1_lakesOf 32 = .ok (.iconst 0, 1) := dk_3 (dk_at dksX1_lakesOf_1 9 rfl rfl)
theorem dX1_lakesOf_33 : decode cX1_lakesOf 33 = .ok (.ior, 1) := dk_128 (dk_at dksX1_lakesOf_1 10 rfl rfl)
theorem dX1_lakesOf_34 : decode cX1_lakesOf 34 = .ok (.istore_n 2, 1) := dk_61 (dk_at dksX1_lakesOf_1 11 rfl rfl)
theorem dX1_lakesOf_35 : decode cX1_lakesOf 35 = .ok (.iinc 3 1, 3) := dk_132 3 1 (dk_at dksX1_lakesOf_1 12 rfl rfl)
theorem dX1_lakesOf_38 : decode cX1_lakesOf 38 = .ok (.goto (-34), 3) := dk_167 255 222 (dk_at dksX1_lakesOf_1 15 rfl rfl)
theorem dX1_lakesOf_41 : decode cX1_lakesOf 41 = .ok (.iload_n 2, 1) := dk_28 (dk_at dksX1_lakesOf_1 18 rfl rfl)
theorem dX1_lakesOf_42 : decode cX1_lakesOf 42 = .ok (.ireturn, 1) := dk_172 (dk_at dksX1_lakesOf_1 19 rfl rfl)
abbrev cX1_course : ByteArray := prog_1_method_59_code
def yX1_course : MethodName := ⟨RX1, "course", "(I)I"⟩
def dkwX1_course_1 : List UInt8 := [182, 1, 97, 42, 180, 0, 26, 28, 46, 61, 167, 255, 239, 42, 180, 1, 94, 172]
abbrev dktX1_course_1 : List UInt8 := dkwX1_course_1 ++ []
def dkwX1_course_0 : List UInt8 := [42, 27, 182, 1, 41, 154, 0, 5, 2, 172, 42, 3, 181, 1, 94, 27, 61, 28, 155, 0, 19, 42, 28, 133]
abbrev dktX1_course_0 : List UInt8 := dkwX1_course_0 ++ dktX1_course_1
theorem dksX1_course_0 : cX1_course.data.toList.drop 0 = dktX1_course_0 := by decide +kernel
theorem dksX1_course_1 : cX1_course.data.toList.drop 24 = dktX1_course_1 := dk_seg dksX1_course_0 24 rfl rfl
theorem dX1_course_0 : decode cX1_course 0 = .ok (.aload_n 0, 1) := dk_42 (dk_at dksX1_course_0 0 rfl rfl)
theorem dX1_course_1 : decode cX1_course 1 = .ok (.iload_n 1, 1) := dk_27 (dk_at dksX1_course_0 1 rfl rfl)
theorem dX1_course_2 : decode cX1_course 2 = .ok (.invokevirtual 297, 3) := dk_182 1 41 (dk_at dksX1_course_0 2 rfl rfl)
theorem dX1_course_5 : decode cX1_course 5 = .ok (.ifCond .ne 5, 3) := dk_154 0 5 (dk_at dksX1_course_0 5 rfl rfl)
theorem dX1_course_8 : decode cX1_course 8 = .ok (.iconst (-1), 1) := dk_2 (dk_at dksX1_course_0 8 rfl rfl)
theorem dX1_course_9 : decode cX1_course 9 = .ok (.ireturn, 1) := dk_172 (dk_at dksX1_course_0 9 rfl rfl)
theorem dX1_course_10 : decode cX1_course 10 = .ok (.aload_n 0, 1) := dk_42 (dk_at dksX1_course_0 10 rfl rfl)
theorem dX1_course_11 : decode cX1_course 11 = .ok (.iconst 0, 1) := dk_3 (dk_at dksX1_course_0 11 rfl rfl)
theorem dX1_course_12 : decode cX1_course 12 = .ok (.putfield 350, 3) := dk_181 1 94 (dk_at dksX1_course_0 12 rfl rfl)
theorem dX1_course_15 : decode cX1_course 15 = .ok (.iload_n 1, 1) := dk_27 (dk_at dksX1_course_0 15 rfl rfl)
theorem dX1_course_16 : decode cX1_course 16 = .ok (.istore_n 2, 1) := dk_61 (dk_at dksX1_course_0 16 rfl rfl)
theorem dX1_course_17 : decode cX1_course 17 = .ok (.iload_n 2, 1) := dk_28 (dk_at dksX1_course_0 17 rfl rfl)
theorem dX1_course_18 : decode cX1_course 18 = .ok (.ifCond .lt 19, 3) := dk_155 0 19 (dk_at dksX1_course_0 18 rfl rfl)
theorem dX1_course_21 : decode cX1_course 21 = .ok (.aload_n 0, 1) := dk_42 (dk_at dksX1_course_0 21 rfl rfl)
theorem dX1_course_22 : decode cX1_course 22 = .ok (.iload_n 2, 1) := dk_28 (dk_at dksX1_course_0 22 rfl rfl)
theorem dX1_course_23 : decode cX1_course 23 = .ok (.i2l, 1) := dk_133 (dk_at dksX1_course_0 23 rfl rfl)
theorem dX1_course_24 : decode cX1_course 24 = .ok (.invokevirtual 353, 3) := dk_182 1 97 (dk_at dksX1_course_1 0 rfl rfl)
theorem dX1_course_27 : decode cX1_course 27 = .ok (.aload_n 0, 1) := dk_42 (dk_at dksX1_course_1 3 rfl rfl)
theorem dX1_course_28 : decode cX1_course 28 = .ok (.getfield 26, 3) := dk_180 0 26 (dk_at dksX1_course_1 4 rfl rfl)
theorem dX1_course_31 : decode cX1_course 31 = .ok (.iload_n 2, 1) := dk_28 (dk_at dksX1_course_1 7 rfl rfl)
theorem dX1_course_32 : decode cX1_course 32 = .ok (.iaload, 1) := dk_46 (dk_at dksX1_course_1 8 rfl rfl)
theorem dX1_course_33 : decode cX1_course 33 = .ok (.istore_n 2, 1) := dk_61 (dk_at dksX1_course_1 9 rfl rfl)
theorem dX1_course_34 : decode cX1_course 34 = .ok (.goto (-17), 3) := dk_167 255 239 (dk_at dksX1_course_1 10 rfl rfl)
theorem dX1_course_37 : decode cX1_course 37 = .ok (.aload_n 0, 1) := dk_42 (dk_at dksX1_course_1 13 rfl rfl)
theorem dX1_course_38 : decode cX1_course 38 = .ok (.getfield 350, 3) := dk_180 1 94 (dk_at dksX1_course_1 14 rfl rfl)
theorem dX1_course_41 : decode cX1_course 41 = .ok (.ireturn, 1) := dk_172 (dk_at dksX1_course_1 17 rfl rfl)
abbrev cX1_basin : ByteArray := prog_1_method_60_code
def yX1_basin : MethodName := ⟨RX1, "basin", "(I)I"⟩
def dkwX1_basin_5 : List UInt8 := [29, 133, 182, 1, 97, 28, 172]
abbrev dktX1_basin_5 : List UInt8 := dkwX1_basin_5 ++ []
def dkwX1_basin_4 : List UInt8 := [61, 42, 3, 181, 1, 94, 42, 42, 42, 180, 0, 12, 180, 0, 133, 28, 182, 0, 136, 133, 182, 1, 97, 42]
abbrev dktX1_basin_4 : List UInt8 := dkwX1_basin_4 ++ dktX1_basin_5
def dkwX1_basin_3 : List UInt8 := [27, 160, 0, 7, 4, 167, 0, 4, 3, 96, 62, 132, 4, 1, 167, 255, 191, 28, 4, 27, 120, 2, 130, 126]
abbrev dktX1_basin_3 : List UInt8 := dkwX1_basin_3 ++ dktX1_basin_4
def dkwX1_basin_2 : List UInt8 := [184, 0, 129, 154, 0, 6, 167, 0, 29, 28, 4, 21, 4, 120, 128, 61, 29, 42, 180, 0, 26, 21, 4, 46]
abbrev dktX1_basin_2 : List UInt8 := dkwX1_basin_2 ++ dktX1_basin_3
def dkwX1_basin_1 : List UInt8 := [180, 0, 117, 162, 0, 62, 42, 180, 0, 26, 21, 4, 46, 155, 0, 46, 28, 42, 180, 0, 26, 21, 4, 46]
abbrev dktX1_basin_1 : List UInt8 := dkwX1_basin_1 ++ dktX1_basin_2
def dkwX1_basin_0 : List UInt8 := [42, 27, 182, 1, 41, 154, 0, 5, 2, 172, 4, 27, 120, 61, 3, 62, 27, 4, 96, 54, 4, 21, 4, 42]
abbrev dktX1_basin_0 : List UInt8 := dkwX1_basin_0 ++ dktX1_basin_1
theorem dksX1_basin_0 : cX1_basin.data.toList.drop 0 = dktX1_basin_0 := by decide +kernel
theorem dksX1_basin_1 : cX1_basin.data.toList.drop 24 = dktX1_basin_1 := dk_seg dksX1_basin_0 24 rfl rfl
theorem dksX1_basin_2 : cX1_basin.data.toList.drop 48 = dktX1_basin_2 := dk_seg dksX1_basin_1 24 rfl rfl
theorem dksX1_basin_3 : cX1_basin.data.toList.drop 72 = dktX1_basin_3 := dk_seg dksX1_basin_2 24 rfl rfl
theorem dksX1_basin_4 : cX1_basin.data.toList.drop 96 = dktX1_basin_4 := dk_seg dksX1_basin_3 24 rfl rfl
theorem dksX1_basin_5 : cX1_basin.data.toList.drop 120 = dktX1_basin_5 := dk_seg dksX1_basin_4 24 rfl rfl
theorem dX1_basin_0 : decode cX1_basin 0 = .ok (.aload_n 0, 1) := dk_42 (dk_at dksX1_basin_0 0 rfl rfl)
theorem dX1_basin_1 : decode cX1_basin 1 = .ok (.iload_n 1, 1) := dk_27 (dk_at dksX1_basin_0 1 rfl rfl)
theorem dX1_basin_2 : decode cX1_basin 2 = .ok (.invokevirtual 297, 3) := dk_182 1 41 (dk_at dksX1_basin_0 2 rfl rfl)
theorem dX1_basin_5 : decode cX1_basin 5 = .ok (.ifCond .ne 5, 3) := dk_154 0 5 (dk_at dksX1_basin_0 5 rfl rfl)
theorem dX1_basin_8 : decode cX1_basin 8 = .ok (.iconst (-1), 1) := dk_2 (dk_at dksX1_basin_0 8 rfl rfl)
theorem dX1_basin_9 : decode cX1_basin 9 = .ok (.ireturn, 1) := dk_172 (dk_at dksX1_basin_0 9 rfl rfl)
theorem dX1_basin_10 : decode cX1_basin 10 = .ok (.iconst 1, 1) := dk_4 (dk_at dksX1_basin_0 10 rfl rfl)
theorem dX1_basin_11 : decode cX1_basin 11 = .ok (.iload_n 1, 1) := dk_27 (dk_at dksX1_basin_0 11 rfl rfl)
theorem dX1_basin_12 : decode cX1_basin 12 = .ok (.ishl, 1) := dk_120 (dk_at dksX1_basin_0 12 rfl rfl)
theorem dX1_basin_13 : decode cX1_basin 13 = .ok (.istore_n 2, 1) := dk_61 (dk_at dksX1_basin_0 13 rfl rfl)
theorem dX1_basin_14 : decode cX1_basin 14 = .ok (.iconst 0, 1) := dk_3 (dk_at dksX1_basin_0 14 rfl rfl)
theorem dX1_basin_15 : decode cX1_basin 15 = .ok (.istore_n 3, 1) := dk_62 (dk_at dksX1_basin_0 15 rfl rfl)
theorem dX1_basin_16 : decode cX1_basin 16 = .ok (.iload_n 1, 1) := dk_27 (dk_at dksX1_basin_0 16 rfl rfl)
theorem dX1_basin_17 : decode cX1_basin 17 = .ok (.iconst 1, 1) := dk_4 (dk_at dksX1_basin_0 17 rfl rfl)
theorem dX1_basin_18 : decode cX1_basin 18 = .ok (.iadd, 1) := dk_96 (dk_at dksX1_basin_0 18 rfl rfl)
theorem dX1_basin_19 : decode cX1_basin 19 = .ok (.istore 4, 2) := dk_54 4 (dk_at dksX1_basin_0 19 rfl rfl)
theorem dX1_basin_21 : decode cX1_basin 21 = .ok (.iload 4, 2) := dk_21 4 (dk_at dksX1_basin_0 21 rfl rfl)
theorem dX1_basin_23 : decode cX1_basin 23 = .ok (.aload_n 0, 1) := dk_42 (dk_at dksX1_basin_0 23 rfl rfl)
theorem dX1_basin_24 : decode cX1_basin 24 = .ok (.getfield 117, 3) := dk_180 0 117 (dk_at dksX1_basin_1 0 rfl rfl)
theorem dX1_basin_27 : decode cX1_basin 27 = .ok (.if_icmp .ge 62, 3) := dk_162 0 62 (dk_at dksX1_basin_1 3 rfl rfl)
theorem dX1_basin_30 : decode cX1_basin 30 = .ok (.aload_n 0, 1) := dk_42 (dk_at dksX1_basin_1 6 rfl rfl)
theorem dX1_basin_31 : decode cX1_basin 31 = .ok (.getfield 26, 3) := dk_180 0 26 (dk_at dksX1_basin_1 7 rfl rfl)
theorem dX1_basin_34 : decode cX1_basin 34 = .ok (.iload 4, 2) := dk_21 4 (dk_at dksX1_basin_1 10 rfl rfl)
theorem dX1_basin_36 : decode cX1_basin 36 = .ok (.iaload, 1) := dk_46 (dk_at dksX1_basin_1 12 rfl rfl)
theorem dX1_basin_37 : decode cX1_basin 37 = .ok (.ifCond .lt 46, 3) := dk_155 0 46 (dk_at dksX1_basin_1 13 rfl rfl)
theorem dX1_basin_40 : decode cX1_basin 40 = .ok (.iload_n 2, 1) := dk_28 (dk_at dksX1_basin_1 16 rfl rfl)
theorem dX1_basin_41 : decode cX1_basin 41 = .ok (.aload_n 0, 1) := dk_42 (dk_at dksX1_basin_1 17 rfl rfl)
theorem dX1_basin_42 : decode cX1_basin 42 = .ok (.getfield 26, 3) := dk_180 0 26 (dk_at dksX1_basin_1 18 rfl rfl)
theorem dX1_basin_45 : decode cX1_basin 45 = .ok (.iload 4, 2) := dk_21 4 (dk_at dksX1_basin_1 21 rfl rfl)
theorem dX1_basin_47 : decode cX1_basin 47 = .ok (.iaload, 1) := dk_46 (dk_at dksX1_basin_1 23 rfl rfl)
theorem dX1_basin_48 : decode cX1_basin 48 = .ok (.invokestatic 129, 3) := dk_184 0 129 (dk_at dksX1_basin_2 0 rfl rfl)
theorem dX1_basin_51 : decode cX1_basin 51 = .ok (.ifCond .ne 6, 3) := dk_154 0 6 (dk_at dksX1_basin_2 3 rfl rfl)
theorem dX1_basin_54 : decode cX1_basin 54 = .ok (.goto 29, 3) := dk_167 0 29 (dk_at dksX1_basin_2 6 rfl rfl)
theorem dX1_basin_57 : decode cX1_basin 57 = .ok (.iload_n 2, 1) := dk_28 (dk_at dksX1_basin_2 9 rfl rfl)
theorem dX1_basin_58 : decode cX1_basin 58 = .ok (.iconst 1, 1) := dk_4 (dk_at dksX1_basin_2 10 rfl rfl)
theorem dX1_basin_59 : decode cX1_basin 59 = .ok (.iload 4, 2) := dk_21 4 (dk_at dksX1_basin_2 11 rfl rfl)
theorem dX1_basin_61 : decode cX1_basin 61 = .ok (.ishl, 1) := dk_120 (dk_at dksX1_basin_2 13 rfl rfl)
theorem dX1_basin_62 : decode cX1_basin 62 = .ok (.ior, 1) := dk_128 (dk_at dksX1_basin_2 14 rfl rfl)
theorem dX1_basin_63 : decode cX1_basin 63 = .ok (.istore_n 2, 1) := dk_61 (dk_at dksX1_basin_2 15 rfl rfl)
theorem dX1_basin_64 : decode cX1_basin 64 = .ok (.iload_n 3, 1) := dk_29 (dk_at dksX1_basin_2 16 rfl rfl)
theorem dX1_basin_65 : decode cX1_basin 65 = .ok (.aload_n 0, 1) := dk_42 (dk_at dksX1_basin_2 17 rfl rfl)
theorem dX1_basin_66 : decode cX1_basin 66 = .ok (.getfield 26, 3) := dk_180 0 26 (dk_at dksX1_basin_2 18 rfl rfl)
theorem dX1_basin_69 : decode cX1_basin 69 = .ok (.iload 4, 2) := dk_21 4 (dk_at dksX1_basin_2 21 rfl rfl)
theorem dX1_basin_71 : decode cX1_basin 71 = .ok (.iaload, 1) := dk_46 (dk_at dksX1_basin_2 23 rfl rfl)
theorem dX1_basin_72 : decode cX1_basin 72 = .ok (.iload_n 1, 1) := dk_27 (dk_at dksX1_basin_3 0 rfl rfl)
theorem dX1_basin_73 : decode cX1_basin 73 = .ok (.if_icmp .ne 7, 3) := dk_160 0 7 (dk_at dksX1_basin_3 1 rfl rfl)
theorem dX1_basin_76 : decode cX1_basin 76 = .ok (.iconst 1, 1) := dk_4 (dk_at dksX1_basin_3 4 rfl rfl)
theorem dX1_basin_77 : decode cX1_basin 77 = .ok (.goto 4, 3) := dk_167 0 4 (dk_at dksX1_basin_3 5 rfl rfl)
theorem dX1_basin_80 : decode cX1_basin 80 = .ok (.iconst 0, 1) := dk_3 (dk_at dksX1_basin_3 8 rfl rfl)
theorem dX1_basin_81 : decode cX1_basin 81 = .ok (.iadd, 1) := dk_96 (dk_at dksX1_basin_3 9 rfl rfl)
theorem dX1_basin_82 : decode cX1_basin 82 = .ok (.istore_n 3, 1) := dk_62 (dk_at dksX1_basin_3 10 rfl rfl)
theorem dX1_basin_83 : decode cX1_basin 83 = .ok (.iinc 4 1, 3) := dk_132 4 1 (dk_at dksX1_basin_3 11 rfl rfl)
theorem dX1_basin_86 : decode cX1_basin 86 = .ok (.goto (-65), 3) := dk_167 255 191 (dk_at dksX1_basin_3 14 rfl rfl)
theorem dX1_basin_89 : decode cX1_basin 89 = .ok (.iload_n 2, 1) := dk_28 (dk_at dksX1_basin_3 17 rfl rfl)
theorem dX1_basin_90 : decode cX1_basin 90 = .ok (.iconst 1, 1) := dk_4 (dk_at dksX1_basin_3 18 rfl rfl)
theorem dX1_basin_91 : decode cX1_basin 91 = .ok (.iload_n 1, 1) := dk_27 (dk_at dksX1_basin_3 19 rfl rfl)
theorem dX1_basin_92 : decode cX1_basin 92 = .ok (.ishl, 1) := dk_120 (dk_at dksX1_basin_3 20 rfl rfl)
theorem dX1_basin_93 : decode cX1_basin 93 = .ok (.iconst (-1), 1) := dk_2 (dk_at dksX1_basin_3 21 rfl rfl)
theorem dX1_basin_94 : decode cX1_basin 94 = .ok (.ixor, 1) := dk_130 (dk_at dksX1_basin_3 22 rfl rfl)
theorem dX1_basin_95 : decode cX1_basin 95 = .ok (.iand, 1) := dk_126 (dk_at dksX1_basin_3 23 rfl rfl)
theorem dX1_basin_96 : decode cX1_basin 96 = .ok (.istore_n 2, 1) := dk_61 (dk_at dksX1_basin_4 0 rfl rfl)
theorem dX1_basin_97 : decode cX1_basin 97 = .ok (.aload_n 0, 1) := dk_42 (dk_at dksX1_basin_4 1 rfl rfl)
theorem dX1_basin_98 : decode cX1_basin 98 = .ok (.iconst 0, 1) := dk_3 (dk_at dksX1_basin_4 2 rfl rfl)
theorem dX1_basin_99 : decode cX1_basin 99 = .ok (.putfield 350, 3) := dk_181 1 94 (dk_at dksX1_basin_4 3 rfl rfl)
theorem dX1_basin_102 : decode cX1_basin 102 = .ok (.aload_n 0, 1) := dk_42 (dk_at dksX1_basin_4 6 rfl rfl)
theorem dX1_basin_103 : decode cX1_basin 103 = .ok (.aload_n 0, 1) := dk_42 (dk_at dksX1_basin_4 7 rfl rfl)
theorem dX1_basin_104 : decode cX1_basin 104 = .ok (.aload_n 0, 1) := dk_42 (dk_at dksX1_basin_4 8 rfl rfl)
theorem dX1_basin_105 : decode cX1_basin 105 = .ok (.getfield 12, 3) := dk_180 0 12 (dk_at dksX1_basin_4 9 rfl rfl)
theorem dX1_basin_108 : decode cX1_basin 108 = .ok (.getfield 133, 3) := dk_180 0 133 (dk_at dksX1_basin_4 12 rfl rfl)
theorem dX1_basin_111 : decode cX1_basin 111 = .ok (.iload_n 2, 1) := dk_28 (dk_at dksX1_basin_4 15 rfl rfl)
theorem dX1_basin_112 : decode cX1_basin 112 = .ok (.invokevirtual 136, 3) := dk_182 0 136 (dk_at dksX1_basin_4 16 rfl rfl)
theorem dX1_basin_115 : decode cX1_basin 115 = .ok (.i2l, 1) := dk_133 (dk_at dksX1_basin_4 19 rfl rfl)
theorem dX1_basin_116 : decode cX1_basin 116 = .ok (.invokevirtual 353, 3) := dk_182 1 97 (dk_at dksX1_basin_4 20 rfl rfl)
theorem dX1_basin_119 : decode cX1_basin 119 = .ok (.aload_n 0, 1) := dk_42 (dk_at dksX1_basin_4 23 rfl rfl)
theorem dX1_basin_120 : decode cX1_basin 120 = .ok (.iload_n 3, 1) := dk_29 (dk_at dksX1_basin_5 0 rfl rfl)
theorem dX1_basin_121 : decode cX1_basin 121 = .ok (.i2l, 1) := dk_133 (dk_at dksX1_basin_5 1 rfl rfl)
theorem dX1_basin_122 : decode cX1_basin 122 = .ok (.invokevirtual 353, 3) := dk_182 1 97 (dk_at dksX1_basin_5 2 rfl rfl)
theorem dX1_basin_125 : decode cX1_basin 125 = .ok (.iload_n 2, 1) := dk_28 (dk_at dksX1_basin_5 5 rfl rfl)
theorem dX1_basin_126 : decode cX1_basin 126 = .ok (.ireturn, 1) := dk_172 (dk_at dksX1_basin_5 6 rfl rfl)
abbrev cX1_order : ByteArray := prog_1_method_61_code
def yX1_order : MethodName := ⟨RX1, "order", "(I)I"⟩
def dkwX1_order_4 : List UInt8 := [128, 61, 42, 42, 180, 0, 16, 182, 1, 78, 132, 3, 1, 167, 255, 186, 42, 180, 1, 94, 172]
abbrev dktX1_order_4 : List UInt8 := dkwX1_order_4 ++ []
def dkwX1_order_3 : List UInt8 := [21, 5, 184, 0, 129, 153, 0, 10, 42, 21, 5, 133, 182, 1, 97, 132, 5, 1, 167, 255, 227, 28, 21, 4]
abbrev dktX1_order_3 : List UInt8 := dkwX1_order_3 ++ dktX1_order_4
def dkwX1_order_2 : List UInt8 := [182, 1, 137, 28, 2, 130, 126, 54, 4, 3, 54, 5, 21, 5, 42, 180, 0, 117, 162, 0, 26, 21, 4]
abbrev dktX1_order_2 : List UInt8 := dkwX1_order_2 ++ dktX1_order_3
def dkwX1_order_1 : List UInt8 := [182, 1, 58, 3, 61, 42, 3, 181, 1, 94, 3, 62, 29, 27, 163, 0, 71, 42, 42, 180, 0, 16]
abbrev dktX1_order_1 : List UInt8 := dkwX1_order_1 ++ dktX1_order_2
def dkwX1_order_0 : List UInt8 := [27, 133, 9, 20, 1, 129, 184, 0, 121, 154, 0, 5, 2, 172, 42, 180, 0, 16, 42, 180, 0, 12]
abbrev dktX1_order_0 : List UInt8 := dkwX1_order_0 ++ dktX1_order_1
theorem dksX1_order_0 : cX1_order.data.toList.drop 0 = dktX1_order_0 := by decide +kernel
theorem dksX1_order_1 : cX1_order.data.toList.drop 22 = dktX1_order_1 := dk_seg dksX1_order_0 22 rfl rfl
theorem dksX1_order_2 : cX1_order.data.toList.drop 44 = dktX1_order_2 := dk_seg dksX1_order_1 22 rfl rfl
theorem dksX1_order_3 : cX1_order.data.toList.drop 67 = dktX1_order_3 := dk_seg dksX1_order_2 23 rfl rfl
theorem dksX1_order_4 : cX1_order.data.toList.drop 91 = dktX1_order_4 := dk_seg dksX1_order_3 24 rfl rfl
theorem dX1_order_0 : decode cX1_order 0 = .ok (.iload_n 1, 1) := dk_27 (dk_at dksX1_order_0 0 rfl rfl)
theorem dX1_order_1 : decode cX1_order 1 = .ok (.i2l, 1) := dk_133 (dk_at dksX1_order_0 1 rfl rfl)
theorem dX1_order_2 : decode cX1_order 2 = .ok (.lconst 0, 1) := dk_9 (dk_at dksX1_order_0 2 rfl rfl)
theorem dX1_order_3 : decode cX1_order 3 = .ok (.ldc2_w 385, 3) := dk_20 1 129 (dk_at dksX1_order_0 3 rfl rfl)
theorem dX1_order_6 : decode cX1_order 6 = .ok (.invokestatic 121, 3) := dk_184 0 121 (dk_at dksX1_order_0 6 rfl rfl)
theorem dX1_order_9 : decode cX1_order 9 = .ok (.ifCond .ne 5, 3) := dk_154 0 5 (dk_at dksX1_order_0 9 rfl rfl)
theorem dX1_order_12 : decode cX1_order 12 = .ok (.iconst (-1), 1) := dk_2 (dk_at dksX1_order_0 12 rfl rfl)
theorem dX1_order_13 : decode cX1_order 13 = .ok (.ireturn, 1) := dk_172 (dk_at dksX1_order_0 13 rfl rfl)
theorem dX1_order_14 : decode cX1_order 14 = .ok (.aload_n 0, 1) := dk_42 (dk_at dksX1_order_0 14 rfl rfl)
theorem dX1_order_15 : decode cX1_order 15 = .ok (.getfield 16, 3) := dk_180 0 16 (dk_at dksX1_order_0 15 rfl rfl)
theorem dX1_order_18 : decode cX1_order 18 = .ok (.aload_n 0, 1) := dk_42 (dk_at dksX1_order_0 18 rfl rfl)
theorem dX1_order_19 : decode cX1_order 19 = .ok (.getfield 12, 3) := dk_180 0 12 (dk_at dksX1_order_0 19 rfl rfl)
theorem dX1_order_22 : decode cX1_order 22 = .ok (.invokevirtual 314, 3) := dk_182 1 58 (dk_at dksX1_order_1 0 rfl rfl)
theorem dX1_order_25 : decode cX1_order 25 = .ok (.iconst 0, 1) := dk_3 (dk_at dksX1_order_1 3 rfl rfl)
theorem dX1_order_26 : decode cX1_order 26 = .ok (.istore_n 2, 1) := dk_61 (dk_at dksX1_order_1 4 rfl rfl)
theorem dX1_order_27 : decode cX1_order 27 = .ok (.aload_n 0, 1) := dk_42 (dk_at dksX1_order_1 5 rfl rfl)
theorem dX1_order_28 : decode cX1_order 28 = .ok (.iconst 0, 1) := dk_3 (dk_at dksX1_order_1 6 rfl rfl)
theorem dX1_order_29 : decode cX1_order 29 = .ok (.putfield 350, 3) := dk_181 1 94 (dk_at dksX1_order_1 7 rfl rfl)
theorem dX1_order_32 : decode cX1_order 32 = .ok (.iconst 0, 1) := dk_3 (dk_at dksX1_order_1 10 rfl rfl)
theorem dX1_order_33 : decode cX1_order 33 = .ok (.istore_n 3, 1) := dk_62 (dk_at dksX1_order_1 11 rfl rfl)
theorem dX1_order_34 : decode cX1_order 34 = .ok (.iload_n 3, 1) := dk_29 (dk_at dksX1_order_1 12 rfl rfl)
theorem dX1_order_35 : decode cX1_order 35 = .ok (.iload_n 1, 1) := dk_27 (dk_at dksX1_order_1 13 rfl rfl)
theorem dX1_order_36 : decode cX1_order 36 = .ok (.if_icmp .gt 71, 3) := dk_163 0 71 (dk_at dksX1_order_1 14 rfl rfl)
theorem dX1_order_39 : decode cX1_order 39 = .ok (.aload_n 0, 1) := dk_42 (dk_at dksX1_order_1 17 rfl rfl)
theorem dX1_order_40 : decode cX1_order 40 = .ok (.aload_n 0, 1) := dk_42 (dk_at dksX1_order_1 18 rfl rfl)
theorem dX1_order_41 : decode cX1_order 41 = .ok (.getfield 16, 3) := dk_180 0 16 (dk_at dksX1_order_1 19 rfl rfl)
theorem dX1_order_44 : decode cX1_order 44 = .ok (.invokevirtual 393, 3) := dk_182 1 137 (dk_at dksX1_order_2 0 rfl rfl)
theorem dX1_order_47 : decode cX1_order 47 = .ok (.iload_n 2, 1) := dk_28 (dk_at dksX1_order_2 3 rfl rfl)
theorem dX1_order_48 : decode cX1_order 48 = .ok (.iconst (-1), 1) := dk_2 (dk_at dksX1_order_2 4 rfl rfl)
theorem dX1_order_49 : decode cX1_order 49 = .ok (.ixor, 1) := dk_130 (dk_at dksX1_order_2 5 rfl rfl)
theorem dX1_order_50 : decode cX1_order 50 = .ok (.iand, 1) := dk_126 (dk_at dksX1_order_2 6 rfl rfl)
theorem dX1_order_51 : decode cX1_order 51 = .ok (.istore 4, 2) := dk_54 4 (dk_at dksX1_order_2 7 rfl rfl)
theorem dX1_order_53 : decode cX1_order 53 = .ok (.iconst 0, 1) := dk_3 (dk_at dksX1_order_2 9 rfl rfl)
theorem dX1_order_54 : decode cX1_order 54 = .ok (.istore 5, 2) := dk_54 5 (dk_at dksX1_order_2 10 rfl rfl)
theorem dX1_order_56 : decode cX1_order 56 = .ok (.iload 5, 2) := dk_21 5 (dk_at dksX1_order_2 12 rfl rfl)
theorem dX1_order_58 : decode cX1_order 58 = .ok (.aload_n 0, 1) := dk_42 (dk_at dksX1_order_2 14 rfl rfl)
theorem dX1_order_59 : decode cX1_order 59 = .ok (.getfield 117, 3) := dk_180 0 117 (dk_at dksX1_order_2 15 rfl rfl)
theorem dX1_order_62 : decode cX1_order 62 = .ok (.if_icmp .ge 26, 3) := dk_162 0 26 (dk_at dksX1_order_2 18 rfl rfl)
theorem dX1_order_65 : decode cX1_order 65 = .ok (.iload 4, 2) := dk_21 4 (dk_at dksX1_order_2 21 rfl rfl)
theorem dX1_order_67 : decode cX1_order 67 = .ok (.iload 5, 2) := dk_21 5 (dk_at dksX1_order_3 0 rfl rfl)
theorem dX1_order_69 : decode cX1_order 69 = .ok (.invokestatic 129, 3) := dk_184 0 129 (dk_at dksX1_order_3 2 rfl rfl)
theorem dX1_order_72 : decode cX1_order 72 = .ok (.ifCond .eq 10, 3) := dk_153 0 10 (dk_at dksX1_order_3 5 rfl rfl)
theorem dX1_order_75 : decode cX1_order 75 = .ok (.aload_n 0, 1) := dk_42 (dk_at dksX1_order_3 8 rfl rfl)
theorem dX1_order_76 : decode cX1_order 76 = .ok (.iload 5, 2) := dk_21 5 (dk_at dksX1_order_3 9 rfl rfl)
theorem dX1_order_78 : decode cX1_order 78 = .ok (.i2l, 1) := dk_133 (dk_at dksX1_order_3 11 rfl rfl)
theorem dX1_order_79 : decode cX1_order 79 = .ok (.invokevirtual 353, 3) := dk_182 1 97 (dk_at dksX1_order_3 12 rfl rfl)
theorem dX1_order_82 : decode cX1_order 82 = .ok (.iinc 5 1, 3) := dk_132 5 1 (dk_at dksX1_order_3 15 rfl rfl)
theorem dX1_order_85 : decode cX1_order 85 = .ok (.goto (-29), 3) := dk_167 255 227 (dk_at dksX1_order_3 18 rfl rfl)
theorem dX1_order_88 : decode cX1_order 88 = .ok (.iload_n 2, 1) := dk_28 (dk_at dksX1_order_3 21 rfl rfl)
theorem dX1_order_89 : decode cX1_order 89 = .ok (.iload 4, 2) := dk_21 4 (dk_at dksX1_order_3 22 rfl rfl)
theorem dX1_order_91 : decode cX1_order 91 = .ok (.ior, 1) := dk_128 (dk_at dksX1_order_4 0 rfl rfl)
theorem dX1_order_92 : decode cX1_order 92 = .ok (.istore_n 2, 1) := dk_61 (dk_at dksX1_order_4 1 rfl rfl)
theorem dX1_order_93 : decode cX1_order 93 = .ok (.aload_n 0, 1) := dk_42 (dk_at dksX1_order_4 2 rfl rfl)
theorem dX1_order_94 : decode cX1_order 94 = .ok (.aload_n 0, 1) := dk_42 (dk_at dksX1_order_4 3 rfl rfl)
theorem dX1_order_95 : decode cX1_order 95 = .ok (.getfield 16, 3) := dk_180 0 16 (dk_at dksX1_order_4 4 rfl rfl)
theorem dX1_order_98 : decode cX1_order 98 = .ok (.invokevirtual 334, 3) := dk_182 1 78 (dk_at dksX1_order_4 7 rfl rfl)
theorem dX1_order_101 : decode cX1_order 101 = .ok (.iinc 3 1, 3) := dk_132 3 1 (dk_at dksX1_order_4 10 rfl rfl)
theorem dX1_order_104 : decode cX1_order 104 = .ok (.goto (-70), 3) := dk_167 255 186 (dk_at dksX1_order_4 13 rfl rfl)
theorem dX1_order_107 : decode cX1_order 107 = .ok (.aload_n 0, 1) := dk_42 (dk_at dksX1_order_4 16 rfl rfl)
theorem dX1_order_108 : decode cX1_order 108 = .ok (.getfield 350, 3) := dk_180 1 94 (dk_at dksX1_order_4 17 rfl rfl)
theorem dX1_order_111 : decode cX1_order 111 = .ok (.ireturn, 1) := dk_172 (dk_at dksX1_order_4 20 rfl rfl)
abbrev cX1_dryOnes : ByteArray := prog_1_method_10_code
def yX1_dryOnes : MethodName := ⟨RX1, "dryOnes", "(LPullThePlug$Water;)I"⟩
def dkwX1_dryOnes_1 : List UInt8 := [120, 167, 0, 4, 3, 128, 61, 132, 3, 1, 167, 255, 226, 28, 172]
abbrev dktX1_dryOnes_1 : List UInt8 := dkwX1_dryOnes_1 ++ []
def dkwX1_dryOnes_0 : List UInt8 := [3, 61, 3, 62, 29, 42, 180, 0, 117, 162, 0, 28, 28, 43, 180, 0, 133, 29, 46, 154, 0, 9, 4, 29]
abbrev dktX1_dryOnes_0 : List UInt8 := dkwX1_dryOnes_0 ++ dktX1_dryOnes_1
theorem dksX1_dryOnes_0 : cX1_dryOnes.data.toList.drop 0 = dktX1_dryOnes_0 := by decide +kernel
theorem dksX1_dryOnes_1 : cX1_dryOnes.data.toList.drop 24 = dktX1_dryOnes_1 := dk_seg dksX1_dryOnes_0 24 rfl rfl
theorem dX1_dryOnes_0 : decode cX1_dryOnes 0 = .ok (.iconst 0, 1) := dk_3 (dk_at dksX1_dryOnes_0 0 rfl rfl)
theorem dX1_dryOnes_1 : decode cX1_dryOnes 1 = .ok (.istore_n 2, 1) := dk_61 (dk_at dksX1_dryOnes_0 1 rfl rfl)
theorem dX1_dryOnes_2 : decode cX1_dryOnes 2 = .ok (.iconst 0, 1) := dk_3 (dk_at dksX1_dryOnes_0 2 rfl rfl)
theorem dX1_dryOnes_3 : decode cX1_dryOnes 3 = .ok (.istore_n 3, 1) := dk_62 (dk_at dksX1_dryOnes_0 3 rfl rfl)
theorem dX1_dryOnes_4 : decode cX1_dryOnes 4 = .ok (.iload_n 3, 1) := dk_29 (dk_at dksX1_dryOnes_0 4 rfl rfl)
theorem dX1_dryOnes_5 : decode cX1_dryOnes 5 = .ok (.aload_n 0, 1) := dk_42 (dk_at dksX1_dryOnes_0 5 rfl rfl)
theorem dX1_dryOnes_6 : decode cX1_dryOnes 6 = .ok (.getfield 117, 3) := dk_180 0 117 (dk_at dksX1_dryOnes_0 6 rfl rfl)
theorem dX1_dryOnes_9 : decode cX1_dryOnes 9 = .ok (.if_icmp .ge 28, 3) := dk_162 0 28 (dk_at dksX1_dryOnes_0 9 rfl rfl)
theorem dX1_dryOnes_12 : decode cX1_dryOnes 12 = .ok (.iload_n 2, 1) := dk_28 (dk_at dksX1_dryOnes_0 12 rfl rfl)
theorem dX1_dryOnes_13 : decode cX1_dryOnes 13 = .ok (.aload_n 1, 1) := dk_43 (dk_at dksX1_dryOnes_0 13 rfl rfl)
theorem dX1_dryOnes_14 : decode cX1_dryOnes 14 = .ok (.getfield 133, 3) := dk_180 0 133 (dk_at dksX1_dryOnes_0 14 rfl rfl)
theorem dX1_dryOnes_17 : decode cX1_dryOnes 17 = .ok (.iload_n 3, 1) := dk_29 (dk_at dksX1_dryOnes_0 17 rfl rfl)
theorem dX1_dryOnes_18 : decode cX1_dryOnes 18 = .ok (.iaload, 1) := dk_46 (dk_at dksX1_dryOnes_0 18 rfl rfl)
theorem dX1_dryOnes_19 : decode cX1_dryOnes 19 = .ok (.ifCond .ne 9, 3) := dk_154 0 9 (dk_at dksX1_dryOnes_0 19 rfl rfl)
theorem dX1_dryOnes_22 : decode cX1_dryOnes 22 = .ok (.iconst 1, 1) := dk_4 (dk_at dksX1_dryOnes_0 22 rfl rfl)
theorem dX1_dryOnes_23 : decode cX1_dryOnes 23 = .ok (.iload_n 3, 1) := dk_29 (dk_at dksX1_dryOnes_0 23 rfl rfl)
theorem dX1_dryOnes_24 : decode cX1_dryOnes 24 = .ok (.ishl, 1) := dk_120 (dk_at dksX1_dryOnes_1 0 rfl rfl)
theorem dX1_dryOnes_25 : decode cX1_dryOnes 25 = .ok (.goto 4, 3) := dk_167 0 4 (dk_at dksX1_dryOnes_1 1 rfl rfl)
theorem dX1_dryOnes_28 : decode cX1_dryOnes 28 = .ok (.iconst 0, 1) := dk_3 (dk_at dksX1_dryOnes_1 4 rfl rfl)
theorem dX1_dryOnes_29 : decode cX1_dryOnes 29 = .ok (.ior, 1) := dk_128 (dk_at dksX1_dryOnes_1 5 rfl rfl)
theorem dX1_dryOnes_30 : decode cX1_dryOnes 30 = .ok (.istore_n 2, 1) := dk_61 (dk_at dksX1_dryOnes_1 6 rfl rfl)
theorem dX1_dryOnes_31 : decode cX1_dryOnes 31 = .ok (.iinc 3 1, 3) := dk_132 3 1 (dk_at dksX1_dryOnes_1 7 rfl rfl)
theorem dX1_dryOnes_34 : decode cX1_dryOnes 34 = .ok (.goto (-30), 3) := dk_167 255 226 (dk_at dksX1_dryOnes_1 10 rfl rfl)
theorem dX1_dryOnes_37 : decode cX1_dryOnes 37 = .ok (.iload_n 2, 1) := dk_28 (dk_at dksX1_dryOnes_1 13 rfl rfl)
theorem dX1_dryOnes_38 : decode cX1_dryOnes 38 = .ok (.ireturn, 1) := dk_172 (dk_at dksX1_dryOnes_1 14 rfl rfl)
abbrev cX1_meets : ByteArray := prog_1_method_62_code
def yX1_meets : MethodName := ⟨RX1, "meets", "(II)I"⟩
def dkwX1_meets_4 : List UInt8 := [132, 3, 1, 167, 255, 197, 16, 254, 172]
abbrev dktX1_meets_4 : List UInt8 := dkwX1_meets_4 ++ []
def dkwX1_meets_3 : List UInt8 := [180, 0, 16, 180, 0, 133, 27, 46, 133, 182, 1, 97, 29, 172, 42, 42, 180, 0, 16, 182, 1, 78]
abbrev dktX1_meets_3 : List UInt8 := dkwX1_meets_3 ++ dktX1_meets_4
def dkwX1_meets_2 : List UInt8 := [180, 0, 133, 27, 46, 42, 180, 0, 16, 180, 0, 133, 28, 46, 160, 0, 24, 42, 3, 181, 1, 94, 42, 42]
abbrev dktX1_meets_2 : List UInt8 := dkwX1_meets_2 ++ dktX1_meets_3
def dkwX1_meets_1 : List UInt8 := [180, 0, 16, 42, 180, 0, 12, 182, 1, 58, 3, 62, 29, 16, 99, 163, 0, 59, 42, 180, 0, 16]
abbrev dktX1_meets_1 : List UInt8 := dkwX1_meets_1 ++ dktX1_meets_2
def dkwX1_meets_0 : List UInt8 := [42, 27, 182, 1, 41, 153, 0, 16, 42, 28, 182, 1, 41, 153, 0, 8, 27, 28, 160, 0, 5, 2, 172, 42]
abbrev dktX1_meets_0 : List UInt8 := dkwX1_meets_0 ++ dktX1_meets_1
theorem dksX1_meets_0 : cX1_meets.data.toList.drop 0 = dktX1_meets_0 := by decide +kernel
theorem dksX1_meets_1 : cX1_meets.data.toList.drop 24 = dktX1_meets_1 := dk_seg dksX1_meets_0 24 rfl rfl
theorem dksX1_meets_2 : cX1_meets.data.toList.drop 46 = dktX1_meets_2 := dk_seg dksX1_meets_1 22 rfl rfl
theorem dksX1_meets_3 : cX1_meets.data.toList.drop 70 = dktX1_meets_3 := dk_seg dksX1_meets_2 24 rfl rfl
theorem dksX1_meets_4 : cX1_meets.data.toList.drop 92 = dktX1_meets_4 := dk_seg dksX1_meets_3 22 rfl rfl
theorem dX1_meets_0 : decode cX1_meets 0 = .ok (.aload_n 0, 1) := dk_42 (dk_at dksX1_meets_0 0 rfl rfl)
theorem dX1_meets_1 : decode cX1_meets 1 = .ok (.iload_n 1, 1) := dk_27 (dk_at dksX1_meets_0 1 rfl rfl)
theorem dX1_meets_2 : decode cX1_meets 2 = .ok (.invokevirtual 297, 3) := dk_182 1 41 (dk_at dksX1_meets_0 2 rfl rfl)
theorem dX1_meets_5 : decode cX1_meets 5 = .ok (.ifCond .eq 16, 3) := dk_153 0 16 (dk_at dksX1_meets_0 5 rfl rfl)
theorem dX1_meets_8 : decode cX1_meets 8 = .ok (.aload_n 0, 1) := dk_42 (dk_at dksX1_meets_0 8 rfl rfl)
theorem dX1_meets_9 : decode cX1_meets 9 = .ok (.iload_n 2, 1) := dk_28 (dk_at dksX1_meets_0 9 rfl rfl)
theorem dX1_meets_10 : decode cX1_meets 10 = .ok (.invokevirtual 297, 3) := dk_182 1 41 (dk_at dksX1_meets_0 10 rfl rfl)
theorem dX1_meets_13 : decode cX1_meets 13 = .ok (.ifCond .eq 8, 3) := dk_153 0 8 (dk_at dksX1_meets_0 13 rfl rfl)
theorem dX1_meets_16 : decode cX1_meets 16 = .ok (.iload_n 1, 1) := dk_27 (dk_at dksX1_meets_0 16 rfl rfl)
theorem dX1_meets_17 : decode cX1_meets 17 = .ok (.iload_n 2, 1) := dk_28 (dk_at dksX1_meets_0 17 rfl rfl)
theorem dX1_meets_18 : decode cX1_meets 18 = .ok (.if_icmp .ne 5, 3) := dk_160 0 5 (dk_at dksX1_meets_0 18 rfl rfl)
theorem dX1_meets_21 : decode cX1_meets 21 = .ok (.iconst (-1), 1) := dk_2 (dk_at dksX1_meets_0 21 rfl rfl)
theorem dX1_meets_22 : decode cX1_meets 22 = .ok (.ireturn, 1) := dk_172 (dk_at dksX1_meets_0 22 rfl rfl)
theorem dX1_meets_23 : decode cX1_meets 23 = .ok (.aload_n 0, 1) := dk_42 (dk_at dksX1_meets_0 23 rfl rfl)
theorem dX1_meets_24 : decode cX1_meets 24 = .ok (.getfield 16, 3) := dk_180 0 16 (dk_at dksX1_meets_1 0 rfl rfl)
theorem dX1_meets_27 : decode cX1_meets 27 = .ok (.aload_n 0, 1) := dk_42 (dk_at dksX1_meets_1 3 rfl rfl)
theorem dX1_meets_28 : decode cX1_meets 28 = .ok (.getfield 12, 3) := dk_180 0 12 (dk_at dksX1_meets_1 4 rfl rfl)
theorem dX1_meets_31 : decode cX1_meets 31 = .ok (.invokevirtual 314, 3) := dk_182 1 58 (dk_at dksX1_meets_1 7 rfl rfl)
theorem dX1_meets_34 : decode cX1_meets 34 = .ok (.iconst 0, 1) := dk_3 (dk_at dksX1_meets_1 10 rfl rfl)
theorem dX1_meets_35 : decode cX1_meets 35 = .ok (.istore_n 3, 1) := dk_62 (dk_at dksX1_meets_1 11 rfl rfl)
theorem dX1_meets_36 : decode cX1_meets 36 = .ok (.iload_n 3, 1) := dk_29 (dk_at dksX1_meets_1 12 rfl rfl)
theorem dX1_meets_37 : decode cX1_meets 37 = .ok (.bipush 99, 2) := dk_16 99 (dk_at dksX1_meets_1 13 rfl rfl)
theorem dX1_meets_39 : decode cX1_meets 39 = .ok (.if_icmp .gt 59, 3) := dk_163 0 59 (dk_at dksX1_meets_1 15 rfl rfl)
theorem dX1_meets_42 : decode cX1_meets 42 = .ok (.aload_n 0, 1) := dk_42 (dk_at dksX1_meets_1 18 rfl rfl)
theorem dX1_meets_43 : decode cX1_meets 43 = .ok (.getfield 16, 3) := dk_180 0 16 (dk_at dksX1_meets_1 19 rfl rfl)
theorem dX1_meets_46 : decode cX1_meets 46 = .ok (.getfield 133, 3) := dk_180 0 133 (dk_at dksX1_meets_2 0 rfl rfl)
theorem dX1_meets_49 : decode cX1_meets 49 = .ok (.iload_n 1, 1) := dk_27 (dk_at dksX1_meets_2 3 rfl rfl)
theorem dX1_meets_50 : decode cX1_meets 50 = .ok (.iaload, 1) := dk_46 (dk_at dksX1_meets_2 4 rfl rfl)
theorem dX1_meets_51 : decode cX1_meets 51 = .ok (.aload_n 0, 1) := dk_42 (dk_at dksX1_meets_2 5 rfl rfl)
theorem dX1_meets_52 : decode cX1_meets 52 = .ok (.getfield 16, 3) := dk_180 0 16 (dk_at dksX1_meets_2 6 rfl rfl)
theorem dX1_meets_55 : decode cX1_meets 55 = .ok (.getfield 133, 3) := dk_180 0 133 (dk_at dksX1_meets_2 9 rfl rfl)
theorem dX1_meets_58 : decode cX1_meets 58 = .ok (.iload_n 2, 1) := dk_28 (dk_at dksX1_meets_2 12 rfl rfl)
theorem dX1_meets_59 : decode cX1_meets 59 = .ok (.iaload, 1) := dk_46 (dk_at dksX1_meets_2 13 rfl rfl)
theorem dX1_meets_60 : decode cX1_meets 60 = .ok (.if_icmp .ne 24, 3) := dk_160 0 24 (dk_at dksX1_meets_2 14 rfl rfl)
theorem dX1_meets_63 : decode cX1_meets 63 = .ok (.aload_n 0, 1) := dk_42 (dk_at dksX1_meets_2 17 rfl rfl)
theorem dX1_meets_64 : decode cX1_meets 64 = .ok (.iconst 0, 1) := dk_3 (dk_at dksX1_meets_2 18 rfl rfl)
theorem dX1_meets_65 : decode cX1_meets 65 = .ok (.putfield 350, 3) := dk_181 1 94 (dk_at dksX1_meets_2 19 rfl rfl)
theorem dX1_meets_68 : decode cX1_meets 68 = .ok (.aload_n 0, 1) := dk_42 (dk_at dksX1_meets_2 22 rfl rfl)
theorem dX1_meets_69 : decode cX1_meets 69 = .ok (.aload_n 0, 1) := dk_42 (dk_at dksX1_meets_2 23 rfl rfl)
theorem dX1_meets_70 : decode cX1_meets 70 = .ok (.getfield 16, 3) := dk_180 0 16 (dk_at dksX1_meets_3 0 rfl rfl)
theorem dX1_meets_73 : decode cX1_meets 73 = .ok (.getfield 133, 3) := dk_180 0 133 (dk_at dksX1_meets_3 3 rfl rfl)
theorem dX1_meets_76 : decode cX1_meets 76 = .ok (.iload_n 1, 1) := dk_27 (dk_at dksX1_meets_3 6 rfl rfl)
theorem dX1_meets_77 : decode cX1_meets 77 = .ok (.iaload, 1) := dk_46 (dk_at dksX1_meets_3 7 rfl rfl)
theorem dX1_meets_78 : decode cX1_meets 78 = .ok (.i2l, 1) := dk_133 (dk_at dksX1_meets_3 8 rfl rfl)
theorem dX1_meets_79 : decode cX1_meets 79 = .ok (.invokevirtual 353, 3) := dk_182 1 97 (dk_at dksX1_meets_3 9 rfl rfl)
theorem dX1_meets_82 : decode cX1_meets 82 = .ok (.iload_n 3, 1) := dk_29 (dk_at dksX1_meets_3 12 rfl rfl)
theorem dX1_meets_83 : decode cX1_meets 83 = .ok (.ireturn, 1) := dk_172 (dk_at dksX1_meets_3 13 rfl rfl)
theorem dX1_meets_84 : decode cX1_meets 84 = .ok (.aload_n 0, 1) := dk_42 (dk_at dksX1_meets_3 14 rfl rfl)
theorem dX1_meets_85 : decode cX1_meets 85 = .ok (.aload_n 0, 1) := dk_42 (dk_at dksX1_meets_3 15 rfl rfl)
theorem dX1_meets_86 : decode cX1_meets 86 = .ok (.getfield 16, 3) := dk_180 0 16 (dk_at dksX1_meets_3 16 rfl rfl)
theorem dX1_meets_89 : decode cX1_meets 89 = .ok (.invokevirtual 334, 3) := dk_182 1 78 (dk_at dksX1_meets_3 19 rfl rfl)
theorem dX1_meets_92 : decode cX1_meets 92 = .ok (.iinc 3 1, 3) := dk_132 3 1 (dk_at dksX1_meets_4 0 rfl rfl)
theorem dX1_meets_95 : decode cX1_meets 95 = .ok (.goto (-59), 3) := dk_167 255 197 (dk_at dksX1_meets_4 3 rfl rfl)
theorem dX1_meets_98 : decode cX1_meets 98 = .ok (.bipush (-2), 2) := dk_16 254 (dk_at dksX1_meets_4 6 rfl rfl)
theorem dX1_meets_100 : decode cX1_meets 100 = .ok (.ireturn, 1) := dk_172 (dk_at dksX1_meets_4 8 rfl rfl)
abbrev cX1_richest : ByteArray := prog_1_method_63_code
def yX1_richest : MethodName := ⟨RX1, "richest", "(I)I"⟩
def dkwX1_richest_5 : List UInt8 := [182, 1, 97, 28, 172]
abbrev dktX1_richest_5 : List UInt8 := dkwX1_richest_5 ++ []
def dkwX1_richest_4 : List UInt8 := [42, 3, 181, 1, 94, 42, 29, 133, 182, 1, 97, 42, 42, 42, 180, 0, 16, 182, 1, 54, 29, 100, 133]
abbrev dktX1_richest_4 : List UInt8 := dkwX1_richest_4 ++ dktX1_richest_5
def dkwX1_richest_3 : List UInt8 := [29, 164, 0, 8, 21, 4, 167, 0, 4, 28, 61, 29, 21, 5, 184, 1, 38, 62, 132, 4, 1, 167, 255, 208]
abbrev dktX1_richest_3 : List UInt8 := dkwX1_richest_3 ++ dktX1_richest_4
def dkwX1_richest_2 : List UInt8 := [162, 0, 48, 42, 42, 180, 0, 16, 180, 0, 133, 42, 21, 4, 182, 1, 134, 182, 0, 136, 54, 5, 21, 5]
abbrev dktX1_richest_2 : List UInt8 := dkwX1_richest_2 ++ dktX1_richest_3
def dkwX1_richest_1 : List UInt8 := [182, 1, 58, 42, 42, 180, 0, 16, 27, 182, 1, 90, 3, 61, 2, 62, 3, 54, 4, 21, 4, 7]
abbrev dktX1_richest_1 : List UInt8 := dkwX1_richest_1 ++ dktX1_richest_2
def dkwX1_richest_0 : List UInt8 := [27, 133, 9, 20, 1, 129, 184, 0, 121, 154, 0, 5, 2, 172, 42, 180, 0, 16, 42, 180, 0, 12]
abbrev dktX1_richest_0 : List UInt8 := dkwX1_richest_0 ++ dktX1_richest_1
theorem dksX1_richest_0 : cX1_richest.data.toList.drop 0 = dktX1_richest_0 := by decide +kernel
theorem dksX1_richest_1 : cX1_richest.data.toList.drop 22 = dktX1_richest_1 := dk_seg dksX1_richest_0 22 rfl rfl
theorem dksX1_richest_2 : cX1_richest.data.toList.drop 44 = dktX1_richest_2 := dk_seg dksX1_richest_1 22 rfl rfl
theorem dksX1_richest_3 : cX1_richest.data.toList.drop 68 = dktX1_richest_3 := dk_seg dksX1_richest_2 24 rfl rfl
theorem dksX1_richest_4 : cX1_richest.data.toList.drop 92 = dktX1_richest_4 := dk_seg dksX1_richest_3 24 rfl rfl
theorem dksX1_richest_5 : cX1_richest.data.toList.drop 115 = dktX1_richest_5 := dk_seg dksX1_richest_4 23 rfl rfl
theorem dX1_richest_0 : decode cX1_richest 0 = .ok (.iload_n 1, 1) := dk_27 (dk_at dksX1_richest_0 0 rfl rfl)
theorem dX1_richest_1 : decode cX1_richest 1 = .ok (.i2l, 1) := dk_133 (dk_at dksX1_richest_0 1 rfl rfl)
theorem dX1_richest_2 : decode cX1_richest 2 = .ok (.lconst 0, 1) := dk_9 (dk_at dksX1_richest_0 2 rfl rfl)
theorem dX1_richest_3 : decode cX1_richest 3 = .ok (.ldc2_w 385, 3) := dk_20 1 129 (dk_at dksX1_richest_0 3 rfl rfl)
theorem dX1_richest_6 : decode cX1_richest 6 = .ok (.invokestatic 121, 3) := dk_184 0 121 (dk_at dksX1_richest_0 6 rfl rfl)
theorem dX1_richest_9 : decode cX1_richest 9 = .ok (.ifCond .ne 5, 3) := dk_154 0 5 (dk_at dksX1_richest_0 9 rfl rfl)
theorem dX1_richest_12 : decode cX1_richest 12 = .ok (.iconst (-1), 1) := dk_2 (dk_at dksX1_richest_0 12 rfl rfl)
theorem dX1_richest_13 : decode cX1_richest 13 = .ok (.ireturn, 1) := dk_172 (dk_at dksX1_richest_0 13 rfl rfl)
theorem dX1_richest_14 : decode cX1_richest 14 = .ok (.aload_n 0, 1) := dk_42 (dk_at dksX1_richest_0 14 rfl rfl)
theorem dX1_richest_15 : decode cX1_richest 15 = .ok (.getfield 16, 3) := dk_180 0 16 (dk_at dksX1_richest_0 15 rfl rfl)
theorem dX1_richest_18 : decode cX1_richest 18 = .ok (.aload_n 0, 1) := dk_42 (dk_at dksX1_richest_0 18 rfl rfl)
theorem dX1_richest_19 : decode cX1_richest 19 = .ok (.getfield 12, 3) := dk_180 0 12 (dk_at dksX1_richest_0 19 rfl rfl)
theorem dX1_richest_22 : decode cX1_richest 22 = .ok (.invokevirtual 314, 3) := dk_182 1 58 (dk_at dksX1_richest_1 0 rfl rfl)
theorem dX1_richest_25 : decode cX1_richest 25 = .ok (.aload_n 0, 1) := dk_42 (dk_at dksX1_richest_1 3 rfl rfl)
theorem dX1_richest_26 : decode cX1_richest 26 = .ok (.aload_n 0, 1) := dk_42 (dk_at dksX1_richest_1 4 rfl rfl)
theorem dX1_richest_27 : decode cX1_richest 27 = .ok (.getfield 16, 3) := dk_180 0 16 (dk_at dksX1_richest_1 5 rfl rfl)
theorem dX1_richest_30 : decode cX1_richest 30 = .ok (.iload_n 1, 1) := dk_27 (dk_at dksX1_richest_1 8 rfl rfl)
theorem dX1_richest_31 : decode cX1_richest 31 = .ok (.invokevirtual 346, 3) := dk_182 1 90 (dk_at dksX1_richest_1 9 rfl rfl)
theorem dX1_richest_34 : decode cX1_richest 34 = .ok (.iconst 0, 1) := dk_3 (dk_at dksX1_richest_1 12 rfl rfl)
theorem dX1_richest_35 : decode cX1_richest 35 = .ok (.istore_n 2, 1) := dk_61 (dk_at dksX1_richest_1 13 rfl rfl)
theorem dX1_richest_36 : decode cX1_richest 36 = .ok (.iconst (-1), 1) := dk_2 (dk_at dksX1_richest_1 14 rfl rfl)
theorem dX1_richest_37 : decode cX1_richest 37 = .ok (.istore_n 3, 1) := dk_62 (dk_at dksX1_richest_1 15 rfl rfl)
theorem dX1_richest_38 : decode cX1_richest 38 = .ok (.iconst 0, 1) := dk_3 (dk_at dksX1_richest_1 16 rfl rfl)
theorem dX1_richest_39 : decode cX1_richest 39 = .ok (.istore 4, 2) := dk_54 4 (dk_at dksX1_richest_1 17 rfl rfl)
theorem dX1_richest_41 : decode cX1_richest 41 = .ok (.iload 4, 2) := dk_21 4 (dk_at dksX1_richest_1 19 rfl rfl)
theorem dX1_richest_43 : decode cX1_richest 43 = .ok (.iconst 4, 1) := dk_7 (dk_at dksX1_richest_1 21 rfl rfl)
theorem dX1_richest_44 : decode cX1_richest 44 = .ok (.if_icmp .ge 48, 3) := dk_162 0 48 (dk_at dksX1_richest_2 0 rfl rfl)
theorem dX1_richest_47 : decode cX1_richest 47 = .ok (.aload_n 0, 1) := dk_42 (dk_at dksX1_richest_2 3 rfl rfl)
theorem dX1_richest_48 : decode cX1_richest 48 = .ok (.aload_n 0, 1) := dk_42 (dk_at dksX1_richest_2 4 rfl rfl)
theorem dX1_richest_49 : decode cX1_richest 49 = .ok (.getfield 16, 3) := dk_180 0 16 (dk_at dksX1_richest_2 5 rfl rfl)
theorem dX1_richest_52 : decode cX1_richest 52 = .ok (.getfield 133, 3) := dk_180 0 133 (dk_at dksX1_richest_2 8 rfl rfl)
theorem dX1_richest_55 : decode cX1_richest 55 = .ok (.aload_n 0, 1) := dk_42 (dk_at dksX1_richest_2 11 rfl rfl)
theorem dX1_richest_56 : decode cX1_richest 56 = .ok (.iload 4, 2) := dk_21 4 (dk_at dksX1_richest_2 12 rfl rfl)
theorem dX1_richest_58 : decode cX1_richest 58 = .ok (.invokevirtual 390, 3) := dk_182 1 134 (dk_at dksX1_richest_2 14 rfl rfl)
theorem dX1_richest_61 : decode cX1_richest 61 = .ok (.invokevirtual 136, 3) := dk_182 0 136 (dk_at dksX1_richest_2 17 rfl rfl)
theorem dX1_richest_64 : decode cX1_richest 64 = .ok (.istore 5, 2) := dk_54 5 (dk_at dksX1_richest_2 20 rfl rfl)
theorem dX1_richest_66 : decode cX1_richest 66 = .ok (.iload 5, 2) := dk_21 5 (dk_at dksX1_richest_2 22 rfl rfl)
theorem dX1_richest_68 : decode cX1_richest 68 = .ok (.iload_n 3, 1) := dk_29 (dk_at dksX1_richest_3 0 rfl rfl)
theorem dX1_richest_69 : decode cX1_richest 69 = .ok (.if_icmp .le 8, 3) := dk_164 0 8 (dk_at dksX1_richest_3 1 rfl rfl)
theorem dX1_richest_72 : decode cX1_richest 72 = .ok (.iload 4, 2) := dk_21 4 (dk_at dksX1_richest_3 4 rfl rfl)
theorem dX1_richest_74 : decode cX1_richest 74 = .ok (.goto 4, 3) := dk_167 0 4 (dk_at dksX1_richest_3 6 rfl rfl)
theorem dX1_richest_77 : decode cX1_richest 77 = .ok (.iload_n 2, 1) := dk_28 (dk_at dksX1_richest_3 9 rfl rfl)
theorem dX1_richest_78 : decode cX1_richest 78 = .ok (.istore_n 2, 1) := dk_61 (dk_at dksX1_richest_3 10 rfl rfl)
theorem dX1_richest_79 : decode cX1_richest 79 = .ok (.iload_n 3, 1) := dk_29 (dk_at dksX1_richest_3 11 rfl rfl)
theorem dX1_richest_80 : decode cX1_richest 80 = .ok (.iload 5, 2) := dk_21 5 (dk_at dksX1_richest_3 12 rfl rfl)
theorem dX1_richest_82 : decode cX1_richest 82 = .ok (.invokestatic 294, 3) := dk_184 1 38 (dk_at dksX1_richest_3 14 rfl rfl)
theorem dX1_richest_85 : decode cX1_richest 85 = .ok (.istore_n 3, 1) := dk_62 (dk_at dksX1_richest_3 17 rfl rfl)
theorem dX1_richest_86 : decode cX1_richest 86 = .ok (.iinc 4 1, 3) := dk_132 4 1 (dk_at dksX1_richest_3 18 rfl rfl)
theorem dX1_richest_89 : decode cX1_richest 89 = .ok (.goto (-48), 3) := dk_167 255 208 (dk_at dksX1_richest_3 21 rfl rfl)
theorem dX1_richest_92 : decode cX1_richest 92 = .ok (.aload_n 0, 1) := dk_42 (dk_at dksX1_richest_4 0 rfl rfl)
theorem dX1_richest_93 : decode cX1_richest 93 = .ok (.iconst 0, 1) := dk_3 (dk_at dksX1_richest_4 1 rfl rfl)
theorem dX1_richest_94 : decode cX1_richest 94 = .ok (.putfield 350, 3) := dk_181 1 94 (dk_at dksX1_richest_4 2 rfl rfl)
theorem dX1_richest_97 : decode cX1_richest 97 = .ok (.aload_n 0, 1) := dk_42 (dk_at dksX1_richest_4 5 rfl rfl)
theorem dX1_richest_98 : decode cX1_richest 98 = .ok (.iload_n 3, 1) := dk_29 (dk_at dksX1_richest_4 6 rfl rfl)
theorem dX1_richest_99 : decode cX1_richest 99 = .ok (.i2l, 1) := dk_133 (dk_at dksX1_richest_4 7 rfl rfl)
theorem dX1_richest_100 : decode cX1_richest 100 = .ok (.invokevirtual 353, 3) := dk_182 1 97 (dk_at dksX1_richest_4 8 rfl rfl)
theorem dX1_richest_103 : decode cX1_richest 103 = .ok (.aload_n 0, 1) := dk_42 (dk_at dksX1_richest_4 11 rfl rfl)
theorem dX1_richest_104 : decode cX1_richest 104 = .ok (.aload_n 0, 1) := dk_42 (dk_at dksX1_richest_4 12 rfl rfl)
theorem dX1_richest_105 : decode cX1_richest 105 = .ok (.aload_n 0, 1) := dk_42 (dk_at dksX1_richest_4 13 rfl rfl)
theorem dX1_richest_106 : decode cX1_richest 106 = .ok (.getfield 16, 3) := dk_180 0 16 (dk_at dksX1_richest_4 14 rfl rfl)
theorem dX1_richest_109 : decode cX1_richest 109 = .ok (.invokevirtual 310, 3) := dk_182 1 54 (dk_at dksX1_richest_4 17 rfl rfl)
theorem dX1_richest_112 : decode cX1_richest 112 = .ok (.iload_n 3, 1) := dk_29 (dk_at dksX1_richest_4 20 rfl rfl)
theorem dX1_richest_113 : decode cX1_richest 113 = .ok (.isub, 1) := dk_100 (dk_at dksX1_richest_4 21 rfl rfl)
theorem dX1_richest_114 : decode cX1_richest 114 = .ok (.i2l, 1) := dk_133 (dk_at dksX1_richest_4 22 rfl rfl)
theorem dX1_richest_115 : decode cX1_richest 115 = .ok (.invokevirtual 353, 3) := dk_182 1 97 (dk_at dksX1_richest_5 0 rfl rfl)
theorem dX1_richest_118 : decode cX1_richest 118 = .ok (.iload_n 2, 1) := dk_28 (dk_at dksX1_richest_5 3 rfl rfl)
theorem dX1_richest_119 : decode cX1_richest 119 = .ok (.ireturn, 1) := dk_172 (dk_at dksX1_richest_5 4 rfl rfl)
abbrev cX1_swims : ByteArray := prog_1_method_64_code
def yX1_swims : MethodName := ⟨RX1, "swims", "(III)I"⟩
def dkwX1_swims_7 : List UInt8 := [181, 1, 94, 42, 21, 5, 133, 182, 1, 97, 42, 21, 6, 133, 182, 1, 97, 21, 4, 172]
abbrev dktX1_swims_7 : List UInt8 := dkwX1_swims_7 ++ []
def dkwX1_swims_6 : List UInt8 := [167, 0, 4, 3, 54, 7, 21, 5, 21, 7, 184, 1, 38, 54, 5, 132, 8, 1, 167, 255, 161, 42, 3]
abbrev dktX1_swims_6 : List UInt8 := dkwX1_swims_6 ++ dktX1_swims_7
def dkwX1_swims_5 : List UInt8 := [21, 9, 153, 0, 7, 4, 167, 0, 4, 3, 96, 54, 4, 21, 9, 153, 0, 10, 21, 7, 4, 96]
abbrev dktX1_swims_5 : List UInt8 := dkwX1_swims_5 ++ dktX1_swims_6
def dkwX1_swims_4 : List UInt8 := [54, 9, 21, 9, 153, 0, 13, 21, 4, 154, 0, 8, 21, 8, 167, 0, 5, 21, 6, 54, 6, 21, 4]
abbrev dktX1_swims_4 : List UInt8 := dkwX1_swims_4 ++ dktX1_swims_5
def dkwX1_swims_3 : List UInt8 := [180, 0, 16, 182, 1, 78, 42, 180, 0, 16, 180, 0, 133, 27, 46, 28, 161, 0, 7, 4, 167, 0, 4, 3]
abbrev dktX1_swims_3 : List UInt8 := dkwX1_swims_3 ++ dktX1_swims_4
def dkwX1_swims_2 : List UInt8 := [54, 4, 3, 54, 5, 3, 54, 6, 3, 54, 7, 4, 54, 8, 21, 8, 29, 163, 0, 95, 42, 42]
abbrev dktX1_swims_2 : List UInt8 := dkwX1_swims_2 ++ dktX1_swims_3
def dkwX1_swims_1 : List UInt8 := [20, 1, 129, 184, 0, 121, 154, 0, 5, 2, 172, 42, 180, 0, 16, 42, 180, 0, 12, 182, 1, 58, 3]
abbrev dktX1_swims_1 : List UInt8 := dkwX1_swims_1 ++ dktX1_swims_2
def dkwX1_swims_0 : List UInt8 := [42, 27, 182, 1, 41, 153, 0, 27, 28, 133, 9, 20, 1, 129, 184, 0, 121, 153, 0, 15, 29, 133, 10]
abbrev dktX1_swims_0 : List UInt8 := dkwX1_swims_0 ++ dktX1_swims_1
theorem dksX1_swims_0 : cX1_swims.data.toList.drop 0 = dktX1_swims_0 := by decide +kernel
theorem dksX1_swims_1 : cX1_swims.data.toList.drop 23 = dktX1_swims_1 := dk_seg dksX1_swims_0 23 rfl rfl
theorem dksX1_swims_2 : cX1_swims.data.toList.drop 46 = dktX1_swims_2 := dk_seg dksX1_swims_1 23 rfl rfl
theorem dksX1_swims_3 : cX1_swims.data.toList.drop 68 = dktX1_swims_3 := dk_seg dksX1_swims_2 22 rfl rfl
theorem dksX1_swims_4 : cX1_swims.data.toList.drop 92 = dktX1_swims_4 := dk_seg dksX1_swims_3 24 rfl rfl
theorem dksX1_swims_5 : cX1_swims.data.toList.drop 115 = dktX1_swims_5 := dk_seg dksX1_swims_4 23 rfl rfl
theorem dksX1_swims_6 : cX1_swims.data.toList.drop 137 = dktX1_swims_6 := dk_seg dksX1_swims_5 22 rfl rfl
theorem dksX1_swims_7 : cX1_swims.data.toList.drop 160 = dktX1_swims_7 := dk_seg dksX1_swims_6 23 rfl rfl
theorem dX1_swims_0 : decode cX1_swims 0 = .ok (.aload_n 0, 1) := dk_42 (dk_at dksX1_swims_0 0 rfl rfl)
theorem dX1_swims_1 : decode cX1_swims 1 = .ok (.iload_n 1, 1) := dk_27 (dk_at dksX1_swims_0 1 rfl rfl)
theorem dX1_swims_2 : decode cX1_swims 2 = .ok (.invokevirtual 297, 3) := dk_182 1 41 (dk_at dksX1_swims_0 2 rfl rfl)
theorem dX1_swims_5 : decode cX1_swims 5 = .ok (.ifCond .eq 27, 3) := dk_153 0 27 (dk_at dksX1_swims_0 5 rfl rfl)
theorem dX1_swims_8 : decode cX1_swims 8 = .ok (.iload_n 2, 1) := dk_28 (dk_at dksX1_swims_0 8 rfl rfl)
theorem dX1_swims_9 : decode cX1_swims 9 = .ok (.i2l, 1) := dk_133 (dk_at dksX1_swims_0 9 rfl rfl)
theorem dX1_swims_10 : decode cX1_swims 10 = .ok (.lconst 0, 1) := dk_9 (dk_at dksX1_swims_0 10 rfl rfl)
theorem dX1_swims_11 : decode cX1_swims 11 = .ok (.ldc2_w 385, 3) := dk_20 1 129 (dk_at dksX1_swims_0 11 rfl rfl)
theorem dX1_swims_14 : decode cX1_swims 14 = .ok (.invokestatic 121, 3) := dk_184 0 121 (dk_at dksX1_swims_0 14 rfl rfl)
theorem dX1_swims_17 : decode cX1_swims 17 = .ok (.ifCond .eq 15, 3) := dk_153 0 15 (dk_at dksX1_swims_0 17 rfl rfl)
theorem dX1_swims_20 : decode cX1_swims 20 = .ok (.iload_n 3, 1) := dk_29 (dk_at dksX1_swims_0 20 rfl rfl)
theorem dX1_swims_21 : decode cX1_swims 21 = .ok (.i2l, 1) := dk_133 (dk_at dksX1_swims_0 21 rfl rfl)
theorem dX1_swims_22 : decode cX1_swims 22 = .ok (.lconst 1, 1) := dk_10 (dk_at dksX1_swims_0 22 rfl rfl)
theorem dX1_swims_23 : decode cX1_swims 23 = .ok (.ldc2_w 385, 3) := dk_20 1 129 (dk_at dksX1_swims_1 0 rfl rfl)
theorem dX1_swims_26 : decode cX1_swims 26 = .ok (.invokestatic 121, 3) := dk_184 0 121 (dk_at dksX1_swims_1 3 rfl rfl)
theorem dX1_swims_29 : decode cX1_swims 29 = .ok (.ifCond .ne 5, 3) := dk_154 0 5 (dk_at dksX1_swims_1 6 rfl rfl)
theorem dX1_swims_32 : decode cX1_swims 32 = .ok (.iconst (-1), 1) := dk_2 (dk_at dksX1_swims_1 9 rfl rfl)
theorem dX1_swims_33 : decode cX1_swims 33 = .ok (.ireturn, 1) := dk_172 (dk_at dksX1_swims_1 10 rfl rfl)
theorem dX1_swims_34 : decode cX1_swims 34 = .ok (.aload_n 0, 1) := dk_42 (dk_at dksX1_swims_1 11 rfl rfl)
theorem dX1_swims_35 : decode cX1_swims 35 = .ok (.getfield 16, 3) := dk_180 0 16 (dk_at dksX1_swims_1 12 rfl rfl)
theorem dX1_swims_38 : decode cX1_swims 38 = .ok (.aload_n 0, 1) := dk_42 (dk_at dksX1_swims_1 15 rfl rfl)
theorem dX1_swims_39 : decode cX1_swims 39 = .ok (.getfield 12, 3) := dk_180 0 12 (dk_at dksX1_swims_1 16 rfl rfl)
theorem dX1_swims_42 : decode cX1_swims 42 = .ok (.invokevirtual 314, 3) := dk_182 1 58 (dk_at dksX1_swims_1 19 rfl rfl)
theorem dX1_swims_45 : decode cX1_swims 45 = .ok (.iconst 0, 1) := dk_3 (dk_at dksX1_swims_1 22 rfl rfl)
theorem dX1_swims_46 : decode cX1_swims 46 = .ok (.istore 4, 2) := dk_54 4 (dk_at dksX1_swims_2 0 rfl rfl)
theorem dX1_swims_48 : decode cX1_swims 48 = .ok (.iconst 0, 1) := dk_3 (dk_at dksX1_swims_2 2 rfl rfl)
theorem dX1_swims_49 : decode cX1_swims 49 = .ok (.istore 5, 2) := dk_54 5 (dk_at dksX1_swims_2 3 rfl rfl)
theorem dX1_swims_51 : decode cX1_swims 51 = .ok (.iconst 0, 1) := dk_3 (dk_at dksX1_swims_2 5 rfl rfl)
theorem dX1_swims_52 : decode cX1_swims 52 = .ok (.istore 6, 2) := dk_54 6 (dk_at dksX1_swims_2 6 rfl rfl)
theorem dX1_swims_54 : decode cX1_swims 54 = .ok (.iconst 0, 1) := dk_3 (dk_at dksX1_swims_2 8 rfl rfl)
theorem dX1_swims_55 : decode cX1_swims 55 = .ok (.istore 7, 2) := dk_54 7 (dk_at dksX1_swims_2 9 rfl rfl)
theorem dX1_swims_57 : decode cX1_swims 57 = .ok (.iconst 1, 1) := dk_4 (dk_at dksX1_swims_2 11 rfl rfl)
theorem dX1_swims_58 : decode cX1_swims 58 = .ok (.istore 8, 2) := dk_54 8 (dk_at dksX1_swims_2 12 rfl rfl)
theorem dX1_swims_60 : decode cX1_swims 60 = .ok (.iload 8, 2) := dk_21 8 (dk_at dksX1_swims_2 14 rfl rfl)
theorem dX1_swims_62 : decode cX1_swims 62 = .ok (.iload_n 3, 1) := dk_29 (dk_at dksX1_swims_2 16 rfl rfl)
theorem dX1_swims_63 : decode cX1_swims 63 = .ok (.if_icmp .gt 95, 3) := dk_163 0 95 (dk_at dksX1_swims_2 17 rfl rfl)
theorem dX1_swims_66 : decode cX1_swims 66 = .ok (.aload_n 0, 1) := dk_42 (dk_at dksX1_swims_2 20 rfl rfl)
theorem dX1_swims_67 : decode cX1_swims 67 = .ok (.aload_n 0, 1) := dk_42 (dk_at dksX1_swims_2 21 rfl rfl)
theorem dX1_swims_68 : decode cX1_swims 68 = .ok (.getfield 16, 3) := dk_180 0 16 (dk_at dksX1_swims_3 0 rfl rfl)
theorem dX1_swims_71 : decode cX1_swims 71 = .ok (.invokevirtual 334, 3) := dk_182 1 78 (dk_at dksX1_swims_3 3 rfl rfl)
theorem dX1_swims_74 : decode cX1_swims 74 = .ok (.aload_n 0, 1) := dk_42 (dk_at dksX1_swims_3 6 rfl rfl)
theorem dX1_swims_75 : decode cX1_swims 75 = .ok (.getfield 16, 3) := dk_180 0 16 (dk_at dksX1_swims_3 7 rfl rfl)
theorem dX1_swims_78 : decode cX1_swims 78 = .ok (.getfield 133, 3) := dk_180 0 133 (dk_at dksX1_swims_3 10 rfl rfl)
theorem dX1_swims_81 : decode cX1_swims 81 = .ok (.iload_n 1, 1) := dk_27 (dk_at dksX1_swims_3 13 rfl rfl)
theorem dX1_swims_82 : decode cX1_swims 82 = .ok (.iaload, 1) := dk_46 (dk_at dksX1_swims_3 14 rfl rfl)
theorem dX1_swims_83 : decode cX1_swims 83 = .ok (.iload_n 2, 1) := dk_28 (dk_at dksX1_swims_3 15 rfl rfl)
theorem dX1_swims_84 : decode cX1_swims 84 = .ok (.if_icmp .lt 7, 3) := dk_161 0 7 (dk_at dksX1_swims_3 16 rfl rfl)
theorem dX1_swims_87 : decode cX1_swims 87 = .ok (.iconst 1, 1) := dk_4 (dk_at dksX1_swims_3 19 rfl rfl)
theorem dX1_swims_88 : decode cX1_swims 88 = .ok (.goto 4, 3) := dk_167 0 4 (dk_at dksX1_swims_3 20 rfl rfl)
theorem dX1_swims_91 : decode cX1_swims 91 = .ok (.iconst 0, 1) := dk_3 (dk_at dksX1_swims_3 23 rfl rfl)
theorem dX1_swims_92 : decode cX1_swims 92 = .ok (.istore 9, 2) := dk_54 9 (dk_at dksX1_swims_4 0 rfl rfl)
theorem dX1_swims_94 : decode cX1_swims 94 = .ok (.iload 9, 2) := dk_21 9 (dk_at dksX1_swims_4 2 rfl rfl)
theorem dX1_swims_96 : decode cX1_swims 96 = .ok (.ifCond .eq 13, 3) := dk_153 0 13 (dk_at dksX1_swims_4 4 rfl rfl)
theorem dX1_swims_99 : decode cX1_swims 99 = .ok (.iload 4, 2) := dk_21 4 (dk_at dksX1_swims_4 7 rfl rfl)
theorem dX1_swims_101 : decode cX1_swims 101 = .ok (.ifCond .ne 8, 3) := dk_154 0 8 (dk_at dksX1_swims_4 9 rfl rfl)
theorem dX1_swims_104 : decode cX1_swims 104 = .ok (.iload 8, 2) := dk_21 8 (dk_at dksX1_swims_4 12 rfl rfl)
theorem dX1_swims_106 : decode cX1_swims 106 = .ok (.goto 5, 3) := dk_167 0 5 (dk_at dksX1_swims_4 14 rfl rfl)
theorem dX1_swims_109 : decode cX1_swims 109 = .ok (.iload 6, 2) := dk_21 6 (dk_at dksX1_swims_4 17 rfl rfl)
theorem dX1_swims_111 : decode cX1_swims 111 = .ok (.istore 6, 2) := dk_54 6 (dk_at dksX1_swims_4 19 rfl rfl)
theorem dX1_swims_113 : decode cX1_swims 113 = .ok (.iload 4, 2) := dk_21 4 (dk_at dksX1_swims_4 21 rfl rfl)
theorem dX1_swims_115 : decode cX1_swims 115 = .ok (.iload 9, 2) := dk_21 9 (dk_at dksX1_swims_5 0 rfl rfl)
theorem dX1_swims_117 : decode cX1_swims 117 = .ok (.ifCond .eq 7, 3) := dk_153 0 7 (dk_at dksX1_swims_5 2 rfl rfl)
theorem dX1_swims_120 : decode cX1_swims 120 = .ok (.iconst 1, 1) := dk_4 (dk_at dksX1_swims_5 5 rfl rfl)
theorem dX1_swims_121 : decode cX1_swims 121 = .ok (.goto 4, 3) := dk_167 0 4 (dk_at dksX1_swims_5 6 rfl rfl)
theorem dX1_swims_124 : decode cX1_swims 124 = .ok (.iconst 0, 1) := dk_3 (dk_at dksX1_swims_5 9 rfl rfl)
theorem dX1_swims_125 : decode cX1_swims 125 = .ok (.iadd, 1) := dk_96 (dk_at dksX1_swims_5 10 rfl rfl)
theorem dX1_swims_126 : decode cX1_swims 126 = .ok (.istore 4, 2) := dk_54 4 (dk_at dksX1_swims_5 11 rfl rfl)
theorem dX1_swims_128 : decode cX1_swims 128 = .ok (.iload 9, 2) := dk_21 9 (dk_at dksX1_swims_5 13 rfl rfl)
theorem dX1_swims_130 : decode cX1_swims 130 = .ok (.ifCond .eq 10, 3) := dk_153 0 10 (dk_at dksX1_swims_5 15 rfl rfl)
theorem dX1_swims_133 : decode cX1_swims 133 = .ok (.iload 7, 2) := dk_21 7 (dk_at dksX1_swims_5 18 rfl rfl)
theorem dX1_swims_135 : decode cX1_swims 135 = .ok (.iconst 1, 1) := dk_4 (dk_at dksX1_swims_5 20 rfl rfl)
theorem dX1_swims_136 : decode cX1_swims 136 = .ok (.iadd, 1) := dk_96 (dk_at dksX1_swims_5 21 rfl rfl)
theorem dX1_swims_137 : decode cX1_swims 137 = .ok (.goto 4, 3) := dk_167 0 4 (dk_at dksX1_swims_6 0 rfl rfl)
theorem dX1_swims_140 : decode cX1_swims 140 = .ok (.iconst 0, 1) := dk_3 (dk_at dksX1_swims_6 3 rfl rfl)
theorem dX1_swims_141 : decode cX1_swims 141 = .ok (.istore 7, 2) := dk_54 7 (dk_at dksX1_swims_6 4 rfl rfl)
theorem dX1_swims_143 : decode cX1_swims 143 = .ok (.iload 5, 2) := dk_21 5 (dk_at dksX1_swims_6 6 rfl rfl)
theorem dX1_swims_145 : decode cX1_swims 145 = .ok (.iload 7, 2) := dk_21 7 (dk_at dksX1_swims_6 8 rfl rfl)
theorem dX1_swims_147 : decode cX1_swims 147 = .ok (.invokestatic 294, 3) := dk_184 1 38 (dk_at dksX1_swims_6 10 rfl rfl)
theorem dX1_swims_150 : decode cX1_swims 150 = .ok (.istore 5, 2) := dk_54 5 (dk_at dksX1_swims_6 13 rfl rfl)
theorem dX1_swims_152 : decode cX1_swims 152 = .ok (.iinc 8 1, 3) := dk_132 8 1 (dk_at dksX1_swims_6 15 rfl rfl)
theorem dX1_swims_155 : decode cX1_swims 155 = .ok (.goto (-95), 3) := dk_167 255 161 (dk_at dksX1_swims_6 18 rfl rfl)
theorem dX1_swims_158 : decode cX1_swims 158 = .ok (.aload_n 0, 1) := dk_42 (dk_at dksX1_swims_6 21 rfl rfl)
theorem dX1_swims_159 : decode cX1_swims 159 = .ok (.iconst 0, 1) := dk_3 (dk_at dksX1_swims_6 22 rfl rfl)
theorem dX1_swims_160 : decode cX1_swims 160 = .ok (.putfield 350, 3) := dk_181 1 94 (dk_at dksX1_swims_7 0 rfl rfl)
theorem dX1_swims_163 : decode cX1_swims 163 = .ok (.aload_n 0, 1) := dk_42 (dk_at dksX1_swims_7 3 rfl rfl)
theorem dX1_swims_164 : decode cX1_swims 164 = .ok (.iload 5, 2) := dk_21 5 (dk_at dksX1_swims_7 4 rfl rfl)
theorem dX1_swims_166 : decode cX1_swims 166 = .ok (.i2l, 1) := dk_133 (dk_at dksX1_swims_7 6 rfl rfl)
theorem dX1_swims_167 : decode cX1_swims 167 = .ok (.invokevirtual 353, 3) := dk_182 1 97 (dk_at dksX1_swims_7 7 rfl rfl)
theorem dX1_swims_170 : decode cX1_swims 170 = .ok (.aload_n 0, 1) := dk_42 (dk_at dksX1_swims_7 10 rfl rfl)
theorem dX1_swims_171 : decode cX1_swims 171 = .ok (.iload 6, 2) := dk_21 6 (dk_at dksX1_swims_7 11 rfl rfl)
theorem dX1_swims_173 : decode cX1_swims 173 = .ok (.i2l, 1) := dk_133 (dk_at dksX1_swims_7 13 rfl rfl)
theorem dX1_swims_174 : decode cX1_swims 174 = .ok (.invokevirtual 353, 3) := dk_182 1 97 (dk_at dksX1_swims_7 14 rfl rfl)
theorem dX1_swims_177 : decode cX1_swims 177 = .ok (.iload 4, 2) := dk_21 4 (dk_at dksX1_swims_7 17 rfl rfl)
theorem dX1_swims_179 : decode cX1_swims 179 = .ok (.ireturn, 1) := dk_172 (dk_at dksX1_swims_7 19 rfl rfl)
abbrev cX1_lets : ByteArray := prog_1_method_68_code
def yX1_lets : MethodName := ⟨RX1, "lets", "(II)I"⟩
def dkwX1_lets_3 : List UInt8 := [29, 62, 132, 4, 1, 167, 255, 206, 42, 29, 182, 1, 149, 172]
abbrev dktX1_lets_3 : List UInt8 := dkwX1_lets_3 ++ []
def dkwX1_lets_2 : List UInt8 := [42, 21, 4, 28, 182, 1, 145, 42, 180, 0, 16, 180, 0, 133, 27, 46, 154, 0, 8, 21, 4, 167, 0, 4]
abbrev dktX1_lets_2 : List UInt8 := dkwX1_lets_2 ++ dktX1_lets_3
def dkwX1_lets_1 : List UInt8 := [3, 54, 4, 21, 4, 42, 182, 0, 125, 163, 0, 47, 21, 4, 29, 184, 1, 142, 154, 0, 6, 167, 0, 29]
abbrev dktX1_lets_1 : List UInt8 := dkwX1_lets_1 ++ dktX1_lets_2
def dkwX1_lets_0 : List UInt8 := [42, 27, 182, 1, 41, 153, 0, 15, 28, 133, 9, 20, 1, 140, 184, 0, 121, 154, 0, 5, 2, 172, 2, 62]
abbrev dktX1_lets_0 : List UInt8 := dkwX1_lets_0 ++ dktX1_lets_1
theorem dksX1_lets_0 : cX1_lets.data.toList.drop 0 = dktX1_lets_0 := by decide +kernel
theorem dksX1_lets_1 : cX1_lets.data.toList.drop 24 = dktX1_lets_1 := dk_seg dksX1_lets_0 24 rfl rfl
theorem dksX1_lets_2 : cX1_lets.data.toList.drop 48 = dktX1_lets_2 := dk_seg dksX1_lets_1 24 rfl rfl
theorem dksX1_lets_3 : cX1_lets.data.toList.drop 72 = dktX1_lets_3 := dk_seg dksX1_lets_2 24 rfl rfl
theorem dX1_lets_0 : decode cX1_lets 0 = .ok (.aload_n 0, 1) := dk_42 (dk_at dksX1_lets_0 0 rfl rfl)
theorem dX1_lets_1 : decode cX1_lets 1 = .ok (.iload_n 1, 1) := dk_27 (dk_at dksX1_lets_0 1 rfl rfl)
theorem dX1_lets_2 : decode cX1_lets 2 = .ok (.invokevirtual 297, 3) := dk_182 1 41 (dk_at dksX1_lets_0 2 rfl rfl)
theorem dX1_lets_5 : decode cX1_lets 5 = .ok (.ifCond .eq 15, 3) := dk_153 0 15 (dk_at dksX1_lets_0 5 rfl rfl)
theorem dX1_lets_8 : decode cX1_lets 8 = .ok (.iload_n 2, 1) := dk_28 (dk_at dksX1_lets_0 8 rfl rfl)
theorem dX1_lets_9 : decode cX1_lets 9 = .ok (.i2l, 1) := dk_133 (dk_at dksX1_lets_0 9 rfl rfl)
theorem dX1_lets_10 : decode cX1_lets 10 = .ok (.lconst 0, 1) := dk_9 (dk_at dksX1_lets_0 10 rfl rfl)
theorem dX1_lets_11 : decode cX1_lets 11 = .ok (.ldc2_w 396, 3) := dk_20 1 140 (dk_at dksX1_lets_0 11 rfl rfl)
theorem dX1_lets_14 : decode cX1_lets 14 = .ok (.invokestatic 121, 3) := dk_184 0 121 (dk_at dksX1_lets_0 14 rfl rfl)
theorem dX1_lets_17 : decode cX1_lets 17 = .ok (.ifCond .ne 5, 3) := dk_154 0 5 (dk_at dksX1_lets_0 17 rfl rfl)
theorem dX1_lets_20 : decode cX1_lets 20 = .ok (.iconst (-1), 1) := dk_2 (dk_at dksX1_lets_0 20 rfl rfl)
theorem dX1_lets_21 : decode cX1_lets 21 = .ok (.ireturn, 1) := dk_172 (dk_at dksX1_lets_0 21 rfl rfl)
theorem dX1_lets_22 : decode cX1_lets 22 = .ok (.iconst (-1), 1) := dk_2 (dk_at dksX1_lets_0 22 rfl rfl)
theorem dX1_lets_23 : decode cX1_lets 23 = .ok (.istore_n 3, 1) := dk_62 (dk_at dksX1_lets_0 23 rfl rfl)
theorem dX1_lets_24 : decode cX1_lets 24 = .ok (.iconst 0, 1) := dk_3 (dk_at dksX1_lets_1 0 rfl rfl)
theorem dX1_lets_25 : decode cX1_lets 25 = .ok (.istore 4, 2) := dk_54 4 (dk_at dksX1_lets_1 1 rfl rfl)
theorem dX1_lets_27 : decode cX1_lets 27 = .ok (.iload 4, 2) := dk_21 4 (dk_at dksX1_lets_1 3 rfl rfl)
theorem dX1_lets_29 : decode cX1_lets 29 = .ok (.aload_n 0, 1) := dk_42 (dk_at dksX1_lets_1 5 rfl rfl)
theorem dX1_lets_30 : decode cX1_lets 30 = .ok (.invokevirtual 125, 3) := dk_182 0 125 (dk_at dksX1_lets_1 6 rfl rfl)
theorem dX1_lets_33 : decode cX1_lets 33 = .ok (.if_icmp .gt 47, 3) := dk_163 0 47 (dk_at dksX1_lets_1 9 rfl rfl)
theorem dX1_lets_36 : decode cX1_lets 36 = .ok (.iload 4, 2) := dk_21 4 (dk_at dksX1_lets_1 12 rfl rfl)
theorem dX1_lets_38 : decode cX1_lets 38 = .ok (.iload_n 3, 1) := dk_29 (dk_at dksX1_lets_1 14 rfl rfl)
theorem dX1_lets_39 : decode cX1_lets 39 = .ok (.invokestatic 398, 3) := dk_184 1 142 (dk_at dksX1_lets_1 15 rfl rfl)
theorem dX1_lets_42 : decode cX1_lets 42 = .ok (.ifCond .ne 6, 3) := dk_154 0 6 (dk_at dksX1_lets_1 18 rfl rfl)
theorem dX1_lets_45 : decode cX1_lets 45 = .ok (.goto 29, 3) := dk_167 0 29 (dk_at dksX1_lets_1 21 rfl rfl)
theorem dX1_lets_48 : decode cX1_lets 48 = .ok (.aload_n 0, 1) := dk_42 (dk_at dksX1_lets_2 0 rfl rfl)
theorem dX1_lets_49 : decode cX1_lets 49 = .ok (.iload 4, 2) := dk_21 4 (dk_at dksX1_lets_2 1 rfl rfl)
theorem dX1_lets_51 : decode cX1_lets 51 = .ok (.iload_n 2, 1) := dk_28 (dk_at dksX1_lets_2 3 rfl rfl)
theorem dX1_lets_52 : decode cX1_lets 52 = .ok (.invokevirtual 401, 3) := dk_182 1 145 (dk_at dksX1_lets_2 4 rfl rfl)
theorem dX1_lets_55 : decode cX1_lets 55 = .ok (.aload_n 0, 1) := dk_42 (dk_at dksX1_lets_2 7 rfl rfl)
theorem dX1_lets_56 : decode cX1_lets 56 = .ok (.getfield 16, 3) := dk_180 0 16 (dk_at dksX1_lets_2 8 rfl rfl)
theorem dX1_lets_59 : decode cX1_lets 59 = .ok (.getfield 133, 3) := dk_180 0 133 (dk_at dksX1_lets_2 11 rfl rfl)
theorem dX1_lets_62 : decode cX1_lets 62 = .ok (.iload_n 1, 1) := dk_27 (dk_at dksX1_lets_2 14 rfl rfl)
theorem dX1_lets_63 : decode cX1_lets 63 = .ok (.iaload, 1) := dk_46 (dk_at dksX1_lets_2 15 rfl rfl)
theorem dX1_lets_64 : decode cX1_lets 64 = .ok (.ifCond .ne 8, 3) := dk_154 0 8 (dk_at dksX1_lets_2 16 rfl rfl)
theorem dX1_lets_67 : decode cX1_lets 67 = .ok (.iload 4, 2) := dk_21 4 (dk_at dksX1_lets_2 19 rfl rfl)
theorem dX1_lets_69 : decode cX1_lets 69 = .ok (.goto 4, 3) := dk_167 0 4 (dk_at dksX1_lets_2 21 rfl rfl)
theorem dX1_lets_72 : decode cX1_lets 72 = .ok (.iload_n 3, 1) := dk_29 (dk_at dksX1_lets_3 0 rfl rfl)
theorem dX1_lets_73 : decode cX1_lets 73 = .ok (.istore_n 3, 1) := dk_62 (dk_at dksX1_lets_3 1 rfl rfl)
theorem dX1_lets_74 : decode cX1_lets 74 = .ok (.iinc 4 1, 3) := dk_132 4 1 (dk_at dksX1_lets_3 2 rfl rfl)
theorem dX1_lets_77 : decode cX1_lets 77 = .ok (.goto (-50), 3) := dk_167 255 206 (dk_at dksX1_lets_3 5 rfl rfl)
theorem dX1_lets_80 : decode cX1_lets 80 = .ok (.aload_n 0, 1) := dk_42 (dk_at dksX1_lets_3 8 rfl rfl)
theorem dX1_lets_81 : decode cX1_lets 81 = .ok (.iload_n 3, 1) := dk_29 (dk_at dksX1_lets_3 9 rfl rfl)
theorem dX1_lets_82 : decode cX1_lets 82 = .ok (.invokevirtual 405, 3) := dk_182 1 149 (dk_at dksX1_lets_3 10 rfl rfl)
theorem dX1_lets_85 : decode cX1_lets 85 = .ok (.ireturn, 1) := dk_172 (dk_at dksX1_lets_3 13 rfl rfl)
abbrev cX1_isFewer : ByteArray := prog_1_method_65_code
def yX1_isFewer : MethodName := ⟨RX1, "isFewer", "(II)Z"⟩
def dkwX1_isFewer_0 : List UInt8 := [27, 155, 0, 14, 26, 184, 1, 81, 27, 184, 1, 81, 162, 0, 7, 4, 167, 0, 4, 3, 172]
abbrev dktX1_isFewer_0 : List UInt8 := dkwX1_isFewer_0 ++ []
theorem dksX1_isFewer_0 : cX1_isFewer.data.toList.drop 0 = dktX1_isFewer_0 := by decide +kernel
theorem dX1_isFewer_0 : decode cX1_isFewer 0 = .ok (.iload_n 1, 1) := dk_27 (dk_at dksX1_isFewer_0 0 rfl rfl)
theorem dX1_isFewer_1 : decode cX1_isFewer 1 = .ok (.ifCond .lt 14, 3) := dk_155 0 14 (dk_at dksX1_isFewer_0 1 rfl rfl)
theorem dX1_isFewer_4 : decode cX1_isFewer 4 = .ok (.iload_n 0, 1) := dk_26 (dk_at dksX1_isFewer_0 4 rfl rfl)
theorem dX1_isFewer_5 : decode cX1_isFewer 5 = .ok (.invokestatic 337, 3) := dk_184 1 81 (dk_at dksX1_isFewer_0 5 rfl rfl)
theorem dX1_isFewer_8 : decode cX1_isFewer 8 = .ok (.iload_n 1, 1) := dk_27 (dk_at dksX1_isFewer_0 8 rfl rfl)
theorem dX1_isFewer_9 : decode cX1_isFewer 9 = .ok (.invokestatic 337, 3) := dk_184 1 81 (dk_at dksX1_isFewer_0 9 rfl rfl)
theorem dX1_isFewer_12 : decode cX1_isFewer 12 = .ok (.if_icmp .ge 7, 3) := dk_162 0 7 (dk_at dksX1_isFewer_0 12 rfl rfl)
theorem dX1_isFewer_15 : decode cX1_isFewer 15 = .ok (.iconst 1, 1) := dk_4 (dk_at dksX1_isFewer_0 15 rfl rfl)
theorem dX1_isFewer_16 : decode cX1_isFewer 16 = .ok (.goto 4, 3) := dk_167 0 4 (dk_at dksX1_isFewer_0 16 rfl rfl)
theorem dX1_isFewer_19 : decode cX1_isFewer 19 = .ok (.iconst 0, 1) := dk_3 (dk_at dksX1_isFewer_0 19 rfl rfl)
theorem dX1_isFewer_20 : decode cX1_isFewer 20 = .ok (.ireturn, 1) := dk_172 (dk_at dksX1_isFewer_0 20 rfl rfl)
abbrev cX1_touchedGo : ByteArray := prog_1_method_66_code
def yX1_touchedGo : MethodName := ⟨RX1, "touchedGo", "(II)V"⟩
def dkwX1_touchedGo_1 : List UInt8 := [42, 42, 180, 0, 16, 28, 182, 1, 90, 177]
abbrev dktX1_touchedGo_1 : List UInt8 := dkwX1_touchedGo_1 ++ []
def dkwX1_touchedGo_0 : List UInt8 := [42, 180, 0, 16, 42, 180, 0, 12, 182, 1, 58, 42, 180, 0, 16, 89, 180, 1, 24, 27, 130, 181, 1, 24]
abbrev dktX1_touchedGo_0 : List UInt8 := dkwX1_touchedGo_0 ++ dktX1_touchedGo_1
theorem dksX1_touchedGo_0 : cX1_touchedGo.data.toList.drop 0 = dktX1_touchedGo_0 := by decide +kernel
theorem dksX1_touchedGo_1 : cX1_touchedGo.data.toList.drop 24 = dktX1_touchedGo_1 := dk_seg dksX1_touchedGo_0 24 rfl rfl
theorem dX1_touchedGo_0 : decode cX1_touchedGo 0 = .ok (.aload_n 0, 1) := dk_42 (dk_at dksX1_touchedGo_0 0 rfl rfl)
theorem dX1_touchedGo_1 : decode cX1_touchedGo 1 = .ok (.getfield 16, 3) := dk_180 0 16 (dk_at dksX1_touchedGo_0 1 rfl rfl)
theorem dX1_touchedGo_4 : decode cX1_touchedGo 4 = .ok (.aload_n 0, 1) := dk_42 (dk_at dksX1_touchedGo_0 4 rfl rfl)
theorem dX1_touchedGo_5 : decode cX1_touchedGo 5 = .ok (.getfield 12, 3) := dk_180 0 12 (dk_at dksX1_touchedGo_0 5 rfl rfl)
theorem dX1_touchedGo_8 : decode cX1_touchedGo 8 = .ok (.invokevirtual 314, 3) := dk_182 1 58 (dk_at dksX1_touchedGo_0 8 rfl rfl)
theorem dX1_touchedGo_11 : decode cX1_touchedGo 11 = .ok (.aload_n 0, 1) := dk_42 (dk_at dksX1_touchedGo_0 11 rfl rfl)
theorem dX1_touchedGo_12 : decode cX1_touchedGo 12 = .ok (.getfield 16, 3) := dk_180 0 16 (dk_at dksX1_touchedGo_0 12 rfl rfl)
theorem dX1_touchedGo_15 : decode cX1_touchedGo 15 = .ok (.dup, 1) := dk_89 (dk_at dksX1_touchedGo_0 15 rfl rfl)
theorem dX1_touchedGo_16 : decode cX1_touchedGo 16 = .ok (.getfield 280, 3) := dk_180 1 24 (dk_at dksX1_touchedGo_0 16 rfl rfl)
theorem dX1_touchedGo_19 : decode cX1_touchedGo 19 = .ok (.iload_n 1, 1) := dk_27 (dk_at dksX1_touchedGo_0 19 rfl rfl)
theorem dX1_touchedGo_20 : decode cX1_touchedGo 20 = .ok (.ixor, 1) := dk_130 (dk_at dksX1_touchedGo_0 20 rfl rfl)
theorem dX1_touchedGo_21 : decode cX1_touchedGo 21 = .ok (.putfield 280, 3) := dk_181 1 24 (dk_at dksX1_touchedGo_0 21 rfl rfl)
theorem dX1_touchedGo_24 : decode cX1_touchedGo 24 = .ok (.aload_n 0, 1) := dk_42 (dk_at dksX1_touchedGo_1 0 rfl rfl)
theorem dX1_touchedGo_25 : decode cX1_touchedGo 25 = .ok (.aload_n 0, 1) := dk_42 (dk_at dksX1_touchedGo_1 1 rfl rfl)
theorem dX1_touchedGo_26 : decode cX1_touchedGo 26 = .ok (.getfield 16, 3) := dk_180 0 16 (dk_at dksX1_touchedGo_1 2 rfl rfl)
theorem dX1_touchedGo_29 : decode cX1_touchedGo 29 = .ok (.iload_n 2, 1) := dk_28 (dk_at dksX1_touchedGo_1 5 rfl rfl)
theorem dX1_touchedGo_30 : decode cX1_touchedGo 30 = .ok (.invokevirtual 346, 3) := dk_182 1 90 (dk_at dksX1_touchedGo_1 6 rfl rfl)
theorem dX1_touchedGo_33 : decode cX1_touchedGo 33 = .ok (.return_, 1) := dk_177 (dk_at dksX1_touchedGo_1 9 rfl rfl)
abbrev cX1_tellsFewest : ByteArray := prog_1_method_67_code
def yX1_tellsFewest : MethodName := ⟨RX1, "tellsFewest", "(I)I"⟩
def dkwX1_tellsFewest_0 : List UInt8 := [27, 156, 0, 6, 16, 254, 172, 42, 3, 181, 1, 94, 42, 27, 133, 182, 1, 97, 27, 184, 1, 81, 172]
abbrev dktX1_tellsFewest_0 : List UInt8 := dkwX1_tellsFewest_0 ++ []
theorem dksX1_tellsFewest_0 : cX1_tellsFewest.data.toList.drop 0 = dktX1_tellsFewest_0 := by decide +kernel
theorem dX1_tellsFewest_0 : decode cX1_tellsFewest 0 = .ok (.iload_n 1, 1) := dk_27 (dk_at dksX1_tellsFewest_0 0 rfl rfl)
theorem dX1_tellsFewest_1 : decode cX1_tellsFewest 1 = .ok (.ifCond .ge 6, 3) := dk_156 0 6 (dk_at dksX1_tellsFewest_0 1 rfl rfl)
theorem dX1_tellsFewest_4 : decode cX1_tellsFewest 4 = .ok (.bipush (-2), 2) := dk_16 254 (dk_at dksX1_tellsFewest_0 4 rfl rfl)
theorem dX1_tellsFewest_6 : decode cX1_tellsFewest 6 = .ok (.ireturn, 1) := dk_172 (dk_at dksX1_tellsFewest_0 6 rfl rfl)
theorem dX1_tellsFewest_7 : decode cX1_tellsFewest 7 = .ok (.aload_n 0, 1) := dk_42 (dk_at dksX1_tellsFewest_0 7 rfl rfl)
theorem dX1_tellsFewest_8 : decode cX1_tellsFewest 8 = .ok (.iconst 0, 1) := dk_3 (dk_at dksX1_tellsFewest_0 8 rfl rfl)
theorem dX1_tellsFewest_9 : decode cX1_tellsFewest 9 = .ok (.putfield 350, 3) := dk_181 1 94 (dk_at dksX1_tellsFewest_0 9 rfl rfl)
theorem dX1_tellsFewest_12 : decode cX1_tellsFewest 12 = .ok (.aload_n 0, 1) := dk_42 (dk_at dksX1_tellsFewest_0 12 rfl rfl)
theorem dX1_tellsFewest_13 : decode cX1_tellsFewest 13 = .ok (.iload_n 1, 1) := dk_27 (dk_at dksX1_tellsFewest_0 13 rfl rfl)
theorem dX1_tellsFewest_14 : decode cX1_tellsFewest 14 = .ok (.i2l, 1) := dk_133 (dk_at dksX1_tellsFewest_0 14 rfl rfl)
theorem dX1_tellsFewest_15 : decode cX1_tellsFewest 15 = .ok (.invokevirtual 353, 3) := dk_182 1 97 (dk_at dksX1_tellsFewest_0 15 rfl rfl)
theorem dX1_tellsFewest_18 : decode cX1_tellsFewest 18 = .ok (.iload_n 1, 1) := dk_27 (dk_at dksX1_tellsFewest_0 18 rfl rfl)
theorem dX1_tellsFewest_19 : decode cX1_tellsFewest 19 = .ok (.invokestatic 337, 3) := dk_184 1 81 (dk_at dksX1_tellsFewest_0 19 rfl rfl)
theorem dX1_tellsFewest_22 : decode cX1_tellsFewest 22 = .ok (.ireturn, 1) := dk_172 (dk_at dksX1_tellsFewest_0 22 rfl rfl)
abbrev cX1_just : ByteArray := prog_1_method_69_code
def yX1_just : MethodName := ⟨RX1, "just", "(II)I"⟩
def dkwX1_just_3 : List UInt8 := [29, 62, 132, 4, 1, 167, 255, 206, 42, 29, 182, 1, 149, 172]
abbrev dktX1_just_3 : List UInt8 := dkwX1_just_3 ++ []
def dkwX1_just_2 : List UInt8 := [42, 21, 4, 28, 182, 1, 145, 42, 42, 180, 0, 16, 182, 1, 137, 27, 160, 0, 8, 21, 4, 167, 0, 4]
abbrev dktX1_just_2 : List UInt8 := dkwX1_just_2 ++ dktX1_just_3
def dkwX1_just_1 : List UInt8 := [3, 54, 4, 21, 4, 42, 182, 0, 125, 163, 0, 47, 21, 4, 29, 184, 1, 142, 154, 0, 6, 167, 0, 29]
abbrev dktX1_just_1 : List UInt8 := dkwX1_just_1 ++ dktX1_just_2
def dkwX1_just_0 : List UInt8 := [42, 27, 182, 1, 152, 153, 0, 15, 28, 133, 9, 20, 1, 140, 184, 0, 121, 154, 0, 5, 2, 172, 2, 62]
abbrev dktX1_just_0 : List UInt8 := dkwX1_just_0 ++ dktX1_just_1
theorem dksX1_just_0 : cX1_just.data.toList.drop 0 = dktX1_just_0 := by decide +kernel
theorem dksX1_just_1 : cX1_just.data.toList.drop 24 = dktX1_just_1 := dk_seg dksX1_just_0 24 rfl rfl
theorem dksX1_just_2 : cX1_just.data.toList.drop 48 = dktX1_just_2 := dk_seg dksX1_just_1 24 rfl rfl
theorem dksX1_just_3 : cX1_just.data.toList.drop 72 = dktX1_just_3 := dk_seg dksX1_just_2 24 rfl rfl
theorem dX1_just_0 : decode cX1_just 0 = .ok (.aload_n 0, 1) := dk_42 (dk_at dksX1_just_0 0 rfl rfl)
theorem dX1_just_1 : decode cX1_just 1 = .ok (.iload_n 1, 1) := dk_27 (dk_at dksX1_just_0 1 rfl rfl)
theorem dX1_just_2 : decode cX1_just 2 = .ok (.invokevirtual 408, 3) := dk_182 1 152 (dk_at dksX1_just_0 2 rfl rfl)
theorem dX1_just_5 : decode cX1_just 5 = .ok (.ifCond .eq 15, 3) := dk_153 0 15 (dk_at dksX1_just_0 5 rfl rfl)
theorem dX1_just_8 : decode cX1_just 8 = .ok (.iload_n 2, 1) := dk_28 (dk_at dksX1_just_0 8 rfl rfl)
theorem dX1_just_9 : decode cX1_just 9 = .ok (.i2l, 1) := dk_133 (dk_at dksX1_just_0 9 rfl rfl)
theorem dX1_just_10 : decode cX1_just 10 = .ok (.lconst 0, 1) := dk_9 (dk_at dksX1_just_0 10 rfl rfl)
theorem dX1_just_11 : decode cX1_just 11 = .ok (.ldc2_w 396, 3) := dk_20 1 140 (dk_at dksX1_just_0 11 rfl rfl)
theorem dX1_just_14 : decode cX1_just 14 = .ok (.invokestatic 121, 3) := dk_184 0 121 (dk_at dksX1_just_0 14 rfl rfl)
theorem dX1_just_17 : decode cX1_just 17 = .ok (.ifCond .ne 5, 3) := dk_154 0 5 (dk_at dksX1_just_0 17 rfl rfl)
theorem dX1_just_20 : decode cX1_just 20 = .ok (.iconst (-1), 1) := dk_2 (dk_at dksX1_just_0 20 rfl rfl)
theorem dX1_just_21 : decode cX1_just 21 = .ok (.ireturn, 1) := dk_172 (dk_at dksX1_just_0 21 rfl rfl)
theorem dX1_just_22 : decode cX1_just 22 = .ok (.iconst (-1), 1) := dk_2 (dk_at dksX1_just_0 22 rfl rfl)
theorem dX1_just_23 : decode cX1_just 23 = .ok (.istore_n 3, 1) := dk_62 (dk_at dksX1_just_0 23 rfl rfl)
theorem dX1_just_24 : decode cX1_just 24 = .ok (.iconst 0, 1) := dk_3 (dk_at dksX1_just_1 0 rfl rfl)
theorem dX1_just_25 : decode cX1_just 25 = .ok (.istore 4, 2) := dk_54 4 (dk_at dksX1_just_1 1 rfl rfl)
theorem dX1_just_27 : decode cX1_just 27 = .ok (.iload 4, 2) := dk_21 4 (dk_at dksX1_just_1 3 rfl rfl)
theorem dX1_just_29 : decode cX1_just 29 = .ok (.aload_n 0, 1) := dk_42 (dk_at dksX1_just_1 5 rfl rfl)
theorem dX1_just_30 : decode cX1_just 30 = .ok (.invokevirtual 125, 3) := dk_182 0 125 (dk_at dksX1_just_1 6 rfl rfl)
theorem dX1_just_33 : decode cX1_just 33 = .ok (.if_icmp .gt 47, 3) := dk_163 0 47 (dk_at dksX1_just_1 9 rfl rfl)
theorem dX1_just_36 : decode cX1_just 36 = .ok (.iload 4, 2) := dk_21 4 (dk_at dksX1_just_1 12 rfl rfl)
theorem dX1_just_38 : decode cX1_just 38 = .ok (.iload_n 3, 1) := dk_29 (dk_at dksX1_just_1 14 rfl rfl)
theorem dX1_just_39 : decode cX1_just 39 = .ok (.invokestatic 398, 3) := dk_184 1 142 (dk_at dksX1_just_1 15 rfl rfl)
theorem dX1_just_42 : decode cX1_just 42 = .ok (.ifCond .ne 6, 3) := dk_154 0 6 (dk_at dksX1_just_1 18 rfl rfl)
theorem dX1_just_45 : decode cX1_just 45 = .ok (.goto 29, 3) := dk_167 0 29 (dk_at dksX1_just_1 21 rfl rfl)
theorem dX1_just_48 : decode cX1_just 48 = .ok (.aload_n 0, 1) := dk_42 (dk_at dksX1_just_2 0 rfl rfl)
theorem dX1_just_49 : decode cX1_just 49 = .ok (.iload 4, 2) := dk_21 4 (dk_at dksX1_just_2 1 rfl rfl)
theorem dX1_just_51 : decode cX1_just 51 = .ok (.iload_n 2, 1) := dk_28 (dk_at dksX1_just_2 3 rfl rfl)
theorem dX1_just_52 : decode cX1_just 52 = .ok (.invokevirtual 401, 3) := dk_182 1 145 (dk_at dksX1_just_2 4 rfl rfl)
theorem dX1_just_55 : decode cX1_just 55 = .ok (.aload_n 0, 1) := dk_42 (dk_at dksX1_just_2 7 rfl rfl)
theorem dX1_just_56 : decode cX1_just 56 = .ok (.aload_n 0, 1) := dk_42 (dk_at dksX1_just_2 8 rfl rfl)
theorem dX1_just_57 : decode cX1_just 57 = .ok (.getfield 16, 3) := dk_180 0 16 (dk_at dksX1_just_2 9 rfl rfl)
theorem dX1_just_60 : decode cX1_just 60 = .ok (.invokevirtual 393, 3) := dk_182 1 137 (dk_at dksX1_just_2 12 rfl rfl)
theorem dX1_just_63 : decode cX1_just 63 = .ok (.iload_n 1, 1) := dk_27 (dk_at dksX1_just_2 15 rfl rfl)
theorem dX1_just_64 : decode cX1_just 64 = .ok (.if_icmp .ne 8, 3) := dk_160 0 8 (dk_at dksX1_just_2 16 rfl rfl)
theorem dX1_just_67 : decode cX1_just 67 = .ok (.iload 4, 2) := dk_21 4 (dk_at dksX1_just_2 19 rfl rfl)
theorem dX1_just_69 : decode cX1_just 69 = .ok (.goto 4, 3) := dk_167 0 4 (dk_at dksX1_just_2 21 rfl rfl)
theorem dX1_just_72 : decode cX1_just 72 = .ok (.iload_n 3, 1) := dk_29 (dk_at dksX1_just_3 0 rfl rfl)
theorem dX1_just_73 : decode cX1_just 73 = .ok (.istore_n 3, 1) := dk_62 (dk_at dksX1_just_3 1 rfl rfl)
theorem dX1_just_74 : decode cX1_just 74 = .ok (.iinc 4 1, 3) := dk_132 4 1 (dk_at dksX1_just_3 2 rfl rfl)
theorem dX1_just_77 : decode cX1_just 77 = .ok (.goto (-50), 3) := dk_167 255 206 (dk_at dksX1_just_3 5 rfl rfl)
theorem dX1_just_80 : decode cX1_just 80 = .ok (.aload_n 0, 1) := dk_42 (dk_at dksX1_just_3 8 rfl rfl)
theorem dX1_just_81 : decode cX1_just 81 = .ok (.iload_n 3, 1) := dk_29 (dk_at dksX1_just_3 9 rfl rfl)
theorem dX1_just_82 : decode cX1_just 82 = .ok (.invokevirtual 405, 3) := dk_182 1 149 (dk_at dksX1_just_3 10 rfl rfl)
theorem dX1_just_85 : decode cX1_just 85 = .ok (.ireturn, 1) := dk_172 (dk_at dksX1_just_3 13 rfl rfl)
abbrev cX1_areLakes : ByteArray := prog_1_method_7_code
def yX1_areLakes : MethodName := ⟨RX1, "areLakes", "(I)Z"⟩
def dkwX1_areLakes_0 : List UInt8 := [27, 133, 9, 42, 182, 0, 125, 133, 184, 0, 121, 172]
abbrev dktX1_areLakes_0 : List UInt8 := dkwX1_areLakes_0 ++ []
theorem dksX1_areLakes_0 : cX1_areLakes.data.toList.drop 0 = dktX1_areLakes_0 := by decide +kernel
theorem dX1_areLakes_0 : decode cX1_areLakes 0 = .ok (.iload_n 1, 1) := dk_27 (dk_at dksX1_areLakes_0 0 rfl rfl)
theorem dX1_areLakes_1 : decode cX1_areLakes 1 = .ok (.i2l, 1) := dk_133 (dk_at dksX1_areLakes_0 1 rfl rfl)
theorem dX1_areLakes_2 : decode cX1_areLakes 2 = .ok (.lconst 0, 1) := dk_9 (dk_at dksX1_areLakes_0 2 rfl rfl)
theorem dX1_areLakes_3 : decode cX1_areLakes 3 = .ok (.aload_n 0, 1) := dk_42 (dk_at dksX1_areLakes_0 3 rfl rfl)
theorem dX1_areLakes_4 : decode cX1_areLakes 4 = .ok (.invokevirtual 125, 3) := dk_182 0 125 (dk_at dksX1_areLakes_0 4 rfl rfl)
theorem dX1_areLakes_7 : decode cX1_areLakes 7 = .ok (.i2l, 1) := dk_133 (dk_at dksX1_areLakes_0 7 rfl rfl)
theorem dX1_areLakes_8 : decode cX1_areLakes 8 = .ok (.invokestatic 121, 3) := dk_184 0 121 (dk_at dksX1_areLakes_0 8 rfl rfl)
theorem dX1_areLakes_11 : decode cX1_areLakes 11 = .ok (.ireturn, 1) := dk_172 (dk_at dksX1_areLakes_0 11 rfl rfl)
abbrev cX1_fills : ByteArray := prog_1_method_70_code
def yX1_fills : MethodName := ⟨RX1, "fills", "(II)I"⟩
def dkwX1_fills_5 : List UInt8 := [42, 3, 181, 1, 94, 42, 29, 133, 182, 1, 97, 21, 4, 172]
abbrev dktX1_fills_5 : List UInt8 := dkwX1_fills_5 ++ []
def dkwX1_fills_4 : List UInt8 := [180, 0, 16, 182, 1, 54, 184, 1, 38, 54, 4, 132, 5, 1, 167, 255, 182, 29, 156, 0, 6, 16, 254, 172]
abbrev dktX1_fills_4 : List UInt8 := dkwX1_fills_4 ++ dktX1_fills_5
def dkwX1_fills_3 : List UInt8 := [180, 0, 16, 182, 1, 54, 21, 4, 164, 0, 8, 21, 5, 167, 0, 4, 29, 62, 21, 4, 42, 42]
abbrev dktX1_fills_3 : List UInt8 := dkwX1_fills_3 ++ dktX1_fills_4
def dkwX1_fills_2 : List UInt8 := [27, 159, 0, 6, 167, 0, 53, 42, 42, 180, 0, 12, 180, 1, 24, 21, 5, 130, 28, 182, 1, 145, 42, 42]
abbrev dktX1_fills_2 : List UInt8 := dkwX1_fills_2 ++ dktX1_fills_3
def dkwX1_fills_1 : List UInt8 := [2, 172, 2, 62, 2, 54, 4, 3, 54, 5, 21, 5, 42, 182, 0, 125, 163, 0, 71, 21, 5, 184, 1, 81]
abbrev dktX1_fills_1 : List UInt8 := dkwX1_fills_1 ++ dktX1_fills_2
def dkwX1_fills_0 : List UInt8 := [27, 133, 9, 20, 1, 155, 184, 0, 121, 153, 0, 15, 28, 133, 9, 20, 1, 140, 184, 0, 121, 154, 0, 5]
abbrev dktX1_fills_0 : List UInt8 := dkwX1_fills_0 ++ dktX1_fills_1
theorem dksX1_fills_0 : cX1_fills.data.toList.drop 0 = dktX1_fills_0 := by decide +kernel
theorem dksX1_fills_1 : cX1_fills.data.toList.drop 24 = dktX1_fills_1 := dk_seg dksX1_fills_0 24 rfl rfl
theorem dksX1_fills_2 : cX1_fills.data.toList.drop 48 = dktX1_fills_2 := dk_seg dksX1_fills_1 24 rfl rfl
theorem dksX1_fills_3 : cX1_fills.data.toList.drop 72 = dktX1_fills_3 := dk_seg dksX1_fills_2 24 rfl rfl
theorem dksX1_fills_4 : cX1_fills.data.toList.drop 94 = dktX1_fills_4 := dk_seg dksX1_fills_3 22 rfl rfl
theorem dksX1_fills_5 : cX1_fills.data.toList.drop 118 = dktX1_fills_5 := dk_seg dksX1_fills_4 24 rfl rfl
theorem dX1_fills_0 : decode cX1_fills 0 = .ok (.iload_n 1, 1) := dk_27 (dk_at dksX1_fills_0 0 rfl rfl)
theorem dX1_fills_1 : decode cX1_fills 1 = .ok (.i2l, 1) := dk_133 (dk_at dksX1_fills_0 1 rfl rfl)
theorem dX1_fills_2 : decode cX1_fills 2 = .ok (.lconst 0, 1) := dk_9 (dk_at dksX1_fills_0 2 rfl rfl)
theorem dX1_fills_3 : decode cX1_fills 3 = .ok (.ldc2_w 411, 3) := dk_20 1 155 (dk_at dksX1_fills_0 3 rfl rfl)
theorem dX1_fills_6 : decode cX1_fills 6 = .ok (.invokestatic 121, 3) := dk_184 0 121 (dk_at dksX1_fills_0 6 rfl rfl)
theorem dX1_fills_9 : decode cX1_fills 9 = .ok (.ifCond .eq 15, 3) := dk_153 0 15 (dk_at dksX1_fills_0 9 rfl rfl)
theorem dX1_fills_12 : decode cX1_fills 12 = .ok (.iload_n 2, 1) := dk_28 (dk_at dksX1_fills_0 12 rfl rfl)
theorem dX1_fills_13 : decode cX1_fills 13 = .ok (.i2l, 1) := dk_133 (dk_at dksX1_fills_0 13 rfl rfl)
theorem dX1_fills_14 : decode cX1_fills 14 = .ok (.lconst 0, 1) := dk_9 (dk_at dksX1_fills_0 14 rfl rfl)
theorem dX1_fills_15 : decode cX1_fills 15 = .ok (.ldc2_w 396, 3) := dk_20 1 140 (dk_at dksX1_fills_0 15 rfl rfl)
theorem dX1_fills_18 : decode cX1_fills 18 = .ok (.invokestatic 121, 3) := dk_184 0 121 (dk_at dksX1_fills_0 18 rfl rfl)
theorem dX1_fills_21 : decode cX1_fills 21 = .ok (.ifCond .ne 5, 3) := dk_154 0 5 (dk_at dksX1_fills_0 21 rfl rfl)
theorem dX1_fills_24 : decode cX1_fills 24 = .ok (.iconst (-1), 1) := dk_2 (dk_at dksX1_fills_1 0 rfl rfl)
theorem dX1_fills_25 : decode cX1_fills 25 = .ok (.ireturn, 1) := dk_172 (dk_at dksX1_fills_1 1 rfl rfl)
theorem dX1_fills_26 : decode cX1_fills 26 = .ok (.iconst (-1), 1) := dk_2 (dk_at dksX1_fills_1 2 rfl rfl)
theorem dX1_fills_27 : decode cX1_fills 27 = .ok (.istore_n 3, 1) := dk_62 (dk_at dksX1_fills_1 3 rfl rfl)
theorem dX1_fills_28 : decode cX1_fills 28 = .ok (.iconst (-1), 1) := dk_2 (dk_at dksX1_fills_1 4 rfl rfl)
theorem dX1_fills_29 : decode cX1_fills 29 = .ok (.istore 4, 2) := dk_54 4 (dk_at dksX1_fills_1 5 rfl rfl)
theorem dX1_fills_31 : decode cX1_fills 31 = .ok (.iconst 0, 1) := dk_3 (dk_at dksX1_fills_1 7 rfl rfl)
theorem dX1_fills_32 : decode cX1_fills 32 = .ok (.istore 5, 2) := dk_54 5 (dk_at dksX1_fills_1 8 rfl rfl)
theorem dX1_fills_34 : decode cX1_fills 34 = .ok (.iload 5, 2) := dk_21 5 (dk_at dksX1_fills_1 10 rfl rfl)
theorem dX1_fills_36 : decode cX1_fills 36 = .ok (.aload_n 0, 1) := dk_42 (dk_at dksX1_fills_1 12 rfl rfl)
theorem dX1_fills_37 : decode cX1_fills 37 = .ok (.invokevirtual 125, 3) := dk_182 0 125 (dk_at dksX1_fills_1 13 rfl rfl)
theorem dX1_fills_40 : decode cX1_fills 40 = .ok (.if_icmp .gt 71, 3) := dk_163 0 71 (dk_at dksX1_fills_1 16 rfl rfl)
theorem dX1_fills_43 : decode cX1_fills 43 = .ok (.iload 5, 2) := dk_21 5 (dk_at dksX1_fills_1 19 rfl rfl)
theorem dX1_fills_45 : decode cX1_fills 45 = .ok (.invokestatic 337, 3) := dk_184 1 81 (dk_at dksX1_fills_1 21 rfl rfl)
theorem dX1_fills_48 : decode cX1_fills 48 = .ok (.iload_n 1, 1) := dk_27 (dk_at dksX1_fills_2 0 rfl rfl)
theorem dX1_fills_49 : decode cX1_fills 49 = .ok (.if_icmp .eq 6, 3) := dk_159 0 6 (dk_at dksX1_fills_2 1 rfl rfl)
theorem dX1_fills_52 : decode cX1_fills 52 = .ok (.goto 53, 3) := dk_167 0 53 (dk_at dksX1_fills_2 4 rfl rfl)
theorem dX1_fills_55 : decode cX1_fills 55 = .ok (.aload_n 0, 1) := dk_42 (dk_at dksX1_fills_2 7 rfl rfl)
theorem dX1_fills_56 : decode cX1_fills 56 = .ok (.aload_n 0, 1) := dk_42 (dk_at dksX1_fills_2 8 rfl rfl)
theorem dX1_fills_57 : decode cX1_fills 57 = .ok (.getfield 12, 3) := dk_180 0 12 (dk_at dksX1_fills_2 9 rfl rfl)
theorem dX1_fills_60 : decode cX1_fills 60 = .ok (.getfield 280, 3) := dk_180 1 24 (dk_at dksX1_fills_2 12 rfl rfl)
theorem dX1_fills_63 : decode cX1_fills 63 = .ok (.iload 5, 2) := dk_21 5 (dk_at dksX1_fills_2 15 rfl rfl)
theorem dX1_fills_65 : decode cX1_fills 65 = .ok (.ixor, 1) := dk_130 (dk_at dksX1_fills_2 17 rfl rfl)
theorem dX1_fills_66 : decode cX1_fills 66 = .ok (.iload_n 2, 1) := dk_28 (dk_at dksX1_fills_2 18 rfl rfl)
theorem dX1_fills_67 : decode cX1_fills 67 = .ok (.invokevirtual 401, 3) := dk_182 1 145 (dk_at dksX1_fills_2 19 rfl rfl)
theorem dX1_fills_70 : decode cX1_fills 70 = .ok (.aload_n 0, 1) := dk_42 (dk_at dksX1_fills_2 22 rfl rfl)
theorem dX1_fills_71 : decode cX1_fills 71 = .ok (.aload_n 0, 1) := dk_42 (dk_at dksX1_fills_2 23 rfl rfl)
theorem dX1_fills_72 : decode cX1_fills 72 = .ok (.getfield 16, 3) := dk_180 0 16 (dk_at dksX1_fills_3 0 rfl rfl)
theorem dX1_fills_75 : decode cX1_fills 75 = .ok (.invokevirtual 310, 3) := dk_182 1 54 (dk_at dksX1_fills_3 3 rfl rfl)
theorem dX1_fills_78 : decode cX1_fills 78 = .ok (.iload 4, 2) := dk_21 4 (dk_at dksX1_fills_3 6 rfl rfl)
theorem dX1_fills_80 : decode cX1_fills 80 = .ok (.if_icmp .le 8, 3) := dk_164 0 8 (dk_at dksX1_fills_3 8 rfl rfl)
theorem dX1_fills_83 : decode cX1_fills 83 = .ok (.iload 5, 2) := dk_21 5 (dk_at dksX1_fills_3 11 rfl rfl)
theorem dX1_fills_85 : decode cX1_fills 85 = .ok (.goto 4, 3) := dk_167 0 4 (dk_at dksX1_fills_3 13 rfl rfl)
theorem dX1_fills_88 : decode cX1_fills 88 = .ok (.iload_n 3, 1) := dk_29 (dk_at dksX1_fills_3 16 rfl rfl)
theorem dX1_fills_89 : decode cX1_fills 89 = .ok (.istore_n 3, 1) := dk_62 (dk_at dksX1_fills_3 17 rfl rfl)
theorem dX1_fills_90 : decode cX1_fills 90 = .ok (.iload 4, 2) := dk_21 4 (dk_at dksX1_fills_3 18 rfl rfl)
theorem dX1_fills_92 : decode cX1_fills 92 = .ok (.aload_n 0, 1) := dk_42 (dk_at dksX1_fills_3 20 rfl rfl)
theorem dX1_fills_93 : decode cX1_fills 93 = .ok (.aload_n 0, 1) := dk_42 (dk_at dksX1_fills_3 21 rfl rfl)
theorem dX1_fills_94 : decode cX1_fills 94 = .ok (.getfield 16, 3) := dk_180 0 16 (dk_at dksX1_fills_4 0 rfl rfl)
theorem dX1_fills_97 : decode cX1_fills 97 = .ok (.invokevirtual 310, 3) := dk_182 1 54 (dk_at dksX1_fills_4 3 rfl rfl)
theorem dX1_fills_100 : decode cX1_fills 100 = .ok (.invokestatic 294, 3) := dk_184 1 38 (dk_at dksX1_fills_4 6 rfl rfl)
theorem dX1_fills_103 : decode cX1_fills 103 = .ok (.istore 4, 2) := dk_54 4 (dk_at dksX1_fills_4 9 rfl rfl)
theorem dX1_fills_105 : decode cX1_fills 105 = .ok (.iinc 5 1, 3) := dk_132 5 1 (dk_at dksX1_fills_4 11 rfl rfl)
theorem dX1_fills_108 : decode cX1_fills 108 = .ok (.goto (-74), 3) := dk_167 255 182 (dk_at dksX1_fills_4 14 rfl rfl)
theorem dX1_fills_111 : decode cX1_fills 111 = .ok (.iload_n 3, 1) := dk_29 (dk_at dksX1_fills_4 17 rfl rfl)
theorem dX1_fills_112 : decode cX1_fills 112 = .ok (.ifCond .ge 6, 3) := dk_156 0 6 (dk_at dksX1_fills_4 18 rfl rfl)
theorem dX1_fills_115 : decode cX1_fills 115 = .ok (.bipush (-2), 2) := dk_16 254 (dk_at dksX1_fills_4 21 rfl rfl)
theorem dX1_fills_117 : decode cX1_fills 117 = .ok (.ireturn, 1) := dk_172 (dk_at dksX1_fills_4 23 rfl rfl)
theorem dX1_fills_118 : decode cX1_fills 118 = .ok (.aload_n 0, 1) := dk_42 (dk_at dksX1_fills_5 0 rfl rfl)
theorem dX1_fills_119 : decode cX1_fills 119 = .ok (.iconst 0, 1) := dk_3 (dk_at dksX1_fills_5 1 rfl rfl)
theorem dX1_fills_120 : decode cX1_fills 120 = .ok (.putfield 350, 3) := dk_181 1 94 (dk_at dksX1_fills_5 2 rfl rfl)
theorem dX1_fills_123 : decode cX1_fills 123 = .ok (.aload_n 0, 1) := dk_42 (dk_at dksX1_fills_5 5 rfl rfl)
theorem dX1_fills_124 : decode cX1_fills 124 = .ok (.iload_n 3, 1) := dk_29 (dk_at dksX1_fills_5 6 rfl rfl)
theorem dX1_fills_125 : decode cX1_fills 125 = .ok (.i2l, 1) := dk_133 (dk_at dksX1_fills_5 7 rfl rfl)
theorem dX1_fills_126 : decode cX1_fills 126 = .ok (.invokevirtual 353, 3) := dk_182 1 97 (dk_at dksX1_fills_5 8 rfl rfl)
theorem dX1_fills_129 : decode cX1_fills 129 = .ok (.iload 4, 2) := dk_21 4 (dk_at dksX1_fills_5 11 rfl rfl)
theorem dX1_fills_131 : decode cX1_fills 131 = .ok (.ireturn, 1) := dk_172 (dk_at dksX1_fills_5 13 rfl rfl)
abbrev cX1_needs : ByteArray := prog_1_method_71_code
def yX1_needs : MethodName := ⟨RX1, "needs", "(III)I"⟩
def dkwX1_needs_5 : List UInt8 := [167, 255, 177, 16, 254, 172]
abbrev dktX1_needs_5 : List UInt8 := dkwX1_needs_5 ++ []
def dkwX1_needs_4 : List UInt8 := [3, 181, 1, 94, 42, 42, 180, 0, 16, 180, 0, 133, 27, 46, 133, 182, 1, 97, 21, 4, 172, 132, 4, 1]
abbrev dktX1_needs_4 : List UInt8 := dkwX1_needs_4 ++ dktX1_needs_5
def dkwX1_needs_3 : List UInt8 := [180, 0, 16, 29, 182, 1, 90, 42, 180, 0, 16, 180, 0, 133, 27, 46, 28, 162, 0, 6, 167, 0, 25, 42]
abbrev dktX1_needs_3 : List UInt8 := dkwX1_needs_3 ++ dktX1_needs_4
def dkwX1_needs_2 : List UInt8 := [180, 0, 16, 42, 180, 0, 12, 182, 1, 58, 42, 180, 0, 16, 180, 0, 206, 27, 21, 4, 79, 42, 42]
abbrev dktX1_needs_2 : List UInt8 := dkwX1_needs_2 ++ dktX1_needs_3
def dkwX1_needs_1 : List UInt8 := [20, 1, 88, 184, 0, 121, 154, 0, 5, 2, 172, 3, 54, 4, 21, 4, 16, 9, 163, 0, 78, 42]
abbrev dktX1_needs_1 : List UInt8 := dkwX1_needs_1 ++ dktX1_needs_2
def dkwX1_needs_0 : List UInt8 := [42, 27, 182, 1, 41, 153, 0, 27, 28, 133, 9, 20, 1, 129, 184, 0, 121, 153, 0, 15, 29, 133, 9]
abbrev dktX1_needs_0 : List UInt8 := dkwX1_needs_0 ++ dktX1_needs_1
theorem dksX1_needs_0 : cX1_needs.data.toList.drop 0 = dktX1_needs_0 := by decide +kernel
theorem dksX1_needs_1 : cX1_needs.data.toList.drop 23 = dktX1_needs_1 := dk_seg dksX1_needs_0 23 rfl rfl
theorem dksX1_needs_2 : cX1_needs.data.toList.drop 45 = dktX1_needs_2 := dk_seg dksX1_needs_1 22 rfl rfl
theorem dksX1_needs_3 : cX1_needs.data.toList.drop 68 = dktX1_needs_3 := dk_seg dksX1_needs_2 23 rfl rfl
theorem dksX1_needs_4 : cX1_needs.data.toList.drop 92 = dktX1_needs_4 := dk_seg dksX1_needs_3 24 rfl rfl
theorem dksX1_needs_5 : cX1_needs.data.toList.drop 116 = dktX1_needs_5 := dk_seg dksX1_needs_4 24 rfl rfl
theorem dX1_needs_0 : decode cX1_needs 0 = .ok (.aload_n 0, 1) := dk_42 (dk_at dksX1_needs_0 0 rfl rfl)
theorem dX1_needs_1 : decode cX1_needs 1 = .ok (.iload_n 1, 1) := dk_27 (dk_at dksX1_needs_0 1 rfl rfl)
theorem dX1_needs_2 : decode cX1_needs 2 = .ok (.invokevirtual 297, 3) := dk_182 1 41 (dk_at dksX1_needs_0 2 rfl rfl)
theorem dX1_needs_5 : decode cX1_needs 5 = .ok (.ifCond .eq 27, 3) := dk_153 0 27 (dk_at dksX1_needs_0 5 rfl rfl)
theorem dX1_needs_8 : decode cX1_needs 8 = .ok (.iload_n 2, 1) := dk_28 (dk_at dksX1_needs_0 8 rfl rfl)
theorem dX1_needs_9 : decode cX1_needs 9 = .ok (.i2l, 1) := dk_133 (dk_at dksX1_needs_0 9 rfl rfl)
theorem dX1_needs_10 : decode cX1_needs 10 = .ok (.lconst 0, 1) := dk_9 (dk_at dksX1_needs_0 10 rfl rfl)
theorem dX1_needs_11 : decode cX1_needs 11 = .ok (.ldc2_w 385, 3) := dk_20 1 129 (dk_at dksX1_needs_0 11 rfl rfl)
theorem dX1_needs_14 : decode cX1_needs 14 = .ok (.invokestatic 121, 3) := dk_184 0 121 (dk_at dksX1_needs_0 14 rfl rfl)
theorem dX1_needs_17 : decode cX1_needs 17 = .ok (.ifCond .eq 15, 3) := dk_153 0 15 (dk_at dksX1_needs_0 17 rfl rfl)
theorem dX1_needs_20 : decode cX1_needs 20 = .ok (.iload_n 3, 1) := dk_29 (dk_at dksX1_needs_0 20 rfl rfl)
theorem dX1_needs_21 : decode cX1_needs 21 = .ok (.i2l, 1) := dk_133 (dk_at dksX1_needs_0 21 rfl rfl)
theorem dX1_needs_22 : decode cX1_needs 22 = .ok (.lconst 0, 1) := dk_9 (dk_at dksX1_needs_0 22 rfl rfl)
theorem dX1_needs_23 : decode cX1_needs 23 = .ok (.ldc2_w 344, 3) := dk_20 1 88 (dk_at dksX1_needs_1 0 rfl rfl)
theorem dX1_needs_26 : decode cX1_needs 26 = .ok (.invokestatic 121, 3) := dk_184 0 121 (dk_at dksX1_needs_1 3 rfl rfl)
theorem dX1_needs_29 : decode cX1_needs 29 = .ok (.ifCond .ne 5, 3) := dk_154 0 5 (dk_at dksX1_needs_1 6 rfl rfl)
theorem dX1_needs_32 : decode cX1_needs 32 = .ok (.iconst (-1), 1) := dk_2 (dk_at dksX1_needs_1 9 rfl rfl)
theorem dX1_needs_33 : decode cX1_needs 33 = .ok (.ireturn, 1) := dk_172 (dk_at dksX1_needs_1 10 rfl rfl)
theorem dX1_needs_34 : decode cX1_needs 34 = .ok (.iconst 0, 1) := dk_3 (dk_at dksX1_needs_1 11 rfl rfl)
theorem dX1_needs_35 : decode cX1_needs 35 = .ok (.istore 4, 2) := dk_54 4 (dk_at dksX1_needs_1 12 rfl rfl)
theorem dX1_needs_37 : decode cX1_needs 37 = .ok (.iload 4, 2) := dk_21 4 (dk_at dksX1_needs_1 14 rfl rfl)
theorem dX1_needs_39 : decode cX1_needs 39 = .ok (.bipush 9, 2) := dk_16 9 (dk_at dksX1_needs_1 16 rfl rfl)
theorem dX1_needs_41 : decode cX1_needs 41 = .ok (.if_icmp .gt 78, 3) := dk_163 0 78 (dk_at dksX1_needs_1 18 rfl rfl)
theorem dX1_needs_44 : decode cX1_needs 44 = .ok (.aload_n 0, 1) := dk_42 (dk_at dksX1_needs_1 21 rfl rfl)
theorem dX1_needs_45 : decode cX1_needs 45 = .ok (.getfield 16, 3) := dk_180 0 16 (dk_at dksX1_needs_2 0 rfl rfl)
theorem dX1_needs_48 : decode cX1_needs 48 = .ok (.aload_n 0, 1) := dk_42 (dk_at dksX1_needs_2 3 rfl rfl)
theorem dX1_needs_49 : decode cX1_needs 49 = .ok (.getfield 12, 3) := dk_180 0 12 (dk_at dksX1_needs_2 4 rfl rfl)
theorem dX1_needs_52 : decode cX1_needs 52 = .ok (.invokevirtual 314, 3) := dk_182 1 58 (dk_at dksX1_needs_2 7 rfl rfl)
theorem dX1_needs_55 : decode cX1_needs 55 = .ok (.aload_n 0, 1) := dk_42 (dk_at dksX1_needs_2 10 rfl rfl)
theorem dX1_needs_56 : decode cX1_needs 56 = .ok (.getfield 16, 3) := dk_180 0 16 (dk_at dksX1_needs_2 11 rfl rfl)
theorem dX1_needs_59 : decode cX1_needs 59 = .ok (.getfield 206, 3) := dk_180 0 206 (dk_at dksX1_needs_2 14 rfl rfl)
theorem dX1_needs_62 : decode cX1_needs 62 = .ok (.iload_n 1, 1) := dk_27 (dk_at dksX1_needs_2 17 rfl rfl)
theorem dX1_needs_63 : decode cX1_needs 63 = .ok (.iload 4, 2) := dk_21 4 (dk_at dksX1_needs_2 18 rfl rfl)
theorem dX1_needs_65 : decode cX1_needs 65 = .ok (.iastore, 1) := dk_79 (dk_at dksX1_needs_2 20 rfl rfl)
theorem dX1_needs_66 : decode cX1_needs 66 = .ok (.aload_n 0, 1) := dk_42 (dk_at dksX1_needs_2 21 rfl rfl)
theorem dX1_needs_67 : decode cX1_needs 67 = .ok (.aload_n 0, 1) := dk_42 (dk_at dksX1_needs_2 22 rfl rfl)
theorem dX1_needs_68 : decode cX1_needs 68 = .ok (.getfield 16, 3) := dk_180 0 16 (dk_at dksX1_needs_3 0 rfl rfl)
theorem dX1_needs_71 : decode cX1_needs 71 = .ok (.iload_n 3, 1) := dk_29 (dk_at dksX1_needs_3 3 rfl rfl)
theorem dX1_needs_72 : decode cX1_needs 72 = .ok (.invokevirtual 346, 3) := dk_182 1 90 (dk_at dksX1_needs_3 4 rfl rfl)
theorem dX1_needs_75 : decode cX1_needs 75 = .ok (.aload_n 0, 1) := dk_42 (dk_at dksX1_needs_3 7 rfl rfl)
theorem dX1_needs_76 : decode cX1_needs 76 = .ok (.getfield 16, 3) := dk_180 0 16 (dk_at dksX1_needs_3 8 rfl rfl)
theorem dX1_needs_79 : decode cX1_needs 79 = .ok (.getfield 133, 3) := dk_180 0 133 (dk_at dksX1_needs_3 11 rfl rfl)
theorem dX1_needs_82 : decode cX1_needs 82 = .ok (.iload_n 1, 1) := dk_27 (dk_at dksX1_needs_3 14 rfl rfl)
theorem dX1_needs_83 : decode cX1_needs 83 = .ok (.iaload, 1) := dk_46 (dk_at dksX1_needs_3 15 rfl rfl)
theorem dX1_needs_84 : decode cX1_needs 84 = .ok (.iload_n 2, 1) := dk_28 (dk_at dksX1_needs_3 16 rfl rfl)
theorem dX1_needs_85 : decode cX1_needs 85 = .ok (.if_icmp .ge 6, 3) := dk_162 0 6 (dk_at dksX1_needs_3 17 rfl rfl)
theorem dX1_needs_88 : decode cX1_needs 88 = .ok (.goto 25, 3) := dk_167 0 25 (dk_at dksX1_needs_3 20 rfl rfl)
theorem dX1_needs_91 : decode cX1_needs 91 = .ok (.aload_n 0, 1) := dk_42 (dk_at dksX1_needs_3 23 rfl rfl)
theorem dX1_needs_92 : decode cX1_needs 92 = .ok (.iconst 0, 1) := dk_3 (dk_at dksX1_needs_4 0 rfl rfl)
theorem dX1_needs_93 : decode cX1_needs 93 = .ok (.putfield 350, 3) := dk_181 1 94 (dk_at dksX1_needs_4 1 rfl rfl)
theorem dX1_needs_96 : decode cX1_needs 96 = .ok (.aload_n 0, 1) := dk_42 (dk_at dksX1_needs_4 4 rfl rfl)
theorem dX1_needs_97 : decode cX1_needs 97 = .ok (.aload_n 0, 1) := dk_42 (dk_at dksX1_needs_4 5 rfl rfl)
theorem dX1_needs_98 : decode cX1_needs 98 = .ok (.getfield 16, 3) := dk_180 0 16 (dk_at dksX1_needs_4 6 rfl rfl)
theorem dX1_needs_101 : decode cX1_needs 101 = .ok (.getfield 133, 3) := dk_180 0 133 (dk_at dksX1_needs_4 9 rfl rfl)
theorem dX1_needs_104 : decode cX1_needs 104 = .ok (.iload_n 1, 1) := dk_27 (dk_at dksX1_needs_4 12 rfl rfl)
theorem dX1_needs_105 : decode cX1_needs 105 = .ok (.iaload, 1) := dk_46 (dk_at dksX1_needs_4 13 rfl rfl)
theorem dX1_needs_106 : decode cX1_needs 106 = .ok (.i2l, 1) := dk_133 (dk_at dksX1_needs_4 14 rfl rfl)
theorem dX1_needs_107 : decode cX1_needs 107 = .ok (.invokevirtual 353, 3) := dk_182 1 97 (dk_at dksX1_needs_4 15 rfl rfl)
theorem dX1_needs_110 : decode cX1_needs 110 = .ok (.iload 4, 2) := dk_21 4 (dk_at dksX1_needs_4 18 rfl rfl)
theorem dX1_needs_112 : decode cX1_needs 112 = .ok (.ireturn, 1) := dk_172 (dk_at dksX1_needs_4 20 rfl rfl)
theorem dX1_needs_113 : decode cX1_needs 113 = .ok (.iinc 4 1, 3) := dk_132 4 1 (dk_at dksX1_needs_4 21 rfl rfl)
theorem dX1_needs_116 : decode cX1_needs 116 = .ok (.goto (-79), 3) := dk_167 255 177 (dk_at dksX1_needs_5 0 rfl rfl)
theorem dX1_needs_119 : decode cX1_needs 119 = .ok (.bipush (-2), 2) := dk_16 254 (dk_at dksX1_needs_5 3 rfl rfl)
theorem dX1_needs_121 : decode cX1_needs 121 = .ok (.ireturn, 1) := dk_172 (dk_at dksX1_needs_5 5 rfl rfl)
abbrev cX1_crosses : ByteArray := prog_1_method_72_code
def yX1_crosses : MethodName := ⟨RX1, "crosses", "(I)I"⟩
def dkwX1_crosses_7 : List UInt8 := [181, 1, 94, 42, 17, 3, 232, 21, 4, 96, 133, 182, 1, 97, 29, 172]
abbrev dktX1_crosses_7 : List UInt8 := dkwX1_crosses_7 ++ []
def dkwX1_crosses_6 : List UInt8 := [21, 4, 21, 6, 184, 1, 38, 54, 4, 132, 5, 1, 167, 255, 147, 29, 156, 0, 6, 16, 254, 172, 42, 3]
abbrev dktX1_crosses_6 : List UInt8 := dkwX1_crosses_6 ++ dktX1_crosses_7
def dkwX1_crosses_5 : List UInt8 := [180, 0, 16, 182, 1, 54, 100, 54, 6, 21, 6, 21, 4, 164, 0, 8, 21, 5, 167, 0, 4, 29, 62]
abbrev dktX1_crosses_5 : List UInt8 := dkwX1_crosses_5 ++ dktX1_crosses_6
def dkwX1_crosses_4 : List UInt8 := [180, 1, 24, 4, 21, 5, 120, 128, 181, 1, 24, 42, 42, 180, 0, 16, 27, 182, 1, 90, 28, 42, 42]
abbrev dktX1_crosses_4 : List UInt8 := dkwX1_crosses_4 ++ dktX1_crosses_5
def dkwX1_crosses_3 : List UInt8 := [184, 0, 129, 153, 0, 14, 42, 180, 0, 16, 180, 0, 209, 21, 5, 3, 79, 42, 180, 0, 16, 89]
abbrev dktX1_crosses_3 : List UInt8 := dkwX1_crosses_3 ++ dktX1_crosses_4
def dkwX1_crosses_2 : List UInt8 := [162, 0, 106, 42, 180, 0, 16, 42, 180, 0, 12, 182, 1, 58, 42, 180, 0, 12, 180, 1, 24, 21, 5]
abbrev dktX1_crosses_2 : List UInt8 := dkwX1_crosses_2 ++ dktX1_crosses_3
def dkwX1_crosses_1 : List UInt8 := [180, 0, 16, 182, 1, 54, 61, 16, 254, 62, 19, 1, 157, 54, 4, 3, 54, 5, 21, 5, 42, 180, 0, 117]
abbrev dktX1_crosses_1 : List UInt8 := dkwX1_crosses_1 ++ dktX1_crosses_2
def dkwX1_crosses_0 : List UInt8 := [27, 133, 10, 20, 1, 140, 184, 0, 121, 154, 0, 5, 2, 172, 42, 3, 27, 182, 1, 145, 42, 42]
abbrev dktX1_crosses_0 : List UInt8 := dkwX1_crosses_0 ++ dktX1_crosses_1
theorem dksX1_crosses_0 : cX1_crosses.data.toList.drop 0 = dktX1_crosses_0 := by decide +kernel
theorem dksX1_crosses_1 : cX1_crosses.data.toList.drop 22 = dktX1_crosses_1 := dk_seg dksX1_crosses_0 22 rfl rfl
theorem dksX1_crosses_2 : cX1_crosses.data.toList.drop 46 = dktX1_crosses_2 := dk_seg dksX1_crosses_1 24 rfl rfl
theorem dksX1_crosses_3 : cX1_crosses.data.toList.drop 69 = dktX1_crosses_3 := dk_seg dksX1_crosses_2 23 rfl rfl
theorem dksX1_crosses_4 : cX1_crosses.data.toList.drop 91 = dktX1_crosses_4 := dk_seg dksX1_crosses_3 22 rfl rfl
theorem dksX1_crosses_5 : cX1_crosses.data.toList.drop 114 = dktX1_crosses_5 := dk_seg dksX1_crosses_4 23 rfl rfl
theorem dksX1_crosses_6 : cX1_crosses.data.toList.drop 137 = dktX1_crosses_6 := dk_seg dksX1_crosses_5 23 rfl rfl
theorem dksX1_crosses_7 : cX1_crosses.data.toList.drop 161 = dktX1_crosses_7 := dk_seg dksX1_crosses_6 24 rfl rfl
theorem dX1_crosses_0 : decode cX1_crosses 0 = .ok (.iload_n 1, 1) := dk_27 (dk_at dksX1_crosses_0 0 rfl rfl)
theorem dX1_crosses_1 : decode cX1_crosses 1 = .ok (.i2l, 1) := dk_133 (dk_at dksX1_crosses_0 1 rfl rfl)
theorem dX1_crosses_2 : decode cX1_crosses 2 = .ok (.lconst 1, 1) := dk_10 (dk_at dksX1_crosses_0 2 rfl rfl)
theorem dX1_crosses_3 : decode cX1_crosses 3 = .ok (.ldc2_w 396, 3) := dk_20 1 140 (dk_at dksX1_crosses_0 3 rfl rfl)
theorem dX1_crosses_6 : decode cX1_crosses 6 = .ok (.invokestatic 121, 3) := dk_184 0 121 (dk_at dksX1_crosses_0 6 rfl rfl)
theorem dX1_crosses_9 : decode cX1_crosses 9 = .ok (.ifCond .ne 5, 3) := dk_154 0 5 (dk_at dksX1_crosses_0 9 rfl rfl)
theorem dX1_crosses_12 : decode cX1_crosses 12 = .ok (.iconst (-1), 1) := dk_2 (dk_at dksX1_crosses_0 12 rfl rfl)
theorem dX1_crosses_13 : decode cX1_crosses 13 = .ok (.ireturn, 1) := dk_172 (dk_at dksX1_crosses_0 13 rfl rfl)
theorem dX1_crosses_14 : decode cX1_crosses 14 = .ok (.aload_n 0, 1) := dk_42 (dk_at dksX1_crosses_0 14 rfl rfl)
theorem dX1_crosses_15 : decode cX1_crosses 15 = .ok (.iconst 0, 1) := dk_3 (dk_at dksX1_crosses_0 15 rfl rfl)
theorem dX1_crosses_16 : decode cX1_crosses 16 = .ok (.iload_n 1, 1) := dk_27 (dk_at dksX1_crosses_0 16 rfl rfl)
theorem dX1_crosses_17 : decode cX1_crosses 17 = .ok (.invokevirtual 401, 3) := dk_182 1 145 (dk_at dksX1_crosses_0 17 rfl rfl)
theorem dX1_crosses_20 : decode cX1_crosses 20 = .ok (.aload_n 0, 1) := dk_42 (dk_at dksX1_crosses_0 20 rfl rfl)
theorem dX1_crosses_21 : decode cX1_crosses 21 = .ok (.aload_n 0, 1) := dk_42 (dk_at dksX1_crosses_0 21 rfl rfl)
theorem dX1_crosses_22 : decode cX1_crosses 22 = .ok (.getfield 16, 3) := dk_180 0 16 (dk_at dksX1_crosses_1 0 rfl rfl)
theorem dX1_crosses_25 : decode cX1_crosses 25 = .ok (.invokevirtual 310, 3) := dk_182 1 54 (dk_at dksX1_crosses_1 3 rfl rfl)
theorem dX1_crosses_28 : decode cX1_crosses 28 = .ok (.istore_n 2, 1) := dk_61 (dk_at dksX1_crosses_1 6 rfl rfl)
theorem dX1_crosses_29 : decode cX1_crosses 29 = .ok (.bipush (-2), 2) := dk_16 254 (dk_at dksX1_crosses_1 7 rfl rfl)
theorem dX1_crosses_31 : decode cX1_crosses 31 = .ok (.istore_n 3, 1) := dk_62 (dk_at dksX1_crosses_1 9 rfl rfl)
theorem dX1_crosses_32 : decode cX1_crosses 32 = .ok (.ldc_w 413, 3) := dk_19 1 157 (dk_at dksX1_crosses_1 10 rfl rfl)
theorem dX1_crosses_35 : decode cX1_crosses 35 = .ok (.istore 4, 2) := dk_54 4 (dk_at dksX1_crosses_1 13 rfl rfl)
theorem dX1_crosses_37 : decode cX1_crosses 37 = .ok (.iconst 0, 1) := dk_3 (dk_at dksX1_crosses_1 15 rfl rfl)
theorem dX1_crosses_38 : decode cX1_crosses 38 = .ok (.istore 5, 2) := dk_54 5 (dk_at dksX1_crosses_1 16 rfl rfl)
theorem dX1_crosses_40 : decode cX1_crosses 40 = .ok (.iload 5, 2) := dk_21 5 (dk_at dksX1_crosses_1 18 rfl rfl)
theorem dX1_crosses_42 : decode cX1_crosses 42 = .ok (.aload_n 0, 1) := dk_42 (dk_at dksX1_crosses_1 20 rfl rfl)
theorem dX1_crosses_43 : decode cX1_crosses 43 = .ok (.getfield 117, 3) := dk_180 0 117 (dk_at dksX1_crosses_1 21 rfl rfl)
theorem dX1_crosses_46 : decode cX1_crosses 46 = .ok (.if_icmp .ge 106, 3) := dk_162 0 106 (dk_at dksX1_crosses_2 0 rfl rfl)
theorem dX1_crosses_49 : decode cX1_crosses 49 = .ok (.aload_n 0, 1) := dk_42 (dk_at dksX1_crosses_2 3 rfl rfl)
theorem dX1_crosses_50 : decode cX1_crosses 50 = .ok (.getfield 16, 3) := dk_180 0 16 (dk_at dksX1_crosses_2 4 rfl rfl)
theorem dX1_crosses_53 : decode cX1_crosses 53 = .ok (.aload_n 0, 1) := dk_42 (dk_at dksX1_crosses_2 7 rfl rfl)
theorem dX1_crosses_54 : decode cX1_crosses 54 = .ok (.getfield 12, 3) := dk_180 0 12 (dk_at dksX1_crosses_2 8 rfl rfl)
theorem dX1_crosses_57 : decode cX1_crosses 57 = .ok (.invokevirtual 314, 3) := dk_182 1 58 (dk_at dksX1_crosses_2 11 rfl rfl)
theorem dX1_crosses_60 : decode cX1_crosses 60 = .ok (.aload_n 0, 1) := dk_42 (dk_at dksX1_crosses_2 14 rfl rfl)
theorem dX1_crosses_61 : decode cX1_crosses 61 = .ok (.getfield 12, 3) := dk_180 0 12 (dk_at dksX1_crosses_2 15 rfl rfl)
theorem dX1_crosses_64 : decode cX1_crosses 64 = .ok (.getfield 280, 3) := dk_180 1 24 (dk_at dksX1_crosses_2 18 rfl rfl)
theorem dX1_crosses_67 : decode cX1_crosses 67 = .ok (.iload 5, 2) := dk_21 5 (dk_at dksX1_crosses_2 21 rfl rfl)
theorem dX1_crosses_69 : decode cX1_crosses 69 = .ok (.invokestatic 129, 3) := dk_184 0 129 (dk_at dksX1_crosses_3 0 rfl rfl)
theorem dX1_crosses_72 : decode cX1_crosses 72 = .ok (.ifCond .eq 14, 3) := dk_153 0 14 (dk_at dksX1_crosses_3 3 rfl rfl)
theorem dX1_crosses_75 : decode cX1_crosses 75 = .ok (.aload_n 0, 1) := dk_42 (dk_at dksX1_crosses_3 6 rfl rfl)
theorem dX1_crosses_76 : decode cX1_crosses 76 = .ok (.getfield 16, 3) := dk_180 0 16 (dk_at dksX1_crosses_3 7 rfl rfl)
theorem dX1_crosses_79 : decode cX1_crosses 79 = .ok (.getfield 209, 3) := dk_180 0 209 (dk_at dksX1_crosses_3 10 rfl rfl)
theorem dX1_crosses_82 : decode cX1_crosses 82 = .ok (.iload 5, 2) := dk_21 5 (dk_at dksX1_crosses_3 13 rfl rfl)
theorem dX1_crosses_84 : decode cX1_crosses 84 = .ok (.iconst 0, 1) := dk_3 (dk_at dksX1_crosses_3 15 rfl rfl)
theorem dX1_crosses_85 : decode cX1_crosses 85 = .ok (.iastore, 1) := dk_79 (dk_at dksX1_crosses_3 16 rfl rfl)
theorem dX1_crosses_86 : decode cX1_crosses 86 = .ok (.aload_n 0, 1) := dk_42 (dk_at dksX1_crosses_3 17 rfl rfl)
theorem dX1_crosses_87 : decode cX1_crosses 87 = .ok (.getfield 16, 3) := dk_180 0 16 (dk_at dksX1_crosses_3 18 rfl rfl)
theorem dX1_crosses_90 : decode cX1_crosses 90 = .ok (.dup, 1) := dk_89 (dk_at dksX1_crosses_3 21 rfl rfl)
theorem dX1_crosses_91 : decode cX1_crosses 91 = .ok (.getfield 280, 3) := dk_180 1 24 (dk_at dksX1_crosses_4 0 rfl rfl)
theorem dX1_crosses_94 : decode cX1_crosses 94 = .ok (.iconst 1, 1) := dk_4 (dk_at dksX1_crosses_4 3 rfl rfl)
theorem dX1_crosses_95 : decode cX1_crosses 95 = .ok (.iload 5, 2) := dk_21 5 (dk_at dksX1_crosses_4 4 rfl rfl)
theorem dX1_crosses_97 : decode cX1_crosses 97 = .ok (.ishl, 1) := dk_120 (dk_at dksX1_crosses_4 6 rfl rfl)
theorem dX1_crosses_98 : decode cX1_crosses 98 = .ok (.ior, 1) := dk_128 (dk_at dksX1_crosses_4 7 rfl rfl)
theorem dX1_crosses_99 : decode cX1_crosses 99 = .ok (.putfield 280, 3) := dk_181 1 24 (dk_at dksX1_crosses_4 8 rfl rfl)
theorem dX1_crosses_102 : decode cX1_crosses 102 = .ok (.aload_n 0, 1) := dk_42 (dk_at dksX1_crosses_4 11 rfl rfl)
theorem dX1_crosses_103 : decode cX1_crosses 103 = .ok (.aload_n 0, 1) := dk_42 (dk_at dksX1_crosses_4 12 rfl rfl)
theorem dX1_crosses_104 : decode cX1_crosses 104 = .ok (.getfield 16, 3) := dk_180 0 16 (dk_at dksX1_crosses_4 13 rfl rfl)
theorem dX1_crosses_107 : decode cX1_crosses 107 = .ok (.iload_n 1, 1) := dk_27 (dk_at dksX1_crosses_4 16 rfl rfl)
theorem dX1_crosses_108 : decode cX1_crosses 108 = .ok (.invokevirtual 346, 3) := dk_182 1 90 (dk_at dksX1_crosses_4 17 rfl rfl)
theorem dX1_crosses_111 : decode cX1_crosses 111 = .ok (.iload_n 2, 1) := dk_28 (dk_at dksX1_crosses_4 20 rfl rfl)
theorem dX1_crosses_112 : decode cX1_crosses 112 = .ok (.aload_n 0, 1) := dk_42 (dk_at dksX1_crosses_4 21 rfl rfl)
theorem dX1_crosses_113 : decode cX1_crosses 113 = .ok (.aload_n 0, 1) := dk_42 (dk_at dksX1_crosses_4 22 rfl rfl)
theorem dX1_crosses_114 : decode cX1_crosses 114 = .ok (.getfield 16, 3) := dk_180 0 16 (dk_at dksX1_crosses_5 0 rfl rfl)
theorem dX1_crosses_117 : decode cX1_crosses 117 = .ok (.invokevirtual 310, 3) := dk_182 1 54 (dk_at dksX1_crosses_5 3 rfl rfl)
theorem dX1_crosses_120 : decode cX1_crosses 120 = .ok (.isub, 1) := dk_100 (dk_at dksX1_crosses_5 6 rfl rfl)
theorem dX1_crosses_121 : decode cX1_crosses 121 = .ok (.istore 6, 2) := dk_54 6 (dk_at dksX1_crosses_5 7 rfl rfl)
theorem dX1_crosses_123 : decode cX1_crosses 123 = .ok (.iload 6, 2) := dk_21 6 (dk_at dksX1_crosses_5 9 rfl rfl)
theorem dX1_crosses_125 : decode cX1_crosses 125 = .ok (.iload 4, 2) := dk_21 4 (dk_at dksX1_crosses_5 11 rfl rfl)
theorem dX1_crosses_127 : decode cX1_crosses 127 = .ok (.if_icmp .le 8, 3) := dk_164 0 8 (dk_at dksX1_crosses_5 13 rfl rfl)
theorem dX1_crosses_130 : decode cX1_crosses 130 = .ok (.iload 5, 2) := dk_21 5 (dk_at dksX1_crosses_5 16 rfl rfl)
theorem dX1_crosses_132 : decode cX1_crosses 132 = .ok (.goto 4, 3) := dk_167 0 4 (dk_at dksX1_crosses_5 18 rfl rfl)
theorem dX1_crosses_135 : decode cX1_crosses 135 = .ok (.iload_n 3, 1) := dk_29 (dk_at dksX1_crosses_5 21 rfl rfl)
theorem dX1_crosses_136 : decode cX1_crosses 136 = .ok (.istore_n 3, 1) := dk_62 (dk_at dksX1_crosses_5 22 rfl rfl)
theorem dX1_crosses_137 : decode cX1_crosses 137 = .ok (.iload 4, 2) := dk_21 4 (dk_at dksX1_crosses_6 0 rfl rfl)
theorem dX1_crosses_139 : decode cX1_crosses 139 = .ok (.iload 6, 2) := dk_21 6 (dk_at dksX1_crosses_6 2 rfl rfl)
theorem dX1_crosses_141 : decode cX1_crosses 141 = .ok (.invokestatic 294, 3) := dk_184 1 38 (dk_at dksX1_crosses_6 4 rfl rfl)
theorem dX1_crosses_144 : decode cX1_crosses 144 = .ok (.istore 4, 2) := dk_54 4 (dk_at dksX1_crosses_6 7 rfl rfl)
theorem dX1_crosses_146 : decode cX1_crosses 146 = .ok (.iinc 5 1, 3) := dk_132 5 1 (dk_at dksX1_crosses_6 9 rfl rfl)
theorem dX1_crosses_149 : decode cX1_crosses 149 = .ok (.goto (-109), 3) := dk_167 255 147 (dk_at dksX1_crosses_6 12 rfl rfl)
theorem dX1_crosses_152 : decode cX1_crosses 152 = .ok (.iload_n 3, 1) := dk_29 (dk_at dksX1_crosses_6 15 rfl rfl)
theorem dX1_crosses_153 : decode cX1_crosses 153 = .ok (.ifCond .ge 6, 3) := dk_156 0 6 (dk_at dksX1_crosses_6 16 rfl rfl)
theorem dX1_crosses_156 : decode cX1_crosses 156 = .ok (.bipush (-2), 2) := dk_16 254 (dk_at dksX1_crosses_6 19 rfl rfl)
theorem dX1_crosses_158 : decode cX1_crosses 158 = .ok (.ireturn, 1) := dk_172 (dk_at dksX1_crosses_6 21 rfl rfl)
theorem dX1_crosses_159 : decode cX1_crosses 159 = .ok (.aload_n 0, 1) := dk_42 (dk_at dksX1_crosses_6 22 rfl rfl)
theorem dX1_crosses_160 : decode cX1_crosses 160 = .ok (.iconst 0, 1) := dk_3 (dk_at dksX1_crosses_6 23 rfl rfl)
theorem dX1_crosses_161 : decode cX1_crosses 161 = .ok (.putfield 350, 3) := dk_181 1 94 (dk_at dksX1_crosses_7 0 rfl rfl)
theorem dX1_crosses_164 : decode cX1_crosses 164 = .ok (.aload_n 0, 1) := dk_42 (dk_at dksX1_crosses_7 3 rfl rfl)
theorem dX1_crosses_165 : decode cX1_crosses 165 = .ok (.sipush 1000, 3) := dk_17 3 232 (dk_at dksX1_crosses_7 4 rfl rfl)
theorem dX1_crosses_168 : decode cX1_crosses 168 = .ok (.iload 4, 2) := dk_21 4 (dk_at dksX1_crosses_7 7 rfl rfl)
theorem dX1_crosses_170 : decode cX1_crosses 170 = .ok (.iadd, 1) := dk_96 (dk_at dksX1_crosses_7 9 rfl rfl)
theorem dX1_crosses_171 : decode cX1_crosses 171 = .ok (.i2l, 1) := dk_133 (dk_at dksX1_crosses_7 10 rfl rfl)
theorem dX1_crosses_172 : decode cX1_crosses 172 = .ok (.invokevirtual 353, 3) := dk_182 1 97 (dk_at dksX1_crosses_7 11 rfl rfl)
theorem dX1_crosses_175 : decode cX1_crosses 175 = .ok (.iload_n 3, 1) := dk_29 (dk_at dksX1_crosses_7 14 rfl rfl)
theorem dX1_crosses_176 : decode cX1_crosses 176 = .ok (.ireturn, 1) := dk_172 (dk_at dksX1_crosses_7 15 rfl rfl)
abbrev cX1_ring : ByteArray := prog_1_method_73_code
def yX1_ring : MethodName := ⟨RX1, "ring", "(III)I"⟩
def dkwX1_ring_3 : List UInt8 := [29, 79, 42, 89, 180, 1, 160, 4, 96, 181, 1, 160, 42, 180, 1, 160, 172]
abbrev dktX1_ring_3 : List UInt8 := dkwX1_ring_3 ++ []
def dkwX1_ring_2 : List UInt8 := [42, 180, 1, 160, 27, 79, 42, 180, 0, 72, 42, 180, 1, 160, 28, 79, 42, 180, 0, 75, 42, 180, 1, 160]
abbrev dktX1_ring_2 : List UInt8 := dkwX1_ring_2 ++ dktX1_ring_3
def dkwX1_ring_1 : List UInt8 := [20, 1, 129, 184, 0, 121, 153, 0, 12, 42, 180, 1, 160, 16, 10, 160, 0, 5, 2, 172, 42, 180, 0, 69]
abbrev dktX1_ring_1 : List UInt8 := dkwX1_ring_1 ++ dktX1_ring_2
def dkwX1_ring_0 : List UInt8 := [42, 27, 182, 1, 41, 153, 0, 36, 28, 133, 9, 20, 1, 158, 184, 0, 121, 153, 0, 24, 29, 133, 9]
abbrev dktX1_ring_0 : List UInt8 := dkwX1_ring_0 ++ dktX1_ring_1
theorem dksX1_ring_0 : cX1_ring.data.toList.drop 0 = dktX1_ring_0 := by decide +kernel
theorem dksX1_ring_1 : cX1_ring.data.toList.drop 23 = dktX1_ring_1 := dk_seg dksX1_ring_0 23 rfl rfl
theorem dksX1_ring_2 : cX1_ring.data.toList.drop 47 = dktX1_ring_2 := dk_seg dksX1_ring_1 24 rfl rfl
theorem dksX1_ring_3 : cX1_ring.data.toList.drop 71 = dktX1_ring_3 := dk_seg dksX1_ring_2 24 rfl rfl
theorem dX1_ring_0 : decode cX1_ring 0 = .ok (.aload_n 0, 1) := dk_42 (dk_at dksX1_ring_0 0 rfl rfl)
theorem dX1_ring_1 : decode cX1_ring 1 = .ok (.iload_n 1, 1) := dk_27 (dk_at dksX1_ring_0 1 rfl rfl)
theorem dX1_ring_2 : decode cX1_ring 2 = .ok (.invokevirtual 297, 3) := dk_182 1 41 (dk_at dksX1_ring_0 2 rfl rfl)
theorem dX1_ring_5 : decode cX1_ring 5 = .ok (.ifCond .eq 36, 3) := dk_153 0 36 (dk_at dksX1_ring_0 5 rfl rfl)
theorem dX1_ring_8 : decode cX1_ring 8 = .ok (.iload_n 2, 1) := dk_28 (dk_at dksX1_ring_0 8 rfl rfl)
theorem dX1_ring_9 : decode cX1_ring 9 = .ok (.i2l, 1) := dk_133 (dk_at dksX1_ring_0 9 rfl rfl)
theorem dX1_ring_10 : decode cX1_ring 10 = .ok (.lconst 0, 1) := dk_9 (dk_at dksX1_ring_0 10 rfl rfl)
theorem dX1_ring_11 : decode cX1_ring 11 = .ok (.ldc2_w 414, 3) := dk_20 1 158 (dk_at dksX1_ring_0 11 rfl rfl)
theorem dX1_ring_14 : decode cX1_ring 14 = .ok (.invokestatic 121, 3) := dk_184 0 121 (dk_at dksX1_ring_0 14 rfl rfl)
theorem dX1_ring_17 : decode cX1_ring 17 = .ok (.ifCond .eq 24, 3) := dk_153 0 24 (dk_at dksX1_ring_0 17 rfl rfl)
theorem dX1_ring_20 : decode cX1_ring 20 = .ok (.iload_n 3, 1) := dk_29 (dk_at dksX1_ring_0 20 rfl rfl)
theorem dX1_ring_21 : decode cX1_ring 21 = .ok (.i2l, 1) := dk_133 (dk_at dksX1_ring_0 21 rfl rfl)
theorem dX1_ring_22 : decode cX1_ring 22 = .ok (.lconst 0, 1) := dk_9 (dk_at dksX1_ring_0 22 rfl rfl)
theorem dX1_ring_23 : decode cX1_ring 23 = .ok (.ldc2_w 385, 3) := dk_20 1 129 (dk_at dksX1_ring_1 0 rfl rfl)
theorem dX1_ring_26 : decode cX1_ring 26 = .ok (.invokestatic 121, 3) := dk_184 0 121 (dk_at dksX1_ring_1 3 rfl rfl)
theorem dX1_ring_29 : decode cX1_ring 29 = .ok (.ifCond .eq 12, 3) := dk_153 0 12 (dk_at dksX1_ring_1 6 rfl rfl)
theorem dX1_ring_32 : decode cX1_ring 32 = .ok (.aload_n 0, 1) := dk_42 (dk_at dksX1_ring_1 9 rfl rfl)
theorem dX1_ring_33 : decode cX1_ring 33 = .ok (.getfield 416, 3) := dk_180 1 160 (dk_at dksX1_ring_1 10 rfl rfl)
theorem dX1_ring_36 : decode cX1_ring 36 = .ok (.bipush 10, 2) := dk_16 10 (dk_at dksX1_ring_1 13 rfl rfl)
theorem dX1_ring_38 : decode cX1_ring 38 = .ok (.if_icmp .ne 5, 3) := dk_160 0 5 (dk_at dksX1_ring_1 15 rfl rfl)
theorem dX1_ring_41 : decode cX1_ring 41 = .ok (.iconst (-1), 1) := dk_2 (dk_at dksX1_ring_1 18 rfl rfl)
theorem dX1_ring_42 : decode cX1_ring 42 = .ok (.ireturn, 1) := dk_172 (dk_at dksX1_ring_1 19 rfl rfl)
theorem dX1_ring_43 : decode cX1_ring 43 = .ok (.aload_n 0, 1) := dk_42 (dk_at dksX1_ring_1 20 rfl rfl)
theorem dX1_ring_44 : decode cX1_ring 44 = .ok (.getfield 69, 3) := dk_180 0 69 (dk_at dksX1_ring_1 21 rfl rfl)
theorem dX1_ring_47 : decode cX1_ring 47 = .ok (.aload_n 0, 1) := dk_42 (dk_at dksX1_ring_2 0 rfl rfl)
theorem dX1_ring_48 : decode cX1_ring 48 = .ok (.getfield 416, 3) := dk_180 1 160 (dk_at dksX1_ring_2 1 rfl rfl)
theorem dX1_ring_51 : decode cX1_ring 51 = .ok (.iload_n 1, 1) := dk_27 (dk_at dksX1_ring_2 4 rfl rfl)
theorem dX1_ring_52 : decode cX1_ring 52 = .ok (.iastore, 1) := dk_79 (dk_at dksX1_ring_2 5 rfl rfl)
theorem dX1_ring_53 : decode cX1_ring 53 = .ok (.aload_n 0, 1) := dk_42 (dk_at dksX1_ring_2 6 rfl rfl)
theorem dX1_ring_54 : decode cX1_ring 54 = .ok (.getfield 72, 3) := dk_180 0 72 (dk_at dksX1_ring_2 7 rfl rfl)
theorem dX1_ring_57 : decode cX1_ring 57 = .ok (.aload_n 0, 1) := dk_42 (dk_at dksX1_ring_2 10 rfl rfl)
theorem dX1_ring_58 : decode cX1_ring 58 = .ok (.getfield 416, 3) := dk_180 1 160 (dk_at dksX1_ring_2 11 rfl rfl)
theorem dX1_ring_61 : decode cX1_ring 61 = .ok (.iload_n 2, 1) := dk_28 (dk_at dksX1_ring_2 14 rfl rfl)
theorem dX1_ring_62 : decode cX1_ring 62 = .ok (.iastore, 1) := dk_79 (dk_at dksX1_ring_2 15 rfl rfl)
theorem dX1_ring_63 : decode cX1_ring 63 = .ok (.aload_n 0, 1) := dk_42 (dk_at dksX1_ring_2 16 rfl rfl)
theorem dX1_ring_64 : decode cX1_ring 64 = .ok (.getfield 75, 3) := dk_180 0 75 (dk_at dksX1_ring_2 17 rfl rfl)
theorem dX1_ring_67 : decode cX1_ring 67 = .ok (.aload_n 0, 1) := dk_42 (dk_at dksX1_ring_2 20 rfl rfl)
theorem dX1_ring_68 : decode cX1_ring 68 = .ok (.getfield 416, 3) := dk_180 1 160 (dk_at dksX1_ring_2 21 rfl rfl)
theorem dX1_ring_71 : decode cX1_ring 71 = .ok (.iload_n 3, 1) := dk_29 (dk_at dksX1_ring_3 0 rfl rfl)
theorem dX1_ring_72 : decode cX1_ring 72 = .ok (.iastore, 1) := dk_79 (dk_at dksX1_ring_3 1 rfl rfl)
theorem dX1_ring_73 : decode cX1_ring 73 = .ok (.aload_n 0, 1) := dk_42 (dk_at dksX1_ring_3 2 rfl rfl)
theorem dX1_ring_74 : decode cX1_ring 74 = .ok (.dup, 1) := dk_89 (dk_at dksX1_ring_3 3 rfl rfl)
theorem dX1_ring_75 : decode cX1_ring 75 = .ok (.getfield 416, 3) := dk_180 1 160 (dk_at dksX1_ring_3 4 rfl rfl)
theorem dX1_ring_78 : decode cX1_ring 78 = .ok (.iconst 1, 1) := dk_4 (dk_at dksX1_ring_3 7 rfl rfl)
theorem dX1_ring_79 : decode cX1_ring 79 = .ok (.iadd, 1) := dk_96 (dk_at dksX1_ring_3 8 rfl rfl)
theorem dX1_ring_80 : decode cX1_ring 80 = .ok (.putfield 416, 3) := dk_181 1 160 (dk_at dksX1_ring_3 9 rfl rfl)
theorem dX1_ring_83 : decode cX1_ring 83 = .ok (.aload_n 0, 1) := dk_42 (dk_at dksX1_ring_3 12 rfl rfl)
theorem dX1_ring_84 : decode cX1_ring 84 = .ok (.getfield 416, 3) := dk_180 1 160 (dk_at dksX1_ring_3 13 rfl rfl)
theorem dX1_ring_87 : decode cX1_ring 87 = .ok (.ireturn, 1) := dk_172 (dk_at dksX1_ring_3 16 rfl rfl)
abbrev cX1_washes : ByteArray := prog_1_method_74_code
def yX1_washes : MethodName := ⟨RX1, "washes", "()I"⟩
def dkwX1_washes_0 : List UInt8 := [42, 180, 1, 160, 60, 42, 3, 181, 1, 160, 27, 172]
abbrev dktX1_washes_0 : List UInt8 := dkwX1_washes_0 ++ []
theorem dksX1_washes_0 : cX1_washes.data.toList.drop 0 = dktX1_washes_0 := by decide +kernel
theorem dX1_washes_0 : decode cX1_washes 0 = .ok (.aload_n 0, 1) := dk_42 (dk_at dksX1_washes_0 0 rfl rfl)
theorem dX1_washes_1 : decode cX1_washes 1 = .ok (.getfield 416, 3) := dk_180 1 160 (dk_at dksX1_washes_0 1 rfl rfl)
theorem dX1_washes_4 : decode cX1_washes 4 = .ok (.istore_n 1, 1) := dk_60 (dk_at dksX1_washes_0 4 rfl rfl)
theorem dX1_washes_5 : decode cX1_washes 5 = .ok (.aload_n 0, 1) := dk_42 (dk_at dksX1_washes_0 5 rfl rfl)
theorem dX1_washes_6 : decode cX1_washes 6 = .ok (.iconst 0, 1) := dk_3 (dk_at dksX1_washes_0 6 rfl rfl)
theorem dX1_washes_7 : decode cX1_washes 7 = .ok (.putfield 416, 3) := dk_181 1 160 (dk_at dksX1_washes_0 7 rfl rfl)
theorem dX1_washes_10 : decode cX1_washes 10 = .ok (.iload_n 1, 1) := dk_27 (dk_at dksX1_washes_0 10 rfl rfl)
theorem dX1_washes_11 : decode cX1_washes 11 = .ok (.ireturn, 1) := dk_172 (dk_at dksX1_washes_0 11 rfl rfl)
abbrev cX1_leaks : ByteArray := prog_1_method_78_code
def yX1_leaks : MethodName := ⟨RX1, "leaks", "()I"⟩
def dkwX1_leaks_3 : List UInt8 := [108, 133, 182, 1, 97, 42, 4, 28, 16, 9, 112, 96, 133, 182, 1, 97, 132, 2, 1, 167, 255, 202, 27, 172]
abbrev dktX1_leaks_3 : List UInt8 := dkwX1_leaks_3 ++ []
def dkwX1_leaks_2 : List UInt8 := [42, 180, 1, 94, 4, 160, 0, 41, 42, 180, 0, 78, 28, 51, 154, 0, 6, 167, 0, 23, 42, 28, 16, 9]
abbrev dktX1_leaks_2 : List UInt8 := dkwX1_leaks_2 ++ dktX1_leaks_3
def dkwX1_leaks_1 : List UInt8 := [153, 0, 7, 10, 167, 0, 4, 9, 182, 1, 97, 3, 61, 28, 42, 180, 0, 117, 16, 9, 104, 162, 0, 49]
abbrev dktX1_leaks_1 : List UInt8 := dkwX1_leaks_1 ++ dktX1_leaks_2
def dkwX1_leaks_0 : List UInt8 := [42, 182, 1, 170, 60, 42, 16, 54, 182, 1, 167, 42, 3, 181, 1, 94, 42, 42, 180, 0, 78, 16, 54, 51]
abbrev dktX1_leaks_0 : List UInt8 := dkwX1_leaks_0 ++ dktX1_leaks_1
theorem dksX1_leaks_0 : cX1_leaks.data.toList.drop 0 = dktX1_leaks_0 := by decide +kernel
theorem dksX1_leaks_1 : cX1_leaks.data.toList.drop 24 = dktX1_leaks_1 := dk_seg dksX1_leaks_0 24 rfl rfl
theorem dksX1_leaks_2 : cX1_leaks.data.toList.drop 48 = dktX1_leaks_2 := dk_seg dksX1_leaks_1 24 rfl rfl
theorem dksX1_leaks_3 : cX1_leaks.data.toList.drop 72 = dktX1_leaks_3 := dk_seg dksX1_leaks_2 24 rfl rfl
theorem dX1_leaks_0 : decode cX1_leaks 0 = .ok (.aload_n 0, 1) := dk_42 (dk_at dksX1_leaks_0 0 rfl rfl)
theorem dX1_leaks_1 : decode cX1_leaks 1 = .ok (.invokevirtual 426, 3) := dk_182 1 170 (dk_at dksX1_leaks_0 1 rfl rfl)
theorem dX1_leaks_4 : decode cX1_leaks 4 = .ok (.istore_n 1, 1) := dk_60 (dk_at dksX1_leaks_0 4 rfl rfl)
theorem dX1_leaks_5 : decode cX1_leaks 5 = .ok (.aload_n 0, 1) := dk_42 (dk_at dksX1_leaks_0 5 rfl rfl)
theorem dX1_leaks_6 : decode cX1_leaks 6 = .ok (.bipush 54, 2) := dk_16 54 (dk_at dksX1_leaks_0 6 rfl rfl)
theorem dX1_leaks_8 : decode cX1_leaks 8 = .ok (.invokevirtual 423, 3) := dk_182 1 167 (dk_at dksX1_leaks_0 8 rfl rfl)
theorem dX1_leaks_11 : decode cX1_leaks 11 = .ok (.aload_n 0, 1) := dk_42 (dk_at dksX1_leaks_0 11 rfl rfl)
theorem dX1_leaks_12 : decode cX1_leaks 12 = .ok (.iconst 0, 1) := dk_3 (dk_at dksX1_leaks_0 12 rfl rfl)
theorem dX1_leaks_13 : decode cX1_leaks 13 = .ok (.putfield 350, 3) := dk_181 1 94 (dk_at dksX1_leaks_0 13 rfl rfl)
theorem dX1_leaks_16 : decode cX1_leaks 16 = .ok (.aload_n 0, 1) := dk_42 (dk_at dksX1_leaks_0 16 rfl rfl)
theorem dX1_leaks_17 : decode cX1_leaks 17 = .ok (.aload_n 0, 1) := dk_42 (dk_at dksX1_leaks_0 17 rfl rfl)
theorem dX1_leaks_18 : decode cX1_leaks 18 = .ok (.getfield 78, 3) := dk_180 0 78 (dk_at dksX1_leaks_0 18 rfl rfl)
theorem dX1_leaks_21 : decode cX1_leaks 21 = .ok (.bipush 54, 2) := dk_16 54 (dk_at dksX1_leaks_0 21 rfl rfl)
theorem dX1_leaks_23 : decode cX1_leaks 23 = .ok (.baload, 1) := dk_51 (dk_at dksX1_leaks_0 23 rfl rfl)
theorem dX1_leaks_24 : decode cX1_leaks 24 = .ok (.ifCond .eq 7, 3) := dk_153 0 7 (dk_at dksX1_leaks_1 0 rfl rfl)
theorem dX1_leaks_27 : decode cX1_leaks 27 = .ok (.lconst 1, 1) := dk_10 (dk_at dksX1_leaks_1 3 rfl rfl)
theorem dX1_leaks_28 : decode cX1_leaks 28 = .ok (.goto 4, 3) := dk_167 0 4 (dk_at dksX1_leaks_1 4 rfl rfl)
theorem dX1_leaks_31 : decode cX1_leaks 31 = .ok (.lconst 0, 1) := dk_9 (dk_at dksX1_leaks_1 7 rfl rfl)
theorem dX1_leaks_32 : decode cX1_leaks 32 = .ok (.invokevirtual 353, 3) := dk_182 1 97 (dk_at dksX1_leaks_1 8 rfl rfl)
theorem dX1_leaks_35 : decode cX1_leaks 35 = .ok (.iconst 0, 1) := dk_3 (dk_at dksX1_leaks_1 11 rfl rfl)
theorem dX1_leaks_36 : decode cX1_leaks 36 = .ok (.istore_n 2, 1) := dk_61 (dk_at dksX1_leaks_1 12 rfl rfl)
theorem dX1_leaks_37 : decode cX1_leaks 37 = .ok (.iload_n 2, 1) := dk_28 (dk_at dksX1_leaks_1 13 rfl rfl)
theorem dX1_leaks_38 : decode cX1_leaks 38 = .ok (.aload_n 0, 1) := dk_42 (dk_at dksX1_leaks_1 14 rfl rfl)
theorem dX1_leaks_39 : decode cX1_leaks 39 = .ok (.getfield 117, 3) := dk_180 0 117 (dk_at dksX1_leaks_1 15 rfl rfl)
theorem dX1_leaks_42 : decode cX1_leaks 42 = .ok (.bipush 9, 2) := dk_16 9 (dk_at dksX1_leaks_1 18 rfl rfl)
theorem dX1_leaks_44 : decode cX1_leaks 44 = .ok (.imul, 1) := dk_104 (dk_at dksX1_leaks_1 20 rfl rfl)
theorem dX1_leaks_45 : decode cX1_leaks 45 = .ok (.if_icmp .ge 49, 3) := dk_162 0 49 (dk_at dksX1_leaks_1 21 rfl rfl)
theorem dX1_leaks_48 : decode cX1_leaks 48 = .ok (.aload_n 0, 1) := dk_42 (dk_at dksX1_leaks_2 0 rfl rfl)
theorem dX1_leaks_49 : decode cX1_leaks 49 = .ok (.getfield 350, 3) := dk_180 1 94 (dk_at dksX1_leaks_2 1 rfl rfl)
theorem dX1_leaks_52 : decode cX1_leaks 52 = .ok (.iconst 1, 1) := dk_4 (dk_at dksX1_leaks_2 4 rfl rfl)
theorem dX1_leaks_53 : decode cX1_leaks 53 = .ok (.if_icmp .ne 41, 3) := dk_160 0 41 (dk_at dksX1_leaks_2 5 rfl rfl)
theorem dX1_leaks_56 : decode cX1_leaks 56 = .ok (.aload_n 0, 1) := dk_42 (dk_at dksX1_leaks_2 8 rfl rfl)
theorem dX1_leaks_57 : decode cX1_leaks 57 = .ok (.getfield 78, 3) := dk_180 0 78 (dk_at dksX1_leaks_2 9 rfl rfl)
theorem dX1_leaks_60 : decode cX1_leaks 60 = .ok (.iload_n 2, 1) := dk_28 (dk_at dksX1_leaks_2 12 rfl rfl)
theorem dX1_leaks_61 : decode cX1_leaks 61 = .ok (.baload, 1) := dk_51 (dk_at dksX1_leaks_2 13 rfl rfl)
theorem dX1_leaks_62 : decode cX1_leaks 62 = .ok (.ifCond .ne 6, 3) := dk_154 0 6 (dk_at dksX1_leaks_2 14 rfl rfl)
theorem dX1_leaks_65 : decode cX1_leaks 65 = .ok (.goto 23, 3) := dk_167 0 23 (dk_at dksX1_leaks_2 17 rfl rfl)
theorem dX1_leaks_68 : decode cX1_leaks 68 = .ok (.aload_n 0, 1) := dk_42 (dk_at dksX1_leaks_2 20 rfl rfl)
theorem dX1_leaks_69 : decode cX1_leaks 69 = .ok (.iload_n 2, 1) := dk_28 (dk_at dksX1_leaks_2 21 rfl rfl)
theorem dX1_leaks_70 : decode cX1_leaks 70 = .ok (.bipush 9, 2) := dk_16 9 (dk_at dksX1_leaks_2 22 rfl rfl)
theorem dX1_leaks_72 : decode cX1_leaks 72 = .ok (.idiv, 1) := dk_108 (dk_at dksX1_leaks_3 0 rfl rfl)
theorem dX1_leaks_73 : decode cX1_leaks 73 = .ok (.i2l, 1) := dk_133 (dk_at dksX1_leaks_3 1 rfl rfl)
theorem dX1_leaks_74 : decode cX1_leaks 74 = .ok (.invokevirtual 353, 3) := dk_182 1 97 (dk_at dksX1_leaks_3 2 rfl rfl)
theorem dX1_leaks_77 : decode cX1_leaks 77 = .ok (.aload_n 0, 1) := dk_42 (dk_at dksX1_leaks_3 5 rfl rfl)
theorem dX1_leaks_78 : decode cX1_leaks 78 = .ok (.iconst 1, 1) := dk_4 (dk_at dksX1_leaks_3 6 rfl rfl)
theorem dX1_leaks_79 : decode cX1_leaks 79 = .ok (.iload_n 2, 1) := dk_28 (dk_at dksX1_leaks_3 7 rfl rfl)
theorem dX1_leaks_80 : decode cX1_leaks 80 = .ok (.bipush 9, 2) := dk_16 9 (dk_at dksX1_leaks_3 8 rfl rfl)
theorem dX1_leaks_82 : decode cX1_leaks 82 = .ok (.irem, 1) := dk_112 (dk_at dksX1_leaks_3 10 rfl rfl)
theorem dX1_leaks_83 : decode cX1_leaks 83 = .ok (.iadd, 1) := dk_96 (dk_at dksX1_leaks_3 11 rfl rfl)
theorem dX1_leaks_84 : decode cX1_leaks 84 = .ok (.i2l, 1) := dk_133 (dk_at dksX1_leaks_3 12 rfl rfl)
theorem dX1_leaks_85 : decode cX1_leaks 85 = .ok (.invokevirtual 353, 3) := dk_182 1 97 (dk_at dksX1_leaks_3 13 rfl rfl)
theorem dX1_leaks_88 : decode cX1_leaks 88 = .ok (.iinc 2 1, 3) := dk_132 2 1 (dk_at dksX1_leaks_3 16 rfl rfl)
theorem dX1_leaks_91 : decode cX1_leaks 91 = .ok (.goto (-54), 3) := dk_167 255 202 (dk_at dksX1_leaks_3 19 rfl rfl)
theorem dX1_leaks_94 : decode cX1_leaks 94 = .ok (.iload_n 1, 1) := dk_27 (dk_at dksX1_leaks_3 22 rfl rfl)
theorem dX1_leaks_95 : decode cX1_leaks 95 = .ok (.ireturn, 1) := dk_172 (dk_at dksX1_leaks_3 23 rfl rfl)
abbrev cX1_laysLeaks : ByteArray := prog_1_method_77_code
def yX1_laysLeaks : MethodName := ⟨RX1, "laysLeaks", "()I"⟩
def dkwX1_laysLeaks_1 : List UInt8 := [180, 0, 78, 28, 51, 153, 0, 7, 4, 167, 0, 4, 3, 96, 60, 132, 2, 1, 167, 255, 220, 27, 172]
abbrev dktX1_laysLeaks_1 : List UInt8 := dkwX1_laysLeaks_1 ++ []
def dkwX1_laysLeaks_0 : List UInt8 := [3, 60, 3, 61, 28, 42, 180, 0, 117, 16, 9, 104, 162, 0, 31, 42, 28, 182, 1, 167, 27, 42]
abbrev dktX1_laysLeaks_0 : List UInt8 := dkwX1_laysLeaks_0 ++ dktX1_laysLeaks_1
theorem dksX1_laysLeaks_0 : cX1_laysLeaks.data.toList.drop 0 = dktX1_laysLeaks_0 := by decide +kernel
theorem dksX1_laysLeaks_1 : cX1_laysLeaks.data.toList.drop 22 = dktX1_laysLeaks_1 := dk_seg dksX1_laysLeaks_0 22 rfl rfl
theorem dX1_laysLeaks_0 : decode cX1_laysLeaks 0 = .ok (.iconst 0, 1) := dk_3 (dk_at dksX1_laysLeaks_0 0 rfl rfl)
theorem dX1_laysLeaks_1 : decode cX1_laysLeaks 1 = .ok (.istore_n 1, 1) := dk_60 (dk_at dksX1_laysLeaks_0 1 rfl rfl)
theorem dX1_laysLeaks_2 : decode cX1_laysLeaks 2 = .ok (.iconst 0, 1) := dk_3 (dk_at dksX1_laysLeaks_0 2 rfl rfl)
theorem dX1_laysLeaks_3 : decode cX1_laysLeaks 3 = .ok (.istore_n 2, 1) := dk_61 (dk_at dksX1_laysLeaks_0 3 rfl rfl)
theorem dX1_laysLeaks_4 : decode cX1_laysLeaks 4 = .ok (.iload_n 2, 1) := dk_28 (dk_at dksX1_laysLeaks_0 4 rfl rfl)
theorem dX1_laysLeaks_5 : decode cX1_laysLeaks 5 = .ok (.aload_n 0, 1) := dk_42 (dk_at dksX1_laysLeaks_0 5 rfl rfl)
theorem dX1_laysLeaks_6 : decode cX1_laysLeaks 6 = .ok (.getfield 117, 3) := dk_180 0 117 (dk_at dksX1_laysLeaks_0 6 rfl rfl)
theorem dX1_laysLeaks_9 : decode cX1_laysLeaks 9 = .ok (.bipush 9, 2) := dk_16 9 (dk_at dksX1_laysLeaks_0 9 rfl rfl)
theorem dX1_laysLeaks_11 : decode cX1_laysLeaks 11 = .ok (.imul, 1) := dk_104 (dk_at dksX1_laysLeaks_0 11 rfl rfl)
theorem dX1_laysLeaks_12 : decode cX1_laysLeaks 12 = .ok (.if_icmp .ge 31, 3) := dk_162 0 31 (dk_at dksX1_laysLeaks_0 12 rfl rfl)
theorem dX1_laysLeaks_15 : decode cX1_laysLeaks 15 = .ok (.aload_n 0, 1) := dk_42 (dk_at dksX1_laysLeaks_0 15 rfl rfl)
theorem dX1_laysLeaks_16 : decode cX1_laysLeaks 16 = .ok (.iload_n 2, 1) := dk_28 (dk_at dksX1_laysLeaks_0 16 rfl rfl)
theorem dX1_laysLeaks_17 : decode cX1_laysLeaks 17 = .ok (.invokevirtual 423, 3) := dk_182 1 167 (dk_at dksX1_laysLeaks_0 17 rfl rfl)
theorem dX1_laysLeaks_20 : decode cX1_laysLeaks 20 = .ok (.iload_n 1, 1) := dk_27 (dk_at dksX1_laysLeaks_0 20 rfl rfl)
theorem dX1_laysLeaks_21 : decode cX1_laysLeaks 21 = .ok (.aload_n 0, 1) := dk_42 (dk_at dksX1_laysLeaks_0 21 rfl rfl)
theorem dX1_laysLeaks_22 : decode cX1_laysLeaks 22 = .ok (.getfield 78, 3) := dk_180 0 78 (dk_at dksX1_laysLeaks_1 0 rfl rfl)
theorem dX1_laysLeaks_25 : decode cX1_laysLeaks 25 = .ok (.iload_n 2, 1) := dk_28 (dk_at dksX1_laysLeaks_1 3 rfl rfl)
theorem dX1_laysLeaks_26 : decode cX1_laysLeaks 26 = .ok (.baload, 1) := dk_51 (dk_at dksX1_laysLeaks_1 4 rfl rfl)
theorem dX1_laysLeaks_27 : decode cX1_laysLeaks 27 = .ok (.ifCond .eq 7, 3) := dk_153 0 7 (dk_at dksX1_laysLeaks_1 5 rfl rfl)
theorem dX1_laysLeaks_30 : decode cX1_laysLeaks 30 = .ok (.iconst 1, 1) := dk_4 (dk_at dksX1_laysLeaks_1 8 rfl rfl)
theorem dX1_laysLeaks_31 : decode cX1_laysLeaks 31 = .ok (.goto 4, 3) := dk_167 0 4 (dk_at dksX1_laysLeaks_1 9 rfl rfl)
theorem dX1_laysLeaks_34 : decode cX1_laysLeaks 34 = .ok (.iconst 0, 1) := dk_3 (dk_at dksX1_laysLeaks_1 12 rfl rfl)
theorem dX1_laysLeaks_35 : decode cX1_laysLeaks 35 = .ok (.iadd, 1) := dk_96 (dk_at dksX1_laysLeaks_1 13 rfl rfl)
theorem dX1_laysLeaks_36 : decode cX1_laysLeaks 36 = .ok (.istore_n 1, 1) := dk_60 (dk_at dksX1_laysLeaks_1 14 rfl rfl)
theorem dX1_laysLeaks_37 : decode cX1_laysLeaks 37 = .ok (.iinc 2 1, 3) := dk_132 2 1 (dk_at dksX1_laysLeaks_1 15 rfl rfl)
theorem dX1_laysLeaks_40 : decode cX1_laysLeaks 40 = .ok (.goto (-36), 3) := dk_167 255 220 (dk_at dksX1_laysLeaks_1 18 rfl rfl)
theorem dX1_laysLeaks_43 : decode cX1_laysLeaks 43 = .ok (.iload_n 1, 1) := dk_27 (dk_at dksX1_laysLeaks_1 21 rfl rfl)
theorem dX1_laysLeaks_44 : decode cX1_laysLeaks 44 = .ok (.ireturn, 1) := dk_172 (dk_at dksX1_laysLeaks_1 22 rfl rfl)
abbrev cX1_laysLevels : ByteArray := prog_1_method_76_code
def yX1_laysLevels : MethodName := ⟨RX1, "laysLevels", "(I)V"⟩
def dkwX1_laysLevels_6 : List UInt8 := [84, 132, 2, 1, 167, 255, 201, 177]
abbrev dktX1_laysLevels_6 : List UInt8 := dkwX1_laysLevels_6 ++ []
def dkwX1_laysLevels_5 : List UInt8 := [180, 0, 72, 28, 46, 184, 1, 163, 46, 42, 180, 0, 75, 28, 46, 160, 0, 7, 4, 167, 0, 4, 3, 126]
abbrev dktX1_laysLevels_5 : List UInt8 := dkwX1_laysLevels_5 ++ dktX1_laysLevels_6
def dkwX1_laysLevels_4 : List UInt8 := [162, 0, 53, 42, 180, 0, 78, 27, 92, 51, 42, 180, 0, 82, 27, 42, 180, 0, 69, 28, 46, 42]
abbrev dktX1_laysLevels_4 : List UInt8 := dkwX1_laysLevels_4 ++ dktX1_laysLevels_5
def dkwX1_laysLevels_3 : List UInt8 := [182, 1, 74, 132, 2, 1, 167, 255, 193, 42, 180, 0, 78, 27, 4, 84, 3, 61, 28, 42, 180, 1, 160]
abbrev dktX1_laysLevels_3 : List UInt8 := dkwX1_laysLevels_3 ++ dktX1_laysLevels_4
def dkwX1_laysLevels_2 : List UInt8 := [46, 79, 132, 3, 1, 167, 255, 225, 42, 42, 180, 0, 16, 27, 16, 9, 108, 4, 27, 16, 9, 112, 96]
abbrev dktX1_laysLevels_2 : List UInt8 := dkwX1_laysLevels_2 ++ dktX1_laysLevels_3
def dkwX1_laysLevels_1 : List UInt8 := [180, 0, 117, 162, 0, 29, 42, 180, 0, 82, 27, 29, 28, 184, 1, 163, 42, 180, 0, 16, 180, 0, 133, 29]
abbrev dktX1_laysLevels_1 : List UInt8 := dkwX1_laysLevels_1 ++ dktX1_laysLevels_2
def dkwX1_laysLevels_0 : List UInt8 := [42, 180, 0, 16, 42, 180, 0, 12, 182, 1, 58, 3, 61, 28, 16, 20, 163, 0, 63, 3, 62, 29, 42]
abbrev dktX1_laysLevels_0 : List UInt8 := dkwX1_laysLevels_0 ++ dktX1_laysLevels_1
theorem dksX1_laysLevels_0 : cX1_laysLevels.data.toList.drop 0 = dktX1_laysLevels_0 := by decide +kernel
theorem dksX1_laysLevels_1 : cX1_laysLevels.data.toList.drop 23 = dktX1_laysLevels_1 := dk_seg dksX1_laysLevels_0 23 rfl rfl
theorem dksX1_laysLevels_2 : cX1_laysLevels.data.toList.drop 47 = dktX1_laysLevels_2 := dk_seg dksX1_laysLevels_1 24 rfl rfl
theorem dksX1_laysLevels_3 : cX1_laysLevels.data.toList.drop 70 = dktX1_laysLevels_3 := dk_seg dksX1_laysLevels_2 23 rfl rfl
theorem dksX1_laysLevels_4 : cX1_laysLevels.data.toList.drop 93 = dktX1_laysLevels_4 := dk_seg dksX1_laysLevels_3 23 rfl rfl
theorem dksX1_laysLevels_5 : cX1_laysLevels.data.toList.drop 115 = dktX1_laysLevels_5 := dk_seg dksX1_laysLevels_4 22 rfl rfl
theorem dksX1_laysLevels_6 : cX1_laysLevels.data.toList.drop 139 = dktX1_laysLevels_6 := dk_seg dksX1_laysLevels_5 24 rfl rfl
theorem dX1_laysLevels_0 : decode cX1_laysLevels 0 = .ok (.aload_n 0, 1) := dk_42 (dk_at dksX1_laysLevels_0 0 rfl rfl)
theorem dX1_laysLevels_1 : decode cX1_laysLevels 1 = .ok (.getfield 16, 3) := dk_180 0 16 (dk_at dksX1_laysLevels_0 1 rfl rfl)
theorem dX1_laysLevels_4 : decode cX1_laysLevels 4 = .ok (.aload_n 0, 1) := dk_42 (dk_at dksX1_laysLevels_0 4 rfl rfl)
theorem dX1_laysLevels_5 : decode cX1_laysLevels 5 = .ok (.getfield 12, 3) := dk_180 0 12 (dk_at dksX1_laysLevels_0 5 rfl rfl)
theorem dX1_laysLevels_8 : decode cX1_laysLevels 8 = .ok (.invokevirtual 314, 3) := dk_182 1 58 (dk_at dksX1_laysLevels_0 8 rfl rfl)
theorem dX1_laysLevels_11 : decode cX1_laysLevels 11 = .ok (.iconst 0, 1) := dk_3 (dk_at dksX1_laysLevels_0 11 rfl rfl)
theorem dX1_laysLevels_12 : decode cX1_laysLevels 12 = .ok (.istore_n 2, 1) := dk_61 (dk_at dksX1_laysLevels_0 12 rfl rfl)
theorem dX1_laysLevels_13 : decode cX1_laysLevels 13 = .ok (.iload_n 2, 1) := dk_28 (dk_at dksX1_laysLevels_0 13 rfl rfl)
theorem dX1_laysLevels_14 : decode cX1_laysLevels 14 = .ok (.bipush 20, 2) := dk_16 20 (dk_at dksX1_laysLevels_0 14 rfl rfl)
theorem dX1_laysLevels_16 : decode cX1_laysLevels 16 = .ok (.if_icmp .gt 63, 3) := dk_163 0 63 (dk_at dksX1_laysLevels_0 16 rfl rfl)
theorem dX1_laysLevels_19 : decode cX1_laysLevels 19 = .ok (.iconst 0, 1) := dk_3 (dk_at dksX1_laysLevels_0 19 rfl rfl)
theorem dX1_laysLevels_20 : decode cX1_laysLevels 20 = .ok (.istore_n 3, 1) := dk_62 (dk_at dksX1_laysLevels_0 20 rfl rfl)
theorem dX1_laysLevels_21 : decode cX1_laysLevels 21 = .ok (.iload_n 3, 1) := dk_29 (dk_at dksX1_laysLevels_0 21 rfl rfl)
theorem dX1_laysLevels_22 : decode cX1_laysLevels 22 = .ok (.aload_n 0, 1) := dk_42 (dk_at dksX1_laysLevels_0 22 rfl rfl)
theorem dX1_laysLevels_23 : decode cX1_laysLevels 23 = .ok (.getfield 117, 3) := dk_180 0 117 (dk_at dksX1_laysLevels_1 0 rfl rfl)
theorem dX1_laysLevels_26 : decode cX1_laysLevels 26 = .ok (.if_icmp .ge 29, 3) := dk_162 0 29 (dk_at dksX1_laysLevels_1 3 rfl rfl)
theorem dX1_laysLevels_29 : decode cX1_laysLevels 29 = .ok (.aload_n 0, 1) := dk_42 (dk_at dksX1_laysLevels_1 6 rfl rfl)
theorem dX1_laysLevels_30 : decode cX1_laysLevels 30 = .ok (.getfield 82, 3) := dk_180 0 82 (dk_at dksX1_laysLevels_1 7 rfl rfl)
theorem dX1_laysLevels_33 : decode cX1_laysLevels 33 = .ok (.iload_n 1, 1) := dk_27 (dk_at dksX1_laysLevels_1 10 rfl rfl)
theorem dX1_laysLevels_34 : decode cX1_laysLevels 34 = .ok (.iload_n 3, 1) := dk_29 (dk_at dksX1_laysLevels_1 11 rfl rfl)
theorem dX1_laysLevels_35 : decode cX1_laysLevels 35 = .ok (.iload_n 2, 1) := dk_28 (dk_at dksX1_laysLevels_1 12 rfl rfl)
theorem dX1_laysLevels_36 : decode cX1_laysLevels 36 = .ok (.invokestatic 419, 3) := dk_184 1 163 (dk_at dksX1_laysLevels_1 13 rfl rfl)
theorem dX1_laysLevels_39 : decode cX1_laysLevels 39 = .ok (.aload_n 0, 1) := dk_42 (dk_at dksX1_laysLevels_1 16 rfl rfl)
theorem dX1_laysLevels_40 : decode cX1_laysLevels 40 = .ok (.getfield 16, 3) := dk_180 0 16 (dk_at dksX1_laysLevels_1 17 rfl rfl)
theorem dX1_laysLevels_43 : decode cX1_laysLevels 43 = .ok (.getfield 133, 3) := dk_180 0 133 (dk_at dksX1_laysLevels_1 20 rfl rfl)
theorem dX1_laysLevels_46 : decode cX1_laysLevels 46 = .ok (.iload_n 3, 1) := dk_29 (dk_at dksX1_laysLevels_1 23 rfl rfl)
theorem dX1_laysLevels_47 : decode cX1_laysLevels 47 = .ok (.iaload, 1) := dk_46 (dk_at dksX1_laysLevels_2 0 rfl rfl)
theorem dX1_laysLevels_48 : decode cX1_laysLevels 48 = .ok (.iastore, 1) := dk_79 (dk_at dksX1_laysLevels_2 1 rfl rfl)
theorem dX1_laysLevels_49 : decode cX1_laysLevels 49 = .ok (.iinc 3 1, 3) := dk_132 3 1 (dk_at dksX1_laysLevels_2 2 rfl rfl)
theorem dX1_laysLevels_52 : decode cX1_laysLevels 52 = .ok (.goto (-31), 3) := dk_167 255 225 (dk_at dksX1_laysLevels_2 5 rfl rfl)
theorem dX1_laysLevels_55 : decode cX1_laysLevels 55 = .ok (.aload_n 0, 1) := dk_42 (dk_at dksX1_laysLevels_2 8 rfl rfl)
theorem dX1_laysLevels_56 : decode cX1_laysLevels 56 = .ok (.aload_n 0, 1) := dk_42 (dk_at dksX1_laysLevels_2 9 rfl rfl)
theorem dX1_laysLevels_57 : decode cX1_laysLevels 57 = .ok (.getfield 16, 3) := dk_180 0 16 (dk_at dksX1_laysLevels_2 10 rfl rfl)
theorem dX1_laysLevels_60 : decode cX1_laysLevels 60 = .ok (.iload_n 1, 1) := dk_27 (dk_at dksX1_laysLevels_2 13 rfl rfl)
theorem dX1_laysLevels_61 : decode cX1_laysLevels 61 = .ok (.bipush 9, 2) := dk_16 9 (dk_at dksX1_laysLevels_2 14 rfl rfl)
theorem dX1_laysLevels_63 : decode cX1_laysLevels 63 = .ok (.idiv, 1) := dk_108 (dk_at dksX1_laysLevels_2 16 rfl rfl)
theorem dX1_laysLevels_64 : decode cX1_laysLevels 64 = .ok (.iconst 1, 1) := dk_4 (dk_at dksX1_laysLevels_2 17 rfl rfl)
theorem dX1_laysLevels_65 : decode cX1_laysLevels 65 = .ok (.iload_n 1, 1) := dk_27 (dk_at dksX1_laysLevels_2 18 rfl rfl)
theorem dX1_laysLevels_66 : decode cX1_laysLevels 66 = .ok (.bipush 9, 2) := dk_16 9 (dk_at dksX1_laysLevels_2 19 rfl rfl)
theorem dX1_laysLevels_68 : decode cX1_laysLevels 68 = .ok (.irem, 1) := dk_112 (dk_at dksX1_laysLevels_2 21 rfl rfl)
theorem dX1_laysLevels_69 : decode cX1_laysLevels 69 = .ok (.iadd, 1) := dk_96 (dk_at dksX1_laysLevels_2 22 rfl rfl)
theorem dX1_laysLevels_70 : decode cX1_laysLevels 70 = .ok (.invokevirtual 330, 3) := dk_182 1 74 (dk_at dksX1_laysLevels_3 0 rfl rfl)
theorem dX1_laysLevels_73 : decode cX1_laysLevels 73 = .ok (.iinc 2 1, 3) := dk_132 2 1 (dk_at dksX1_laysLevels_3 3 rfl rfl)
theorem dX1_laysLevels_76 : decode cX1_laysLevels 76 = .ok (.goto (-63), 3) := dk_167 255 193 (dk_at dksX1_laysLevels_3 6 rfl rfl)
theorem dX1_laysLevels_79 : decode cX1_laysLevels 79 = .ok (.aload_n 0, 1) := dk_42 (dk_at dksX1_laysLevels_3 9 rfl rfl)
theorem dX1_laysLevels_80 : decode cX1_laysLevels 80 = .ok (.getfield 78, 3) := dk_180 0 78 (dk_at dksX1_laysLevels_3 10 rfl rfl)
theorem dX1_laysLevels_83 : decode cX1_laysLevels 83 = .ok (.iload_n 1, 1) := dk_27 (dk_at dksX1_laysLevels_3 13 rfl rfl)
theorem dX1_laysLevels_84 : decode cX1_laysLevels 84 = .ok (.iconst 1, 1) := dk_4 (dk_at dksX1_laysLevels_3 14 rfl rfl)
theorem dX1_laysLevels_85 : decode cX1_laysLevels 85 = .ok (.bastore, 1) := dk_84 (dk_at dksX1_laysLevels_3 15 rfl rfl)
theorem dX1_laysLevels_86 : decode cX1_laysLevels 86 = .ok (.iconst 0, 1) := dk_3 (dk_at dksX1_laysLevels_3 16 rfl rfl)
theorem dX1_laysLevels_87 : decode cX1_laysLevels 87 = .ok (.istore_n 2, 1) := dk_61 (dk_at dksX1_laysLevels_3 17 rfl rfl)
theorem dX1_laysLevels_88 : decode cX1_laysLevels 88 = .ok (.iload_n 2, 1) := dk_28 (dk_at dksX1_laysLevels_3 18 rfl rfl)
theorem dX1_laysLevels_89 : decode cX1_laysLevels 89 = .ok (.aload_n 0, 1) := dk_42 (dk_at dksX1_laysLevels_3 19 rfl rfl)
theorem dX1_laysLevels_90 : decode cX1_laysLevels 90 = .ok (.getfield 416, 3) := dk_180 1 160 (dk_at dksX1_laysLevels_3 20 rfl rfl)
theorem dX1_laysLevels_93 : decode cX1_laysLevels 93 = .ok (.if_icmp .ge 53, 3) := dk_162 0 53 (dk_at dksX1_laysLevels_4 0 rfl rfl)
theorem dX1_laysLevels_96 : decode cX1_laysLevels 96 = .ok (.aload_n 0, 1) := dk_42 (dk_at dksX1_laysLevels_4 3 rfl rfl)
theorem dX1_laysLevels_97 : decode cX1_laysLevels 97 = .ok (.getfield 78, 3) := dk_180 0 78 (dk_at dksX1_laysLevels_4 4 rfl rfl)
theorem dX1_laysLevels_100 : decode cX1_laysLevels 100 = .ok (.iload_n 1, 1) := dk_27 (dk_at dksX1_laysLevels_4 7 rfl rfl)
theorem dX1_laysLevels_101 : decode cX1_laysLevels 101 = .ok (.dup2, 1) := dk_92 (dk_at dksX1_laysLevels_4 8 rfl rfl)
theorem dX1_laysLevels_102 : decode cX1_laysLevels 102 = .ok (.baload, 1) := dk_51 (dk_at dksX1_laysLevels_4 9 rfl rfl)
theorem dX1_laysLevels_103 : decode cX1_laysLevels 103 = .ok (.aload_n 0, 1) := dk_42 (dk_at dksX1_laysLevels_4 10 rfl rfl)
theorem dX1_laysLevels_104 : decode cX1_laysLevels 104 = .ok (.getfield 82, 3) := dk_180 0 82 (dk_at dksX1_laysLevels_4 11 rfl rfl)
theorem dX1_laysLevels_107 : decode cX1_laysLevels 107 = .ok (.iload_n 1, 1) := dk_27 (dk_at dksX1_laysLevels_4 14 rfl rfl)
theorem dX1_laysLevels_108 : decode cX1_laysLevels 108 = .ok (.aload_n 0, 1) := dk_42 (dk_at dksX1_laysLevels_4 15 rfl rfl)
theorem dX1_laysLevels_109 : decode cX1_laysLevels 109 = .ok (.getfield 69, 3) := dk_180 0 69 (dk_at dksX1_laysLevels_4 16 rfl rfl)
theorem dX1_laysLevels_112 : decode cX1_laysLevels 112 = .ok (.iload_n 2, 1) := dk_28 (dk_at dksX1_laysLevels_4 19 rfl rfl)
theorem dX1_laysLevels_113 : decode cX1_laysLevels 113 = .ok (.iaload, 1) := dk_46 (dk_at dksX1_laysLevels_4 20 rfl rfl)
theorem dX1_laysLevels_114 : decode cX1_laysLevels 114 = .ok (.aload_n 0, 1) := dk_42 (dk_at dksX1_laysLevels_4 21 rfl rfl)
theorem dX1_laysLevels_115 : decode cX1_laysLevels 115 = .ok (.getfield 72, 3) := dk_180 0 72 (dk_at dksX1_laysLevels_5 0 rfl rfl)
theorem dX1_laysLevels_118 : decode cX1_laysLevels 118 = .ok (.iload_n 2, 1) := dk_28 (dk_at dksX1_laysLevels_5 3 rfl rfl)
theorem dX1_laysLevels_119 : decode cX1_laysLevels 119 = .ok (.iaload, 1) := dk_46 (dk_at dksX1_laysLevels_5 4 rfl rfl)
theorem dX1_laysLevels_120 : decode cX1_laysLevels 120 = .ok (.invokestatic 419, 3) := dk_184 1 163 (dk_at dksX1_laysLevels_5 5 rfl rfl)
theorem dX1_laysLevels_123 : decode cX1_laysLevels 123 = .ok (.iaload, 1) := dk_46 (dk_at dksX1_laysLevels_5 8 rfl rfl)
theorem dX1_laysLevels_124 : decode cX1_laysLevels 124 = .ok (.aload_n 0, 1) := dk_42 (dk_at dksX1_laysLevels_5 9 rfl rfl)
theorem dX1_laysLevels_125 : decode cX1_laysLevels 125 = .ok (.getfield 75, 3) := dk_180 0 75 (dk_at dksX1_laysLevels_5 10 rfl rfl)
theorem dX1_laysLevels_128 : decode cX1_laysLevels 128 = .ok (.iload_n 2, 1) := dk_28 (dk_at dksX1_laysLevels_5 13 rfl rfl)
theorem dX1_laysLevels_129 : decode cX1_laysLevels 129 = .ok (.iaload, 1) := dk_46 (dk_at dksX1_laysLevels_5 14 rfl rfl)
theorem dX1_laysLevels_130 : decode cX1_laysLevels 130 = .ok (.if_icmp .ne 7, 3) := dk_160 0 7 (dk_at dksX1_laysLevels_5 15 rfl rfl)
theorem dX1_laysLevels_133 : decode cX1_laysLevels 133 = .ok (.iconst 1, 1) := dk_4 (dk_at dksX1_laysLevels_5 18 rfl rfl)
theorem dX1_laysLevels_134 : decode cX1_laysLevels 134 = .ok (.goto 4, 3) := dk_167 0 4 (dk_at dksX1_laysLevels_5 19 rfl rfl)
theorem dX1_laysLevels_137 : decode cX1_laysLevels 137 = .ok (.iconst 0, 1) := dk_3 (dk_at dksX1_laysLevels_5 22 rfl rfl)
theorem dX1_laysLevels_138 : decode cX1_laysLevels 138 = .ok (.iand, 1) := dk_126 (dk_at dksX1_laysLevels_5 23 rfl rfl)
theorem dX1_laysLevels_139 : decode cX1_laysLevels 139 = .ok (.bastore, 1) := dk_84 (dk_at dksX1_laysLevels_6 0 rfl rfl)
theorem dX1_laysLevels_140 : decode cX1_laysLevels 140 = .ok (.iinc 2 1, 3) := dk_132 2 1 (dk_at dksX1_laysLevels_6 1 rfl rfl)
theorem dX1_laysLevels_143 : decode cX1_laysLevels 143 = .ok (.goto (-55), 3) := dk_167 255 201 (dk_at dksX1_laysLevels_6 4 rfl rfl)
theorem dX1_laysLevels_146 : decode cX1_laysLevels 146 = .ok (.return_, 1) := dk_177 (dk_at dksX1_laysLevels_6 7 rfl rfl)
abbrev cX1_place : ByteArray := prog_1_method_75_code
def yX1_place : MethodName := ⟨RX1, "place", "(III)I"⟩
def dkwX1_place_0 : List UInt8 := [26, 16, 6, 104, 27, 96, 16, 21, 104, 28, 96, 172]
abbrev dktX1_place_0 : List UInt8 := dkwX1_place_0 ++ []
theorem dksX1_place_0 : cX1_place.data.toList.drop 0 = dktX1_place_0 := by decide +kernel
theorem dX1_place_0 : decode cX1_place 0 = .ok (.iload_n 0, 1) := dk_26 (dk_at dksX1_place_0 0 rfl rfl)
theorem dX1_place_1 : decode cX1_place 1 = .ok (.bipush 6, 2) := dk_16 6 (dk_at dksX1_place_0 1 rfl rfl)
theorem dX1_place_3 : decode cX1_place 3 = .ok (.imul, 1) := dk_104 (dk_at dksX1_place_0 3 rfl rfl)
theorem dX1_place_4 : decode cX1_place 4 = .ok (.iload_n 1, 1) := dk_27 (dk_at dksX1_place_0 4 rfl rfl)
theorem dX1_place_5 : decode cX1_place 5 = .ok (.iadd, 1) := dk_96 (dk_at dksX1_place_0 5 rfl rfl)
theorem dX1_place_6 : decode cX1_place 6 = .ok (.bipush 21, 2) := dk_16 21 (dk_at dksX1_place_0 6 rfl rfl)
theorem dX1_place_8 : decode cX1_place 8 = .ok (.imul, 1) := dk_104 (dk_at dksX1_place_0 8 rfl rfl)
theorem dX1_place_9 : decode cX1_place 9 = .ok (.iload_n 2, 1) := dk_28 (dk_at dksX1_place_0 9 rfl rfl)
theorem dX1_place_10 : decode cX1_place 10 = .ok (.iadd, 1) := dk_96 (dk_at dksX1_place_0 10 rfl rfl)
theorem dX1_place_11 : decode cX1_place 11 = .ok (.ireturn, 1) := dk_172 (dk_at dksX1_place_0 11 rfl rfl)
abbrev cX1_reads : ByteArray := prog_1_method_80_code
def yX1_reads : MethodName := ⟨RX1, "reads", "()I"⟩
def dkwX1_reads_4 : List UInt8 := [172]
abbrev dktX1_reads_4 : List UInt8 := dkwX1_reads_4 ++ []
def dkwX1_reads_3 : List UInt8 := [132, 4, 1, 167, 255, 212, 132, 3, 1, 167, 255, 195, 42, 3, 181, 1, 94, 42, 28, 133, 182, 1, 97, 27]
abbrev dktX1_reads_3 : List UInt8 := dkwX1_reads_3 ++ dktX1_reads_4
def dkwX1_reads_2 : List UInt8 := [28, 162, 0, 13, 16, 21, 29, 104, 21, 4, 96, 167, 0, 4, 27, 60, 28, 21, 5, 184, 0, 152, 61]
abbrev dktX1_reads_2 : List UInt8 := dkwX1_reads_2 ++ dktX1_reads_3
def dkwX1_reads_1 : List UInt8 := [162, 0, 59, 3, 54, 4, 21, 4, 16, 20, 163, 0, 43, 42, 29, 21, 4, 182, 1, 174, 54, 5, 21, 5]
abbrev dktX1_reads_1 : List UInt8 := dkwX1_reads_1 ++ dktX1_reads_2
def dkwX1_reads_0 : List UInt8 := [42, 182, 1, 170, 154, 0, 6, 16, 254, 172, 2, 60, 19, 1, 173, 61, 3, 62, 29, 42, 180, 0, 117]
abbrev dktX1_reads_0 : List UInt8 := dkwX1_reads_0 ++ dktX1_reads_1
theorem dksX1_reads_0 : cX1_reads.data.toList.drop 0 = dktX1_reads_0 := by decide +kernel
theorem dksX1_reads_1 : cX1_reads.data.toList.drop 23 = dktX1_reads_1 := dk_seg dksX1_reads_0 23 rfl rfl
theorem dksX1_reads_2 : cX1_reads.data.toList.drop 47 = dktX1_reads_2 := dk_seg dksX1_reads_1 24 rfl rfl
theorem dksX1_reads_3 : cX1_reads.data.toList.drop 70 = dktX1_reads_3 := dk_seg dksX1_reads_2 23 rfl rfl
theorem dksX1_reads_4 : cX1_reads.data.toList.drop 94 = dktX1_reads_4 := dk_seg dksX1_reads_3 24 rfl rfl
theorem dX1_reads_0 : decode cX1_reads 0 = .ok (.aload_n 0, 1) := dk_42 (dk_at dksX1_reads_0 0 rfl rfl)
theorem dX1_reads_1 : decode cX1_reads 1 = .ok (.invokevirtual 426, 3) := dk_182 1 170 (dk_at dksX1_reads_0 1 rfl rfl)
theorem dX1_reads_4 : decode cX1_reads 4 = .ok (.ifCond .ne 6, 3) := dk_154 0 6 (dk_at dksX1_reads_0 4 rfl rfl)
theorem dX1_reads_7 : decode cX1_reads 7 = .ok (.bipush (-2), 2) := dk_16 254 (dk_at dksX1_reads_0 7 rfl rfl)
theorem dX1_reads_9 : decode cX1_reads 9 = .ok (.ireturn, 1) := dk_172 (dk_at dksX1_reads_0 9 rfl rfl)
theorem dX1_reads_10 : decode cX1_reads 10 = .ok (.iconst (-1), 1) := dk_2 (dk_at dksX1_reads_0 10 rfl rfl)
theorem dX1_reads_11 : decode cX1_reads 11 = .ok (.istore_n 1, 1) := dk_60 (dk_at dksX1_reads_0 11 rfl rfl)
theorem dX1_reads_12 : decode cX1_reads 12 = .ok (.ldc_w 429, 3) := dk_19 1 173 (dk_at dksX1_reads_0 12 rfl rfl)
theorem dX1_reads_15 : decode cX1_reads 15 = .ok (.istore_n 2, 1) := dk_61 (dk_at dksX1_reads_0 15 rfl rfl)
theorem dX1_reads_16 : decode cX1_reads 16 = .ok (.iconst 0, 1) := dk_3 (dk_at dksX1_reads_0 16 rfl rfl)
theorem dX1_reads_17 : decode cX1_reads 17 = .ok (.istore_n 3, 1) := dk_62 (dk_at dksX1_reads_0 17 rfl rfl)
theorem dX1_reads_18 : decode cX1_reads 18 = .ok (.iload_n 3, 1) := dk_29 (dk_at dksX1_reads_0 18 rfl rfl)
theorem dX1_reads_19 : decode cX1_reads 19 = .ok (.aload_n 0, 1) := dk_42 (dk_at dksX1_reads_0 19 rfl rfl)
theorem dX1_reads_20 : decode cX1_reads 20 = .ok (.getfield 117, 3) := dk_180 0 117 (dk_at dksX1_reads_0 20 rfl rfl)
theorem dX1_reads_23 : decode cX1_reads 23 = .ok (.if_icmp .ge 59, 3) := dk_162 0 59 (dk_at dksX1_reads_1 0 rfl rfl)
theorem dX1_reads_26 : decode cX1_reads 26 = .ok (.iconst 0, 1) := dk_3 (dk_at dksX1_reads_1 3 rfl rfl)
theorem dX1_reads_27 : decode cX1_reads 27 = .ok (.istore 4, 2) := dk_54 4 (dk_at dksX1_reads_1 4 rfl rfl)
theorem dX1_reads_29 : decode cX1_reads 29 = .ok (.iload 4, 2) := dk_21 4 (dk_at dksX1_reads_1 6 rfl rfl)
theorem dX1_reads_31 : decode cX1_reads 31 = .ok (.bipush 20, 2) := dk_16 20 (dk_at dksX1_reads_1 8 rfl rfl)
theorem dX1_reads_33 : decode cX1_reads 33 = .ok (.if_icmp .gt 43, 3) := dk_163 0 43 (dk_at dksX1_reads_1 10 rfl rfl)
theorem dX1_reads_36 : decode cX1_reads 36 = .ok (.aload_n 0, 1) := dk_42 (dk_at dksX1_reads_1 13 rfl rfl)
theorem dX1_reads_37 : decode cX1_reads 37 = .ok (.iload_n 3, 1) := dk_29 (dk_at dksX1_reads_1 14 rfl rfl)
theorem dX1_reads_38 : decode cX1_reads 38 = .ok (.iload 4, 2) := dk_21 4 (dk_at dksX1_reads_1 15 rfl rfl)
theorem dX1_reads_40 : decode cX1_reads 40 = .ok (.invokevirtual 430, 3) := dk_182 1 174 (dk_at dksX1_reads_1 17 rfl rfl)
theorem dX1_reads_43 : decode cX1_reads 43 = .ok (.istore 5, 2) := dk_54 5 (dk_at dksX1_reads_1 20 rfl rfl)
theorem dX1_reads_45 : decode cX1_reads 45 = .ok (.iload 5, 2) := dk_21 5 (dk_at dksX1_reads_1 22 rfl rfl)
theorem dX1_reads_47 : decode cX1_reads 47 = .ok (.iload_n 2, 1) := dk_28 (dk_at dksX1_reads_2 0 rfl rfl)
theorem dX1_reads_48 : decode cX1_reads 48 = .ok (.if_icmp .ge 13, 3) := dk_162 0 13 (dk_at dksX1_reads_2 1 rfl rfl)
theorem dX1_reads_51 : decode cX1_reads 51 = .ok (.bipush 21, 2) := dk_16 21 (dk_at dksX1_reads_2 4 rfl rfl)
theorem dX1_reads_53 : decode cX1_reads 53 = .ok (.iload_n 3, 1) := dk_29 (dk_at dksX1_reads_2 6 rfl rfl)
theorem dX1_reads_54 : decode cX1_reads 54 = .ok (.imul, 1) := dk_104 (dk_at dksX1_reads_2 7 rfl rfl)
theorem dX1_reads_55 : decode cX1_reads 55 = .ok (.iload 4, 2) := dk_21 4 (dk_at dksX1_reads_2 8 rfl rfl)
theorem dX1_reads_57 : decode cX1_reads 57 = .ok (.iadd, 1) := dk_96 (dk_at dksX1_reads_2 10 rfl rfl)
theorem dX1_reads_58 : decode cX1_reads 58 = .ok (.goto 4, 3) := dk_167 0 4 (dk_at dksX1_reads_2 11 rfl rfl)
theorem dX1_reads_61 : decode cX1_reads 61 = .ok (.iload_n 1, 1) := dk_27 (dk_at dksX1_reads_2 14 rfl rfl)
theorem dX1_reads_62 : decode cX1_reads 62 = .ok (.istore_n 1, 1) := dk_60 (dk_at dksX1_reads_2 15 rfl rfl)
theorem dX1_reads_63 : decode cX1_reads 63 = .ok (.iload_n 2, 1) := dk_28 (dk_at dksX1_reads_2 16 rfl rfl)
theorem dX1_reads_64 : decode cX1_reads 64 = .ok (.iload 5, 2) := dk_21 5 (dk_at dksX1_reads_2 17 rfl rfl)
theorem dX1_reads_66 : decode cX1_reads 66 = .ok (.invokestatic 152, 3) := dk_184 0 152 (dk_at dksX1_reads_2 19 rfl rfl)
theorem dX1_reads_69 : decode cX1_reads 69 = .ok (.istore_n 2, 1) := dk_61 (dk_at dksX1_reads_2 22 rfl rfl)
theorem dX1_reads_70 : decode cX1_reads 70 = .ok (.iinc 4 1, 3) := dk_132 4 1 (dk_at dksX1_reads_3 0 rfl rfl)
theorem dX1_reads_73 : decode cX1_reads 73 = .ok (.goto (-44), 3) := dk_167 255 212 (dk_at dksX1_reads_3 3 rfl rfl)
theorem dX1_reads_76 : decode cX1_reads 76 = .ok (.iinc 3 1, 3) := dk_132 3 1 (dk_at dksX1_reads_3 6 rfl rfl)
theorem dX1_reads_79 : decode cX1_reads 79 = .ok (.goto (-61), 3) := dk_167 255 195 (dk_at dksX1_reads_3 9 rfl rfl)
theorem dX1_reads_82 : decode cX1_reads 82 = .ok (.aload_n 0, 1) := dk_42 (dk_at dksX1_reads_3 12 rfl rfl)
theorem dX1_reads_83 : decode cX1_reads 83 = .ok (.iconst 0, 1) := dk_3 (dk_at dksX1_reads_3 13 rfl rfl)
theorem dX1_reads_84 : decode cX1_reads 84 = .ok (.putfield 350, 3) := dk_181 1 94 (dk_at dksX1_reads_3 14 rfl rfl)
theorem dX1_reads_87 : decode cX1_reads 87 = .ok (.aload_n 0, 1) := dk_42 (dk_at dksX1_reads_3 17 rfl rfl)
theorem dX1_reads_88 : decode cX1_reads 88 = .ok (.iload_n 2, 1) := dk_28 (dk_at dksX1_reads_3 18 rfl rfl)
theorem dX1_reads_89 : decode cX1_reads 89 = .ok (.i2l, 1) := dk_133 (dk_at dksX1_reads_3 19 rfl rfl)
theorem dX1_reads_90 : decode cX1_reads 90 = .ok (.invokevirtual 353, 3) := dk_182 1 97 (dk_at dksX1_reads_3 20 rfl rfl)
theorem dX1_reads_93 : decode cX1_reads 93 = .ok (.iload_n 1, 1) := dk_27 (dk_at dksX1_reads_3 23 rfl rfl)
theorem dX1_reads_94 : decode cX1_reads 94 = .ok (.ireturn, 1) := dk_172 (dk_at dksX1_reads_4 0 rfl rfl)
abbrev cX1_mostAlike : ByteArray := prog_1_method_79_code
def yX1_mostAlike : MethodName := ⟨RX1, "mostAlike", "(II)I"⟩
def dkwX1_mostAlike_3 : List UInt8 := [46, 4, 96, 79, 29, 42, 180, 0, 85, 21, 5, 46, 184, 1, 38, 62, 132, 4, 1, 167, 255, 191, 29, 172]
abbrev dktX1_mostAlike_3 : List UInt8 := dkwX1_mostAlike_3 ++ []
def dkwX1_mostAlike_2 : List UInt8 := [167, 0, 40, 42, 180, 0, 82, 21, 4, 27, 28, 184, 1, 163, 46, 54, 5, 42, 180, 0, 85, 21, 5, 92]
abbrev dktX1_mostAlike_2 : List UInt8 := dkwX1_mostAlike_2 ++ dktX1_mostAlike_3
def dkwX1_mostAlike_1 : List UInt8 := [54, 4, 21, 4, 42, 180, 0, 117, 16, 9, 104, 162, 0, 59, 42, 180, 0, 78, 21, 4, 51, 154, 0, 6]
abbrev dktX1_mostAlike_1 : List UInt8 := dkwX1_mostAlike_1 ++ dktX1_mostAlike_2
def dkwX1_mostAlike_0 : List UInt8 := [3, 62, 29, 16, 99, 163, 0, 16, 42, 180, 0, 85, 29, 3, 79, 132, 3, 1, 167, 255, 240, 3, 62, 3]
abbrev dktX1_mostAlike_0 : List UInt8 := dkwX1_mostAlike_0 ++ dktX1_mostAlike_1
theorem dksX1_mostAlike_0 : cX1_mostAlike.data.toList.drop 0 = dktX1_mostAlike_0 := by decide +kernel
theorem dksX1_mostAlike_1 : cX1_mostAlike.data.toList.drop 24 = dktX1_mostAlike_1 := dk_seg dksX1_mostAlike_0 24 rfl rfl
theorem dksX1_mostAlike_2 : cX1_mostAlike.data.toList.drop 48 = dktX1_mostAlike_2 := dk_seg dksX1_mostAlike_1 24 rfl rfl
theorem dksX1_mostAlike_3 : cX1_mostAlike.data.toList.drop 72 = dktX1_mostAlike_3 := dk_seg dksX1_mostAlike_2 24 rfl rfl
theorem dX1_mostAlike_0 : decode cX1_mostAlike 0 = .ok (.iconst 0, 1) := dk_3 (dk_at dksX1_mostAlike_0 0 rfl rfl)
theorem dX1_mostAlike_1 : decode cX1_mostAlike 1 = .ok (.istore_n 3, 1) := dk_62 (dk_at dksX1_mostAlike_0 1 rfl rfl)
theorem dX1_mostAlike_2 : decode cX1_mostAlike 2 = .ok (.iload_n 3, 1) := dk_29 (dk_at dksX1_mostAlike_0 2 rfl rfl)
theorem dX1_mostAlike_3 : decode cX1_mostAlike 3 = .ok (.bipush 99, 2) := dk_16 99 (dk_at dksX1_mostAlike_0 3 rfl rfl)
theorem dX1_mostAlike_5 : decode cX1_mostAlike 5 = .ok (.if_icmp .gt 16, 3) := dk_163 0 16 (dk_at dksX1_mostAlike_0 5 rfl rfl)
theorem dX1_mostAlike_8 : decode cX1_mostAlike 8 = .ok (.aload_n 0, 1) := dk_42 (dk_at dksX1_mostAlike_0 8 rfl rfl)
theorem dX1_mostAlike_9 : decode cX1_mostAlike 9 = .ok (.getfield 85, 3) := dk_180 0 85 (dk_at dksX1_mostAlike_0 9 rfl rfl)
theorem dX1_mostAlike_12 : decode cX1_mostAlike 12 = .ok (.iload_n 3, 1) := dk_29 (dk_at dksX1_mostAlike_0 12 rfl rfl)
theorem dX1_mostAlike_13 : decode cX1_mostAlike 13 = .ok (.iconst 0, 1) := dk_3 (dk_at dksX1_mostAlike_0 13 rfl rfl)
theorem dX1_mostAlike_14 : decode cX1_mostAlike 14 = .ok (.iastore, 1) := dk_79 (dk_at dksX1_mostAlike_0 14 rfl rfl)
theorem dX1_mostAlike_15 : decode cX1_mostAlike 15 = .ok (.iinc 3 1, 3) := dk_132 3 1 (dk_at dksX1_mostAlike_0 15 rfl rfl)
theorem dX1_mostAlike_18 : decode cX1_mostAlike 18 = .ok (.goto (-16), 3) := dk_167 255 240 (dk_at dksX1_mostAlike_0 18 rfl rfl)
theorem dX1_mostAlike_21 : decode cX1_mostAlike 21 = .ok (.iconst 0, 1) := dk_3 (dk_at dksX1_mostAlike_0 21 rfl rfl)
theorem dX1_mostAlike_22 : decode cX1_mostAlike 22 = .ok (.istore_n 3, 1) := dk_62 (dk_at dksX1_mostAlike_0 22 rfl rfl)
theorem dX1_mostAlike_23 : decode cX1_mostAlike 23 = .ok (.iconst 0, 1) := dk_3 (dk_at dksX1_mostAlike_0 23 rfl rfl)
theorem dX1_mostAlike_24 : decode cX1_mostAlike 24 = .ok (.istore 4, 2) := dk_54 4 (dk_at dksX1_mostAlike_1 0 rfl rfl)
theorem dX1_mostAlike_26 : decode cX1_mostAlike 26 = .ok (.iload 4, 2) := dk_21 4 (dk_at dksX1_mostAlike_1 2 rfl rfl)
theorem dX1_mostAlike_28 : decode cX1_mostAlike 28 = .ok (.aload_n 0, 1) := dk_42 (dk_at dksX1_mostAlike_1 4 rfl rfl)
theorem dX1_mostAlike_29 : decode cX1_mostAlike 29 = .ok (.getfield 117, 3) := dk_180 0 117 (dk_at dksX1_mostAlike_1 5 rfl rfl)
theorem dX1_mostAlike_32 : decode cX1_mostAlike 32 = .ok (.bipush 9, 2) := dk_16 9 (dk_at dksX1_mostAlike_1 8 rfl rfl)
theorem dX1_mostAlike_34 : decode cX1_mostAlike 34 = .ok (.imul, 1) := dk_104 (dk_at dksX1_mostAlike_1 10 rfl rfl)
theorem dX1_mostAlike_35 : decode cX1_mostAlike 35 = .ok (.if_icmp .ge 59, 3) := dk_162 0 59 (dk_at dksX1_mostAlike_1 11 rfl rfl)
theorem dX1_mostAlike_38 : decode cX1_mostAlike 38 = .ok (.aload_n 0, 1) := dk_42 (dk_at dksX1_mostAlike_1 14 rfl rfl)
theorem dX1_mostAlike_39 : decode cX1_mostAlike 39 = .ok (.getfield 78, 3) := dk_180 0 78 (dk_at dksX1_mostAlike_1 15 rfl rfl)
theorem dX1_mostAlike_42 : decode cX1_mostAlike 42 = .ok (.iload 4, 2) := dk_21 4 (dk_at dksX1_mostAlike_1 18 rfl rfl)
theorem dX1_mostAlike_44 : decode cX1_mostAlike 44 = .ok (.baload, 1) := dk_51 (dk_at dksX1_mostAlike_1 20 rfl rfl)
theorem dX1_mostAlike_45 : decode cX1_mostAlike 45 = .ok (.ifCond .ne 6, 3) := dk_154 0 6 (dk_at dksX1_mostAlike_1 21 rfl rfl)
theorem dX1_mostAlike_48 : decode cX1_mostAlike 48 = .ok (.goto 40, 3) := dk_167 0 40 (dk_at dksX1_mostAlike_2 0 rfl rfl)
theorem dX1_mostAlike_51 : decode cX1_mostAlike 51 = .ok (.aload_n 0, 1) := dk_42 (dk_at dksX1_mostAlike_2 3 rfl rfl)
theorem dX1_mostAlike_52 : decode cX1_mostAlike 52 = .ok (.getfield 82, 3) := dk_180 0 82 (dk_at dksX1_mostAlike_2 4 rfl rfl)
theorem dX1_mostAlike_55 : decode cX1_mostAlike 55 = .ok (.iload 4, 2) := dk_21 4 (dk_at dksX1_mostAlike_2 7 rfl rfl)
theorem dX1_mostAlike_57 : decode cX1_mostAlike 57 = .ok (.iload_n 1, 1) := dk_27 (dk_at dksX1_mostAlike_2 9 rfl rfl)
theorem dX1_mostAlike_58 : decode cX1_mostAlike 58 = .ok (.iload_n 2, 1) := dk_28 (dk_at dksX1_mostAlike_2 10 rfl rfl)
theorem dX1_mostAlike_59 : decode cX1_mostAlike 59 = .ok (.invokestatic 419, 3) := dk_184 1 163 (dk_at dksX1_mostAlike_2 11 rfl rfl)
theorem dX1_mostAlike_62 : decode cX1_mostAlike 62 = .ok (.iaload, 1) := dk_46 (dk_at dksX1_mostAlike_2 14 rfl rfl)
theorem dX1_mostAlike_63 : decode cX1_mostAlike 63 = .ok (.istore 5, 2) := dk_54 5 (dk_at dksX1_mostAlike_2 15 rfl rfl)
theorem dX1_mostAlike_65 : decode cX1_mostAlike 65 = .ok (.aload_n 0, 1) := dk_42 (dk_at dksX1_mostAlike_2 17 rfl rfl)
theorem dX1_mostAlike_66 : decode cX1_mostAlike 66 = .ok (.getfield 85, 3) := dk_180 0 85 (dk_at dksX1_mostAlike_2 18 rfl rfl)
theorem dX1_mostAlike_69 : decode cX1_mostAlike 69 = .ok (.iload 5, 2) := dk_21 5 (dk_at dksX1_mostAlike_2 21 rfl rfl)
theorem dX1_mostAlike_71 : decode cX1_mostAlike 71 = .ok (.dup2, 1) := dk_92 (dk_at dksX1_mostAlike_2 23 rfl rfl)
theorem dX1_mostAlike_72 : decode cX1_mostAlike 72 = .ok (.iaload, 1) := dk_46 (dk_at dksX1_mostAlike_3 0 rfl rfl)
theorem dX1_mostAlike_73 : decode cX1_mostAlike 73 = .ok (.iconst 1, 1) := dk_4 (dk_at dksX1_mostAlike_3 1 rfl rfl)
theorem dX1_mostAlike_74 : decode cX1_mostAlike 74 = .ok (.iadd, 1) := dk_96 (dk_at dksX1_mostAlike_3 2 rfl rfl)
theorem dX1_mostAlike_75 : decode cX1_mostAlike 75 = .ok (.iastore, 1) := dk_79 (dk_at dksX1_mostAlike_3 3 rfl rfl)
theorem dX1_mostAlike_76 : decode cX1_mostAlike 76 = .ok (.iload_n 3, 1) := dk_29 (dk_at dksX1_mostAlike_3 4 rfl rfl)
theorem dX1_mostAlike_77 : decode cX1_mostAlike 77 = .ok (.aload_n 0, 1) := dk_42 (dk_at dksX1_mostAlike_3 5 rfl rfl)
theorem dX1_mostAlike_78 : decode cX1_mostAlike 78 = .ok (.getfield 85, 3) := dk_180 0 85 (dk_at dksX1_mostAlike_3 6 rfl rfl)
theorem dX1_mostAlike_81 : decode cX1_mostAlike 81 = .ok (.iload 5, 2) := dk_21 5 (dk_at dksX1_mostAlike_3 9 rfl rfl)
theorem dX1_mostAlike_83 : decode cX1_mostAlike 83 = .ok (.iaload, 1) := dk_46 (dk_at dksX1_mostAlike_3 11 rfl rfl)
theorem dX1_mostAlike_84 : decode cX1_mostAlike 84 = .ok (.invokestatic 294, 3) := dk_184 1 38 (dk_at dksX1_mostAlike_3 12 rfl rfl)
theorem dX1_mostAlike_87 : decode cX1_mostAlike 87 = .ok (.istore_n 3, 1) := dk_62 (dk_at dksX1_mostAlike_3 15 rfl rfl)
theorem dX1_mostAlike_88 : decode cX1_mostAlike 88 = .ok (.iinc 4 1, 3) := dk_132 4 1 (dk_at dksX1_mostAlike_3 16 rfl rfl)
theorem dX1_mostAlike_91 : decode cX1_mostAlike 91 = .ok (.goto (-65), 3) := dk_167 255 191 (dk_at dksX1_mostAlike_3 19 rfl rfl)
theorem dX1_mostAlike_94 : decode cX1_mostAlike 94 = .ok (.iload_n 3, 1) := dk_29 (dk_at dksX1_mostAlike_3 22 rfl rfl)
theorem dX1_mostAlike_95 : decode cX1_mostAlike 95 = .ok (.ireturn, 1) := dk_172 (dk_at dksX1_mostAlike_3 23 rfl rfl)
abbrev cX1_threat : ByteArray := prog_1_method_81_code
def yX1_threat : MethodName := ⟨RX1, "threat", "(I)I"⟩
def dkwX1_threat_5 : List UInt8 := [46, 42, 180, 0, 12, 180, 0, 133, 29, 46, 28, 130, 100, 133, 182, 1, 97, 4, 172]
abbrev dktX1_threat_5 : List UInt8 := dkwX1_threat_5 ++ []
def dkwX1_threat_4 : List UInt8 := [161, 0, 9, 132, 3, 1, 167, 255, 222, 42, 29, 133, 182, 1, 97, 42, 42, 180, 0, 12, 180, 0, 133, 29]
abbrev dktX1_threat_4 : List UInt8 := dkwX1_threat_4 ++ dktX1_threat_5
def dkwX1_threat_3 : List UInt8 := [153, 0, 26, 42, 180, 0, 12, 180, 0, 133, 29, 46, 28, 130, 42, 180, 0, 12, 180, 0, 133, 29, 46]
abbrev dktX1_threat_3 : List UInt8 := dkwX1_threat_3 ++ dktX1_threat_4
def dkwX1_threat_2 : List UInt8 := [132, 3, 1, 167, 255, 221, 42, 3, 181, 1, 94, 28, 154, 0, 5, 3, 172, 3, 62, 27, 29, 184, 0, 129]
abbrev dktX1_threat_2 : List UInt8 := dkwX1_threat_2 ++ dktX1_threat_3
def dkwX1_threat_1 : List UInt8 := [29, 184, 0, 129, 153, 0, 15, 42, 180, 0, 12, 180, 0, 133, 29, 46, 167, 0, 4, 3, 130, 61]
abbrev dktX1_threat_1 : List UInt8 := dkwX1_threat_1 ++ dktX1_threat_2
def dkwX1_threat_0 : List UInt8 := [42, 27, 182, 1, 152, 154, 0, 5, 2, 172, 3, 61, 3, 62, 29, 42, 180, 0, 117, 162, 0, 33, 28, 27]
abbrev dktX1_threat_0 : List UInt8 := dkwX1_threat_0 ++ dktX1_threat_1
theorem dksX1_threat_0 : cX1_threat.data.toList.drop 0 = dktX1_threat_0 := by decide +kernel
theorem dksX1_threat_1 : cX1_threat.data.toList.drop 24 = dktX1_threat_1 := dk_seg dksX1_threat_0 24 rfl rfl
theorem dksX1_threat_2 : cX1_threat.data.toList.drop 46 = dktX1_threat_2 := dk_seg dksX1_threat_1 22 rfl rfl
theorem dksX1_threat_3 : cX1_threat.data.toList.drop 70 = dktX1_threat_3 := dk_seg dksX1_threat_2 24 rfl rfl
theorem dksX1_threat_4 : cX1_threat.data.toList.drop 93 = dktX1_threat_4 := dk_seg dksX1_threat_3 23 rfl rfl
theorem dksX1_threat_5 : cX1_threat.data.toList.drop 117 = dktX1_threat_5 := dk_seg dksX1_threat_4 24 rfl rfl
theorem dX1_threat_0 : decode cX1_threat 0 = .ok (.aload_n 0, 1) := dk_42 (dk_at dksX1_threat_0 0 rfl rfl)
theorem dX1_threat_1 : decode cX1_threat 1 = .ok (.iload_n 1, 1) := dk_27 (dk_at dksX1_threat_0 1 rfl rfl)
theorem dX1_threat_2 : decode cX1_threat 2 = .ok (.invokevirtual 408, 3) := dk_182 1 152 (dk_at dksX1_threat_0 2 rfl rfl)
theorem dX1_threat_5 : decode cX1_threat 5 = .ok (.ifCond .ne 5, 3) := dk_154 0 5 (dk_at dksX1_threat_0 5 rfl rfl)
theorem dX1_threat_8 : decode cX1_threat 8 = .ok (.iconst (-1), 1) := dk_2 (dk_at dksX1_threat_0 8 rfl rfl)
theorem dX1_threat_9 : decode cX1_threat 9 = .ok (.ireturn, 1) := dk_172 (dk_at dksX1_threat_0 9 rfl rfl)
theorem dX1_threat_10 : decode cX1_threat 10 = .ok (.iconst 0, 1) := dk_3 (dk_at dksX1_threat_0 10 rfl rfl)
theorem dX1_threat_11 : decode cX1_threat 11 = .ok (.istore_n 2, 1) := dk_61 (dk_at dksX1_threat_0 11 rfl rfl)
theorem dX1_threat_12 : decode cX1_threat 12 = .ok (.iconst 0, 1) := dk_3 (dk_at dksX1_threat_0 12 rfl rfl)
theorem dX1_threat_13 : decode cX1_threat 13 = .ok (.istore_n 3, 1) := dk_62 (dk_at dksX1_threat_0 13 rfl rfl)
theorem dX1_threat_14 : decode cX1_threat 14 = .ok (.iload_n 3, 1) := dk_29 (dk_at dksX1_threat_0 14 rfl rfl)
theorem dX1_threat_15 : decode cX1_threat 15 = .ok (.aload_n 0, 1) := dk_42 (dk_at dksX1_threat_0 15 rfl rfl)
theorem dX1_threat_16 : decode cX1_threat 16 = .ok (.getfield 117, 3) := dk_180 0 117 (dk_at dksX1_threat_0 16 rfl rfl)
theorem dX1_threat_19 : decode cX1_threat 19 = .ok (.if_icmp .ge 33, 3) := dk_162 0 33 (dk_at dksX1_threat_0 19 rfl rfl)
theorem dX1_threat_22 : decode cX1_threat 22 = .ok (.iload_n 2, 1) := dk_28 (dk_at dksX1_threat_0 22 rfl rfl)
theorem dX1_threat_23 : decode cX1_threat 23 = .ok (.iload_n 1, 1) := dk_27 (dk_at dksX1_threat_0 23 rfl rfl)
theorem dX1_threat_24 : decode cX1_threat 24 = .ok (.iload_n 3, 1) := dk_29 (dk_at dksX1_threat_1 0 rfl rfl)
theorem dX1_threat_25 : decode cX1_threat 25 = .ok (.invokestatic 129, 3) := dk_184 0 129 (dk_at dksX1_threat_1 1 rfl rfl)
theorem dX1_threat_28 : decode cX1_threat 28 = .ok (.ifCond .eq 15, 3) := dk_153 0 15 (dk_at dksX1_threat_1 4 rfl rfl)
theorem dX1_threat_31 : decode cX1_threat 31 = .ok (.aload_n 0, 1) := dk_42 (dk_at dksX1_threat_1 7 rfl rfl)
theorem dX1_threat_32 : decode cX1_threat 32 = .ok (.getfield 12, 3) := dk_180 0 12 (dk_at dksX1_threat_1 8 rfl rfl)
theorem dX1_threat_35 : decode cX1_threat 35 = .ok (.getfield 133, 3) := dk_180 0 133 (dk_at dksX1_threat_1 11 rfl rfl)
theorem dX1_threat_38 : decode cX1_threat 38 = .ok (.iload_n 3, 1) := dk_29 (dk_at dksX1_threat_1 14 rfl rfl)
theorem dX1_threat_39 : decode cX1_threat 39 = .ok (.iaload, 1) := dk_46 (dk_at dksX1_threat_1 15 rfl rfl)
theorem dX1_threat_40 : decode cX1_threat 40 = .ok (.goto 4, 3) := dk_167 0 4 (dk_at dksX1_threat_1 16 rfl rfl)
theorem dX1_threat_43 : decode cX1_threat 43 = .ok (.iconst 0, 1) := dk_3 (dk_at dksX1_threat_1 19 rfl rfl)
theorem dX1_threat_44 : decode cX1_threat 44 = .ok (.ixor, 1) := dk_130 (dk_at dksX1_threat_1 20 rfl rfl)
theorem dX1_threat_45 : decode cX1_threat 45 = .ok (.istore_n 2, 1) := dk_61 (dk_at dksX1_threat_1 21 rfl rfl)
theorem dX1_threat_46 : decode cX1_threat 46 = .ok (.iinc 3 1, 3) := dk_132 3 1 (dk_at dksX1_threat_2 0 rfl rfl)
theorem dX1_threat_49 : decode cX1_threat 49 = .ok (.goto (-35), 3) := dk_167 255 221 (dk_at dksX1_threat_2 3 rfl rfl)
theorem dX1_threat_52 : decode cX1_threat 52 = .ok (.aload_n 0, 1) := dk_42 (dk_at dksX1_threat_2 6 rfl rfl)
theorem dX1_threat_53 : decode cX1_threat 53 = .ok (.iconst 0, 1) := dk_3 (dk_at dksX1_threat_2 7 rfl rfl)
theorem dX1_threat_54 : decode cX1_threat 54 = .ok (.putfield 350, 3) := dk_181 1 94 (dk_at dksX1_threat_2 8 rfl rfl)
theorem dX1_threat_57 : decode cX1_threat 57 = .ok (.iload_n 2, 1) := dk_28 (dk_at dksX1_threat_2 11 rfl rfl)
theorem dX1_threat_58 : decode cX1_threat 58 = .ok (.ifCond .ne 5, 3) := dk_154 0 5 (dk_at dksX1_threat_2 12 rfl rfl)
theorem dX1_threat_61 : decode cX1_threat 61 = .ok (.iconst 0, 1) := dk_3 (dk_at dksX1_threat_2 15 rfl rfl)
theorem dX1_threat_62 : decode cX1_threat 62 = .ok (.ireturn, 1) := dk_172 (dk_at dksX1_threat_2 16 rfl rfl)
theorem dX1_threat_63 : decode cX1_threat 63 = .ok (.iconst 0, 1) := dk_3 (dk_at dksX1_threat_2 17 rfl rfl)
theorem dX1_threat_64 : decode cX1_threat 64 = .ok (.istore_n 3, 1) := dk_62 (dk_at dksX1_threat_2 18 rfl rfl)
theorem dX1_threat_65 : decode cX1_threat 65 = .ok (.iload_n 1, 1) := dk_27 (dk_at dksX1_threat_2 19 rfl rfl)
theorem dX1_threat_66 : decode cX1_threat 66 = .ok (.iload_n 3, 1) := dk_29 (dk_at dksX1_threat_2 20 rfl rfl)
theorem dX1_threat_67 : decode cX1_threat 67 = .ok (.invokestatic 129, 3) := dk_184 0 129 (dk_at dksX1_threat_2 21 rfl rfl)
theorem dX1_threat_70 : decode cX1_threat 70 = .ok (.ifCond .eq 26, 3) := dk_153 0 26 (dk_at dksX1_threat_3 0 rfl rfl)
theorem dX1_threat_73 : decode cX1_threat 73 = .ok (.aload_n 0, 1) := dk_42 (dk_at dksX1_threat_3 3 rfl rfl)
theorem dX1_threat_74 : decode cX1_threat 74 = .ok (.getfield 12, 3) := dk_180 0 12 (dk_at dksX1_threat_3 4 rfl rfl)
theorem dX1_threat_77 : decode cX1_threat 77 = .ok (.getfield 133, 3) := dk_180 0 133 (dk_at dksX1_threat_3 7 rfl rfl)
theorem dX1_threat_80 : decode cX1_threat 80 = .ok (.iload_n 3, 1) := dk_29 (dk_at dksX1_threat_3 10 rfl rfl)
theorem dX1_threat_81 : decode cX1_threat 81 = .ok (.iaload, 1) := dk_46 (dk_at dksX1_threat_3 11 rfl rfl)
theorem dX1_threat_82 : decode cX1_threat 82 = .ok (.iload_n 2, 1) := dk_28 (dk_at dksX1_threat_3 12 rfl rfl)
theorem dX1_threat_83 : decode cX1_threat 83 = .ok (.ixor, 1) := dk_130 (dk_at dksX1_threat_3 13 rfl rfl)
theorem dX1_threat_84 : decode cX1_threat 84 = .ok (.aload_n 0, 1) := dk_42 (dk_at dksX1_threat_3 14 rfl rfl)
theorem dX1_threat_85 : decode cX1_threat 85 = .ok (.getfield 12, 3) := dk_180 0 12 (dk_at dksX1_threat_3 15 rfl rfl)
theorem dX1_threat_88 : decode cX1_threat 88 = .ok (.getfield 133, 3) := dk_180 0 133 (dk_at dksX1_threat_3 18 rfl rfl)
theorem dX1_threat_91 : decode cX1_threat 91 = .ok (.iload_n 3, 1) := dk_29 (dk_at dksX1_threat_3 21 rfl rfl)
theorem dX1_threat_92 : decode cX1_threat 92 = .ok (.iaload, 1) := dk_46 (dk_at dksX1_threat_3 22 rfl rfl)
theorem dX1_threat_93 : decode cX1_threat 93 = .ok (.if_icmp .lt 9, 3) := dk_161 0 9 (dk_at dksX1_threat_4 0 rfl rfl)
theorem dX1_threat_96 : decode cX1_threat 96 = .ok (.iinc 3 1, 3) := dk_132 3 1 (dk_at dksX1_threat_4 3 rfl rfl)
theorem dX1_threat_99 : decode cX1_threat 99 = .ok (.goto (-34), 3) := dk_167 255 222 (dk_at dksX1_threat_4 6 rfl rfl)
theorem dX1_threat_102 : decode cX1_threat 102 = .ok (.aload_n 0, 1) := dk_42 (dk_at dksX1_threat_4 9 rfl rfl)
theorem dX1_threat_103 : decode cX1_threat 103 = .ok (.iload_n 3, 1) := dk_29 (dk_at dksX1_threat_4 10 rfl rfl)
theorem dX1_threat_104 : decode cX1_threat 104 = .ok (.i2l, 1) := dk_133 (dk_at dksX1_threat_4 11 rfl rfl)
theorem dX1_threat_105 : decode cX1_threat 105 = .ok (.invokevirtual 353, 3) := dk_182 1 97 (dk_at dksX1_threat_4 12 rfl rfl)
theorem dX1_threat_108 : decode cX1_threat 108 = .ok (.aload_n 0, 1) := dk_42 (dk_at dksX1_threat_4 15 rfl rfl)
theorem dX1_threat_109 : decode cX1_threat 109 = .ok (.aload_n 0, 1) := dk_42 (dk_at dksX1_threat_4 16 rfl rfl)
theorem dX1_threat_110 : decode cX1_threat 110 = .ok (.getfield 12, 3) := dk_180 0 12 (dk_at dksX1_threat_4 17 rfl rfl)
theorem dX1_threat_113 : decode cX1_threat 113 = .ok (.getfield 133, 3) := dk_180 0 133 (dk_at dksX1_threat_4 20 rfl rfl)
theorem dX1_threat_116 : decode cX1_threat 116 = .ok (.iload_n 3, 1) := dk_29 (dk_at dksX1_threat_4 23 rfl rfl)
theorem dX1_threat_117 : decode cX1_threat 117 = .ok (.iaload, 1) := dk_46 (dk_at dksX1_threat_5 0 rfl rfl)
theorem dX1_threat_118 : decode cX1_threat 118 = .ok (.aload_n 0, 1) := dk_42 (dk_at dksX1_threat_5 1 rfl rfl)
theorem dX1_threat_119 : decode cX1_threat 119 = .ok (.getfield 12, 3) := dk_180 0 12 (dk_at dksX1_threat_5 2 rfl rfl)
theorem dX1_threat_122 : decode cX1_threat 122 = .ok (.getfield 133, 3) := dk_180 0 133 (dk_at dksX1_threat_5 5 rfl rfl)
theorem dX1_threat_125 : decode cX1_threat 125 = .ok (.iload_n 3, 1) := dk_29 (dk_at dksX1_threat_5 8 rfl rfl)
theorem dX1_threat_126 : decode cX1_threat 126 = .ok (.iaload, 1) := dk_46 (dk_at dksX1_threat_5 9 rfl rfl)
theorem dX1_threat_127 : decode cX1_threat 127 = .ok (.iload_n 2, 1) := dk_28 (dk_at dksX1_threat_5 10 rfl rfl)
theorem dX1_threat_128 : decode cX1_threat 128 = .ok (.ixor, 1) := dk_130 (dk_at dksX1_threat_5 11 rfl rfl)
theorem dX1_threat_129 : decode cX1_threat 129 = .ok (.isub, 1) := dk_100 (dk_at dksX1_threat_5 12 rfl rfl)
theorem dX1_threat_130 : decode cX1_threat 130 = .ok (.i2l, 1) := dk_133 (dk_at dksX1_threat_5 13 rfl rfl)
theorem dX1_threat_131 : decode cX1_threat 131 = .ok (.invokevirtual 353, 3) := dk_182 1 97 (dk_at dksX1_threat_5 14 rfl rfl)
theorem dX1_threat_134 : decode cX1_threat 134 = .ok (.iconst 1, 1) := dk_4 (dk_at dksX1_threat_5 17 rfl rfl)
theorem dX1_threat_135 : decode cX1_threat 135 = .ok (.ireturn, 1) := dk_172 (dk_at dksX1_threat_5 18 rfl rfl)
abbrev cX1_treaty : ByteArray := prog_1_method_84_code
def yX1_treaty : MethodName := ⟨RX1, "treaty", "(I)I"⟩
def dkwX1_treaty_4 : List UInt8 := [28, 172]
abbrev dktX1_treaty_4 : List UInt8 := dkwX1_treaty_4 ++ []
def dkwX1_treaty_3 : List UInt8 := [181, 1, 94, 42, 29, 133, 182, 1, 97, 42, 28, 154, 0, 7, 9, 167, 0, 6, 21, 4, 133, 182, 1, 97]
abbrev dktX1_treaty_3 : List UInt8 := dkwX1_treaty_3 ++ dktX1_treaty_4
def dkwX1_treaty_2 : List UInt8 := [132, 2, 1, 29, 21, 5, 128, 62, 21, 4, 21, 5, 126, 54, 4, 132, 5, 1, 167, 255, 218, 42, 3]
abbrev dktX1_treaty_2 : List UInt8 := dkwX1_treaty_2 ++ dktX1_treaty_3
def dkwX1_treaty_1 : List UInt8 := [54, 5, 21, 5, 16, 16, 162, 0, 37, 42, 21, 5, 27, 182, 1, 182, 154, 0, 6, 167, 0, 18]
abbrev dktX1_treaty_1 : List UInt8 := dkwX1_treaty_1 ++ dktX1_treaty_2
def dkwX1_treaty_0 : List UInt8 := [27, 133, 9, 20, 1, 180, 184, 0, 121, 154, 0, 5, 2, 172, 3, 61, 3, 62, 16, 15, 54, 4, 3]
abbrev dktX1_treaty_0 : List UInt8 := dkwX1_treaty_0 ++ dktX1_treaty_1
theorem dksX1_treaty_0 : cX1_treaty.data.toList.drop 0 = dktX1_treaty_0 := by decide +kernel
theorem dksX1_treaty_1 : cX1_treaty.data.toList.drop 23 = dktX1_treaty_1 := dk_seg dksX1_treaty_0 23 rfl rfl
theorem dksX1_treaty_2 : cX1_treaty.data.toList.drop 45 = dktX1_treaty_2 := dk_seg dksX1_treaty_1 22 rfl rfl
theorem dksX1_treaty_3 : cX1_treaty.data.toList.drop 68 = dktX1_treaty_3 := dk_seg dksX1_treaty_2 23 rfl rfl
theorem dksX1_treaty_4 : cX1_treaty.data.toList.drop 92 = dktX1_treaty_4 := dk_seg dksX1_treaty_3 24 rfl rfl
theorem dX1_treaty_0 : decode cX1_treaty 0 = .ok (.iload_n 1, 1) := dk_27 (dk_at dksX1_treaty_0 0 rfl rfl)
theorem dX1_treaty_1 : decode cX1_treaty 1 = .ok (.i2l, 1) := dk_133 (dk_at dksX1_treaty_0 1 rfl rfl)
theorem dX1_treaty_2 : decode cX1_treaty 2 = .ok (.lconst 0, 1) := dk_9 (dk_at dksX1_treaty_0 2 rfl rfl)
theorem dX1_treaty_3 : decode cX1_treaty 3 = .ok (.ldc2_w 436, 3) := dk_20 1 180 (dk_at dksX1_treaty_0 3 rfl rfl)
theorem dX1_treaty_6 : decode cX1_treaty 6 = .ok (.invokestatic 121, 3) := dk_184 0 121 (dk_at dksX1_treaty_0 6 rfl rfl)
theorem dX1_treaty_9 : decode cX1_treaty 9 = .ok (.ifCond .ne 5, 3) := dk_154 0 5 (dk_at dksX1_treaty_0 9 rfl rfl)
theorem dX1_treaty_12 : decode cX1_treaty 12 = .ok (.iconst (-1), 1) := dk_2 (dk_at dksX1_treaty_0 12 rfl rfl)
theorem dX1_treaty_13 : decode cX1_treaty 13 = .ok (.ireturn, 1) := dk_172 (dk_at dksX1_treaty_0 13 rfl rfl)
theorem dX1_treaty_14 : decode cX1_treaty 14 = .ok (.iconst 0, 1) := dk_3 (dk_at dksX1_treaty_0 14 rfl rfl)
theorem dX1_treaty_15 : decode cX1_treaty 15 = .ok (.istore_n 2, 1) := dk_61 (dk_at dksX1_treaty_0 15 rfl rfl)
theorem dX1_treaty_16 : decode cX1_treaty 16 = .ok (.iconst 0, 1) := dk_3 (dk_at dksX1_treaty_0 16 rfl rfl)
theorem dX1_treaty_17 : decode cX1_treaty 17 = .ok (.istore_n 3, 1) := dk_62 (dk_at dksX1_treaty_0 17 rfl rfl)
theorem dX1_treaty_18 : decode cX1_treaty 18 = .ok (.bipush 15, 2) := dk_16 15 (dk_at dksX1_treaty_0 18 rfl rfl)
theorem dX1_treaty_20 : decode cX1_treaty 20 = .ok (.istore 4, 2) := dk_54 4 (dk_at dksX1_treaty_0 20 rfl rfl)
theorem dX1_treaty_22 : decode cX1_treaty 22 = .ok (.iconst 0, 1) := dk_3 (dk_at dksX1_treaty_0 22 rfl rfl)
theorem dX1_treaty_23 : decode cX1_treaty 23 = .ok (.istore 5, 2) := dk_54 5 (dk_at dksX1_treaty_1 0 rfl rfl)
theorem dX1_treaty_25 : decode cX1_treaty 25 = .ok (.iload 5, 2) := dk_21 5 (dk_at dksX1_treaty_1 2 rfl rfl)
theorem dX1_treaty_27 : decode cX1_treaty 27 = .ok (.bipush 16, 2) := dk_16 16 (dk_at dksX1_treaty_1 4 rfl rfl)
theorem dX1_treaty_29 : decode cX1_treaty 29 = .ok (.if_icmp .ge 37, 3) := dk_162 0 37 (dk_at dksX1_treaty_1 6 rfl rfl)
theorem dX1_treaty_32 : decode cX1_treaty 32 = .ok (.aload_n 0, 1) := dk_42 (dk_at dksX1_treaty_1 9 rfl rfl)
theorem dX1_treaty_33 : decode cX1_treaty 33 = .ok (.iload 5, 2) := dk_21 5 (dk_at dksX1_treaty_1 10 rfl rfl)
theorem dX1_treaty_35 : decode cX1_treaty 35 = .ok (.iload_n 1, 1) := dk_27 (dk_at dksX1_treaty_1 12 rfl rfl)
theorem dX1_treaty_36 : decode cX1_treaty 36 = .ok (.invokevirtual 438, 3) := dk_182 1 182 (dk_at dksX1_treaty_1 13 rfl rfl)
theorem dX1_treaty_39 : decode cX1_treaty 39 = .ok (.ifCond .ne 6, 3) := dk_154 0 6 (dk_at dksX1_treaty_1 16 rfl rfl)
theorem dX1_treaty_42 : decode cX1_treaty 42 = .ok (.goto 18, 3) := dk_167 0 18 (dk_at dksX1_treaty_1 19 rfl rfl)
theorem dX1_treaty_45 : decode cX1_treaty 45 = .ok (.iinc 2 1, 3) := dk_132 2 1 (dk_at dksX1_treaty_2 0 rfl rfl)
theorem dX1_treaty_48 : decode cX1_treaty 48 = .ok (.iload_n 3, 1) := dk_29 (dk_at dksX1_treaty_2 3 rfl rfl)
theorem dX1_treaty_49 : decode cX1_treaty 49 = .ok (.iload 5, 2) := dk_21 5 (dk_at dksX1_treaty_2 4 rfl rfl)
theorem dX1_treaty_51 : decode cX1_treaty 51 = .ok (.ior, 1) := dk_128 (dk_at dksX1_treaty_2 6 rfl rfl)
theorem dX1_treaty_52 : decode cX1_treaty 52 = .ok (.istore_n 3, 1) := dk_62 (dk_at dksX1_treaty_2 7 rfl rfl)
theorem dX1_treaty_53 : decode cX1_treaty 53 = .ok (.iload 4, 2) := dk_21 4 (dk_at dksX1_treaty_2 8 rfl rfl)
theorem dX1_treaty_55 : decode cX1_treaty 55 = .ok (.iload 5, 2) := dk_21 5 (dk_at dksX1_treaty_2 10 rfl rfl)
theorem dX1_treaty_57 : decode cX1_treaty 57 = .ok (.iand, 1) := dk_126 (dk_at dksX1_treaty_2 12 rfl rfl)
theorem dX1_treaty_58 : decode cX1_treaty 58 = .ok (.istore 4, 2) := dk_54 4 (dk_at dksX1_treaty_2 13 rfl rfl)
theorem dX1_treaty_60 : decode cX1_treaty 60 = .ok (.iinc 5 1, 3) := dk_132 5 1 (dk_at dksX1_treaty_2 15 rfl rfl)
theorem dX1_treaty_63 : decode cX1_treaty 63 = .ok (.goto (-38), 3) := dk_167 255 218 (dk_at dksX1_treaty_2 18 rfl rfl)
theorem dX1_treaty_66 : decode cX1_treaty 66 = .ok (.aload_n 0, 1) := dk_42 (dk_at dksX1_treaty_2 21 rfl rfl)
theorem dX1_treaty_67 : decode cX1_treaty 67 = .ok (.iconst 0, 1) := dk_3 (dk_at dksX1_treaty_2 22 rfl rfl)
theorem dX1_treaty_68 : decode cX1_treaty 68 = .ok (.putfield 350, 3) := dk_181 1 94 (dk_at dksX1_treaty_3 0 rfl rfl)
theorem dX1_treaty_71 : decode cX1_treaty 71 = .ok (.aload_n 0, 1) := dk_42 (dk_at dksX1_treaty_3 3 rfl rfl)
theorem dX1_treaty_72 : decode cX1_treaty 72 = .ok (.iload_n 3, 1) := dk_29 (dk_at dksX1_treaty_3 4 rfl rfl)
theorem dX1_treaty_73 : decode cX1_treaty 73 = .ok (.i2l, 1) := dk_133 (dk_at dksX1_treaty_3 5 rfl rfl)
theorem dX1_treaty_74 : decode cX1_treaty 74 = .ok (.invokevirtual 353, 3) := dk_182 1 97 (dk_at dksX1_treaty_3 6 rfl rfl)
theorem dX1_treaty_77 : decode cX1_treaty 77 = .ok (.aload_n 0, 1) := dk_42 (dk_at dksX1_treaty_3 9 rfl rfl)
theorem dX1_treaty_78 : decode cX1_treaty 78 = .ok (.iload_n 2, 1) := dk_28 (dk_at dksX1_treaty_3 10 rfl rfl)
theorem dX1_treaty_79 : decode cX1_treaty 79 = .ok (.ifCond .ne 7, 3) := dk_154 0 7 (dk_at dksX1_treaty_3 11 rfl rfl)
theorem dX1_treaty_82 : decode cX1_treaty 82 = .ok (.lconst 0, 1) := dk_9 (dk_at dksX1_treaty_3 14 rfl rfl)
theorem dX1_treaty_83 : decode cX1_treaty 83 = .ok (.goto 6, 3) := dk_167 0 6 (dk_at dksX1_treaty_3 15 rfl rfl)
theorem dX1_treaty_86 : decode cX1_treaty 86 = .ok (.iload 4, 2) := dk_21 4 (dk_at dksX1_treaty_3 18 rfl rfl)
theorem dX1_treaty_88 : decode cX1_treaty 88 = .ok (.i2l, 1) := dk_133 (dk_at dksX1_treaty_3 20 rfl rfl)
theorem dX1_treaty_89 : decode cX1_treaty 89 = .ok (.invokevirtual 353, 3) := dk_182 1 97 (dk_at dksX1_treaty_3 21 rfl rfl)
theorem dX1_treaty_92 : decode cX1_treaty 92 = .ok (.iload_n 2, 1) := dk_28 (dk_at dksX1_treaty_4 0 rfl rfl)
theorem dX1_treaty_93 : decode cX1_treaty 93 = .ok (.ireturn, 1) := dk_172 (dk_at dksX1_treaty_4 1 rfl rfl)
abbrev cX1_isBare : ByteArray := prog_1_method_83_code
def yX1_isBare : MethodName := ⟨RX1, "isBare", "(II)Z"⟩
def dkwX1_isBare_2 : List UInt8 := [182, 1, 177, 28, 162, 0, 7, 4, 167, 0, 4, 3, 62, 132, 4, 1, 167, 255, 212, 29, 172]
abbrev dktX1_isBare_2 : List UInt8 := dkwX1_isBare_2 ++ []
def dkwX1_isBare_1 : List UInt8 := [29, 153, 0, 32, 27, 21, 4, 184, 0, 129, 153, 0, 19, 42, 27, 4, 21, 4, 120, 2, 130, 126]
abbrev dktX1_isBare_1 : List UInt8 := dkwX1_isBare_1 ++ dktX1_isBare_2
def dkwX1_isBare_0 : List UInt8 := [42, 27, 182, 1, 177, 28, 161, 0, 7, 4, 167, 0, 4, 3, 62, 3, 54, 4, 21, 4, 7, 162, 0, 44]
abbrev dktX1_isBare_0 : List UInt8 := dkwX1_isBare_0 ++ dktX1_isBare_1
theorem dksX1_isBare_0 : cX1_isBare.data.toList.drop 0 = dktX1_isBare_0 := by decide +kernel
theorem dksX1_isBare_1 : cX1_isBare.data.toList.drop 24 = dktX1_isBare_1 := dk_seg dksX1_isBare_0 24 rfl rfl
theorem dksX1_isBare_2 : cX1_isBare.data.toList.drop 46 = dktX1_isBare_2 := dk_seg dksX1_isBare_1 22 rfl rfl
theorem dX1_isBare_0 : decode cX1_isBare 0 = .ok (.aload_n 0, 1) := dk_42 (dk_at dksX1_isBare_0 0 rfl rfl)
theorem dX1_isBare_1 : decode cX1_isBare 1 = .ok (.iload_n 1, 1) := dk_27 (dk_at dksX1_isBare_0 1 rfl rfl)
theorem dX1_isBare_2 : decode cX1_isBare 2 = .ok (.invokevirtual 433, 3) := dk_182 1 177 (dk_at dksX1_isBare_0 2 rfl rfl)
theorem dX1_isBare_5 : decode cX1_isBare 5 = .ok (.iload_n 2, 1) := dk_28 (dk_at dksX1_isBare_0 5 rfl rfl)
theorem dX1_isBare_6 : decode cX1_isBare 6 = .ok (.if_icmp .lt 7, 3) := dk_161 0 7 (dk_at dksX1_isBare_0 6 rfl rfl)
theorem dX1_isBare_9 : decode cX1_isBare 9 = .ok (.iconst 1, 1) := dk_4 (dk_at dksX1_isBare_0 9 rfl rfl)
theorem dX1_isBare_10 : decode cX1_isBare 10 = .ok (.goto 4, 3) := dk_167 0 4 (dk_at dksX1_isBare_0 10 rfl rfl)
theorem dX1_isBare_13 : decode cX1_isBare 13 = .ok (.iconst 0, 1) := dk_3 (dk_at dksX1_isBare_0 13 rfl rfl)
theorem dX1_isBare_14 : decode cX1_isBare 14 = .ok (.istore_n 3, 1) := dk_62 (dk_at dksX1_isBare_0 14 rfl rfl)
theorem dX1_isBare_15 : decode cX1_isBare 15 = .ok (.iconst 0, 1) := dk_3 (dk_at dksX1_isBare_0 15 rfl rfl)
theorem dX1_isBare_16 : decode cX1_isBare 16 = .ok (.istore 4, 2) := dk_54 4 (dk_at dksX1_isBare_0 16 rfl rfl)
theorem dX1_isBare_18 : decode cX1_isBare 18 = .ok (.iload 4, 2) := dk_21 4 (dk_at dksX1_isBare_0 18 rfl rfl)
theorem dX1_isBare_20 : decode cX1_isBare 20 = .ok (.iconst 4, 1) := dk_7 (dk_at dksX1_isBare_0 20 rfl rfl)
theorem dX1_isBare_21 : decode cX1_isBare 21 = .ok (.if_icmp .ge 44, 3) := dk_162 0 44 (dk_at dksX1_isBare_0 21 rfl rfl)
theorem dX1_isBare_24 : decode cX1_isBare 24 = .ok (.iload_n 3, 1) := dk_29 (dk_at dksX1_isBare_1 0 rfl rfl)
theorem dX1_isBare_25 : decode cX1_isBare 25 = .ok (.ifCond .eq 32, 3) := dk_153 0 32 (dk_at dksX1_isBare_1 1 rfl rfl)
theorem dX1_isBare_28 : decode cX1_isBare 28 = .ok (.iload_n 1, 1) := dk_27 (dk_at dksX1_isBare_1 4 rfl rfl)
theorem dX1_isBare_29 : decode cX1_isBare 29 = .ok (.iload 4, 2) := dk_21 4 (dk_at dksX1_isBare_1 5 rfl rfl)
theorem dX1_isBare_31 : decode cX1_isBare 31 = .ok (.invokestatic 129, 3) := dk_184 0 129 (dk_at dksX1_isBare_1 7 rfl rfl)
theorem dX1_isBare_34 : decode cX1_isBare 34 = .ok (.ifCond .eq 19, 3) := dk_153 0 19 (dk_at dksX1_isBare_1 10 rfl rfl)
theorem dX1_isBare_37 : decode cX1_isBare 37 = .ok (.aload_n 0, 1) := dk_42 (dk_at dksX1_isBare_1 13 rfl rfl)
theorem dX1_isBare_38 : decode cX1_isBare 38 = .ok (.iload_n 1, 1) := dk_27 (dk_at dksX1_isBare_1 14 rfl rfl)
theorem dX1_isBare_39 : decode cX1_isBare 39 = .ok (.iconst 1, 1) := dk_4 (dk_at dksX1_isBare_1 15 rfl rfl)
theorem dX1_isBare_40 : decode cX1_isBare 40 = .ok (.iload 4, 2) := dk_21 4 (dk_at dksX1_isBare_1 16 rfl rfl)
theorem dX1_isBare_42 : decode cX1_isBare 42 = .ok (.ishl, 1) := dk_120 (dk_at dksX1_isBare_1 18 rfl rfl)
theorem dX1_isBare_43 : decode cX1_isBare 43 = .ok (.iconst (-1), 1) := dk_2 (dk_at dksX1_isBare_1 19 rfl rfl)
theorem dX1_isBare_44 : decode cX1_isBare 44 = .ok (.ixor, 1) := dk_130 (dk_at dksX1_isBare_1 20 rfl rfl)
theorem dX1_isBare_45 : decode cX1_isBare 45 = .ok (.iand, 1) := dk_126 (dk_at dksX1_isBare_1 21 rfl rfl)
theorem dX1_isBare_46 : decode cX1_isBare 46 = .ok (.invokevirtual 433, 3) := dk_182 1 177 (dk_at dksX1_isBare_2 0 rfl rfl)
theorem dX1_isBare_49 : decode cX1_isBare 49 = .ok (.iload_n 2, 1) := dk_28 (dk_at dksX1_isBare_2 3 rfl rfl)
theorem dX1_isBare_50 : decode cX1_isBare 50 = .ok (.if_icmp .ge 7, 3) := dk_162 0 7 (dk_at dksX1_isBare_2 4 rfl rfl)
theorem dX1_isBare_53 : decode cX1_isBare 53 = .ok (.iconst 1, 1) := dk_4 (dk_at dksX1_isBare_2 7 rfl rfl)
theorem dX1_isBare_54 : decode cX1_isBare 54 = .ok (.goto 4, 3) := dk_167 0 4 (dk_at dksX1_isBare_2 8 rfl rfl)
theorem dX1_isBare_57 : decode cX1_isBare 57 = .ok (.iconst 0, 1) := dk_3 (dk_at dksX1_isBare_2 11 rfl rfl)
theorem dX1_isBare_58 : decode cX1_isBare 58 = .ok (.istore_n 3, 1) := dk_62 (dk_at dksX1_isBare_2 12 rfl rfl)
theorem dX1_isBare_59 : decode cX1_isBare 59 = .ok (.iinc 4 1, 3) := dk_132 4 1 (dk_at dksX1_isBare_2 13 rfl rfl)
theorem dX1_isBare_62 : decode cX1_isBare 62 = .ok (.goto (-44), 3) := dk_167 255 212 (dk_at dksX1_isBare_2 16 rfl rfl)
theorem dX1_isBare_65 : decode cX1_isBare 65 = .ok (.iload_n 3, 1) := dk_29 (dk_at dksX1_isBare_2 19 rfl rfl)
theorem dX1_isBare_66 : decode cX1_isBare 66 = .ok (.ireturn, 1) := dk_172 (dk_at dksX1_isBare_2 20 rfl rfl)
abbrev cX1_levelOf : ByteArray := prog_1_method_82_code
def yX1_levelOf : MethodName := ⟨RX1, "levelOf", "(I)I"⟩
def dkwX1_levelOf_2 : List UInt8 := [167, 255, 213, 28, 172]
abbrev dktX1_levelOf_2 : List UInt8 := dkwX1_levelOf_2 ++ []
def dkwX1_levelOf_1 : List UInt8 := [184, 0, 129, 153, 0, 15, 42, 180, 0, 12, 180, 0, 133, 29, 46, 167, 0, 4, 3, 96, 61, 132, 3, 1]
abbrev dktX1_levelOf_1 : List UInt8 := dkwX1_levelOf_1 ++ dktX1_levelOf_2
def dkwX1_levelOf_0 : List UInt8 := [3, 61, 3, 62, 29, 42, 180, 0, 117, 162, 0, 41, 28, 27, 42, 180, 0, 12, 180, 0, 140, 29, 46]
abbrev dktX1_levelOf_0 : List UInt8 := dkwX1_levelOf_0 ++ dktX1_levelOf_1
theorem dksX1_levelOf_0 : cX1_levelOf.data.toList.drop 0 = dktX1_levelOf_0 := by decide +kernel
theorem dksX1_levelOf_1 : cX1_levelOf.data.toList.drop 23 = dktX1_levelOf_1 := dk_seg dksX1_levelOf_0 23 rfl rfl
theorem dksX1_levelOf_2 : cX1_levelOf.data.toList.drop 47 = dktX1_levelOf_2 := dk_seg dksX1_levelOf_1 24 rfl rfl
theorem dX1_levelOf_0 : decode cX1_levelOf 0 = .ok (.iconst 0, 1) := dk_3 (dk_at dksX1_levelOf_0 0 rfl rfl)
theorem dX1_levelOf_1 : decode cX1_levelOf 1 = .ok (.istore_n 2, 1) := dk_61 (dk_at dksX1_levelOf_0 1 rfl rfl)
theorem dX1_levelOf_2 : decode cX1_levelOf 2 = .ok (.iconst 0, 1) := dk_3 (dk_at dksX1_levelOf_0 2 rfl rfl)
theorem dX1_levelOf_3 : decode cX1_levelOf 3 = .ok (.istore_n 3, 1) := dk_62 (dk_at dksX1_levelOf_0 3 rfl rfl)
theorem dX1_levelOf_4 : decode cX1_levelOf 4 = .ok (.iload_n 3, 1) := dk_29 (dk_at dksX1_levelOf_0 4 rfl rfl)
theorem dX1_levelOf_5 : decode cX1_levelOf 5 = .ok (.aload_n 0, 1) := dk_42 (dk_at dksX1_levelOf_0 5 rfl rfl)
theorem dX1_levelOf_6 : decode cX1_levelOf 6 = .ok (.getfield 117, 3) := dk_180 0 117 (dk_at dksX1_levelOf_0 6 rfl rfl)
theorem dX1_levelOf_9 : decode cX1_levelOf 9 = .ok (.if_icmp .ge 41, 3) := dk_162 0 41 (dk_at dksX1_levelOf_0 9 rfl rfl)
theorem dX1_levelOf_12 : decode cX1_levelOf 12 = .ok (.iload_n 2, 1) := dk_28 (dk_at dksX1_levelOf_0 12 rfl rfl)
theorem dX1_levelOf_13 : decode cX1_levelOf 13 = .ok (.iload_n 1, 1) := dk_27 (dk_at dksX1_levelOf_0 13 rfl rfl)
theorem dX1_levelOf_14 : decode cX1_levelOf 14 = .ok (.aload_n 0, 1) := dk_42 (dk_at dksX1_levelOf_0 14 rfl rfl)
theorem dX1_levelOf_15 : decode cX1_levelOf 15 = .ok (.getfield 12, 3) := dk_180 0 12 (dk_at dksX1_levelOf_0 15 rfl rfl)
theorem dX1_levelOf_18 : decode cX1_levelOf 18 = .ok (.getfield 140, 3) := dk_180 0 140 (dk_at dksX1_levelOf_0 18 rfl rfl)
theorem dX1_levelOf_21 : decode cX1_levelOf 21 = .ok (.iload_n 3, 1) := dk_29 (dk_at dksX1_levelOf_0 21 rfl rfl)
theorem dX1_levelOf_22 : decode cX1_levelOf 22 = .ok (.iaload, 1) := dk_46 (dk_at dksX1_levelOf_0 22 rfl rfl)
theorem dX1_levelOf_23 : decode cX1_levelOf 23 = .ok (.invokestatic 129, 3) := dk_184 0 129 (dk_at dksX1_levelOf_1 0 rfl rfl)
theorem dX1_levelOf_26 : decode cX1_levelOf 26 = .ok (.ifCond .eq 15, 3) := dk_153 0 15 (dk_at dksX1_levelOf_1 3 rfl rfl)
theorem dX1_levelOf_29 : decode cX1_levelOf 29 = .ok (.aload_n 0, 1) := dk_42 (dk_at dksX1_levelOf_1 6 rfl rfl)
theorem dX1_levelOf_30 : decode cX1_levelOf 30 = .ok (.getfield 12, 3) := dk_180 0 12 (dk_at dksX1_levelOf_1 7 rfl rfl)
theorem dX1_levelOf_33 : decode cX1_levelOf 33 = .ok (.getfield 133, 3) := dk_180 0 133 (dk_at dksX1_levelOf_1 10 rfl rfl)
theorem dX1_levelOf_36 : decode cX1_levelOf 36 = .ok (.iload_n 3, 1) := dk_29 (dk_at dksX1_levelOf_1 13 rfl rfl)
theorem dX1_levelOf_37 : decode cX1_levelOf 37 = .ok (.iaload, 1) := dk_46 (dk_at dksX1_levelOf_1 14 rfl rfl)
theorem dX1_levelOf_38 : decode cX1_levelOf 38 = .ok (.goto 4, 3) := dk_167 0 4 (dk_at dksX1_levelOf_1 15 rfl rfl)
theorem dX1_levelOf_41 : decode cX1_levelOf 41 = .ok (.iconst 0, 1) := dk_3 (dk_at dksX1_levelOf_1 18 rfl rfl)
theorem dX1_levelOf_42 : decode cX1_levelOf 42 = .ok (.iadd, 1) := dk_96 (dk_at dksX1_levelOf_1 19 rfl rfl)
theorem dX1_levelOf_43 : decode cX1_levelOf 43 = .ok (.istore_n 2, 1) := dk_61 (dk_at dksX1_levelOf_1 20 rfl rfl)
theorem dX1_levelOf_44 : decode cX1_levelOf 44 = .ok (.iinc 3 1, 3) := dk_132 3 1 (dk_at dksX1_levelOf_1 21 rfl rfl)
theorem dX1_levelOf_47 : decode cX1_levelOf 47 = .ok (.goto (-43), 3) := dk_167 255 213 (dk_at dksX1_levelOf_2 0 rfl rfl)
theorem dX1_levelOf_50 : decode cX1_levelOf 50 = .ok (.iload_n 2, 1) := dk_28 (dk_at dksX1_levelOf_2 3 rfl rfl)
theorem dX1_levelOf_51 : decode cX1_levelOf 51 = .ok (.ireturn, 1) := dk_172 (dk_at dksX1_levelOf_2 4 rfl rfl)
abbrev cX1_wants : ByteArray := prog_1_method_85_code
def yX1_wants : MethodName := ⟨RX1, "wants", "(I)I"⟩
def dkwX1_wants_4 : List UInt8 := [167, 0, 4, 29, 62, 132, 4, 1, 167, 255, 181, 42, 29, 182, 1, 149, 172]
abbrev dktX1_wants_4 : List UInt8 := dkwX1_wants_4 ++ []
def dkwX1_wants_3 : List UInt8 := [167, 0, 4, 3, 54, 5, 21, 5, 153, 0, 17, 21, 4, 29, 184, 1, 142, 153, 0, 8, 21, 4]
abbrev dktX1_wants_3 : List UInt8 := dkwX1_wants_3 ++ dktX1_wants_4
def dkwX1_wants_2 : List UInt8 := [180, 0, 133, 21, 4, 28, 128, 182, 0, 136, 104, 42, 42, 180, 0, 12, 182, 1, 54, 164, 0, 7, 4]
abbrev dktX1_wants_2 : List UInt8 := dkwX1_wants_2 ++ dktX1_wants_3
def dkwX1_wants_1 : List UInt8 := [54, 4, 21, 4, 42, 182, 0, 125, 163, 0, 72, 21, 4, 28, 126, 154, 0, 35, 5, 42, 42, 180, 0, 12]
abbrev dktX1_wants_1 : List UInt8 := dkwX1_wants_1 ++ dktX1_wants_2
def dkwX1_wants_0 : List UInt8 := [27, 133, 9, 20, 1, 52, 184, 0, 121, 154, 0, 5, 2, 172, 42, 27, 182, 1, 134, 61, 2, 62, 3]
abbrev dktX1_wants_0 : List UInt8 := dkwX1_wants_0 ++ dktX1_wants_1
theorem dksX1_wants_0 : cX1_wants.data.toList.drop 0 = dktX1_wants_0 := by decide +kernel
theorem dksX1_wants_1 : cX1_wants.data.toList.drop 23 = dktX1_wants_1 := dk_seg dksX1_wants_0 23 rfl rfl
theorem dksX1_wants_2 : cX1_wants.data.toList.drop 47 = dktX1_wants_2 := dk_seg dksX1_wants_1 24 rfl rfl
theorem dksX1_wants_3 : cX1_wants.data.toList.drop 70 = dktX1_wants_3 := dk_seg dksX1_wants_2 23 rfl rfl
theorem dksX1_wants_4 : cX1_wants.data.toList.drop 92 = dktX1_wants_4 := dk_seg dksX1_wants_3 22 rfl rfl
theorem dX1_wants_0 : decode cX1_wants 0 = .ok (.iload_n 1, 1) := dk_27 (dk_at dksX1_wants_0 0 rfl rfl)
theorem dX1_wants_1 : decode cX1_wants 1 = .ok (.i2l, 1) := dk_133 (dk_at dksX1_wants_0 1 rfl rfl)
theorem dX1_wants_2 : decode cX1_wants 2 = .ok (.lconst 0, 1) := dk_9 (dk_at dksX1_wants_0 2 rfl rfl)
theorem dX1_wants_3 : decode cX1_wants 3 = .ok (.ldc2_w 308, 3) := dk_20 1 52 (dk_at dksX1_wants_0 3 rfl rfl)
theorem dX1_wants_6 : decode cX1_wants 6 = .ok (.invokestatic 121, 3) := dk_184 0 121 (dk_at dksX1_wants_0 6 rfl rfl)
theorem dX1_wants_9 : decode cX1_wants 9 = .ok (.ifCond .ne 5, 3) := dk_154 0 5 (dk_at dksX1_wants_0 9 rfl rfl)
theorem dX1_wants_12 : decode cX1_wants 12 = .ok (.iconst (-1), 1) := dk_2 (dk_at dksX1_wants_0 12 rfl rfl)
theorem dX1_wants_13 : decode cX1_wants 13 = .ok (.ireturn, 1) := dk_172 (dk_at dksX1_wants_0 13 rfl rfl)
theorem dX1_wants_14 : decode cX1_wants 14 = .ok (.aload_n 0, 1) := dk_42 (dk_at dksX1_wants_0 14 rfl rfl)
theorem dX1_wants_15 : decode cX1_wants 15 = .ok (.iload_n 1, 1) := dk_27 (dk_at dksX1_wants_0 15 rfl rfl)
theorem dX1_wants_16 : decode cX1_wants 16 = .ok (.invokevirtual 390, 3) := dk_182 1 134 (dk_at dksX1_wants_0 16 rfl rfl)
theorem dX1_wants_19 : decode cX1_wants 19 = .ok (.istore_n 2, 1) := dk_61 (dk_at dksX1_wants_0 19 rfl rfl)
theorem dX1_wants_20 : decode cX1_wants 20 = .ok (.iconst (-1), 1) := dk_2 (dk_at dksX1_wants_0 20 rfl rfl)
theorem dX1_wants_21 : decode cX1_wants 21 = .ok (.istore_n 3, 1) := dk_62 (dk_at dksX1_wants_0 21 rfl rfl)
theorem dX1_wants_22 : decode cX1_wants 22 = .ok (.iconst 0, 1) := dk_3 (dk_at dksX1_wants_0 22 rfl rfl)
theorem dX1_wants_23 : decode cX1_wants 23 = .ok (.istore 4, 2) := dk_54 4 (dk_at dksX1_wants_1 0 rfl rfl)
theorem dX1_wants_25 : decode cX1_wants 25 = .ok (.iload 4, 2) := dk_21 4 (dk_at dksX1_wants_1 2 rfl rfl)
theorem dX1_wants_27 : decode cX1_wants 27 = .ok (.aload_n 0, 1) := dk_42 (dk_at dksX1_wants_1 4 rfl rfl)
theorem dX1_wants_28 : decode cX1_wants 28 = .ok (.invokevirtual 125, 3) := dk_182 0 125 (dk_at dksX1_wants_1 5 rfl rfl)
theorem dX1_wants_31 : decode cX1_wants 31 = .ok (.if_icmp .gt 72, 3) := dk_163 0 72 (dk_at dksX1_wants_1 8 rfl rfl)
theorem dX1_wants_34 : decode cX1_wants 34 = .ok (.iload 4, 2) := dk_21 4 (dk_at dksX1_wants_1 11 rfl rfl)
theorem dX1_wants_36 : decode cX1_wants 36 = .ok (.iload_n 2, 1) := dk_28 (dk_at dksX1_wants_1 13 rfl rfl)
theorem dX1_wants_37 : decode cX1_wants 37 = .ok (.iand, 1) := dk_126 (dk_at dksX1_wants_1 14 rfl rfl)
theorem dX1_wants_38 : decode cX1_wants 38 = .ok (.ifCond .ne 35, 3) := dk_154 0 35 (dk_at dksX1_wants_1 15 rfl rfl)
theorem dX1_wants_41 : decode cX1_wants 41 = .ok (.iconst 2, 1) := dk_5 (dk_at dksX1_wants_1 18 rfl rfl)
theorem dX1_wants_42 : decode cX1_wants 42 = .ok (.aload_n 0, 1) := dk_42 (dk_at dksX1_wants_1 19 rfl rfl)
theorem dX1_wants_43 : decode cX1_wants 43 = .ok (.aload_n 0, 1) := dk_42 (dk_at dksX1_wants_1 20 rfl rfl)
theorem dX1_wants_44 : decode cX1_wants 44 = .ok (.getfield 12, 3) := dk_180 0 12 (dk_at dksX1_wants_1 21 rfl rfl)
theorem dX1_wants_47 : decode cX1_wants 47 = .ok (.getfield 133, 3) := dk_180 0 133 (dk_at dksX1_wants_2 0 rfl rfl)
theorem dX1_wants_50 : decode cX1_wants 50 = .ok (.iload 4, 2) := dk_21 4 (dk_at dksX1_wants_2 3 rfl rfl)
theorem dX1_wants_52 : decode cX1_wants 52 = .ok (.iload_n 2, 1) := dk_28 (dk_at dksX1_wants_2 5 rfl rfl)
theorem dX1_wants_53 : decode cX1_wants 53 = .ok (.ior, 1) := dk_128 (dk_at dksX1_wants_2 6 rfl rfl)
theorem dX1_wants_54 : decode cX1_wants 54 = .ok (.invokevirtual 136, 3) := dk_182 0 136 (dk_at dksX1_wants_2 7 rfl rfl)
theorem dX1_wants_57 : decode cX1_wants 57 = .ok (.imul, 1) := dk_104 (dk_at dksX1_wants_2 10 rfl rfl)
theorem dX1_wants_58 : decode cX1_wants 58 = .ok (.aload_n 0, 1) := dk_42 (dk_at dksX1_wants_2 11 rfl rfl)
theorem dX1_wants_59 : decode cX1_wants 59 = .ok (.aload_n 0, 1) := dk_42 (dk_at dksX1_wants_2 12 rfl rfl)
theorem dX1_wants_60 : decode cX1_wants 60 = .ok (.getfield 12, 3) := dk_180 0 12 (dk_at dksX1_wants_2 13 rfl rfl)
theorem dX1_wants_63 : decode cX1_wants 63 = .ok (.invokevirtual 310, 3) := dk_182 1 54 (dk_at dksX1_wants_2 16 rfl rfl)
theorem dX1_wants_66 : decode cX1_wants 66 = .ok (.if_icmp .le 7, 3) := dk_164 0 7 (dk_at dksX1_wants_2 19 rfl rfl)
theorem dX1_wants_69 : decode cX1_wants 69 = .ok (.iconst 1, 1) := dk_4 (dk_at dksX1_wants_2 22 rfl rfl)
theorem dX1_wants_70 : decode cX1_wants 70 = .ok (.goto 4, 3) := dk_167 0 4 (dk_at dksX1_wants_3 0 rfl rfl)
theorem dX1_wants_73 : decode cX1_wants 73 = .ok (.iconst 0, 1) := dk_3 (dk_at dksX1_wants_3 3 rfl rfl)
theorem dX1_wants_74 : decode cX1_wants 74 = .ok (.istore 5, 2) := dk_54 5 (dk_at dksX1_wants_3 4 rfl rfl)
theorem dX1_wants_76 : decode cX1_wants 76 = .ok (.iload 5, 2) := dk_21 5 (dk_at dksX1_wants_3 6 rfl rfl)
theorem dX1_wants_78 : decode cX1_wants 78 = .ok (.ifCond .eq 17, 3) := dk_153 0 17 (dk_at dksX1_wants_3 8 rfl rfl)
theorem dX1_wants_81 : decode cX1_wants 81 = .ok (.iload 4, 2) := dk_21 4 (dk_at dksX1_wants_3 11 rfl rfl)
theorem dX1_wants_83 : decode cX1_wants 83 = .ok (.iload_n 3, 1) := dk_29 (dk_at dksX1_wants_3 13 rfl rfl)
theorem dX1_wants_84 : decode cX1_wants 84 = .ok (.invokestatic 398, 3) := dk_184 1 142 (dk_at dksX1_wants_3 14 rfl rfl)
theorem dX1_wants_87 : decode cX1_wants 87 = .ok (.ifCond .eq 8, 3) := dk_153 0 8 (dk_at dksX1_wants_3 17 rfl rfl)
theorem dX1_wants_90 : decode cX1_wants 90 = .ok (.iload 4, 2) := dk_21 4 (dk_at dksX1_wants_3 20 rfl rfl)
theorem dX1_wants_92 : decode cX1_wants 92 = .ok (.goto 4, 3) := dk_167 0 4 (dk_at dksX1_wants_4 0 rfl rfl)
theorem dX1_wants_95 : decode cX1_wants 95 = .ok (.iload_n 3, 1) := dk_29 (dk_at dksX1_wants_4 3 rfl rfl)
theorem dX1_wants_96 : decode cX1_wants 96 = .ok (.istore_n 3, 1) := dk_62 (dk_at dksX1_wants_4 4 rfl rfl)
theorem dX1_wants_97 : decode cX1_wants 97 = .ok (.iinc 4 1, 3) := dk_132 4 1 (dk_at dksX1_wants_4 5 rfl rfl)
theorem dX1_wants_100 : decode cX1_wants 100 = .ok (.goto (-75), 3) := dk_167 255 181 (dk_at dksX1_wants_4 8 rfl rfl)
theorem dX1_wants_103 : decode cX1_wants 103 = .ok (.aload_n 0, 1) := dk_42 (dk_at dksX1_wants_4 11 rfl rfl)
theorem dX1_wants_104 : decode cX1_wants 104 = .ok (.iload_n 3, 1) := dk_29 (dk_at dksX1_wants_4 12 rfl rfl)
theorem dX1_wants_105 : decode cX1_wants 105 = .ok (.invokevirtual 405, 3) := dk_182 1 149 (dk_at dksX1_wants_4 13 rfl rfl)
theorem dX1_wants_108 : decode cX1_wants 108 = .ok (.ireturn, 1) := dk_172 (dk_at dksX1_wants_4 16 rfl rfl)
abbrev cX1_evens : ByteArray := prog_1_method_86_code
def yX1_evens : MethodName := ⟨RX1, "evens", "()I"⟩
def dkwX1_evens_3 : List UInt8 := [181, 1, 94, 42, 27, 133, 182, 1, 97, 28, 172]
abbrev dktX1_evens_3 : List UInt8 := dkwX1_evens_3 ++ []
def dkwX1_evens_2 : List UInt8 := [162, 0, 7, 29, 167, 0, 4, 27, 60, 28, 21, 4, 184, 0, 152, 61, 132, 3, 2, 167, 255, 198, 42, 3]
abbrev dktX1_evens_2 : List UInt8 := dkwX1_evens_2 ++ dktX1_evens_3
def dkwX1_evens_1 : List UInt8 := [5, 42, 42, 180, 0, 12, 180, 0, 133, 29, 182, 0, 136, 104, 100, 184, 1, 185, 54, 4, 21, 4, 28]
abbrev dktX1_evens_1 : List UInt8 := dkwX1_evens_1 ++ dktX1_evens_2
def dkwX1_evens_0 : List UInt8 := [3, 60, 19, 1, 173, 61, 3, 62, 29, 42, 182, 0, 125, 163, 0, 56, 42, 42, 180, 0, 12, 182, 1, 54]
abbrev dktX1_evens_0 : List UInt8 := dkwX1_evens_0 ++ dktX1_evens_1
theorem dksX1_evens_0 : cX1_evens.data.toList.drop 0 = dktX1_evens_0 := by decide +kernel
theorem dksX1_evens_1 : cX1_evens.data.toList.drop 24 = dktX1_evens_1 := dk_seg dksX1_evens_0 24 rfl rfl
theorem dksX1_evens_2 : cX1_evens.data.toList.drop 47 = dktX1_evens_2 := dk_seg dksX1_evens_1 23 rfl rfl
theorem dksX1_evens_3 : cX1_evens.data.toList.drop 71 = dktX1_evens_3 := dk_seg dksX1_evens_2 24 rfl rfl
theorem dX1_evens_0 : decode cX1_evens 0 = .ok (.iconst 0, 1) := dk_3 (dk_at dksX1_evens_0 0 rfl rfl)
theorem dX1_evens_1 : decode cX1_evens 1 = .ok (.istore_n 1, 1) := dk_60 (dk_at dksX1_evens_0 1 rfl rfl)
theorem dX1_evens_2 : decode cX1_evens 2 = .ok (.ldc_w 429, 3) := dk_19 1 173 (dk_at dksX1_evens_0 2 rfl rfl)
theorem dX1_evens_5 : decode cX1_evens 5 = .ok (.istore_n 2, 1) := dk_61 (dk_at dksX1_evens_0 5 rfl rfl)
theorem dX1_evens_6 : decode cX1_evens 6 = .ok (.iconst 0, 1) := dk_3 (dk_at dksX1_evens_0 6 rfl rfl)
theorem dX1_evens_7 : decode cX1_evens 7 = .ok (.istore_n 3, 1) := dk_62 (dk_at dksX1_evens_0 7 rfl rfl)
theorem dX1_evens_8 : decode cX1_evens 8 = .ok (.iload_n 3, 1) := dk_29 (dk_at dksX1_evens_0 8 rfl rfl)
theorem dX1_evens_9 : decode cX1_evens 9 = .ok (.aload_n 0, 1) := dk_42 (dk_at dksX1_evens_0 9 rfl rfl)
theorem dX1_evens_10 : decode cX1_evens 10 = .ok (.invokevirtual 125, 3) := dk_182 0 125 (dk_at dksX1_evens_0 10 rfl rfl)
theorem dX1_evens_13 : decode cX1_evens 13 = .ok (.if_icmp .gt 56, 3) := dk_163 0 56 (dk_at dksX1_evens_0 13 rfl rfl)
theorem dX1_evens_16 : decode cX1_evens 16 = .ok (.aload_n 0, 1) := dk_42 (dk_at dksX1_evens_0 16 rfl rfl)
theorem dX1_evens_17 : decode cX1_evens 17 = .ok (.aload_n 0, 1) := dk_42 (dk_at dksX1_evens_0 17 rfl rfl)
theorem dX1_evens_18 : decode cX1_evens 18 = .ok (.getfield 12, 3) := dk_180 0 12 (dk_at dksX1_evens_0 18 rfl rfl)
theorem dX1_evens_21 : decode cX1_evens 21 = .ok (.invokevirtual 310, 3) := dk_182 1 54 (dk_at dksX1_evens_0 21 rfl rfl)
theorem dX1_evens_24 : decode cX1_evens 24 = .ok (.iconst 2, 1) := dk_5 (dk_at dksX1_evens_1 0 rfl rfl)
theorem dX1_evens_25 : decode cX1_evens 25 = .ok (.aload_n 0, 1) := dk_42 (dk_at dksX1_evens_1 1 rfl rfl)
theorem dX1_evens_26 : decode cX1_evens 26 = .ok (.aload_n 0, 1) := dk_42 (dk_at dksX1_evens_1 2 rfl rfl)
theorem dX1_evens_27 : decode cX1_evens 27 = .ok (.getfield 12, 3) := dk_180 0 12 (dk_at dksX1_evens_1 3 rfl rfl)
theorem dX1_evens_30 : decode cX1_evens 30 = .ok (.getfield 133, 3) := dk_180 0 133 (dk_at dksX1_evens_1 6 rfl rfl)
theorem dX1_evens_33 : decode cX1_evens 33 = .ok (.iload_n 3, 1) := dk_29 (dk_at dksX1_evens_1 9 rfl rfl)
theorem dX1_evens_34 : decode cX1_evens 34 = .ok (.invokevirtual 136, 3) := dk_182 0 136 (dk_at dksX1_evens_1 10 rfl rfl)
theorem dX1_evens_37 : decode cX1_evens 37 = .ok (.imul, 1) := dk_104 (dk_at dksX1_evens_1 13 rfl rfl)
theorem dX1_evens_38 : decode cX1_evens 38 = .ok (.isub, 1) := dk_100 (dk_at dksX1_evens_1 14 rfl rfl)
theorem dX1_evens_39 : decode cX1_evens 39 = .ok (.invokestatic 441, 3) := dk_184 1 185 (dk_at dksX1_evens_1 15 rfl rfl)
theorem dX1_evens_42 : decode cX1_evens 42 = .ok (.istore 4, 2) := dk_54 4 (dk_at dksX1_evens_1 18 rfl rfl)
theorem dX1_evens_44 : decode cX1_evens 44 = .ok (.iload 4, 2) := dk_21 4 (dk_at dksX1_evens_1 20 rfl rfl)
theorem dX1_evens_46 : decode cX1_evens 46 = .ok (.iload_n 2, 1) := dk_28 (dk_at dksX1_evens_1 22 rfl rfl)
theorem dX1_evens_47 : decode cX1_evens 47 = .ok (.if_icmp .ge 7, 3) := dk_162 0 7 (dk_at dksX1_evens_2 0 rfl rfl)
theorem dX1_evens_50 : decode cX1_evens 50 = .ok (.iload_n 3, 1) := dk_29 (dk_at dksX1_evens_2 3 rfl rfl)
theorem dX1_evens_51 : decode cX1_evens 51 = .ok (.goto 4, 3) := dk_167 0 4 (dk_at dksX1_evens_2 4 rfl rfl)
theorem dX1_evens_54 : decode cX1_evens 54 = .ok (.iload_n 1, 1) := dk_27 (dk_at dksX1_evens_2 7 rfl rfl)
theorem dX1_evens_55 : decode cX1_evens 55 = .ok (.istore_n 1, 1) := dk_60 (dk_at dksX1_evens_2 8 rfl rfl)
theorem dX1_evens_56 : decode cX1_evens 56 = .ok (.iload_n 2, 1) := dk_28 (dk_at dksX1_evens_2 9 rfl rfl)
theorem dX1_evens_57 : decode cX1_evens 57 = .ok (.iload 4, 2) := dk_21 4 (dk_at dksX1_evens_2 10 rfl rfl)
theorem dX1_evens_59 : decode cX1_evens 59 = .ok (.invokestatic 152, 3) := dk_184 0 152 (dk_at dksX1_evens_2 12 rfl rfl)
theorem dX1_evens_62 : decode cX1_evens 62 = .ok (.istore_n 2, 1) := dk_61 (dk_at dksX1_evens_2 15 rfl rfl)
theorem dX1_evens_63 : decode cX1_evens 63 = .ok (.iinc 3 2, 3) := dk_132 3 2 (dk_at dksX1_evens_2 16 rfl rfl)
theorem dX1_evens_66 : decode cX1_evens 66 = .ok (.goto (-58), 3) := dk_167 255 198 (dk_at dksX1_evens_2 19 rfl rfl)
theorem dX1_evens_69 : decode cX1_evens 69 = .ok (.aload_n 0, 1) := dk_42 (dk_at dksX1_evens_2 22 rfl rfl)
theorem dX1_evens_70 : decode cX1_evens 70 = .ok (.iconst 0, 1) := dk_3 (dk_at dksX1_evens_2 23 rfl rfl)
theorem dX1_evens_71 : decode cX1_evens 71 = .ok (.putfield 350, 3) := dk_181 1 94 (dk_at dksX1_evens_3 0 rfl rfl)
theorem dX1_evens_74 : decode cX1_evens 74 = .ok (.aload_n 0, 1) := dk_42 (dk_at dksX1_evens_3 3 rfl rfl)
theorem dX1_evens_75 : decode cX1_evens 75 = .ok (.iload_n 1, 1) := dk_27 (dk_at dksX1_evens_3 4 rfl rfl)
theorem dX1_evens_76 : decode cX1_evens 76 = .ok (.i2l, 1) := dk_133 (dk_at dksX1_evens_3 5 rfl rfl)
theorem dX1_evens_77 : decode cX1_evens 77 = .ok (.invokevirtual 353, 3) := dk_182 1 97 (dk_at dksX1_evens_3 6 rfl rfl)
theorem dX1_evens_80 : decode cX1_evens 80 = .ok (.iload_n 2, 1) := dk_28 (dk_at dksX1_evens_3 9 rfl rfl)
theorem dX1_evens_81 : decode cX1_evens 81 = .ok (.ireturn, 1) := dk_172 (dk_at dksX1_evens_3 10 rfl rfl)
abbrev cX1_feared : ByteArray := prog_1_method_87_code
def yX1_feared : MethodName := ⟨RX1, "feared", "()I"⟩
def dkwX1_feared_2 : List UInt8 := [132, 3, 1, 167, 255, 215, 42, 3, 181, 1, 94, 42, 28, 133, 182, 1, 97, 27, 172]
abbrev dktX1_feared_2 : List UInt8 := dkwX1_feared_2 ++ []
def dkwX1_feared_1 : List UInt8 := [182, 1, 177, 54, 4, 21, 4, 28, 162, 0, 7, 29, 167, 0, 4, 27, 60, 28, 21, 4, 184, 0, 152, 61]
abbrev dktX1_feared_1 : List UInt8 := dkwX1_feared_1 ++ dktX1_feared_2
def dkwX1_feared_0 : List UInt8 := [3, 60, 19, 1, 173, 61, 3, 62, 29, 7, 162, 0, 42, 42, 16, 15, 4, 29, 120, 2, 130, 126]
abbrev dktX1_feared_0 : List UInt8 := dkwX1_feared_0 ++ dktX1_feared_1
theorem dksX1_feared_0 : cX1_feared.data.toList.drop 0 = dktX1_feared_0 := by decide +kernel
theorem dksX1_feared_1 : cX1_feared.data.toList.drop 22 = dktX1_feared_1 := dk_seg dksX1_feared_0 22 rfl rfl
theorem dksX1_feared_2 : cX1_feared.data.toList.drop 46 = dktX1_feared_2 := dk_seg dksX1_feared_1 24 rfl rfl
theorem dX1_feared_0 : decode cX1_feared 0 = .ok (.iconst 0, 1) := dk_3 (dk_at dksX1_feared_0 0 rfl rfl)
theorem dX1_feared_1 : decode cX1_feared 1 = .ok (.istore_n 1, 1) := dk_60 (dk_at dksX1_feared_0 1 rfl rfl)
theorem dX1_feared_2 : decode cX1_feared 2 = .ok (.ldc_w 429, 3) := dk_19 1 173 (dk_at dksX1_feared_0 2 rfl rfl)
theorem dX1_feared_5 : decode cX1_feared 5 = .ok (.istore_n 2, 1) := dk_61 (dk_at dksX1_feared_0 5 rfl rfl)
theorem dX1_feared_6 : decode cX1_feared 6 = .ok (.iconst 0, 1) := dk_3 (dk_at dksX1_feared_0 6 rfl rfl)
theorem dX1_feared_7 : decode cX1_feared 7 = .ok (.istore_n 3, 1) := dk_62 (dk_at dksX1_feared_0 7 rfl rfl)
theorem dX1_feared_8 : decode cX1_feared 8 = .ok (.iload_n 3, 1) := dk_29 (dk_at dksX1_feared_0 8 rfl rfl)
theorem dX1_feared_9 : decode cX1_feared 9 = .ok (.iconst 4, 1) := dk_7 (dk_at dksX1_feared_0 9 rfl rfl)
theorem dX1_feared_10 : decode cX1_feared 10 = .ok (.if_icmp .ge 42, 3) := dk_162 0 42 (dk_at dksX1_feared_0 10 rfl rfl)
theorem dX1_feared_13 : decode cX1_feared 13 = .ok (.aload_n 0, 1) := dk_42 (dk_at dksX1_feared_0 13 rfl rfl)
theorem dX1_feared_14 : decode cX1_feared 14 = .ok (.bipush 15, 2) := dk_16 15 (dk_at dksX1_feared_0 14 rfl rfl)
theorem dX1_feared_16 : decode cX1_feared 16 = .ok (.iconst 1, 1) := dk_4 (dk_at dksX1_feared_0 16 rfl rfl)
theorem dX1_feared_17 : decode cX1_feared 17 = .ok (.iload_n 3, 1) := dk_29 (dk_at dksX1_feared_0 17 rfl rfl)
theorem dX1_feared_18 : decode cX1_feared 18 = .ok (.ishl, 1) := dk_120 (dk_at dksX1_feared_0 18 rfl rfl)
theorem dX1_feared_19 : decode cX1_feared 19 = .ok (.iconst (-1), 1) := dk_2 (dk_at dksX1_feared_0 19 rfl rfl)
theorem dX1_feared_20 : decode cX1_feared 20 = .ok (.ixor, 1) := dk_130 (dk_at dksX1_feared_0 20 rfl rfl)
theorem dX1_feared_21 : decode cX1_feared 21 = .ok (.iand, 1) := dk_126 (dk_at dksX1_feared_0 21 rfl rfl)
theorem dX1_feared_22 : decode cX1_feared 22 = .ok (.invokevirtual 433, 3) := dk_182 1 177 (dk_at dksX1_feared_1 0 rfl rfl)
theorem dX1_feared_25 : decode cX1_feared 25 = .ok (.istore 4, 2) := dk_54 4 (dk_at dksX1_feared_1 3 rfl rfl)
theorem dX1_feared_27 : decode cX1_feared 27 = .ok (.iload 4, 2) := dk_21 4 (dk_at dksX1_feared_1 5 rfl rfl)
theorem dX1_feared_29 : decode cX1_feared 29 = .ok (.iload_n 2, 1) := dk_28 (dk_at dksX1_feared_1 7 rfl rfl)
theorem dX1_feared_30 : decode cX1_feared 30 = .ok (.if_icmp .ge 7, 3) := dk_162 0 7 (dk_at dksX1_feared_1 8 rfl rfl)
theorem dX1_feared_33 : decode cX1_feared 33 = .ok (.iload_n 3, 1) := dk_29 (dk_at dksX1_feared_1 11 rfl rfl)
theorem dX1_feared_34 : decode cX1_feared 34 = .ok (.goto 4, 3) := dk_167 0 4 (dk_at dksX1_feared_1 12 rfl rfl)
theorem dX1_feared_37 : decode cX1_feared 37 = .ok (.iload_n 1, 1) := dk_27 (dk_at dksX1_feared_1 15 rfl rfl)
theorem dX1_feared_38 : decode cX1_feared 38 = .ok (.istore_n 1, 1) := dk_60 (dk_at dksX1_feared_1 16 rfl rfl)
theorem dX1_feared_39 : decode cX1_feared 39 = .ok (.iload_n 2, 1) := dk_28 (dk_at dksX1_feared_1 17 rfl rfl)
theorem dX1_feared_40 : decode cX1_feared 40 = .ok (.iload 4, 2) := dk_21 4 (dk_at dksX1_feared_1 18 rfl rfl)
theorem dX1_feared_42 : decode cX1_feared 42 = .ok (.invokestatic 152, 3) := dk_184 0 152 (dk_at dksX1_feared_1 20 rfl rfl)
theorem dX1_feared_45 : decode cX1_feared 45 = .ok (.istore_n 2, 1) := dk_61 (dk_at dksX1_feared_1 23 rfl rfl)
theorem dX1_feared_46 : decode cX1_feared 46 = .ok (.iinc 3 1, 3) := dk_132 3 1 (dk_at dksX1_feared_2 0 rfl rfl)
theorem dX1_feared_49 : decode cX1_feared 49 = .ok (.goto (-41), 3) := dk_167 255 215 (dk_at dksX1_feared_2 3 rfl rfl)
theorem dX1_feared_52 : decode cX1_feared 52 = .ok (.aload_n 0, 1) := dk_42 (dk_at dksX1_feared_2 6 rfl rfl)
theorem dX1_feared_53 : decode cX1_feared 53 = .ok (.iconst 0, 1) := dk_3 (dk_at dksX1_feared_2 7 rfl rfl)
theorem dX1_feared_54 : decode cX1_feared 54 = .ok (.putfield 350, 3) := dk_181 1 94 (dk_at dksX1_feared_2 8 rfl rfl)
theorem dX1_feared_57 : decode cX1_feared 57 = .ok (.aload_n 0, 1) := dk_42 (dk_at dksX1_feared_2 11 rfl rfl)
theorem dX1_feared_58 : decode cX1_feared 58 = .ok (.iload_n 2, 1) := dk_28 (dk_at dksX1_feared_2 12 rfl rfl)
theorem dX1_feared_59 : decode cX1_feared 59 = .ok (.i2l, 1) := dk_133 (dk_at dksX1_feared_2 13 rfl rfl)
theorem dX1_feared_60 : decode cX1_feared 60 = .ok (.invokevirtual 353, 3) := dk_182 1 97 (dk_at dksX1_feared_2 14 rfl rfl)
theorem dX1_feared_63 : decode cX1_feared 63 = .ok (.iload_n 1, 1) := dk_27 (dk_at dksX1_feared_2 17 rfl rfl)
theorem dX1_feared_64 : decode cX1_feared 64 = .ok (.ireturn, 1) := dk_172 (dk_at dksX1_feared_2 18 rfl rfl)
abbrev cX1_heirs : ByteArray := prog_1_method_89_code
def yX1_heirs : MethodName := ⟨RX1, "heirs", "()I"⟩
def dkwX1_heirs_4 : List UInt8 := [46, 133, 182, 1, 97, 132, 2, 1, 167, 255, 237, 42, 180, 1, 188, 172]
abbrev dktX1_heirs_4 : List UInt8 := dkwX1_heirs_4 ++ []
def dkwX1_heirs_3 : List UInt8 := [27, 3, 3, 182, 1, 197, 42, 3, 181, 1, 94, 3, 61, 28, 27, 162, 0, 20, 42, 42, 180, 0, 94, 28]
abbrev dktX1_heirs_3 : List UInt8 := dkwX1_heirs_3 ++ dktX1_heirs_4
def dkwX1_heirs_2 : List UInt8 := [180, 0, 146, 42, 180, 0, 158, 162, 0, 10, 2, 42, 180, 0, 146, 100, 172, 42, 2, 181, 1, 188, 42, 3]
abbrev dktX1_heirs_2 : List UInt8 := dkwX1_heirs_2 ++ dktX1_heirs_3
def dkwX1_heirs_1 : List UInt8 := [42, 180, 0, 88, 27, 42, 18, 192, 182, 0, 194, 79, 132, 1, 1, 167, 255, 226, 27, 153, 0, 14, 42]
abbrev dktX1_heirs_1 : List UInt8 := dkwX1_heirs_1 ++ dktX1_heirs_2
def dkwX1_heirs_0 : List UInt8 := [42, 16, 80, 182, 0, 212, 87, 3, 60, 27, 16, 6, 162, 0, 30, 42, 18, 192, 182, 0, 171, 155, 0, 21]
abbrev dktX1_heirs_0 : List UInt8 := dkwX1_heirs_0 ++ dktX1_heirs_1
theorem dksX1_heirs_0 : cX1_heirs.data.toList.drop 0 = dktX1_heirs_0 := by decide +kernel
theorem dksX1_heirs_1 : cX1_heirs.data.toList.drop 24 = dktX1_heirs_1 := dk_seg dksX1_heirs_0 24 rfl rfl
theorem dksX1_heirs_2 : cX1_heirs.data.toList.drop 47 = dktX1_heirs_2 := dk_seg dksX1_heirs_1 23 rfl rfl
theorem dksX1_heirs_3 : cX1_heirs.data.toList.drop 71 = dktX1_heirs_3 := dk_seg dksX1_heirs_2 24 rfl rfl
theorem dksX1_heirs_4 : cX1_heirs.data.toList.drop 95 = dktX1_heirs_4 := dk_seg dksX1_heirs_3 24 rfl rfl
theorem dX1_heirs_0 : decode cX1_heirs 0 = .ok (.aload_n 0, 1) := dk_42 (dk_at dksX1_heirs_0 0 rfl rfl)
theorem dX1_heirs_1 : decode cX1_heirs 1 = .ok (.bipush 80, 2) := dk_16 80 (dk_at dksX1_heirs_0 1 rfl rfl)
theorem dX1_heirs_3 : decode cX1_heirs 3 = .ok (.invokevirtual 212, 3) := dk_182 0 212 (dk_at dksX1_heirs_0 3 rfl rfl)
theorem dX1_heirs_6 : decode cX1_heirs 6 = .ok (.pop, 1) := dk_87 (dk_at dksX1_heirs_0 6 rfl rfl)
theorem dX1_heirs_7 : decode cX1_heirs 7 = .ok (.iconst 0, 1) := dk_3 (dk_at dksX1_heirs_0 7 rfl rfl)
theorem dX1_heirs_8 : decode cX1_heirs 8 = .ok (.istore_n 1, 1) := dk_60 (dk_at dksX1_heirs_0 8 rfl rfl)
theorem dX1_heirs_9 : decode cX1_heirs 9 = .ok (.iload_n 1, 1) := dk_27 (dk_at dksX1_heirs_0 9 rfl rfl)
theorem dX1_heirs_10 : decode cX1_heirs 10 = .ok (.bipush 6, 2) := dk_16 6 (dk_at dksX1_heirs_0 10 rfl rfl)
theorem dX1_heirs_12 : decode cX1_heirs 12 = .ok (.if_icmp .ge 30, 3) := dk_162 0 30 (dk_at dksX1_heirs_0 12 rfl rfl)
theorem dX1_heirs_15 : decode cX1_heirs 15 = .ok (.aload_n 0, 1) := dk_42 (dk_at dksX1_heirs_0 15 rfl rfl)
theorem dX1_heirs_16 : decode cX1_heirs 16 = .ok (.ldc 192, 2) := dk_18 192 (dk_at dksX1_heirs_0 16 rfl rfl)
theorem dX1_heirs_18 : decode cX1_heirs 18 = .ok (.invokevirtual 171, 3) := dk_182 0 171 (dk_at dksX1_heirs_0 18 rfl rfl)
theorem dX1_heirs_21 : decode cX1_heirs 21 = .ok (.ifCond .lt 21, 3) := dk_155 0 21 (dk_at dksX1_heirs_0 21 rfl rfl)
theorem dX1_heirs_24 : decode cX1_heirs 24 = .ok (.aload_n 0, 1) := dk_42 (dk_at dksX1_heirs_1 0 rfl rfl)
theorem dX1_heirs_25 : decode cX1_heirs 25 = .ok (.getfield 88, 3) := dk_180 0 88 (dk_at dksX1_heirs_1 1 rfl rfl)
theorem dX1_heirs_28 : decode cX1_heirs 28 = .ok (.iload_n 1, 1) := dk_27 (dk_at dksX1_heirs_1 4 rfl rfl)
theorem dX1_heirs_29 : decode cX1_heirs 29 = .ok (.aload_n 0, 1) := dk_42 (dk_at dksX1_heirs_1 5 rfl rfl)
theorem dX1_heirs_30 : decode cX1_heirs 30 = .ok (.ldc 192, 2) := dk_18 192 (dk_at dksX1_heirs_1 6 rfl rfl)
theorem dX1_heirs_32 : decode cX1_heirs 32 = .ok (.invokevirtual 194, 3) := dk_182 0 194 (dk_at dksX1_heirs_1 8 rfl rfl)
theorem dX1_heirs_35 : decode cX1_heirs 35 = .ok (.iastore, 1) := dk_79 (dk_at dksX1_heirs_1 11 rfl rfl)
theorem dX1_heirs_36 : decode cX1_heirs 36 = .ok (.iinc 1 1, 3) := dk_132 1 1 (dk_at dksX1_heirs_1 12 rfl rfl)
theorem dX1_heirs_39 : decode cX1_heirs 39 = .ok (.goto (-30), 3) := dk_167 255 226 (dk_at dksX1_heirs_1 15 rfl rfl)
theorem dX1_heirs_42 : decode cX1_heirs 42 = .ok (.iload_n 1, 1) := dk_27 (dk_at dksX1_heirs_1 18 rfl rfl)
theorem dX1_heirs_43 : decode cX1_heirs 43 = .ok (.ifCond .eq 14, 3) := dk_153 0 14 (dk_at dksX1_heirs_1 19 rfl rfl)
theorem dX1_heirs_46 : decode cX1_heirs 46 = .ok (.aload_n 0, 1) := dk_42 (dk_at dksX1_heirs_1 22 rfl rfl)
theorem dX1_heirs_47 : decode cX1_heirs 47 = .ok (.getfield 146, 3) := dk_180 0 146 (dk_at dksX1_heirs_2 0 rfl rfl)
theorem dX1_heirs_50 : decode cX1_heirs 50 = .ok (.aload_n 0, 1) := dk_42 (dk_at dksX1_heirs_2 3 rfl rfl)
theorem dX1_heirs_51 : decode cX1_heirs 51 = .ok (.getfield 158, 3) := dk_180 0 158 (dk_at dksX1_heirs_2 4 rfl rfl)
theorem dX1_heirs_54 : decode cX1_heirs 54 = .ok (.if_icmp .ge 10, 3) := dk_162 0 10 (dk_at dksX1_heirs_2 7 rfl rfl)
theorem dX1_heirs_57 : decode cX1_heirs 57 = .ok (.iconst (-1), 1) := dk_2 (dk_at dksX1_heirs_2 10 rfl rfl)
theorem dX1_heirs_58 : decode cX1_heirs 58 = .ok (.aload_n 0, 1) := dk_42 (dk_at dksX1_heirs_2 11 rfl rfl)
theorem dX1_heirs_59 : decode cX1_heirs 59 = .ok (.getfield 146, 3) := dk_180 0 146 (dk_at dksX1_heirs_2 12 rfl rfl)
theorem dX1_heirs_62 : decode cX1_heirs 62 = .ok (.isub, 1) := dk_100 (dk_at dksX1_heirs_2 15 rfl rfl)
theorem dX1_heirs_63 : decode cX1_heirs 63 = .ok (.ireturn, 1) := dk_172 (dk_at dksX1_heirs_2 16 rfl rfl)
theorem dX1_heirs_64 : decode cX1_heirs 64 = .ok (.aload_n 0, 1) := dk_42 (dk_at dksX1_heirs_2 17 rfl rfl)
theorem dX1_heirs_65 : decode cX1_heirs 65 = .ok (.iconst (-1), 1) := dk_2 (dk_at dksX1_heirs_2 18 rfl rfl)
theorem dX1_heirs_66 : decode cX1_heirs 66 = .ok (.putfield 444, 3) := dk_181 1 188 (dk_at dksX1_heirs_2 19 rfl rfl)
theorem dX1_heirs_69 : decode cX1_heirs 69 = .ok (.aload_n 0, 1) := dk_42 (dk_at dksX1_heirs_2 22 rfl rfl)
theorem dX1_heirs_70 : decode cX1_heirs 70 = .ok (.iconst 0, 1) := dk_3 (dk_at dksX1_heirs_2 23 rfl rfl)
theorem dX1_heirs_71 : decode cX1_heirs 71 = .ok (.iload_n 1, 1) := dk_27 (dk_at dksX1_heirs_3 0 rfl rfl)
theorem dX1_heirs_72 : decode cX1_heirs 72 = .ok (.iconst 0, 1) := dk_3 (dk_at dksX1_heirs_3 1 rfl rfl)
theorem dX1_heirs_73 : decode cX1_heirs 73 = .ok (.iconst 0, 1) := dk_3 (dk_at dksX1_heirs_3 2 rfl rfl)
theorem dX1_heirs_74 : decode cX1_heirs 74 = .ok (.invokevirtual 453, 3) := dk_182 1 197 (dk_at dksX1_heirs_3 3 rfl rfl)
theorem dX1_heirs_77 : decode cX1_heirs 77 = .ok (.aload_n 0, 1) := dk_42 (dk_at dksX1_heirs_3 6 rfl rfl)
theorem dX1_heirs_78 : decode cX1_heirs 78 = .ok (.iconst 0, 1) := dk_3 (dk_at dksX1_heirs_3 7 rfl rfl)
theorem dX1_heirs_79 : decode cX1_heirs 79 = .ok (.putfield 350, 3) := dk_181 1 94 (dk_at dksX1_heirs_3 8 rfl rfl)
theorem dX1_heirs_82 : decode cX1_heirs 82 = .ok (.iconst 0, 1) := dk_3 (dk_at dksX1_heirs_3 11 rfl rfl)
theorem dX1_heirs_83 : decode cX1_heirs 83 = .ok (.istore_n 2, 1) := dk_61 (dk_at dksX1_heirs_3 12 rfl rfl)
theorem dX1_heirs_84 : decode cX1_heirs 84 = .ok (.iload_n 2, 1) := dk_28 (dk_at dksX1_heirs_3 13 rfl rfl)
theorem dX1_heirs_85 : decode cX1_heirs 85 = .ok (.iload_n 1, 1) := dk_27 (dk_at dksX1_heirs_3 14 rfl rfl)
theorem dX1_heirs_86 : decode cX1_heirs 86 = .ok (.if_icmp .ge 20, 3) := dk_162 0 20 (dk_at dksX1_heirs_3 15 rfl rfl)
theorem dX1_heirs_89 : decode cX1_heirs 89 = .ok (.aload_n 0, 1) := dk_42 (dk_at dksX1_heirs_3 18 rfl rfl)
theorem dX1_heirs_90 : decode cX1_heirs 90 = .ok (.aload_n 0, 1) := dk_42 (dk_at dksX1_heirs_3 19 rfl rfl)
theorem dX1_heirs_91 : decode cX1_heirs 91 = .ok (.getfield 94, 3) := dk_180 0 94 (dk_at dksX1_heirs_3 20 rfl rfl)
theorem dX1_heirs_94 : decode cX1_heirs 94 = .ok (.iload_n 2, 1) := dk_28 (dk_at dksX1_heirs_3 23 rfl rfl)
theorem dX1_heirs_95 : decode cX1_heirs 95 = .ok (.iaload, 1) := dk_46 (dk_at dksX1_heirs_4 0 rfl rfl)
theorem dX1_heirs_96 : decode cX1_heirs 96 = .ok (.i2l, 1) := dk_133 (dk_at dksX1_heirs_4 1 rfl rfl)
theorem dX1_heirs_97 : decode cX1_heirs 97 = .ok (.invokevirtual 353, 3) := dk_182 1 97 (dk_at dksX1_heirs_4 2 rfl rfl)
theorem dX1_heirs_100 : decode cX1_heirs 100 = .ok (.iinc 2 1, 3) := dk_132 2 1 (dk_at dksX1_heirs_4 5 rfl rfl)
theorem dX1_heirs_103 : decode cX1_heirs 103 = .ok (.goto (-19), 3) := dk_167 255 237 (dk_at dksX1_heirs_4 8 rfl rfl)
theorem dX1_heirs_106 : decode cX1_heirs 106 = .ok (.aload_n 0, 1) := dk_42 (dk_at dksX1_heirs_4 11 rfl rfl)
theorem dX1_heirs_107 : decode cX1_heirs 107 = .ok (.getfield 444, 3) := dk_180 1 188 (dk_at dksX1_heirs_4 12 rfl rfl)
theorem dX1_heirs_110 : decode cX1_heirs 110 = .ok (.ireturn, 1) := dk_172 (dk_at dksX1_heirs_4 15 rfl rfl)
abbrev cX1_givesFrom : ByteArray := prog_1_method_88_code
def yX1_givesFrom : MethodName := ⟨RX1, "givesFrom", "(IIII)V"⟩
def dkwX1_givesFrom_5 : List UInt8 := [128, 21, 4, 42, 180, 0, 12, 180, 0, 133, 21, 5, 46, 96, 182, 1, 197, 132, 5, 1, 167, 255, 178, 177]
abbrev dktX1_givesFrom_5 : List UInt8 := dkwX1_givesFrom_5 ++ []
def dkwX1_givesFrom_4 : List UInt8 := [160, 0, 6, 167, 0, 38, 42, 180, 0, 91, 27, 21, 5, 79, 42, 27, 4, 96, 28, 29, 4, 21, 5, 120]
abbrev dktX1_givesFrom_4 : List UInt8 := dkwX1_givesFrom_4 ++ dktX1_givesFrom_5
def dkwX1_givesFrom_3 : List UInt8 := [184, 0, 129, 154, 0, 60, 42, 180, 0, 12, 180, 0, 140, 21, 5, 46, 42, 180, 0, 88, 27, 46]
abbrev dktX1_givesFrom_3 : List UInt8 := dkwX1_givesFrom_3 ++ dktX1_givesFrom_4
def dkwX1_givesFrom_2 : List UInt8 := [4, 96, 28, 29, 21, 4, 182, 1, 197, 3, 54, 5, 21, 5, 42, 180, 0, 117, 162, 0, 75, 29, 21, 5]
abbrev dktX1_givesFrom_2 : List UInt8 := dkwX1_givesFrom_2 ++ dktX1_givesFrom_3
def dkwX1_givesFrom_1 : List UInt8 := [180, 0, 91, 3, 42, 180, 0, 94, 3, 16, 6, 184, 1, 191, 177, 42, 180, 0, 91, 27, 2, 79, 42, 27]
abbrev dktX1_givesFrom_1 : List UInt8 := dkwX1_givesFrom_1 ++ dktX1_givesFrom_2
def dkwX1_givesFrom_0 : List UInt8 := [27, 28, 160, 0, 35, 21, 4, 42, 180, 1, 188, 163, 0, 4, 177, 42, 21, 4, 181, 1, 188, 42]
abbrev dktX1_givesFrom_0 : List UInt8 := dkwX1_givesFrom_0 ++ dktX1_givesFrom_1
theorem dksX1_givesFrom_0 : cX1_givesFrom.data.toList.drop 0 = dktX1_givesFrom_0 := by decide +kernel
theorem dksX1_givesFrom_1 : cX1_givesFrom.data.toList.drop 22 = dktX1_givesFrom_1 := dk_seg dksX1_givesFrom_0 22 rfl rfl
theorem dksX1_givesFrom_2 : cX1_givesFrom.data.toList.drop 46 = dktX1_givesFrom_2 := dk_seg dksX1_givesFrom_1 24 rfl rfl
theorem dksX1_givesFrom_3 : cX1_givesFrom.data.toList.drop 70 = dktX1_givesFrom_3 := dk_seg dksX1_givesFrom_2 24 rfl rfl
theorem dksX1_givesFrom_4 : cX1_givesFrom.data.toList.drop 92 = dktX1_givesFrom_4 := dk_seg dksX1_givesFrom_3 22 rfl rfl
theorem dksX1_givesFrom_5 : cX1_givesFrom.data.toList.drop 116 = dktX1_givesFrom_5 := dk_seg dksX1_givesFrom_4 24 rfl rfl
theorem dX1_givesFrom_0 : decode cX1_givesFrom 0 = .ok (.iload_n 1, 1) := dk_27 (dk_at dksX1_givesFrom_0 0 rfl rfl)
theorem dX1_givesFrom_1 : decode cX1_givesFrom 1 = .ok (.iload_n 2, 1) := dk_28 (dk_at dksX1_givesFrom_0 1 rfl rfl)
theorem dX1_givesFrom_2 : decode cX1_givesFrom 2 = .ok (.if_icmp .ne 35, 3) := dk_160 0 35 (dk_at dksX1_givesFrom_0 2 rfl rfl)
theorem dX1_givesFrom_5 : decode cX1_givesFrom 5 = .ok (.iload 4, 2) := dk_21 4 (dk_at dksX1_givesFrom_0 5 rfl rfl)
theorem dX1_givesFrom_7 : decode cX1_givesFrom 7 = .ok (.aload_n 0, 1) := dk_42 (dk_at dksX1_givesFrom_0 7 rfl rfl)
theorem dX1_givesFrom_8 : decode cX1_givesFrom 8 = .ok (.getfield 444, 3) := dk_180 1 188 (dk_at dksX1_givesFrom_0 8 rfl rfl)
theorem dX1_givesFrom_11 : decode cX1_givesFrom 11 = .ok (.if_icmp .gt 4, 3) := dk_163 0 4 (dk_at dksX1_givesFrom_0 11 rfl rfl)
theorem dX1_givesFrom_14 : decode cX1_givesFrom 14 = .ok (.return_, 1) := dk_177 (dk_at dksX1_givesFrom_0 14 rfl rfl)
theorem dX1_givesFrom_15 : decode cX1_givesFrom 15 = .ok (.aload_n 0, 1) := dk_42 (dk_at dksX1_givesFrom_0 15 rfl rfl)
theorem dX1_givesFrom_16 : decode cX1_givesFrom 16 = .ok (.iload 4, 2) := dk_21 4 (dk_at dksX1_givesFrom_0 16 rfl rfl)
theorem dX1_givesFrom_18 : decode cX1_givesFrom 18 = .ok (.putfield 444, 3) := dk_181 1 188 (dk_at dksX1_givesFrom_0 18 rfl rfl)
theorem dX1_givesFrom_21 : decode cX1_givesFrom 21 = .ok (.aload_n 0, 1) := dk_42 (dk_at dksX1_givesFrom_0 21 rfl rfl)
theorem dX1_givesFrom_22 : decode cX1_givesFrom 22 = .ok (.getfield 91, 3) := dk_180 0 91 (dk_at dksX1_givesFrom_1 0 rfl rfl)
theorem dX1_givesFrom_25 : decode cX1_givesFrom 25 = .ok (.iconst 0, 1) := dk_3 (dk_at dksX1_givesFrom_1 3 rfl rfl)
theorem dX1_givesFrom_26 : decode cX1_givesFrom 26 = .ok (.aload_n 0, 1) := dk_42 (dk_at dksX1_givesFrom_1 4 rfl rfl)
theorem dX1_givesFrom_27 : decode cX1_givesFrom 27 = .ok (.getfield 94, 3) := dk_180 0 94 (dk_at dksX1_givesFrom_1 5 rfl rfl)
theorem dX1_givesFrom_30 : decode cX1_givesFrom 30 = .ok (.iconst 0, 1) := dk_3 (dk_at dksX1_givesFrom_1 8 rfl rfl)
theorem dX1_givesFrom_31 : decode cX1_givesFrom 31 = .ok (.bipush 6, 2) := dk_16 6 (dk_at dksX1_givesFrom_1 9 rfl rfl)
theorem dX1_givesFrom_33 : decode cX1_givesFrom 33 = .ok (.invokestatic 447, 3) := dk_184 1 191 (dk_at dksX1_givesFrom_1 11 rfl rfl)
theorem dX1_givesFrom_36 : decode cX1_givesFrom 36 = .ok (.return_, 1) := dk_177 (dk_at dksX1_givesFrom_1 14 rfl rfl)
theorem dX1_givesFrom_37 : decode cX1_givesFrom 37 = .ok (.aload_n 0, 1) := dk_42 (dk_at dksX1_givesFrom_1 15 rfl rfl)
theorem dX1_givesFrom_38 : decode cX1_givesFrom 38 = .ok (.getfield 91, 3) := dk_180 0 91 (dk_at dksX1_givesFrom_1 16 rfl rfl)
theorem dX1_givesFrom_41 : decode cX1_givesFrom 41 = .ok (.iload_n 1, 1) := dk_27 (dk_at dksX1_givesFrom_1 19 rfl rfl)
theorem dX1_givesFrom_42 : decode cX1_givesFrom 42 = .ok (.iconst (-1), 1) := dk_2 (dk_at dksX1_givesFrom_1 20 rfl rfl)
theorem dX1_givesFrom_43 : decode cX1_givesFrom 43 = .ok (.iastore, 1) := dk_79 (dk_at dksX1_givesFrom_1 21 rfl rfl)
theorem dX1_givesFrom_44 : decode cX1_givesFrom 44 = .ok (.aload_n 0, 1) := dk_42 (dk_at dksX1_givesFrom_1 22 rfl rfl)
theorem dX1_givesFrom_45 : decode cX1_givesFrom 45 = .ok (.iload_n 1, 1) := dk_27 (dk_at dksX1_givesFrom_1 23 rfl rfl)
theorem dX1_givesFrom_46 : decode cX1_givesFrom 46 = .ok (.iconst 1, 1) := dk_4 (dk_at dksX1_givesFrom_2 0 rfl rfl)
theorem dX1_givesFrom_47 : decode cX1_givesFrom 47 = .ok (.iadd, 1) := dk_96 (dk_at dksX1_givesFrom_2 1 rfl rfl)
theorem dX1_givesFrom_48 : decode cX1_givesFrom 48 = .ok (.iload_n 2, 1) := dk_28 (dk_at dksX1_givesFrom_2 2 rfl rfl)
theorem dX1_givesFrom_49 : decode cX1_givesFrom 49 = .ok (.iload_n 3, 1) := dk_29 (dk_at dksX1_givesFrom_2 3 rfl rfl)
theorem dX1_givesFrom_50 : decode cX1_givesFrom 50 = .ok (.iload 4, 2) := dk_21 4 (dk_at dksX1_givesFrom_2 4 rfl rfl)
theorem dX1_givesFrom_52 : decode cX1_givesFrom 52 = .ok (.invokevirtual 453, 3) := dk_182 1 197 (dk_at dksX1_givesFrom_2 6 rfl rfl)
theorem dX1_givesFrom_55 : decode cX1_givesFrom 55 = .ok (.iconst 0, 1) := dk_3 (dk_at dksX1_givesFrom_2 9 rfl rfl)
theorem dX1_givesFrom_56 : decode cX1_givesFrom 56 = .ok (.istore 5, 2) := dk_54 5 (dk_at dksX1_givesFrom_2 10 rfl rfl)
theorem dX1_givesFrom_58 : decode cX1_givesFrom 58 = .ok (.iload 5, 2) := dk_21 5 (dk_at dksX1_givesFrom_2 12 rfl rfl)
theorem dX1_givesFrom_60 : decode cX1_givesFrom 60 = .ok (.aload_n 0, 1) := dk_42 (dk_at dksX1_givesFrom_2 14 rfl rfl)
theorem dX1_givesFrom_61 : decode cX1_givesFrom 61 = .ok (.getfield 117, 3) := dk_180 0 117 (dk_at dksX1_givesFrom_2 15 rfl rfl)
theorem dX1_givesFrom_64 : decode cX1_givesFrom 64 = .ok (.if_icmp .ge 75, 3) := dk_162 0 75 (dk_at dksX1_givesFrom_2 18 rfl rfl)
theorem dX1_givesFrom_67 : decode cX1_givesFrom 67 = .ok (.iload_n 3, 1) := dk_29 (dk_at dksX1_givesFrom_2 21 rfl rfl)
theorem dX1_givesFrom_68 : decode cX1_givesFrom 68 = .ok (.iload 5, 2) := dk_21 5 (dk_at dksX1_givesFrom_2 22 rfl rfl)
theorem dX1_givesFrom_70 : decode cX1_givesFrom 70 = .ok (.invokestatic 129, 3) := dk_184 0 129 (dk_at dksX1_givesFrom_3 0 rfl rfl)
theorem dX1_givesFrom_73 : decode cX1_givesFrom 73 = .ok (.ifCond .ne 60, 3) := dk_154 0 60 (dk_at dksX1_givesFrom_3 3 rfl rfl)
theorem dX1_givesFrom_76 : decode cX1_givesFrom 76 = .ok (.aload_n 0, 1) := dk_42 (dk_at dksX1_givesFrom_3 6 rfl rfl)
theorem dX1_givesFrom_77 : decode cX1_givesFrom 77 = .ok (.getfield 12, 3) := dk_180 0 12 (dk_at dksX1_givesFrom_3 7 rfl rfl)
theorem dX1_givesFrom_80 : decode cX1_givesFrom 80 = .ok (.getfield 140, 3) := dk_180 0 140 (dk_at dksX1_givesFrom_3 10 rfl rfl)
theorem dX1_givesFrom_83 : decode cX1_givesFrom 83 = .ok (.iload 5, 2) := dk_21 5 (dk_at dksX1_givesFrom_3 13 rfl rfl)
theorem dX1_givesFrom_85 : decode cX1_givesFrom 85 = .ok (.iaload, 1) := dk_46 (dk_at dksX1_givesFrom_3 15 rfl rfl)
theorem dX1_givesFrom_86 : decode cX1_givesFrom 86 = .ok (.aload_n 0, 1) := dk_42 (dk_at dksX1_givesFrom_3 16 rfl rfl)
theorem dX1_givesFrom_87 : decode cX1_givesFrom 87 = .ok (.getfield 88, 3) := dk_180 0 88 (dk_at dksX1_givesFrom_3 17 rfl rfl)
theorem dX1_givesFrom_90 : decode cX1_givesFrom 90 = .ok (.iload_n 1, 1) := dk_27 (dk_at dksX1_givesFrom_3 20 rfl rfl)
theorem dX1_givesFrom_91 : decode cX1_givesFrom 91 = .ok (.iaload, 1) := dk_46 (dk_at dksX1_givesFrom_3 21 rfl rfl)
theorem dX1_givesFrom_92 : decode cX1_givesFrom 92 = .ok (.if_icmp .ne 6, 3) := dk_160 0 6 (dk_at dksX1_givesFrom_4 0 rfl rfl)
theorem dX1_givesFrom_95 : decode cX1_givesFrom 95 = .ok (.goto 38, 3) := dk_167 0 38 (dk_at dksX1_givesFrom_4 3 rfl rfl)
theorem dX1_givesFrom_98 : decode cX1_givesFrom 98 = .ok (.aload_n 0, 1) := dk_42 (dk_at dksX1_givesFrom_4 6 rfl rfl)
theorem dX1_givesFrom_99 : decode cX1_givesFrom 99 = .ok (.getfield 91, 3) := dk_180 0 91 (dk_at dksX1_givesFrom_4 7 rfl rfl)
theorem dX1_givesFrom_102 : decode cX1_givesFrom 102 = .ok (.iload_n 1, 1) := dk_27 (dk_at dksX1_givesFrom_4 10 rfl rfl)
theorem dX1_givesFrom_103 : decode cX1_givesFrom 103 = .ok (.iload 5, 2) := dk_21 5 (dk_at dksX1_givesFrom_4 11 rfl rfl)
theorem dX1_givesFrom_105 : decode cX1_givesFrom 105 = .ok (.iastore, 1) := dk_79 (dk_at dksX1_givesFrom_4 13 rfl rfl)
theorem dX1_givesFrom_106 : decode cX1_givesFrom 106 = .ok (.aload_n 0, 1) := dk_42 (dk_at dksX1_givesFrom_4 14 rfl rfl)
theorem dX1_givesFrom_107 : decode cX1_givesFrom 107 = .ok (.iload_n 1, 1) := dk_27 (dk_at dksX1_givesFrom_4 15 rfl rfl)
theorem dX1_givesFrom_108 : decode cX1_givesFrom 108 = .ok (.iconst 1, 1) := dk_4 (dk_at dksX1_givesFrom_4 16 rfl rfl)
theorem dX1_givesFrom_109 : decode cX1_givesFrom 109 = .ok (.iadd, 1) := dk_96 (dk_at dksX1_givesFrom_4 17 rfl rfl)
theorem dX1_givesFrom_110 : decode cX1_givesFrom 110 = .ok (.iload_n 2, 1) := dk_28 (dk_at dksX1_givesFrom_4 18 rfl rfl)
theorem dX1_givesFrom_111 : decode cX1_givesFrom 111 = .ok (.iload_n 3, 1) := dk_29 (dk_at dksX1_givesFrom_4 19 rfl rfl)
theorem dX1_givesFrom_112 : decode cX1_givesFrom 112 = .ok (.iconst 1, 1) := dk_4 (dk_at dksX1_givesFrom_4 20 rfl rfl)
theorem dX1_givesFrom_113 : decode cX1_givesFrom 113 = .ok (.iload 5, 2) := dk_21 5 (dk_at dksX1_givesFrom_4 21 rfl rfl)
theorem dX1_givesFrom_115 : decode cX1_givesFrom 115 = .ok (.ishl, 1) := dk_120 (dk_at dksX1_givesFrom_4 23 rfl rfl)
theorem dX1_givesFrom_116 : decode cX1_givesFrom 116 = .ok (.ior, 1) := dk_128 (dk_at dksX1_givesFrom_5 0 rfl rfl)
theorem dX1_givesFrom_117 : decode cX1_givesFrom 117 = .ok (.iload 4, 2) := dk_21 4 (dk_at dksX1_givesFrom_5 1 rfl rfl)
theorem dX1_givesFrom_119 : decode cX1_givesFrom 119 = .ok (.aload_n 0, 1) := dk_42 (dk_at dksX1_givesFrom_5 3 rfl rfl)
theorem dX1_givesFrom_120 : decode cX1_givesFrom 120 = .ok (.getfield 12, 3) := dk_180 0 12 (dk_at dksX1_givesFrom_5 4 rfl rfl)
theorem dX1_givesFrom_123 : decode cX1_givesFrom 123 = .ok (.getfield 133, 3) := dk_180 0 133 (dk_at dksX1_givesFrom_5 7 rfl rfl)
theorem dX1_givesFrom_126 : decode cX1_givesFrom 126 = .ok (.iload 5, 2) := dk_21 5 (dk_at dksX1_givesFrom_5 10 rfl rfl)
theorem dX1_givesFrom_128 : decode cX1_givesFrom 128 = .ok (.iaload, 1) := dk_46 (dk_at dksX1_givesFrom_5 12 rfl rfl)
theorem dX1_givesFrom_129 : decode cX1_givesFrom 129 = .ok (.iadd, 1) := dk_96 (dk_at dksX1_givesFrom_5 13 rfl rfl)
theorem dX1_givesFrom_130 : decode cX1_givesFrom 130 = .ok (.invokevirtual 453, 3) := dk_182 1 197 (dk_at dksX1_givesFrom_5 14 rfl rfl)
theorem dX1_givesFrom_133 : decode cX1_givesFrom 133 = .ok (.iinc 5 1, 3) := dk_132 5 1 (dk_at dksX1_givesFrom_5 17 rfl rfl)
theorem dX1_givesFrom_136 : decode cX1_givesFrom 136 = .ok (.goto (-78), 3) := dk_167 255 178 (dk_at dksX1_givesFrom_5 20 rfl rfl)
theorem dX1_givesFrom_139 : decode cX1_givesFrom 139 = .ok (.return_, 1) := dk_177 (dk_at dksX1_givesFrom_5 23 rfl rfl)
abbrev cX1_duck : ByteArray := prog_1_method_92_code
def yX1_duck : MethodName := ⟨RX1, "duck", "(III)I"⟩
def dkwX1_duck_5 : List UInt8 := [180, 0, 97, 28, 47, 22, 6, 109, 182, 1, 97, 42, 22, 4, 22, 6, 109, 182, 1, 97, 3, 172]
abbrev dktX1_duck_5 : List UInt8 := dkwX1_duck_5 ++ []
def dkwX1_duck_4 : List UInt8 := [167, 255, 235, 42, 180, 0, 97, 28, 47, 22, 4, 184, 0, 113, 55, 6, 42, 3, 181, 1, 94, 42, 42]
abbrev dktX1_duck_4 : List UInt8 := dkwX1_duck_4 ++ dktX1_duck_5
def dkwX1_duck_3 : List UInt8 := [54, 6, 21, 6, 29, 162, 0, 21, 42, 182, 1, 206, 22, 4, 20, 1, 88, 105, 55, 4, 132, 6, 1]
abbrev dktX1_duck_3 : List UInt8 := dkwX1_duck_3 ++ dktX1_duck_4
def dkwX1_duck_2 : List UInt8 := [180, 0, 97, 21, 6, 21, 6, 27, 160, 0, 7, 10, 167, 0, 4, 9, 80, 132, 6, 1, 167, 255, 226, 3]
abbrev dktX1_duck_2 : List UInt8 := dkwX1_duck_2 ++ dktX1_duck_3
def dkwX1_duck_1 : List UInt8 := [184, 0, 121, 154, 0, 5, 2, 172, 10, 55, 4, 3, 54, 6, 21, 6, 42, 180, 0, 117, 162, 0, 27, 42]
abbrev dktX1_duck_1 : List UInt8 := dkwX1_duck_1 ++ dktX1_duck_2
def dkwX1_duck_0 : List UInt8 := [42, 27, 182, 1, 41, 153, 0, 23, 42, 28, 182, 1, 41, 153, 0, 15, 29, 133, 9, 20, 1, 204]
abbrev dktX1_duck_0 : List UInt8 := dkwX1_duck_0 ++ dktX1_duck_1
theorem dksX1_duck_0 : cX1_duck.data.toList.drop 0 = dktX1_duck_0 := by decide +kernel
theorem dksX1_duck_1 : cX1_duck.data.toList.drop 22 = dktX1_duck_1 := dk_seg dksX1_duck_0 22 rfl rfl
theorem dksX1_duck_2 : cX1_duck.data.toList.drop 46 = dktX1_duck_2 := dk_seg dksX1_duck_1 24 rfl rfl
theorem dksX1_duck_3 : cX1_duck.data.toList.drop 70 = dktX1_duck_3 := dk_seg dksX1_duck_2 24 rfl rfl
theorem dksX1_duck_4 : cX1_duck.data.toList.drop 93 = dktX1_duck_4 := dk_seg dksX1_duck_3 23 rfl rfl
theorem dksX1_duck_5 : cX1_duck.data.toList.drop 116 = dktX1_duck_5 := dk_seg dksX1_duck_4 23 rfl rfl
theorem dX1_duck_0 : decode cX1_duck 0 = .ok (.aload_n 0, 1) := dk_42 (dk_at dksX1_duck_0 0 rfl rfl)
theorem dX1_duck_1 : decode cX1_duck 1 = .ok (.iload_n 1, 1) := dk_27 (dk_at dksX1_duck_0 1 rfl rfl)
theorem dX1_duck_2 : decode cX1_duck 2 = .ok (.invokevirtual 297, 3) := dk_182 1 41 (dk_at dksX1_duck_0 2 rfl rfl)
theorem dX1_duck_5 : decode cX1_duck 5 = .ok (.ifCond .eq 23, 3) := dk_153 0 23 (dk_at dksX1_duck_0 5 rfl rfl)
theorem dX1_duck_8 : decode cX1_duck 8 = .ok (.aload_n 0, 1) := dk_42 (dk_at dksX1_duck_0 8 rfl rfl)
theorem dX1_duck_9 : decode cX1_duck 9 = .ok (.iload_n 2, 1) := dk_28 (dk_at dksX1_duck_0 9 rfl rfl)
theorem dX1_duck_10 : decode cX1_duck 10 = .ok (.invokevirtual 297, 3) := dk_182 1 41 (dk_at dksX1_duck_0 10 rfl rfl)
theorem dX1_duck_13 : decode cX1_duck 13 = .ok (.ifCond .eq 15, 3) := dk_153 0 15 (dk_at dksX1_duck_0 13 rfl rfl)
theorem dX1_duck_16 : decode cX1_duck 16 = .ok (.iload_n 3, 1) := dk_29 (dk_at dksX1_duck_0 16 rfl rfl)
theorem dX1_duck_17 : decode cX1_duck 17 = .ok (.i2l, 1) := dk_133 (dk_at dksX1_duck_0 17 rfl rfl)
theorem dX1_duck_18 : decode cX1_duck 18 = .ok (.lconst 0, 1) := dk_9 (dk_at dksX1_duck_0 18 rfl rfl)
theorem dX1_duck_19 : decode cX1_duck 19 = .ok (.ldc2_w 460, 3) := dk_20 1 204 (dk_at dksX1_duck_0 19 rfl rfl)
theorem dX1_duck_22 : decode cX1_duck 22 = .ok (.invokestatic 121, 3) := dk_184 0 121 (dk_at dksX1_duck_1 0 rfl rfl)
theorem dX1_duck_25 : decode cX1_duck 25 = .ok (.ifCond .ne 5, 3) := dk_154 0 5 (dk_at dksX1_duck_1 3 rfl rfl)
theorem dX1_duck_28 : decode cX1_duck 28 = .ok (.iconst (-1), 1) := dk_2 (dk_at dksX1_duck_1 6 rfl rfl)
theorem dX1_duck_29 : decode cX1_duck 29 = .ok (.ireturn, 1) := dk_172 (dk_at dksX1_duck_1 7 rfl rfl)
theorem dX1_duck_30 : decode cX1_duck 30 = .ok (.lconst 1, 1) := dk_10 (dk_at dksX1_duck_1 8 rfl rfl)
theorem dX1_duck_31 : decode cX1_duck 31 = .ok (.lstore 4, 2) := dk_55 4 (dk_at dksX1_duck_1 9 rfl rfl)
theorem dX1_duck_33 : decode cX1_duck 33 = .ok (.iconst 0, 1) := dk_3 (dk_at dksX1_duck_1 11 rfl rfl)
theorem dX1_duck_34 : decode cX1_duck 34 = .ok (.istore 6, 2) := dk_54 6 (dk_at dksX1_duck_1 12 rfl rfl)
theorem dX1_duck_36 : decode cX1_duck 36 = .ok (.iload 6, 2) := dk_21 6 (dk_at dksX1_duck_1 14 rfl rfl)
theorem dX1_duck_38 : decode cX1_duck 38 = .ok (.aload_n 0, 1) := dk_42 (dk_at dksX1_duck_1 16 rfl rfl)
theorem dX1_duck_39 : decode cX1_duck 39 = .ok (.getfield 117, 3) := dk_180 0 117 (dk_at dksX1_duck_1 17 rfl rfl)
theorem dX1_duck_42 : decode cX1_duck 42 = .ok (.if_icmp .ge 27, 3) := dk_162 0 27 (dk_at dksX1_duck_1 20 rfl rfl)
theorem dX1_duck_45 : decode cX1_duck 45 = .ok (.aload_n 0, 1) := dk_42 (dk_at dksX1_duck_1 23 rfl rfl)
theorem dX1_duck_46 : decode cX1_duck 46 = .ok (.getfield 97, 3) := dk_180 0 97 (dk_at dksX1_duck_2 0 rfl rfl)
theorem dX1_duck_49 : decode cX1_duck 49 = .ok (.iload 6, 2) := dk_21 6 (dk_at dksX1_duck_2 3 rfl rfl)
theorem dX1_duck_51 : decode cX1_duck 51 = .ok (.iload 6, 2) := dk_21 6 (dk_at dksX1_duck_2 5 rfl rfl)
theorem dX1_duck_53 : decode cX1_duck 53 = .ok (.iload_n 1, 1) := dk_27 (dk_at dksX1_duck_2 7 rfl rfl)
theorem dX1_duck_54 : decode cX1_duck 54 = .ok (.if_icmp .ne 7, 3) := dk_160 0 7 (dk_at dksX1_duck_2 8 rfl rfl)
theorem dX1_duck_57 : decode cX1_duck 57 = .ok (.lconst 1, 1) := dk_10 (dk_at dksX1_duck_2 11 rfl rfl)
theorem dX1_duck_58 : decode cX1_duck 58 = .ok (.goto 4, 3) := dk_167 0 4 (dk_at dksX1_duck_2 12 rfl rfl)
theorem dX1_duck_61 : decode cX1_duck 61 = .ok (.lconst 0, 1) := dk_9 (dk_at dksX1_duck_2 15 rfl rfl)
theorem dX1_duck_62 : decode cX1_duck 62 = .ok (.lastore, 1) := dk_80 (dk_at dksX1_duck_2 16 rfl rfl)
theorem dX1_duck_63 : decode cX1_duck 63 = .ok (.iinc 6 1, 3) := dk_132 6 1 (dk_at dksX1_duck_2 17 rfl rfl)
theorem dX1_duck_66 : decode cX1_duck 66 = .ok (.goto (-30), 3) := dk_167 255 226 (dk_at dksX1_duck_2 20 rfl rfl)
theorem dX1_duck_69 : decode cX1_duck 69 = .ok (.iconst 0, 1) := dk_3 (dk_at dksX1_duck_2 23 rfl rfl)
theorem dX1_duck_70 : decode cX1_duck 70 = .ok (.istore 6, 2) := dk_54 6 (dk_at dksX1_duck_3 0 rfl rfl)
theorem dX1_duck_72 : decode cX1_duck 72 = .ok (.iload 6, 2) := dk_21 6 (dk_at dksX1_duck_3 2 rfl rfl)
theorem dX1_duck_74 : decode cX1_duck 74 = .ok (.iload_n 3, 1) := dk_29 (dk_at dksX1_duck_3 4 rfl rfl)
theorem dX1_duck_75 : decode cX1_duck 75 = .ok (.if_icmp .ge 21, 3) := dk_162 0 21 (dk_at dksX1_duck_3 5 rfl rfl)
theorem dX1_duck_78 : decode cX1_duck 78 = .ok (.aload_n 0, 1) := dk_42 (dk_at dksX1_duck_3 8 rfl rfl)
theorem dX1_duck_79 : decode cX1_duck 79 = .ok (.invokevirtual 462, 3) := dk_182 1 206 (dk_at dksX1_duck_3 9 rfl rfl)
theorem dX1_duck_82 : decode cX1_duck 82 = .ok (.lload 4, 2) := dk_22 4 (dk_at dksX1_duck_3 12 rfl rfl)
theorem dX1_duck_84 : decode cX1_duck 84 = .ok (.ldc2_w 344, 3) := dk_20 1 88 (dk_at dksX1_duck_3 14 rfl rfl)
theorem dX1_duck_87 : decode cX1_duck 87 = .ok (.lmul, 1) := dk_105 (dk_at dksX1_duck_3 17 rfl rfl)
theorem dX1_duck_88 : decode cX1_duck 88 = .ok (.lstore 4, 2) := dk_55 4 (dk_at dksX1_duck_3 18 rfl rfl)
theorem dX1_duck_90 : decode cX1_duck 90 = .ok (.iinc 6 1, 3) := dk_132 6 1 (dk_at dksX1_duck_3 20 rfl rfl)
theorem dX1_duck_93 : decode cX1_duck 93 = .ok (.goto (-21), 3) := dk_167 255 235 (dk_at dksX1_duck_4 0 rfl rfl)
theorem dX1_duck_96 : decode cX1_duck 96 = .ok (.aload_n 0, 1) := dk_42 (dk_at dksX1_duck_4 3 rfl rfl)
theorem dX1_duck_97 : decode cX1_duck 97 = .ok (.getfield 97, 3) := dk_180 0 97 (dk_at dksX1_duck_4 4 rfl rfl)
theorem dX1_duck_100 : decode cX1_duck 100 = .ok (.iload_n 2, 1) := dk_28 (dk_at dksX1_duck_4 7 rfl rfl)
theorem dX1_duck_101 : decode cX1_duck 101 = .ok (.laload, 1) := dk_47 (dk_at dksX1_duck_4 8 rfl rfl)
theorem dX1_duck_102 : decode cX1_duck 102 = .ok (.lload 4, 2) := dk_22 4 (dk_at dksX1_duck_4 9 rfl rfl)
theorem dX1_duck_104 : decode cX1_duck 104 = .ok (.invokestatic 113, 3) := dk_184 0 113 (dk_at dksX1_duck_4 11 rfl rfl)
theorem dX1_duck_107 : decode cX1_duck 107 = .ok (.lstore 6, 2) := dk_55 6 (dk_at dksX1_duck_4 14 rfl rfl)
theorem dX1_duck_109 : decode cX1_duck 109 = .ok (.aload_n 0, 1) := dk_42 (dk_at dksX1_duck_4 16 rfl rfl)
theorem dX1_duck_110 : decode cX1_duck 110 = .ok (.iconst 0, 1) := dk_3 (dk_at dksX1_duck_4 17 rfl rfl)
theorem dX1_duck_111 : decode cX1_duck 111 = .ok (.putfield 350, 3) := dk_181 1 94 (dk_at dksX1_duck_4 18 rfl rfl)
theorem dX1_duck_114 : decode cX1_duck 114 = .ok (.aload_n 0, 1) := dk_42 (dk_at dksX1_duck_4 21 rfl rfl)
theorem dX1_duck_115 : decode cX1_duck 115 = .ok (.aload_n 0, 1) := dk_42 (dk_at dksX1_duck_4 22 rfl rfl)
theorem dX1_duck_116 : decode cX1_duck 116 = .ok (.getfield 97, 3) := dk_180 0 97 (dk_at dksX1_duck_5 0 rfl rfl)
theorem dX1_duck_119 : decode cX1_duck 119 = .ok (.iload_n 2, 1) := dk_28 (dk_at dksX1_duck_5 3 rfl rfl)
theorem dX1_duck_120 : decode cX1_duck 120 = .ok (.laload, 1) := dk_47 (dk_at dksX1_duck_5 4 rfl rfl)
theorem dX1_duck_121 : decode cX1_duck 121 = .ok (.lload 6, 2) := dk_22 6 (dk_at dksX1_duck_5 5 rfl rfl)
theorem dX1_duck_123 : decode cX1_duck 123 = .ok (.ldiv, 1) := dk_109 (dk_at dksX1_duck_5 7 rfl rfl)
theorem dX1_duck_124 : decode cX1_duck 124 = .ok (.invokevirtual 353, 3) := dk_182 1 97 (dk_at dksX1_duck_5 8 rfl rfl)
theorem dX1_duck_127 : decode cX1_duck 127 = .ok (.aload_n 0, 1) := dk_42 (dk_at dksX1_duck_5 11 rfl rfl)
theorem dX1_duck_128 : decode cX1_duck 128 = .ok (.lload 4, 2) := dk_22 4 (dk_at dksX1_duck_5 12 rfl rfl)
theorem dX1_duck_130 : decode cX1_duck 130 = .ok (.lload 6, 2) := dk_22 6 (dk_at dksX1_duck_5 14 rfl rfl)
theorem dX1_duck_132 : decode cX1_duck 132 = .ok (.ldiv, 1) := dk_109 (dk_at dksX1_duck_5 16 rfl rfl)
theorem dX1_duck_133 : decode cX1_duck 133 = .ok (.invokevirtual 353, 3) := dk_182 1 97 (dk_at dksX1_duck_5 17 rfl rfl)
theorem dX1_duck_136 : decode cX1_duck 136 = .ok (.iconst 0, 1) := dk_3 (dk_at dksX1_duck_5 20 rfl rfl)
theorem dX1_duck_137 : decode cX1_duck 137 = .ok (.ireturn, 1) := dk_172 (dk_at dksX1_duck_5 21 rfl rfl)
abbrev cX1_duckGoes : ByteArray := prog_1_method_91_code
def yX1_duckGoes : MethodName := ⟨RX1, "duckGoes", "()V"⟩
def dkwX1_duckGoes_6 : List UInt8 := [42, 180, 0, 101, 3, 42, 180, 0, 97, 3, 16, 6, 184, 1, 191, 177]
abbrev dktX1_duckGoes_6 : List UInt8 := dkwX1_duckGoes_6 ++ []
def dkwX1_duckGoes_5 : List UInt8 := [28, 108, 133, 42, 180, 0, 97, 27, 47, 105, 97, 80, 132, 3, 1, 167, 255, 215, 132, 1, 1, 167, 255, 141]
abbrev dktX1_duckGoes_5 : List UInt8 := dkwX1_duckGoes_5 ++ dktX1_duckGoes_6
def dkwX1_duckGoes_4 : List UInt8 := [180, 0, 117, 162, 0, 39, 42, 27, 29, 182, 1, 201, 153, 0, 24, 42, 180, 0, 101, 29, 92, 47, 16, 60]
abbrev dktX1_duckGoes_4 : List UInt8 := dkwX1_duckGoes_4 ++ dktX1_duckGoes_5
def dkwX1_duckGoes_3 : List UInt8 := [42, 180, 0, 101, 27, 92, 47, 20, 1, 88, 42, 180, 0, 97, 27, 47, 105, 97, 80, 3, 62, 29, 42]
abbrev dktX1_duckGoes_3 : List UInt8 := dkwX1_duckGoes_3 ++ dktX1_duckGoes_4
def dkwX1_duckGoes_2 : List UInt8 := [29, 182, 1, 201, 153, 0, 7, 4, 167, 0, 4, 3, 96, 61, 132, 3, 1, 167, 255, 228, 28, 154, 0, 22]
abbrev dktX1_duckGoes_2 : List UInt8 := dkwX1_duckGoes_2 ++ dktX1_duckGoes_3
def dkwX1_duckGoes_1 : List UInt8 := [60, 27, 42, 180, 0, 117, 162, 0, 113, 3, 61, 3, 62, 29, 42, 180, 0, 117, 162, 0, 26, 28, 42, 27]
abbrev dktX1_duckGoes_1 : List UInt8 := dkwX1_duckGoes_1 ++ dktX1_duckGoes_2
def dkwX1_duckGoes_0 : List UInt8 := [3, 60, 27, 42, 180, 0, 117, 162, 0, 16, 42, 180, 0, 101, 27, 9, 80, 132, 1, 1, 167, 255, 238, 3]
abbrev dktX1_duckGoes_0 : List UInt8 := dkwX1_duckGoes_0 ++ dktX1_duckGoes_1
theorem dksX1_duckGoes_0 : cX1_duckGoes.data.toList.drop 0 = dktX1_duckGoes_0 := by decide +kernel
theorem dksX1_duckGoes_1 : cX1_duckGoes.data.toList.drop 24 = dktX1_duckGoes_1 := dk_seg dksX1_duckGoes_0 24 rfl rfl
theorem dksX1_duckGoes_2 : cX1_duckGoes.data.toList.drop 48 = dktX1_duckGoes_2 := dk_seg dksX1_duckGoes_1 24 rfl rfl
theorem dksX1_duckGoes_3 : cX1_duckGoes.data.toList.drop 72 = dktX1_duckGoes_3 := dk_seg dksX1_duckGoes_2 24 rfl rfl
theorem dksX1_duckGoes_4 : cX1_duckGoes.data.toList.drop 95 = dktX1_duckGoes_4 := dk_seg dksX1_duckGoes_3 23 rfl rfl
theorem dksX1_duckGoes_5 : cX1_duckGoes.data.toList.drop 119 = dktX1_duckGoes_5 := dk_seg dksX1_duckGoes_4 24 rfl rfl
theorem dksX1_duckGoes_6 : cX1_duckGoes.data.toList.drop 143 = dktX1_duckGoes_6 := dk_seg dksX1_duckGoes_5 24 rfl rfl
theorem dX1_duckGoes_0 : decode cX1_duckGoes 0 = .ok (.iconst 0, 1) := dk_3 (dk_at dksX1_duckGoes_0 0 rfl rfl)
theorem dX1_duckGoes_1 : decode cX1_duckGoes 1 = .ok (.istore_n 1, 1) := dk_60 (dk_at dksX1_duckGoes_0 1 rfl rfl)
theorem dX1_duckGoes_2 : decode cX1_duckGoes 2 = .ok (.iload_n 1, 1) := dk_27 (dk_at dksX1_duckGoes_0 2 rfl rfl)
theorem dX1_duckGoes_3 : decode cX1_duckGoes 3 = .ok (.aload_n 0, 1) := dk_42 (dk_at dksX1_duckGoes_0 3 rfl rfl)
theorem dX1_duckGoes_4 : decode cX1_duckGoes 4 = .ok (.getfield 117, 3) := dk_180 0 117 (dk_at dksX1_duckGoes_0 4 rfl rfl)
theorem dX1_duckGoes_7 : decode cX1_duckGoes 7 = .ok (.if_icmp .ge 16, 3) := dk_162 0 16 (dk_at dksX1_duckGoes_0 7 rfl rfl)
theorem dX1_duckGoes_10 : decode cX1_duckGoes 10 = .ok (.aload_n 0, 1) := dk_42 (dk_at dksX1_duckGoes_0 10 rfl rfl)
theorem dX1_duckGoes_11 : decode cX1_duckGoes 11 = .ok (.getfield 101, 3) := dk_180 0 101 (dk_at dksX1_duckGoes_0 11 rfl rfl)
theorem dX1_duckGoes_14 : decode cX1_duckGoes 14 = .ok (.iload_n 1, 1) := dk_27 (dk_at dksX1_duckGoes_0 14 rfl rfl)
theorem dX1_duckGoes_15 : decode cX1_duckGoes 15 = .ok (.lconst 0, 1) := dk_9 (dk_at dksX1_duckGoes_0 15 rfl rfl)
theorem dX1_duckGoes_16 : decode cX1_duckGoes 16 = .ok (.lastore, 1) := dk_80 (dk_at dksX1_duckGoes_0 16 rfl rfl)
theorem dX1_duckGoes_17 : decode cX1_duckGoes 17 = .ok (.iinc 1 1, 3) := dk_132 1 1 (dk_at dksX1_duckGoes_0 17 rfl rfl)
theorem dX1_duckGoes_20 : decode cX1_duckGoes 20 = .ok (.goto (-18), 3) := dk_167 255 238 (dk_at dksX1_duckGoes_0 20 rfl rfl)
theorem dX1_duckGoes_23 : decode cX1_duckGoes 23 = .ok (.iconst 0, 1) := dk_3 (dk_at dksX1_duckGoes_0 23 rfl rfl)
theorem dX1_duckGoes_24 : decode cX1_duckGoes 24 = .ok (.istore_n 1, 1) := dk_60 (dk_at dksX1_duckGoes_1 0 rfl rfl)
theorem dX1_duckGoes_25 : decode cX1_duckGoes 25 = .ok (.iload_n 1, 1) := dk_27 (dk_at dksX1_duckGoes_1 1 rfl rfl)
theorem dX1_duckGoes_26 : decode cX1_duckGoes 26 = .ok (.aload_n 0, 1) := dk_42 (dk_at dksX1_duckGoes_1 2 rfl rfl)
theorem dX1_duckGoes_27 : decode cX1_duckGoes 27 = .ok (.getfield 117, 3) := dk_180 0 117 (dk_at dksX1_duckGoes_1 3 rfl rfl)
theorem dX1_duckGoes_30 : decode cX1_duckGoes 30 = .ok (.if_icmp .ge 113, 3) := dk_162 0 113 (dk_at dksX1_duckGoes_1 6 rfl rfl)
theorem dX1_duckGoes_33 : decode cX1_duckGoes 33 = .ok (.iconst 0, 1) := dk_3 (dk_at dksX1_duckGoes_1 9 rfl rfl)
theorem dX1_duckGoes_34 : decode cX1_duckGoes 34 = .ok (.istore_n 2, 1) := dk_61 (dk_at dksX1_duckGoes_1 10 rfl rfl)
theorem dX1_duckGoes_35 : decode cX1_duckGoes 35 = .ok (.iconst 0, 1) := dk_3 (dk_at dksX1_duckGoes_1 11 rfl rfl)
theorem dX1_duckGoes_36 : decode cX1_duckGoes 36 = .ok (.istore_n 3, 1) := dk_62 (dk_at dksX1_duckGoes_1 12 rfl rfl)
theorem dX1_duckGoes_37 : decode cX1_duckGoes 37 = .ok (.iload_n 3, 1) := dk_29 (dk_at dksX1_duckGoes_1 13 rfl rfl)
theorem dX1_duckGoes_38 : decode cX1_duckGoes 38 = .ok (.aload_n 0, 1) := dk_42 (dk_at dksX1_duckGoes_1 14 rfl rfl)
theorem dX1_duckGoes_39 : decode cX1_duckGoes 39 = .ok (.getfield 117, 3) := dk_180 0 117 (dk_at dksX1_duckGoes_1 15 rfl rfl)
theorem dX1_duckGoes_42 : decode cX1_duckGoes 42 = .ok (.if_icmp .ge 26, 3) := dk_162 0 26 (dk_at dksX1_duckGoes_1 18 rfl rfl)
theorem dX1_duckGoes_45 : decode cX1_duckGoes 45 = .ok (.iload_n 2, 1) := dk_28 (dk_at dksX1_duckGoes_1 21 rfl rfl)
theorem dX1_duckGoes_46 : decode cX1_duckGoes 46 = .ok (.aload_n 0, 1) := dk_42 (dk_at dksX1_duckGoes_1 22 rfl rfl)
theorem dX1_duckGoes_47 : decode cX1_duckGoes 47 = .ok (.iload_n 1, 1) := dk_27 (dk_at dksX1_duckGoes_1 23 rfl rfl)
theorem dX1_duckGoes_48 : decode cX1_duckGoes 48 = .ok (.iload_n 3, 1) := dk_29 (dk_at dksX1_duckGoes_2 0 rfl rfl)
theorem dX1_duckGoes_49 : decode cX1_duckGoes 49 = .ok (.invokevirtual 457, 3) := dk_182 1 201 (dk_at dksX1_duckGoes_2 1 rfl rfl)
theorem dX1_duckGoes_52 : decode cX1_duckGoes 52 = .ok (.ifCond .eq 7, 3) := dk_153 0 7 (dk_at dksX1_duckGoes_2 4 rfl rfl)
theorem dX1_duckGoes_55 : decode cX1_duckGoes 55 = .ok (.iconst 1, 1) := dk_4 (dk_at dksX1_duckGoes_2 7 rfl rfl)
theorem dX1_duckGoes_56 : decode cX1_duckGoes 56 = .ok (.goto 4, 3) := dk_167 0 4 (dk_at dksX1_duckGoes_2 8 rfl rfl)
theorem dX1_duckGoes_59 : decode cX1_duckGoes 59 = .ok (.iconst 0, 1) := dk_3 (dk_at dksX1_duckGoes_2 11 rfl rfl)
theorem dX1_duckGoes_60 : decode cX1_duckGoes 60 = .ok (.iadd, 1) := dk_96 (dk_at dksX1_duckGoes_2 12 rfl rfl)
theorem dX1_duckGoes_61 : decode cX1_duckGoes 61 = .ok (.istore_n 2, 1) := dk_61 (dk_at dksX1_duckGoes_2 13 rfl rfl)
theorem dX1_duckGoes_62 : decode cX1_duckGoes 62 = .ok (.iinc 3 1, 3) := dk_132 3 1 (dk_at dksX1_duckGoes_2 14 rfl rfl)
theorem dX1_duckGoes_65 : decode cX1_duckGoes 65 = .ok (.goto (-28), 3) := dk_167 255 228 (dk_at dksX1_duckGoes_2 17 rfl rfl)
theorem dX1_duckGoes_68 : decode cX1_duckGoes 68 = .ok (.iload_n 2, 1) := dk_28 (dk_at dksX1_duckGoes_2 20 rfl rfl)
theorem dX1_duckGoes_69 : decode cX1_duckGoes 69 = .ok (.ifCond .ne 22, 3) := dk_154 0 22 (dk_at dksX1_duckGoes_2 21 rfl rfl)
theorem dX1_duckGoes_72 : decode cX1_duckGoes 72 = .ok (.aload_n 0, 1) := dk_42 (dk_at dksX1_duckGoes_3 0 rfl rfl)
theorem dX1_duckGoes_73 : decode cX1_duckGoes 73 = .ok (.getfield 101, 3) := dk_180 0 101 (dk_at dksX1_duckGoes_3 1 rfl rfl)
theorem dX1_duckGoes_76 : decode cX1_duckGoes 76 = .ok (.iload_n 1, 1) := dk_27 (dk_at dksX1_duckGoes_3 4 rfl rfl)
theorem dX1_duckGoes_77 : decode cX1_duckGoes 77 = .ok (.dup2, 1) := dk_92 (dk_at dksX1_duckGoes_3 5 rfl rfl)
theorem dX1_duckGoes_78 : decode cX1_duckGoes 78 = .ok (.laload, 1) := dk_47 (dk_at dksX1_duckGoes_3 6 rfl rfl)
theorem dX1_duckGoes_79 : decode cX1_duckGoes 79 = .ok (.ldc2_w 344, 3) := dk_20 1 88 (dk_at dksX1_duckGoes_3 7 rfl rfl)
theorem dX1_duckGoes_82 : decode cX1_duckGoes 82 = .ok (.aload_n 0, 1) := dk_42 (dk_at dksX1_duckGoes_3 10 rfl rfl)
theorem dX1_duckGoes_83 : decode cX1_duckGoes 83 = .ok (.getfield 97, 3) := dk_180 0 97 (dk_at dksX1_duckGoes_3 11 rfl rfl)
theorem dX1_duckGoes_86 : decode cX1_duckGoes 86 = .ok (.iload_n 1, 1) := dk_27 (dk_at dksX1_duckGoes_3 14 rfl rfl)
theorem dX1_duckGoes_87 : decode cX1_duckGoes 87 = .ok (.laload, 1) := dk_47 (dk_at dksX1_duckGoes_3 15 rfl rfl)
theorem dX1_duckGoes_88 : decode cX1_duckGoes 88 = .ok (.lmul, 1) := dk_105 (dk_at dksX1_duckGoes_3 16 rfl rfl)
theorem dX1_duckGoes_89 : decode cX1_duckGoes 89 = .ok (.ladd, 1) := dk_97 (dk_at dksX1_duckGoes_3 17 rfl rfl)
theorem dX1_duckGoes_90 : decode cX1_duckGoes 90 = .ok (.lastore, 1) := dk_80 (dk_at dksX1_duckGoes_3 18 rfl rfl)
theorem dX1_duckGoes_91 : decode cX1_duckGoes 91 = .ok (.iconst 0, 1) := dk_3 (dk_at dksX1_duckGoes_3 19 rfl rfl)
theorem dX1_duckGoes_92 : decode cX1_duckGoes 92 = .ok (.istore_n 3, 1) := dk_62 (dk_at dksX1_duckGoes_3 20 rfl rfl)
theorem dX1_duckGoes_93 : decode cX1_duckGoes 93 = .ok (.iload_n 3, 1) := dk_29 (dk_at dksX1_duckGoes_3 21 rfl rfl)
theorem dX1_duckGoes_94 : decode cX1_duckGoes 94 = .ok (.aload_n 0, 1) := dk_42 (dk_at dksX1_duckGoes_3 22 rfl rfl)
theorem dX1_duckGoes_95 : decode cX1_duckGoes 95 = .ok (.getfield 117, 3) := dk_180 0 117 (dk_at dksX1_duckGoes_4 0 rfl rfl)
theorem dX1_duckGoes_98 : decode cX1_duckGoes 98 = .ok (.if_icmp .ge 39, 3) := dk_162 0 39 (dk_at dksX1_duckGoes_4 3 rfl rfl)
theorem dX1_duckGoes_101 : decode cX1_duckGoes 101 = .ok (.aload_n 0, 1) := dk_42 (dk_at dksX1_duckGoes_4 6 rfl rfl)
theorem dX1_duckGoes_102 : decode cX1_duckGoes 102 = .ok (.iload_n 1, 1) := dk_27 (dk_at dksX1_duckGoes_4 7 rfl rfl)
theorem dX1_duckGoes_103 : decode cX1_duckGoes 103 = .ok (.iload_n 3, 1) := dk_29 (dk_at dksX1_duckGoes_4 8 rfl rfl)
theorem dX1_duckGoes_104 : decode cX1_duckGoes 104 = .ok (.invokevirtual 457, 3) := dk_182 1 201 (dk_at dksX1_duckGoes_4 9 rfl rfl)
theorem dX1_duckGoes_107 : decode cX1_duckGoes 107 = .ok (.ifCond .eq 24, 3) := dk_153 0 24 (dk_at dksX1_duckGoes_4 12 rfl rfl)
theorem dX1_duckGoes_110 : decode cX1_duckGoes 110 = .ok (.aload_n 0, 1) := dk_42 (dk_at dksX1_duckGoes_4 15 rfl rfl)
theorem dX1_duckGoes_111 : decode cX1_duckGoes 111 = .ok (.getfield 101, 3) := dk_180 0 101 (dk_at dksX1_duckGoes_4 16 rfl rfl)
theorem dX1_duckGoes_114 : decode cX1_duckGoes 114 = .ok (.iload_n 3, 1) := dk_29 (dk_at dksX1_duckGoes_4 19 rfl rfl)
theorem dX1_duckGoes_115 : decode cX1_duckGoes 115 = .ok (.dup2, 1) := dk_92 (dk_at dksX1_duckGoes_4 20 rfl rfl)
theorem dX1_duckGoes_116 : decode cX1_duckGoes 116 = .ok (.laload, 1) := dk_47 (dk_at dksX1_duckGoes_4 21 rfl rfl)
theorem dX1_duckGoes_117 : decode cX1_duckGoes 117 = .ok (.bipush 60, 2) := dk_16 60 (dk_at dksX1_duckGoes_4 22 rfl rfl)
theorem dX1_duckGoes_119 : decode cX1_duckGoes 119 = .ok (.iload_n 2, 1) := dk_28 (dk_at dksX1_duckGoes_5 0 rfl rfl)
theorem dX1_duckGoes_120 : decode cX1_duckGoes 120 = .ok (.idiv, 1) := dk_108 (dk_at dksX1_duckGoes_5 1 rfl rfl)
theorem dX1_duckGoes_121 : decode cX1_duckGoes 121 = .ok (.i2l, 1) := dk_133 (dk_at dksX1_duckGoes_5 2 rfl rfl)
theorem dX1_duckGoes_122 : decode cX1_duckGoes 122 = .ok (.aload_n 0, 1) := dk_42 (dk_at dksX1_duckGoes_5 3 rfl rfl)
theorem dX1_duckGoes_123 : decode cX1_duckGoes 123 = .ok (.getfield 97, 3) := dk_180 0 97 (dk_at dksX1_duckGoes_5 4 rfl rfl)
theorem dX1_duckGoes_126 : decode cX1_duckGoes 126 = .ok (.iload_n 1, 1) := dk_27 (dk_at dksX1_duckGoes_5 7 rfl rfl)
theorem dX1_duckGoes_127 : decode cX1_duckGoes 127 = .ok (.laload, 1) := dk_47 (dk_at dksX1_duckGoes_5 8 rfl rfl)
theorem dX1_duckGoes_128 : decode cX1_duckGoes 128 = .ok (.lmul, 1) := dk_105 (dk_at dksX1_duckGoes_5 9 rfl rfl)
theorem dX1_duckGoes_129 : decode cX1_duckGoes 129 = .ok (.ladd, 1) := dk_97 (dk_at dksX1_duckGoes_5 10 rfl rfl)
theorem dX1_duckGoes_130 : decode cX1_duckGoes 130 = .ok (.lastore, 1) := dk_80 (dk_at dksX1_duckGoes_5 11 rfl rfl)
theorem dX1_duckGoes_131 : decode cX1_duckGoes 131 = .ok (.iinc 3 1, 3) := dk_132 3 1 (dk_at dksX1_duckGoes_5 12 rfl rfl)
theorem dX1_duckGoes_134 : decode cX1_duckGoes 134 = .ok (.goto (-41), 3) := dk_167 255 215 (dk_at dksX1_duckGoes_5 15 rfl rfl)
theorem dX1_duckGoes_137 : decode cX1_duckGoes 137 = .ok (.iinc 1 1, 3) := dk_132 1 1 (dk_at dksX1_duckGoes_5 18 rfl rfl)
theorem dX1_duckGoes_140 : decode cX1_duckGoes 140 = .ok (.goto (-115), 3) := dk_167 255 141 (dk_at dksX1_duckGoes_5 21 rfl rfl)
theorem dX1_duckGoes_143 : decode cX1_duckGoes 143 = .ok (.aload_n 0, 1) := dk_42 (dk_at dksX1_duckGoes_6 0 rfl rfl)
theorem dX1_duckGoes_144 : decode cX1_duckGoes 144 = .ok (.getfield 101, 3) := dk_180 0 101 (dk_at dksX1_duckGoes_6 1 rfl rfl)
theorem dX1_duckGoes_147 : decode cX1_duckGoes 147 = .ok (.iconst 0, 1) := dk_3 (dk_at dksX1_duckGoes_6 4 rfl rfl)
theorem dX1_duckGoes_148 : decode cX1_duckGoes 148 = .ok (.aload_n 0, 1) := dk_42 (dk_at dksX1_duckGoes_6 5 rfl rfl)
theorem dX1_duckGoes_149 : decode cX1_duckGoes 149 = .ok (.getfield 97, 3) := dk_180 0 97 (dk_at dksX1_duckGoes_6 6 rfl rfl)
theorem dX1_duckGoes_152 : decode cX1_duckGoes 152 = .ok (.iconst 0, 1) := dk_3 (dk_at dksX1_duckGoes_6 9 rfl rfl)
theorem dX1_duckGoes_153 : decode cX1_duckGoes 153 = .ok (.bipush 6, 2) := dk_16 6 (dk_at dksX1_duckGoes_6 10 rfl rfl)
theorem dX1_duckGoes_155 : decode cX1_duckGoes 155 = .ok (.invokestatic 447, 3) := dk_184 1 191 (dk_at dksX1_duckGoes_6 12 rfl rfl)
theorem dX1_duckGoes_158 : decode cX1_duckGoes 158 = .ok (.return_, 1) := dk_177 (dk_at dksX1_duckGoes_6 15 rfl rfl)
abbrev cX1_areBeside : ByteArray := prog_1_method_90_code
def yX1_areBeside : MethodName := ⟨RX1, "areBeside", "(II)Z"⟩
def dkwX1_areBeside_1 : List UInt8 := [3, 172]
abbrev dktX1_areBeside_1 : List UInt8 := dkwX1_areBeside_1 ++ []
def dkwX1_areBeside_0 : List UInt8 := [42, 180, 0, 26, 27, 46, 28, 159, 0, 13, 42, 180, 0, 26, 28, 46, 27, 160, 0, 7, 4, 167, 0, 4]
abbrev dktX1_areBeside_0 : List UInt8 := dkwX1_areBeside_0 ++ dktX1_areBeside_1
theorem dksX1_areBeside_0 : cX1_areBeside.data.toList.drop 0 = dktX1_areBeside_0 := by decide +kernel
theorem dksX1_areBeside_1 : cX1_areBeside.data.toList.drop 24 = dktX1_areBeside_1 := dk_seg dksX1_areBeside_0 24 rfl rfl
theorem dX1_areBeside_0 : decode cX1_areBeside 0 = .ok (.aload_n 0, 1) := dk_42 (dk_at dksX1_areBeside_0 0 rfl rfl)
theorem dX1_areBeside_1 : decode cX1_areBeside 1 = .ok (.getfield 26, 3) := dk_180 0 26 (dk_at dksX1_areBeside_0 1 rfl rfl)
theorem dX1_areBeside_4 : decode cX1_areBeside 4 = .ok (.iload_n 1, 1) := dk_27 (dk_at dksX1_areBeside_0 4 rfl rfl)
theorem dX1_areBeside_5 : decode cX1_areBeside 5 = .ok (.iaload, 1) := dk_46 (dk_at dksX1_areBeside_0 5 rfl rfl)
theorem dX1_areBeside_6 : decode cX1_areBeside 6 = .ok (.iload_n 2, 1) := dk_28 (dk_at dksX1_areBeside_0 6 rfl rfl)
theorem dX1_areBeside_7 : decode cX1_areBeside 7 = .ok (.if_icmp .eq 13, 3) := dk_159 0 13 (dk_at dksX1_areBeside_0 7 rfl rfl)
theorem dX1_areBeside_10 : decode cX1_areBeside 10 = .ok (.aload_n 0, 1) := dk_42 (dk_at dksX1_areBeside_0 10 rfl rfl)
theorem dX1_areBeside_11 : decode cX1_areBeside 11 = .ok (.getfield 26, 3) := dk_180 0 26 (dk_at dksX1_areBeside_0 11 rfl rfl)
theorem dX1_areBeside_14 : decode cX1_areBeside 14 = .ok (.iload_n 2, 1) := dk_28 (dk_at dksX1_areBeside_0 14 rfl rfl)
theorem dX1_areBeside_15 : decode cX1_areBeside 15 = .ok (.iaload, 1) := dk_46 (dk_at dksX1_areBeside_0 15 rfl rfl)
theorem dX1_areBeside_16 : decode cX1_areBeside 16 = .ok (.iload_n 1, 1) := dk_27 (dk_at dksX1_areBeside_0 16 rfl rfl)
theorem dX1_areBeside_17 : decode cX1_areBeside 17 = .ok (.if_icmp .ne 7, 3) := dk_160 0 7 (dk_at dksX1_areBeside_0 17 rfl rfl)
theorem dX1_areBeside_20 : decode cX1_areBeside 20 = .ok (.iconst 1, 1) := dk_4 (dk_at dksX1_areBeside_0 20 rfl rfl)
theorem dX1_areBeside_21 : decode cX1_areBeside 21 = .ok (.goto 4, 3) := dk_167 0 4 (dk_at dksX1_areBeside_0 21 rfl rfl)
theorem dX1_areBeside_24 : decode cX1_areBeside 24 = .ok (.iconst 0, 1) := dk_3 (dk_at dksX1_areBeside_1 0 rfl rfl)
theorem dX1_areBeside_25 : decode cX1_areBeside 25 = .ok (.ireturn, 1) := dk_172 (dk_at dksX1_areBeside_1 1 rfl rfl)
abbrev cX1_common : ByteArray := prog_1_method_4_code
def yX1_common : MethodName := ⟨RX1, "common", "(JJ)J"⟩
def dkwX1_common_0 : List UInt8 := [32, 9, 148, 154, 0, 7, 30, 167, 0, 10, 32, 30, 32, 113, 184, 0, 113, 173]
abbrev dktX1_common_0 : List UInt8 := dkwX1_common_0 ++ []
theorem dksX1_common_0 : cX1_common.data.toList.drop 0 = dktX1_common_0 := by decide +kernel
theorem dX1_common_0 : decode cX1_common 0 = .ok (.lload_n 2, 1) := dk_32 (dk_at dksX1_common_0 0 rfl rfl)
theorem dX1_common_1 : decode cX1_common 1 = .ok (.lconst 0, 1) := dk_9 (dk_at dksX1_common_0 1 rfl rfl)
theorem dX1_common_2 : decode cX1_common 2 = .ok (.lcmp, 1) := dk_148 (dk_at dksX1_common_0 2 rfl rfl)
theorem dX1_common_3 : decode cX1_common 3 = .ok (.ifCond .ne 7, 3) := dk_154 0 7 (dk_at dksX1_common_0 3 rfl rfl)
theorem dX1_common_6 : decode cX1_common 6 = .ok (.lload_n 0, 1) := dk_30 (dk_at dksX1_common_0 6 rfl rfl)
theorem dX1_common_7 : decode cX1_common 7 = .ok (.goto 10, 3) := dk_167 0 10 (dk_at dksX1_common_0 7 rfl rfl)
theorem dX1_common_10 : decode cX1_common 10 = .ok (.lload_n 2, 1) := dk_32 (dk_at dksX1_common_0 10 rfl rfl)
theorem dX1_common_11 : decode cX1_common 11 = .ok (.lload_n 0, 1) := dk_30 (dk_at dksX1_common_0 11 rfl rfl)
theorem dX1_common_12 : decode cX1_common 12 = .ok (.lload_n 2, 1) := dk_32 (dk_at dksX1_common_0 12 rfl rfl)
theorem dX1_common_13 : decode cX1_common 13 = .ok (.lrem, 1) := dk_113 (dk_at dksX1_common_0 13 rfl rfl)
theorem dX1_common_14 : decode cX1_common 14 = .ok (.invokestatic 113, 3) := dk_184 0 113 (dk_at dksX1_common_0 14 rfl rfl)
theorem dX1_common_17 : decode cX1_common 17 = .ok (.lreturn, 1) := dk_173 (dk_at dksX1_common_0 17 rfl rfl)
abbrev cX1_spoon : ByteArray := prog_1_method_93_code
def yX1_spoon : MethodName := ⟨RX1, "spoon", "(III)I"⟩
def dkwX1_spoon_5 : List UInt8 := [182, 1, 97, 42, 180, 0, 16, 180, 0, 133, 27, 46, 172]
abbrev dktX1_spoon_5 : List UInt8 := dkwX1_spoon_5 ++ []
def dkwX1_spoon_4 : List UInt8 := [42, 180, 0, 16, 182, 1, 78, 132, 5, 1, 167, 255, 203, 42, 3, 181, 1, 94, 42, 21, 4, 133]
abbrev dktX1_spoon_4 : List UInt8 := dkwX1_spoon_4 ++ dktX1_spoon_5
def dkwX1_spoon_3 : List UInt8 := [54, 6, 42, 180, 0, 16, 180, 0, 133, 27, 92, 46, 21, 6, 100, 79, 21, 4, 21, 6, 96, 54, 4, 42]
abbrev dktX1_spoon_3 : List UInt8 := dkwX1_spoon_3 ++ dktX1_spoon_4
def dkwX1_spoon_2 : List UInt8 := [54, 4, 3, 54, 5, 21, 5, 29, 162, 0, 53, 28, 42, 180, 0, 16, 180, 0, 133, 27, 46, 184, 0, 152]
abbrev dktX1_spoon_2 : List UInt8 := dkwX1_spoon_2 ++ dktX1_spoon_3
def dkwX1_spoon_1 : List UInt8 := [20, 1, 88, 184, 0, 121, 154, 0, 5, 2, 172, 42, 180, 0, 16, 42, 180, 0, 12, 182, 1, 58, 3]
abbrev dktX1_spoon_1 : List UInt8 := dkwX1_spoon_1 ++ dktX1_spoon_2
def dkwX1_spoon_0 : List UInt8 := [42, 27, 182, 1, 41, 153, 0, 27, 28, 133, 10, 20, 1, 86, 184, 0, 121, 153, 0, 15, 29, 133, 9]
abbrev dktX1_spoon_0 : List UInt8 := dkwX1_spoon_0 ++ dktX1_spoon_1
theorem dksX1_spoon_0 : cX1_spoon.data.toList.drop 0 = dktX1_spoon_0 := by decide +kernel
theorem dksX1_spoon_1 : cX1_spoon.data.toList.drop 23 = dktX1_spoon_1 := dk_seg dksX1_spoon_0 23 rfl rfl
theorem dksX1_spoon_2 : cX1_spoon.data.toList.drop 46 = dktX1_spoon_2 := dk_seg dksX1_spoon_1 23 rfl rfl
theorem dksX1_spoon_3 : cX1_spoon.data.toList.drop 70 = dktX1_spoon_3 := dk_seg dksX1_spoon_2 24 rfl rfl
theorem dksX1_spoon_4 : cX1_spoon.data.toList.drop 94 = dktX1_spoon_4 := dk_seg dksX1_spoon_3 24 rfl rfl
theorem dksX1_spoon_5 : cX1_spoon.data.toList.drop 116 = dktX1_spoon_5 := dk_seg dksX1_spoon_4 22 rfl rfl
theorem dX1_spoon_0 : decode cX1_spoon 0 = .ok (.aload_n 0, 1) := dk_42 (dk_at dksX1_spoon_0 0 rfl rfl)
theorem dX1_spoon_1 : decode cX1_spoon 1 = .ok (.iload_n 1, 1) := dk_27 (dk_at dksX1_spoon_0 1 rfl rfl)
theorem dX1_spoon_2 : decode cX1_spoon 2 = .ok (.invokevirtual 297, 3) := dk_182 1 41 (dk_at dksX1_spoon_0 2 rfl rfl)
theorem dX1_spoon_5 : decode cX1_spoon 5 = .ok (.ifCond .eq 27, 3) := dk_153 0 27 (dk_at dksX1_spoon_0 5 rfl rfl)
theorem dX1_spoon_8 : decode cX1_spoon 8 = .ok (.iload_n 2, 1) := dk_28 (dk_at dksX1_spoon_0 8 rfl rfl)
theorem dX1_spoon_9 : decode cX1_spoon 9 = .ok (.i2l, 1) := dk_133 (dk_at dksX1_spoon_0 9 rfl rfl)
theorem dX1_spoon_10 : decode cX1_spoon 10 = .ok (.lconst 1, 1) := dk_10 (dk_at dksX1_spoon_0 10 rfl rfl)
theorem dX1_spoon_11 : decode cX1_spoon 11 = .ok (.ldc2_w 342, 3) := dk_20 1 86 (dk_at dksX1_spoon_0 11 rfl rfl)
theorem dX1_spoon_14 : decode cX1_spoon 14 = .ok (.invokestatic 121, 3) := dk_184 0 121 (dk_at dksX1_spoon_0 14 rfl rfl)
theorem dX1_spoon_17 : decode cX1_spoon 17 = .ok (.ifCond .eq 15, 3) := dk_153 0 15 (dk_at dksX1_spoon_0 17 rfl rfl)
theorem dX1_spoon_20 : decode cX1_spoon 20 = .ok (.iload_n 3, 1) := dk_29 (dk_at dksX1_spoon_0 20 rfl rfl)
theorem dX1_spoon_21 : decode cX1_spoon 21 = .ok (.i2l, 1) := dk_133 (dk_at dksX1_spoon_0 21 rfl rfl)
theorem dX1_spoon_22 : decode cX1_spoon 22 = .ok (.lconst 0, 1) := dk_9 (dk_at dksX1_spoon_0 22 rfl rfl)
theorem dX1_spoon_23 : decode cX1_spoon 23 = .ok (.ldc2_w 344, 3) := dk_20 1 88 (dk_at dksX1_spoon_1 0 rfl rfl)
theorem dX1_spoon_26 : decode cX1_spoon 26 = .ok (.invokestatic 121, 3) := dk_184 0 121 (dk_at dksX1_spoon_1 3 rfl rfl)
theorem dX1_spoon_29 : decode cX1_spoon 29 = .ok (.ifCond .ne 5, 3) := dk_154 0 5 (dk_at dksX1_spoon_1 6 rfl rfl)
theorem dX1_spoon_32 : decode cX1_spoon 32 = .ok (.iconst (-1), 1) := dk_2 (dk_at dksX1_spoon_1 9 rfl rfl)
theorem dX1_spoon_33 : decode cX1_spoon 33 = .ok (.ireturn, 1) := dk_172 (dk_at dksX1_spoon_1 10 rfl rfl)
theorem dX1_spoon_34 : decode cX1_spoon 34 = .ok (.aload_n 0, 1) := dk_42 (dk_at dksX1_spoon_1 11 rfl rfl)
theorem dX1_spoon_35 : decode cX1_spoon 35 = .ok (.getfield 16, 3) := dk_180 0 16 (dk_at dksX1_spoon_1 12 rfl rfl)
theorem dX1_spoon_38 : decode cX1_spoon 38 = .ok (.aload_n 0, 1) := dk_42 (dk_at dksX1_spoon_1 15 rfl rfl)
theorem dX1_spoon_39 : decode cX1_spoon 39 = .ok (.getfield 12, 3) := dk_180 0 12 (dk_at dksX1_spoon_1 16 rfl rfl)
theorem dX1_spoon_42 : decode cX1_spoon 42 = .ok (.invokevirtual 314, 3) := dk_182 1 58 (dk_at dksX1_spoon_1 19 rfl rfl)
theorem dX1_spoon_45 : decode cX1_spoon 45 = .ok (.iconst 0, 1) := dk_3 (dk_at dksX1_spoon_1 22 rfl rfl)
theorem dX1_spoon_46 : decode cX1_spoon 46 = .ok (.istore 4, 2) := dk_54 4 (dk_at dksX1_spoon_2 0 rfl rfl)
theorem dX1_spoon_48 : decode cX1_spoon 48 = .ok (.iconst 0, 1) := dk_3 (dk_at dksX1_spoon_2 2 rfl rfl)
theorem dX1_spoon_49 : decode cX1_spoon 49 = .ok (.istore 5, 2) := dk_54 5 (dk_at dksX1_spoon_2 3 rfl rfl)
theorem dX1_spoon_51 : decode cX1_spoon 51 = .ok (.iload 5, 2) := dk_21 5 (dk_at dksX1_spoon_2 5 rfl rfl)
theorem dX1_spoon_53 : decode cX1_spoon 53 = .ok (.iload_n 3, 1) := dk_29 (dk_at dksX1_spoon_2 7 rfl rfl)
theorem dX1_spoon_54 : decode cX1_spoon 54 = .ok (.if_icmp .ge 53, 3) := dk_162 0 53 (dk_at dksX1_spoon_2 8 rfl rfl)
theorem dX1_spoon_57 : decode cX1_spoon 57 = .ok (.iload_n 2, 1) := dk_28 (dk_at dksX1_spoon_2 11 rfl rfl)
theorem dX1_spoon_58 : decode cX1_spoon 58 = .ok (.aload_n 0, 1) := dk_42 (dk_at dksX1_spoon_2 12 rfl rfl)
theorem dX1_spoon_59 : decode cX1_spoon 59 = .ok (.getfield 16, 3) := dk_180 0 16 (dk_at dksX1_spoon_2 13 rfl rfl)
theorem dX1_spoon_62 : decode cX1_spoon 62 = .ok (.getfield 133, 3) := dk_180 0 133 (dk_at dksX1_spoon_2 16 rfl rfl)
theorem dX1_spoon_65 : decode cX1_spoon 65 = .ok (.iload_n 1, 1) := dk_27 (dk_at dksX1_spoon_2 19 rfl rfl)
theorem dX1_spoon_66 : decode cX1_spoon 66 = .ok (.iaload, 1) := dk_46 (dk_at dksX1_spoon_2 20 rfl rfl)
theorem dX1_spoon_67 : decode cX1_spoon 67 = .ok (.invokestatic 152, 3) := dk_184 0 152 (dk_at dksX1_spoon_2 21 rfl rfl)
theorem dX1_spoon_70 : decode cX1_spoon 70 = .ok (.istore 6, 2) := dk_54 6 (dk_at dksX1_spoon_3 0 rfl rfl)
theorem dX1_spoon_72 : decode cX1_spoon 72 = .ok (.aload_n 0, 1) := dk_42 (dk_at dksX1_spoon_3 2 rfl rfl)
theorem dX1_spoon_73 : decode cX1_spoon 73 = .ok (.getfield 16, 3) := dk_180 0 16 (dk_at dksX1_spoon_3 3 rfl rfl)
theorem dX1_spoon_76 : decode cX1_spoon 76 = .ok (.getfield 133, 3) := dk_180 0 133 (dk_at dksX1_spoon_3 6 rfl rfl)
theorem dX1_spoon_79 : decode cX1_spoon 79 = .ok (.iload_n 1, 1) := dk_27 (dk_at dksX1_spoon_3 9 rfl rfl)
theorem dX1_spoon_80 : decode cX1_spoon 80 = .ok (.dup2, 1) := dk_92 (dk_at dksX1_spoon_3 10 rfl rfl)
theorem dX1_spoon_81 : decode cX1_spoon 81 = .ok (.iaload, 1) := dk_46 (dk_at dksX1_spoon_3 11 rfl rfl)
theorem dX1_spoon_82 : decode cX1_spoon 82 = .ok (.iload 6, 2) := dk_21 6 (dk_at dksX1_spoon_3 12 rfl rfl)
theorem dX1_spoon_84 : decode cX1_spoon 84 = .ok (.isub, 1) := dk_100 (dk_at dksX1_spoon_3 14 rfl rfl)
theorem dX1_spoon_85 : decode cX1_spoon 85 = .ok (.iastore, 1) := dk_79 (dk_at dksX1_spoon_3 15 rfl rfl)
theorem dX1_spoon_86 : decode cX1_spoon 86 = .ok (.iload 4, 2) := dk_21 4 (dk_at dksX1_spoon_3 16 rfl rfl)
theorem dX1_spoon_88 : decode cX1_spoon 88 = .ok (.iload 6, 2) := dk_21 6 (dk_at dksX1_spoon_3 18 rfl rfl)
theorem dX1_spoon_90 : decode cX1_spoon 90 = .ok (.iadd, 1) := dk_96 (dk_at dksX1_spoon_3 20 rfl rfl)
theorem dX1_spoon_91 : decode cX1_spoon 91 = .ok (.istore 4, 2) := dk_54 4 (dk_at dksX1_spoon_3 21 rfl rfl)
theorem dX1_spoon_93 : decode cX1_spoon 93 = .ok (.aload_n 0, 1) := dk_42 (dk_at dksX1_spoon_3 23 rfl rfl)
theorem dX1_spoon_94 : decode cX1_spoon 94 = .ok (.aload_n 0, 1) := dk_42 (dk_at dksX1_spoon_4 0 rfl rfl)
theorem dX1_spoon_95 : decode cX1_spoon 95 = .ok (.getfield 16, 3) := dk_180 0 16 (dk_at dksX1_spoon_4 1 rfl rfl)
theorem dX1_spoon_98 : decode cX1_spoon 98 = .ok (.invokevirtual 334, 3) := dk_182 1 78 (dk_at dksX1_spoon_4 4 rfl rfl)
theorem dX1_spoon_101 : decode cX1_spoon 101 = .ok (.iinc 5 1, 3) := dk_132 5 1 (dk_at dksX1_spoon_4 7 rfl rfl)
theorem dX1_spoon_104 : decode cX1_spoon 104 = .ok (.goto (-53), 3) := dk_167 255 203 (dk_at dksX1_spoon_4 10 rfl rfl)
theorem dX1_spoon_107 : decode cX1_spoon 107 = .ok (.aload_n 0, 1) := dk_42 (dk_at dksX1_spoon_4 13 rfl rfl)
theorem dX1_spoon_108 : decode cX1_spoon 108 = .ok (.iconst 0, 1) := dk_3 (dk_at dksX1_spoon_4 14 rfl rfl)
theorem dX1_spoon_109 : decode cX1_spoon 109 = .ok (.putfield 350, 3) := dk_181 1 94 (dk_at dksX1_spoon_4 15 rfl rfl)
theorem dX1_spoon_112 : decode cX1_spoon 112 = .ok (.aload_n 0, 1) := dk_42 (dk_at dksX1_spoon_4 18 rfl rfl)
theorem dX1_spoon_113 : decode cX1_spoon 113 = .ok (.iload 4, 2) := dk_21 4 (dk_at dksX1_spoon_4 19 rfl rfl)
theorem dX1_spoon_115 : decode cX1_spoon 115 = .ok (.i2l, 1) := dk_133 (dk_at dksX1_spoon_4 21 rfl rfl)
theorem dX1_spoon_116 : decode cX1_spoon 116 = .ok (.invokevirtual 353, 3) := dk_182 1 97 (dk_at dksX1_spoon_5 0 rfl rfl)
theorem dX1_spoon_119 : decode cX1_spoon 119 = .ok (.aload_n 0, 1) := dk_42 (dk_at dksX1_spoon_5 3 rfl rfl)
theorem dX1_spoon_120 : decode cX1_spoon 120 = .ok (.getfield 16, 3) := dk_180 0 16 (dk_at dksX1_spoon_5 4 rfl rfl)
theorem dX1_spoon_123 : decode cX1_spoon 123 = .ok (.getfield 133, 3) := dk_180 0 133 (dk_at dksX1_spoon_5 7 rfl rfl)
theorem dX1_spoon_126 : decode cX1_spoon 126 = .ok (.iload_n 1, 1) := dk_27 (dk_at dksX1_spoon_5 10 rfl rfl)
theorem dX1_spoon_127 : decode cX1_spoon 127 = .ok (.iaload, 1) := dk_46 (dk_at dksX1_spoon_5 11 rfl rfl)
theorem dX1_spoon_128 : decode cX1_spoon 128 = .ok (.ireturn, 1) := dk_172 (dk_at dksX1_spoon_5 12 rfl rfl)
abbrev cX1_rests : ByteArray := prog_1_method_96_code
def yX1_rests : MethodName := ⟨RX1, "rests", "(I)I"⟩
def dkwX1_rests_3 : List UInt8 := [21, 4, 133, 182, 1, 97, 132, 4, 1, 167, 255, 209, 132, 3, 1, 167, 255, 194, 28, 172]
abbrev dktX1_rests_3 : List UInt8 := dkwX1_rests_3 ++ []
def dkwX1_rests_2 : List UInt8 := [154, 0, 6, 167, 0, 27, 132, 2, 1, 28, 4, 164, 0, 6, 167, 0, 16, 42, 29, 133, 182, 1, 97, 42]
abbrev dktX1_rests_2 : List UInt8 := dkwX1_rests_2 ++ dktX1_rests_3
def dkwX1_rests_1 : List UInt8 := [16, 9, 163, 0, 62, 3, 54, 4, 21, 4, 16, 9, 163, 0, 46, 29, 21, 4, 27, 184, 1, 212]
abbrev dktX1_rests_1 : List UInt8 := dkwX1_rests_1 ++ dktX1_rests_2
def dkwX1_rests_0 : List UInt8 := [27, 133, 9, 20, 1, 158, 184, 0, 121, 154, 0, 5, 2, 172, 3, 61, 42, 3, 181, 1, 94, 3, 62, 29]
abbrev dktX1_rests_0 : List UInt8 := dkwX1_rests_0 ++ dktX1_rests_1
theorem dksX1_rests_0 : cX1_rests.data.toList.drop 0 = dktX1_rests_0 := by decide +kernel
theorem dksX1_rests_1 : cX1_rests.data.toList.drop 24 = dktX1_rests_1 := dk_seg dksX1_rests_0 24 rfl rfl
theorem dksX1_rests_2 : cX1_rests.data.toList.drop 46 = dktX1_rests_2 := dk_seg dksX1_rests_1 22 rfl rfl
theorem dksX1_rests_3 : cX1_rests.data.toList.drop 70 = dktX1_rests_3 := dk_seg dksX1_rests_2 24 rfl rfl
theorem dX1_rests_0 : decode cX1_rests 0 = .ok (.iload_n 1, 1) := dk_27 (dk_at dksX1_rests_0 0 rfl rfl)
theorem dX1_rests_1 : decode cX1_rests 1 = .ok (.i2l, 1) := dk_133 (dk_at dksX1_rests_0 1 rfl rfl)
theorem dX1_rests_2 : decode cX1_rests 2 = .ok (.lconst 0, 1) := dk_9 (dk_at dksX1_rests_0 2 rfl rfl)
theorem dX1_rests_3 : decode cX1_rests 3 = .ok (.ldc2_w 414, 3) := dk_20 1 158 (dk_at dksX1_rests_0 3 rfl rfl)
theorem dX1_rests_6 : decode cX1_rests 6 = .ok (.invokestatic 121, 3) := dk_184 0 121 (dk_at dksX1_rests_0 6 rfl rfl)
theorem dX1_rests_9 : decode cX1_rests 9 = .ok (.ifCond .ne 5, 3) := dk_154 0 5 (dk_at dksX1_rests_0 9 rfl rfl)
theorem dX1_rests_12 : decode cX1_rests 12 = .ok (.iconst (-1), 1) := dk_2 (dk_at dksX1_rests_0 12 rfl rfl)
theorem dX1_rests_13 : decode cX1_rests 13 = .ok (.ireturn, 1) := dk_172 (dk_at dksX1_rests_0 13 rfl rfl)
theorem dX1_rests_14 : decode cX1_rests 14 = .ok (.iconst 0, 1) := dk_3 (dk_at dksX1_rests_0 14 rfl rfl)
theorem dX1_rests_15 : decode cX1_rests 15 = .ok (.istore_n 2, 1) := dk_61 (dk_at dksX1_rests_0 15 rfl rfl)
theorem dX1_rests_16 : decode cX1_rests 16 = .ok (.aload_n 0, 1) := dk_42 (dk_at dksX1_rests_0 16 rfl rfl)
theorem dX1_rests_17 : decode cX1_rests 17 = .ok (.iconst 0, 1) := dk_3 (dk_at dksX1_rests_0 17 rfl rfl)
theorem dX1_rests_18 : decode cX1_rests 18 = .ok (.putfield 350, 3) := dk_181 1 94 (dk_at dksX1_rests_0 18 rfl rfl)
theorem dX1_rests_21 : decode cX1_rests 21 = .ok (.iconst 0, 1) := dk_3 (dk_at dksX1_rests_0 21 rfl rfl)
theorem dX1_rests_22 : decode cX1_rests 22 = .ok (.istore_n 3, 1) := dk_62 (dk_at dksX1_rests_0 22 rfl rfl)
theorem dX1_rests_23 : decode cX1_rests 23 = .ok (.iload_n 3, 1) := dk_29 (dk_at dksX1_rests_0 23 rfl rfl)
theorem dX1_rests_24 : decode cX1_rests 24 = .ok (.bipush 9, 2) := dk_16 9 (dk_at dksX1_rests_1 0 rfl rfl)
theorem dX1_rests_26 : decode cX1_rests 26 = .ok (.if_icmp .gt 62, 3) := dk_163 0 62 (dk_at dksX1_rests_1 2 rfl rfl)
theorem dX1_rests_29 : decode cX1_rests 29 = .ok (.iconst 0, 1) := dk_3 (dk_at dksX1_rests_1 5 rfl rfl)
theorem dX1_rests_30 : decode cX1_rests 30 = .ok (.istore 4, 2) := dk_54 4 (dk_at dksX1_rests_1 6 rfl rfl)
theorem dX1_rests_32 : decode cX1_rests 32 = .ok (.iload 4, 2) := dk_21 4 (dk_at dksX1_rests_1 8 rfl rfl)
theorem dX1_rests_34 : decode cX1_rests 34 = .ok (.bipush 9, 2) := dk_16 9 (dk_at dksX1_rests_1 10 rfl rfl)
theorem dX1_rests_36 : decode cX1_rests 36 = .ok (.if_icmp .gt 46, 3) := dk_163 0 46 (dk_at dksX1_rests_1 12 rfl rfl)
theorem dX1_rests_39 : decode cX1_rests 39 = .ok (.iload_n 3, 1) := dk_29 (dk_at dksX1_rests_1 15 rfl rfl)
theorem dX1_rests_40 : decode cX1_rests 40 = .ok (.iload 4, 2) := dk_21 4 (dk_at dksX1_rests_1 16 rfl rfl)
theorem dX1_rests_42 : decode cX1_rests 42 = .ok (.iload_n 1, 1) := dk_27 (dk_at dksX1_rests_1 18 rfl rfl)
theorem dX1_rests_43 : decode cX1_rests 43 = .ok (.invokestatic 468, 3) := dk_184 1 212 (dk_at dksX1_rests_1 19 rfl rfl)
theorem dX1_rests_46 : decode cX1_rests 46 = .ok (.ifCond .ne 6, 3) := dk_154 0 6 (dk_at dksX1_rests_2 0 rfl rfl)
theorem dX1_rests_49 : decode cX1_rests 49 = .ok (.goto 27, 3) := dk_167 0 27 (dk_at dksX1_rests_2 3 rfl rfl)
theorem dX1_rests_52 : decode cX1_rests 52 = .ok (.iinc 2 1, 3) := dk_132 2 1 (dk_at dksX1_rests_2 6 rfl rfl)
theorem dX1_rests_55 : decode cX1_rests 55 = .ok (.iload_n 2, 1) := dk_28 (dk_at dksX1_rests_2 9 rfl rfl)
theorem dX1_rests_56 : decode cX1_rests 56 = .ok (.iconst 1, 1) := dk_4 (dk_at dksX1_rests_2 10 rfl rfl)
theorem dX1_rests_57 : decode cX1_rests 57 = .ok (.if_icmp .le 6, 3) := dk_164 0 6 (dk_at dksX1_rests_2 11 rfl rfl)
theorem dX1_rests_60 : decode cX1_rests 60 = .ok (.goto 16, 3) := dk_167 0 16 (dk_at dksX1_rests_2 14 rfl rfl)
theorem dX1_rests_63 : decode cX1_rests 63 = .ok (.aload_n 0, 1) := dk_42 (dk_at dksX1_rests_2 17 rfl rfl)
theorem dX1_rests_64 : decode cX1_rests 64 = .ok (.iload_n 3, 1) := dk_29 (dk_at dksX1_rests_2 18 rfl rfl)
theorem dX1_rests_65 : decode cX1_rests 65 = .ok (.i2l, 1) := dk_133 (dk_at dksX1_rests_2 19 rfl rfl)
theorem dX1_rests_66 : decode cX1_rests 66 = .ok (.invokevirtual 353, 3) := dk_182 1 97 (dk_at dksX1_rests_2 20 rfl rfl)
theorem dX1_rests_69 : decode cX1_rests 69 = .ok (.aload_n 0, 1) := dk_42 (dk_at dksX1_rests_2 23 rfl rfl)
theorem dX1_rests_70 : decode cX1_rests 70 = .ok (.iload 4, 2) := dk_21 4 (dk_at dksX1_rests_3 0 rfl rfl)
theorem dX1_rests_72 : decode cX1_rests 72 = .ok (.i2l, 1) := dk_133 (dk_at dksX1_rests_3 2 rfl rfl)
theorem dX1_rests_73 : decode cX1_rests 73 = .ok (.invokevirtual 353, 3) := dk_182 1 97 (dk_at dksX1_rests_3 3 rfl rfl)
theorem dX1_rests_76 : decode cX1_rests 76 = .ok (.iinc 4 1, 3) := dk_132 4 1 (dk_at dksX1_rests_3 6 rfl rfl)
theorem dX1_rests_79 : decode cX1_rests 79 = .ok (.goto (-47), 3) := dk_167 255 209 (dk_at dksX1_rests_3 9 rfl rfl)
theorem dX1_rests_82 : decode cX1_rests 82 = .ok (.iinc 3 1, 3) := dk_132 3 1 (dk_at dksX1_rests_3 12 rfl rfl)
theorem dX1_rests_85 : decode cX1_rests 85 = .ok (.goto (-62), 3) := dk_167 255 194 (dk_at dksX1_rests_3 15 rfl rfl)
theorem dX1_rests_88 : decode cX1_rests 88 = .ok (.iload_n 2, 1) := dk_28 (dk_at dksX1_rests_3 18 rfl rfl)
theorem dX1_rests_89 : decode cX1_rests 89 = .ok (.ireturn, 1) := dk_172 (dk_at dksX1_rests_3 19 rfl rfl)
abbrev cX1_isRest : ByteArray := prog_1_method_95_code
def yX1_isRest : MethodName := ⟨RX1, "isRest", "(III)Z"⟩
def dkwX1_isRest_1 : List UInt8 := [26, 28, 184, 1, 209, 27, 26, 28, 184, 1, 209, 164, 0, 5, 3, 172, 132, 3, 1, 167, 255, 215, 4, 172]
abbrev dktX1_isRest_1 : List UInt8 := dkwX1_isRest_1 ++ []
def dkwX1_isRest_0 : List UInt8 := [3, 62, 29, 16, 9, 163, 0, 41, 29, 27, 28, 184, 1, 209, 26, 27, 28, 184, 1, 209, 163, 0, 18, 29]
abbrev dktX1_isRest_0 : List UInt8 := dkwX1_isRest_0 ++ dktX1_isRest_1
theorem dksX1_isRest_0 : cX1_isRest.data.toList.drop 0 = dktX1_isRest_0 := by decide +kernel
theorem dksX1_isRest_1 : cX1_isRest.data.toList.drop 24 = dktX1_isRest_1 := dk_seg dksX1_isRest_0 24 rfl rfl
theorem dX1_isRest_0 : decode cX1_isRest 0 = .ok (.iconst 0, 1) := dk_3 (dk_at dksX1_isRest_0 0 rfl rfl)
theorem dX1_isRest_1 : decode cX1_isRest 1 = .ok (.istore_n 3, 1) := dk_62 (dk_at dksX1_isRest_0 1 rfl rfl)
theorem dX1_isRest_2 : decode cX1_isRest 2 = .ok (.iload_n 3, 1) := dk_29 (dk_at dksX1_isRest_0 2 rfl rfl)
theorem dX1_isRest_3 : decode cX1_isRest 3 = .ok (.bipush 9, 2) := dk_16 9 (dk_at dksX1_isRest_0 3 rfl rfl)
theorem dX1_isRest_5 : decode cX1_isRest 5 = .ok (.if_icmp .gt 41, 3) := dk_163 0 41 (dk_at dksX1_isRest_0 5 rfl rfl)
theorem dX1_isRest_8 : decode cX1_isRest 8 = .ok (.iload_n 3, 1) := dk_29 (dk_at dksX1_isRest_0 8 rfl rfl)
theorem dX1_isRest_9 : decode cX1_isRest 9 = .ok (.iload_n 1, 1) := dk_27 (dk_at dksX1_isRest_0 9 rfl rfl)
theorem dX1_isRest_10 : decode cX1_isRest 10 = .ok (.iload_n 2, 1) := dk_28 (dk_at dksX1_isRest_0 10 rfl rfl)
theorem dX1_isRest_11 : decode cX1_isRest 11 = .ok (.invokestatic 465, 3) := dk_184 1 209 (dk_at dksX1_isRest_0 11 rfl rfl)
theorem dX1_isRest_14 : decode cX1_isRest 14 = .ok (.iload_n 0, 1) := dk_26 (dk_at dksX1_isRest_0 14 rfl rfl)
theorem dX1_isRest_15 : decode cX1_isRest 15 = .ok (.iload_n 1, 1) := dk_27 (dk_at dksX1_isRest_0 15 rfl rfl)
theorem dX1_isRest_16 : decode cX1_isRest 16 = .ok (.iload_n 2, 1) := dk_28 (dk_at dksX1_isRest_0 16 rfl rfl)
theorem dX1_isRest_17 : decode cX1_isRest 17 = .ok (.invokestatic 465, 3) := dk_184 1 209 (dk_at dksX1_isRest_0 17 rfl rfl)
theorem dX1_isRest_20 : decode cX1_isRest 20 = .ok (.if_icmp .gt 18, 3) := dk_163 0 18 (dk_at dksX1_isRest_0 20 rfl rfl)
theorem dX1_isRest_23 : decode cX1_isRest 23 = .ok (.iload_n 3, 1) := dk_29 (dk_at dksX1_isRest_0 23 rfl rfl)
theorem dX1_isRest_24 : decode cX1_isRest 24 = .ok (.iload_n 0, 1) := dk_26 (dk_at dksX1_isRest_1 0 rfl rfl)
theorem dX1_isRest_25 : decode cX1_isRest 25 = .ok (.iload_n 2, 1) := dk_28 (dk_at dksX1_isRest_1 1 rfl rfl)
theorem dX1_isRest_26 : decode cX1_isRest 26 = .ok (.invokestatic 465, 3) := dk_184 1 209 (dk_at dksX1_isRest_1 2 rfl rfl)
theorem dX1_isRest_29 : decode cX1_isRest 29 = .ok (.iload_n 1, 1) := dk_27 (dk_at dksX1_isRest_1 5 rfl rfl)
theorem dX1_isRest_30 : decode cX1_isRest 30 = .ok (.iload_n 0, 1) := dk_26 (dk_at dksX1_isRest_1 6 rfl rfl)
theorem dX1_isRest_31 : decode cX1_isRest 31 = .ok (.iload_n 2, 1) := dk_28 (dk_at dksX1_isRest_1 7 rfl rfl)
theorem dX1_isRest_32 : decode cX1_isRest 32 = .ok (.invokestatic 465, 3) := dk_184 1 209 (dk_at dksX1_isRest_1 8 rfl rfl)
theorem dX1_isRest_35 : decode cX1_isRest 35 = .ok (.if_icmp .le 5, 3) := dk_164 0 5 (dk_at dksX1_isRest_1 11 rfl rfl)
theorem dX1_isRest_38 : decode cX1_isRest 38 = .ok (.iconst 0, 1) := dk_3 (dk_at dksX1_isRest_1 14 rfl rfl)
theorem dX1_isRest_39 : decode cX1_isRest 39 = .ok (.ireturn, 1) := dk_172 (dk_at dksX1_isRest_1 15 rfl rfl)
theorem dX1_isRest_40 : decode cX1_isRest 40 = .ok (.iinc 3 1, 3) := dk_132 3 1 (dk_at dksX1_isRest_1 16 rfl rfl)
theorem dX1_isRest_43 : decode cX1_isRest 43 = .ok (.goto (-41), 3) := dk_167 255 215 (dk_at dksX1_isRest_1 19 rfl rfl)
theorem dX1_isRest_46 : decode cX1_isRest 46 = .ok (.iconst 1, 1) := dk_4 (dk_at dksX1_isRest_1 22 rfl rfl)
theorem dX1_isRest_47 : decode cX1_isRest 47 = .ok (.ireturn, 1) := dk_172 (dk_at dksX1_isRest_1 23 rfl rfl)
abbrev cX1_gains : ByteArray := prog_1_method_94_code
def yX1_gains : MethodName := ⟨RX1, "gains", "(III)I"⟩
def dkwX1_gains_1 : List UInt8 := [7, 108, 100, 26, 7, 164, 0, 12, 27, 7, 164, 0, 7, 5, 167, 0, 4, 3, 100, 172]
abbrev dktX1_gains_1 : List UInt8 := dkwX1_gains_1 ++ []
def dkwX1_gains_0 : List UInt8 := [26, 27, 164, 0, 7, 28, 167, 0, 15, 26, 27, 160, 0, 9, 28, 5, 108, 167, 0, 4, 3, 26, 26, 104]
abbrev dktX1_gains_0 : List UInt8 := dkwX1_gains_0 ++ dktX1_gains_1
theorem dksX1_gains_0 : cX1_gains.data.toList.drop 0 = dktX1_gains_0 := by decide +kernel
theorem dksX1_gains_1 : cX1_gains.data.toList.drop 24 = dktX1_gains_1 := dk_seg dksX1_gains_0 24 rfl rfl
theorem dX1_gains_0 : decode cX1_gains 0 = .ok (.iload_n 0, 1) := dk_26 (dk_at dksX1_gains_0 0 rfl rfl)
theorem dX1_gains_1 : decode cX1_gains 1 = .ok (.iload_n 1, 1) := dk_27 (dk_at dksX1_gains_0 1 rfl rfl)
theorem dX1_gains_2 : decode cX1_gains 2 = .ok (.if_icmp .le 7, 3) := dk_164 0 7 (dk_at dksX1_gains_0 2 rfl rfl)
theorem dX1_gains_5 : decode cX1_gains 5 = .ok (.iload_n 2, 1) := dk_28 (dk_at dksX1_gains_0 5 rfl rfl)
theorem dX1_gains_6 : decode cX1_gains 6 = .ok (.goto 15, 3) := dk_167 0 15 (dk_at dksX1_gains_0 6 rfl rfl)
theorem dX1_gains_9 : decode cX1_gains 9 = .ok (.iload_n 0, 1) := dk_26 (dk_at dksX1_gains_0 9 rfl rfl)
theorem dX1_gains_10 : decode cX1_gains 10 = .ok (.iload_n 1, 1) := dk_27 (dk_at dksX1_gains_0 10 rfl rfl)
theorem dX1_gains_11 : decode cX1_gains 11 = .ok (.if_icmp .ne 9, 3) := dk_160 0 9 (dk_at dksX1_gains_0 11 rfl rfl)
theorem dX1_gains_14 : decode cX1_gains 14 = .ok (.iload_n 2, 1) := dk_28 (dk_at dksX1_gains_0 14 rfl rfl)
theorem dX1_gains_15 : decode cX1_gains 15 = .ok (.iconst 2, 1) := dk_5 (dk_at dksX1_gains_0 15 rfl rfl)
theorem dX1_gains_16 : decode cX1_gains 16 = .ok (.idiv, 1) := dk_108 (dk_at dksX1_gains_0 16 rfl rfl)
theorem dX1_gains_17 : decode cX1_gains 17 = .ok (.goto 4, 3) := dk_167 0 4 (dk_at dksX1_gains_0 17 rfl rfl)
theorem dX1_gains_20 : decode cX1_gains 20 = .ok (.iconst 0, 1) := dk_3 (dk_at dksX1_gains_0 20 rfl rfl)
theorem dX1_gains_21 : decode cX1_gains 21 = .ok (.iload_n 0, 1) := dk_26 (dk_at dksX1_gains_0 21 rfl rfl)
theorem dX1_gains_22 : decode cX1_gains 22 = .ok (.iload_n 0, 1) := dk_26 (dk_at dksX1_gains_0 22 rfl rfl)
theorem dX1_gains_23 : decode cX1_gains 23 = .ok (.imul, 1) := dk_104 (dk_at dksX1_gains_0 23 rfl rfl)
theorem dX1_gains_24 : decode cX1_gains 24 = .ok (.iconst 4, 1) := dk_7 (dk_at dksX1_gains_1 0 rfl rfl)
theorem dX1_gains_25 : decode cX1_gains 25 = .ok (.idiv, 1) := dk_108 (dk_at dksX1_gains_1 1 rfl rfl)
theorem dX1_gains_26 : decode cX1_gains 26 = .ok (.isub, 1) := dk_100 (dk_at dksX1_gains_1 2 rfl rfl)
theorem dX1_gains_27 : decode cX1_gains 27 = .ok (.iload_n 0, 1) := dk_26 (dk_at dksX1_gains_1 3 rfl rfl)
theorem dX1_gains_28 : decode cX1_gains 28 = .ok (.iconst 4, 1) := dk_7 (dk_at dksX1_gains_1 4 rfl rfl)
theorem dX1_gains_29 : decode cX1_gains 29 = .ok (.if_icmp .le 12, 3) := dk_164 0 12 (dk_at dksX1_gains_1 5 rfl rfl)
theorem dX1_gains_32 : decode cX1_gains 32 = .ok (.iload_n 1, 1) := dk_27 (dk_at dksX1_gains_1 8 rfl rfl)
theorem dX1_gains_33 : decode cX1_gains 33 = .ok (.iconst 4, 1) := dk_7 (dk_at dksX1_gains_1 9 rfl rfl)
theorem dX1_gains_34 : decode cX1_gains 34 = .ok (.if_icmp .le 7, 3) := dk_164 0 7 (dk_at dksX1_gains_1 10 rfl rfl)
theorem dX1_gains_37 : decode cX1_gains 37 = .ok (.iconst 2, 1) := dk_5 (dk_at dksX1_gains_1 13 rfl rfl)
theorem dX1_gains_38 : decode cX1_gains 38 = .ok (.goto 4, 3) := dk_167 0 4 (dk_at dksX1_gains_1 14 rfl rfl)
theorem dX1_gains_41 : decode cX1_gains 41 = .ok (.iconst 0, 1) := dk_3 (dk_at dksX1_gains_1 17 rfl rfl)
theorem dX1_gains_42 : decode cX1_gains 42 = .ok (.isub, 1) := dk_100 (dk_at dksX1_gains_1 18 rfl rfl)
theorem dX1_gains_43 : decode cX1_gains 43 = .ok (.ireturn, 1) := dk_172 (dk_at dksX1_gains_1 19 rfl rfl)
abbrev cX1_law : ByteArray := prog_1_method_97_code
def yX1_law : MethodName := ⟨RX1, "law", "()I"⟩
def dkwX1_law_3 : List UInt8 := [133, 182, 1, 97, 42, 28, 133, 182, 1, 97, 42, 42, 180, 0, 16, 182, 1, 54, 28, 100, 172]
abbrev dktX1_law_3 : List UInt8 := dkwX1_law_3 ++ []
def dkwX1_law_2 : List UInt8 := [16, 12, 182, 1, 145, 42, 45, 181, 1, 21, 42, 3, 181, 1, 94, 42, 42, 42, 180, 0, 16, 182, 1, 54]
abbrev dktX1_law_2 : List UInt8 := dkwX1_law_2 ++ dktX1_law_3
def dkwX1_law_1 : List UInt8 := [42, 42, 180, 0, 16, 182, 1, 54, 61, 42, 180, 1, 21, 78, 42, 42, 180, 1, 14, 181, 1, 21, 42, 3]
abbrev dktX1_law_1 : List UInt8 := dkwX1_law_1 ++ dktX1_law_2
def dkwX1_law_0 : List UInt8 := [42, 182, 1, 18, 60, 27, 156, 0, 11, 27, 4, 96, 17, 39, 16, 100, 172, 42, 3, 16, 12, 182, 1, 145]
abbrev dktX1_law_0 : List UInt8 := dkwX1_law_0 ++ dktX1_law_1
theorem dksX1_law_0 : cX1_law.data.toList.drop 0 = dktX1_law_0 := by decide +kernel
theorem dksX1_law_1 : cX1_law.data.toList.drop 24 = dktX1_law_1 := dk_seg dksX1_law_0 24 rfl rfl
theorem dksX1_law_2 : cX1_law.data.toList.drop 48 = dktX1_law_2 := dk_seg dksX1_law_1 24 rfl rfl
theorem dksX1_law_3 : cX1_law.data.toList.drop 72 = dktX1_law_3 := dk_seg dksX1_law_2 24 rfl rfl
theorem dX1_law_0 : decode cX1_law 0 = .ok (.aload_n 0, 1) := dk_42 (dk_at dksX1_law_0 0 rfl rfl)
theorem dX1_law_1 : decode cX1_law 1 = .ok (.invokevirtual 274, 3) := dk_182 1 18 (dk_at dksX1_law_0 1 rfl rfl)
theorem dX1_law_4 : decode cX1_law 4 = .ok (.istore_n 1, 1) := dk_60 (dk_at dksX1_law_0 4 rfl rfl)
theorem dX1_law_5 : decode cX1_law 5 = .ok (.iload_n 1, 1) := dk_27 (dk_at dksX1_law_0 5 rfl rfl)
theorem dX1_law_6 : decode cX1_law 6 = .ok (.ifCond .ge 11, 3) := dk_156 0 11 (dk_at dksX1_law_0 6 rfl rfl)
theorem dX1_law_9 : decode cX1_law 9 = .ok (.iload_n 1, 1) := dk_27 (dk_at dksX1_law_0 9 rfl rfl)
theorem dX1_law_10 : decode cX1_law 10 = .ok (.iconst 1, 1) := dk_4 (dk_at dksX1_law_0 10 rfl rfl)
theorem dX1_law_11 : decode cX1_law 11 = .ok (.iadd, 1) := dk_96 (dk_at dksX1_law_0 11 rfl rfl)
theorem dX1_law_12 : decode cX1_law 12 = .ok (.sipush 10000, 3) := dk_17 39 16 (dk_at dksX1_law_0 12 rfl rfl)
theorem dX1_law_15 : decode cX1_law 15 = .ok (.isub, 1) := dk_100 (dk_at dksX1_law_0 15 rfl rfl)
theorem dX1_law_16 : decode cX1_law 16 = .ok (.ireturn, 1) := dk_172 (dk_at dksX1_law_0 16 rfl rfl)
theorem dX1_law_17 : decode cX1_law 17 = .ok (.aload_n 0, 1) := dk_42 (dk_at dksX1_law_0 17 rfl rfl)
theorem dX1_law_18 : decode cX1_law 18 = .ok (.iconst 0, 1) := dk_3 (dk_at dksX1_law_0 18 rfl rfl)
theorem dX1_law_19 : decode cX1_law 19 = .ok (.bipush 12, 2) := dk_16 12 (dk_at dksX1_law_0 19 rfl rfl)
theorem dX1_law_21 : decode cX1_law 21 = .ok (.invokevirtual 401, 3) := dk_182 1 145 (dk_at dksX1_law_0 21 rfl rfl)
theorem dX1_law_24 : decode cX1_law 24 = .ok (.aload_n 0, 1) := dk_42 (dk_at dksX1_law_1 0 rfl rfl)
theorem dX1_law_25 : decode cX1_law 25 = .ok (.aload_n 0, 1) := dk_42 (dk_at dksX1_law_1 1 rfl rfl)
theorem dX1_law_26 : decode cX1_law 26 = .ok (.getfield 16, 3) := dk_180 0 16 (dk_at dksX1_law_1 2 rfl rfl)
theorem dX1_law_29 : decode cX1_law 29 = .ok (.invokevirtual 310, 3) := dk_182 1 54 (dk_at dksX1_law_1 5 rfl rfl)
theorem dX1_law_32 : decode cX1_law 32 = .ok (.istore_n 2, 1) := dk_61 (dk_at dksX1_law_1 8 rfl rfl)
theorem dX1_law_33 : decode cX1_law 33 = .ok (.aload_n 0, 1) := dk_42 (dk_at dksX1_law_1 9 rfl rfl)
theorem dX1_law_34 : decode cX1_law 34 = .ok (.getfield 277, 3) := dk_180 1 21 (dk_at dksX1_law_1 10 rfl rfl)
theorem dX1_law_37 : decode cX1_law 37 = .ok (.astore_n 3, 1) := dk_78 (dk_at dksX1_law_1 13 rfl rfl)
theorem dX1_law_38 : decode cX1_law 38 = .ok (.aload_n 0, 1) := dk_42 (dk_at dksX1_law_1 14 rfl rfl)
theorem dX1_law_39 : decode cX1_law 39 = .ok (.aload_n 0, 1) := dk_42 (dk_at dksX1_law_1 15 rfl rfl)
theorem dX1_law_40 : decode cX1_law 40 = .ok (.getfield 270, 3) := dk_180 1 14 (dk_at dksX1_law_1 16 rfl rfl)
theorem dX1_law_43 : decode cX1_law 43 = .ok (.putfield 277, 3) := dk_181 1 21 (dk_at dksX1_law_1 19 rfl rfl)
theorem dX1_law_46 : decode cX1_law 46 = .ok (.aload_n 0, 1) := dk_42 (dk_at dksX1_law_1 22 rfl rfl)
theorem dX1_law_47 : decode cX1_law 47 = .ok (.iconst 0, 1) := dk_3 (dk_at dksX1_law_1 23 rfl rfl)
theorem dX1_law_48 : decode cX1_law 48 = .ok (.bipush 12, 2) := dk_16 12 (dk_at dksX1_law_2 0 rfl rfl)
theorem dX1_law_50 : decode cX1_law 50 = .ok (.invokevirtual 401, 3) := dk_182 1 145 (dk_at dksX1_law_2 2 rfl rfl)
theorem dX1_law_53 : decode cX1_law 53 = .ok (.aload_n 0, 1) := dk_42 (dk_at dksX1_law_2 5 rfl rfl)
theorem dX1_law_54 : decode cX1_law 54 = .ok (.aload_n 3, 1) := dk_45 (dk_at dksX1_law_2 6 rfl rfl)
theorem dX1_law_55 : decode cX1_law 55 = .ok (.putfield 277, 3) := dk_181 1 21 (dk_at dksX1_law_2 7 rfl rfl)
theorem dX1_law_58 : decode cX1_law 58 = .ok (.aload_n 0, 1) := dk_42 (dk_at dksX1_law_2 10 rfl rfl)
theorem dX1_law_59 : decode cX1_law 59 = .ok (.iconst 0, 1) := dk_3 (dk_at dksX1_law_2 11 rfl rfl)
theorem dX1_law_60 : decode cX1_law 60 = .ok (.putfield 350, 3) := dk_181 1 94 (dk_at dksX1_law_2 12 rfl rfl)
theorem dX1_law_63 : decode cX1_law 63 = .ok (.aload_n 0, 1) := dk_42 (dk_at dksX1_law_2 15 rfl rfl)
theorem dX1_law_64 : decode cX1_law 64 = .ok (.aload_n 0, 1) := dk_42 (dk_at dksX1_law_2 16 rfl rfl)
theorem dX1_law_65 : decode cX1_law 65 = .ok (.aload_n 0, 1) := dk_42 (dk_at dksX1_law_2 17 rfl rfl)
theorem dX1_law_66 : decode cX1_law 66 = .ok (.getfield 16, 3) := dk_180 0 16 (dk_at dksX1_law_2 18 rfl rfl)
theorem dX1_law_69 : decode cX1_law 69 = .ok (.invokevirtual 310, 3) := dk_182 1 54 (dk_at dksX1_law_2 21 rfl rfl)
theorem dX1_law_72 : decode cX1_law 72 = .ok (.i2l, 1) := dk_133 (dk_at dksX1_law_3 0 rfl rfl)
theorem dX1_law_73 : decode cX1_law 73 = .ok (.invokevirtual 353, 3) := dk_182 1 97 (dk_at dksX1_law_3 1 rfl rfl)
theorem dX1_law_76 : decode cX1_law 76 = .ok (.aload_n 0, 1) := dk_42 (dk_at dksX1_law_3 4 rfl rfl)
theorem dX1_law_77 : decode cX1_law 77 = .ok (.iload_n 2, 1) := dk_28 (dk_at dksX1_law_3 5 rfl rfl)
theorem dX1_law_78 : decode cX1_law 78 = .ok (.i2l, 1) := dk_133 (dk_at dksX1_law_3 6 rfl rfl)
theorem dX1_law_79 : decode cX1_law 79 = .ok (.invokevirtual 353, 3) := dk_182 1 97 (dk_at dksX1_law_3 7 rfl rfl)
theorem dX1_law_82 : decode cX1_law 82 = .ok (.aload_n 0, 1) := dk_42 (dk_at dksX1_law_3 10 rfl rfl)
theorem dX1_law_83 : decode cX1_law 83 = .ok (.aload_n 0, 1) := dk_42 (dk_at dksX1_law_3 11 rfl rfl)
theorem dX1_law_84 : decode cX1_law 84 = .ok (.getfield 16, 3) := dk_180 0 16 (dk_at dksX1_law_3 12 rfl rfl)
theorem dX1_law_87 : decode cX1_law 87 = .ok (.invokevirtual 310, 3) := dk_182 1 54 (dk_at dksX1_law_3 15 rfl rfl)
theorem dX1_law_90 : decode cX1_law 90 = .ok (.iload_n 2, 1) := dk_28 (dk_at dksX1_law_3 18 rfl rfl)
theorem dX1_law_91 : decode cX1_law 91 = .ok (.isub, 1) := dk_100 (dk_at dksX1_law_3 19 rfl rfl)
theorem dX1_law_92 : decode cX1_law 92 = .ok (.ireturn, 1) := dk_172 (dk_at dksX1_law_3 20 rfl rfl)
abbrev cX1_years : ByteArray := prog_1_method_99_code
def yX1_years : MethodName := ⟨RX1, "years", "(II)I"⟩
def dkwX1_years_7 : List UInt8 := [180, 1, 68, 100, 133, 182, 1, 97, 42, 42, 180, 0, 16, 182, 1, 54, 172]
abbrev dktX1_years_7 : List UInt8 := dkwX1_years_7 ++ []
def dkwX1_years_6 : List UInt8 := [180, 0, 12, 180, 1, 65, 100, 133, 182, 1, 97, 42, 42, 180, 0, 16, 180, 1, 68, 42, 180, 0, 12]
abbrev dktX1_years_6 : List UInt8 := dkwX1_years_6 ++ dktX1_years_7
def dkwX1_years_5 : List UInt8 := [182, 1, 220, 79, 132, 3, 1, 167, 255, 166, 42, 3, 181, 1, 94, 42, 42, 180, 0, 16, 180, 1, 65, 42]
abbrev dktX1_years_5 : List UInt8 := dkwX1_years_5 ++ dktX1_years_6
def dkwX1_years_4 : List UInt8 := [21, 5, 120, 130, 181, 1, 24, 167, 0, 19, 42, 180, 0, 16, 180, 0, 206, 21, 5, 42, 16, 10]
abbrev dktX1_years_4 : List UInt8 := dkwX1_years_4 ++ dktX1_years_5
def dkwX1_years_3 : List UInt8 := [180, 0, 117, 182, 1, 220, 54, 5, 21, 4, 5, 160, 0, 22, 42, 180, 0, 16, 89, 180, 1, 24, 4]
abbrev dktX1_years_3 : List UInt8 := dkwX1_years_3 ++ dktX1_years_4
def dkwX1_years_2 : List UInt8 := [162, 0, 14, 42, 42, 180, 0, 16, 182, 1, 78, 167, 0, 61, 42, 180, 0, 117, 158, 0, 54, 42, 42]
abbrev dktX1_years_2 : List UInt8 := dkwX1_years_2 ++ dktX1_years_3
def dkwX1_years_1 : List UInt8 := [180, 0, 12, 182, 1, 58, 3, 62, 29, 28, 162, 0, 91, 42, 7, 182, 1, 220, 54, 4, 21, 4, 5]
abbrev dktX1_years_1 : List UInt8 := dkwX1_years_1 ++ dktX1_years_2
def dkwX1_years_0 : List UInt8 := [28, 133, 10, 20, 1, 88, 184, 0, 121, 154, 0, 5, 2, 172, 42, 27, 181, 1, 216, 42, 180, 0, 16, 42]
abbrev dktX1_years_0 : List UInt8 := dkwX1_years_0 ++ dktX1_years_1
theorem dksX1_years_0 : cX1_years.data.toList.drop 0 = dktX1_years_0 := by decide +kernel
theorem dksX1_years_1 : cX1_years.data.toList.drop 24 = dktX1_years_1 := dk_seg dksX1_years_0 24 rfl rfl
theorem dksX1_years_2 : cX1_years.data.toList.drop 47 = dktX1_years_2 := dk_seg dksX1_years_1 23 rfl rfl
theorem dksX1_years_3 : cX1_years.data.toList.drop 70 = dktX1_years_3 := dk_seg dksX1_years_2 23 rfl rfl
theorem dksX1_years_4 : cX1_years.data.toList.drop 93 = dktX1_years_4 := dk_seg dksX1_years_3 23 rfl rfl
theorem dksX1_years_5 : cX1_years.data.toList.drop 115 = dktX1_years_5 := dk_seg dksX1_years_4 22 rfl rfl
theorem dksX1_years_6 : cX1_years.data.toList.drop 139 = dktX1_years_6 := dk_seg dksX1_years_5 24 rfl rfl
theorem dksX1_years_7 : cX1_years.data.toList.drop 162 = dktX1_years_7 := dk_seg dksX1_years_6 23 rfl rfl
theorem dX1_years_0 : decode cX1_years 0 = .ok (.iload_n 2, 1) := dk_28 (dk_at dksX1_years_0 0 rfl rfl)
theorem dX1_years_1 : decode cX1_years 1 = .ok (.i2l, 1) := dk_133 (dk_at dksX1_years_0 1 rfl rfl)
theorem dX1_years_2 : decode cX1_years 2 = .ok (.lconst 1, 1) := dk_10 (dk_at dksX1_years_0 2 rfl rfl)
theorem dX1_years_3 : decode cX1_years 3 = .ok (.ldc2_w 344, 3) := dk_20 1 88 (dk_at dksX1_years_0 3 rfl rfl)
theorem dX1_years_6 : decode cX1_years 6 = .ok (.invokestatic 121, 3) := dk_184 0 121 (dk_at dksX1_years_0 6 rfl rfl)
theorem dX1_years_9 : decode cX1_years 9 = .ok (.ifCond .ne 5, 3) := dk_154 0 5 (dk_at dksX1_years_0 9 rfl rfl)
theorem dX1_years_12 : decode cX1_years 12 = .ok (.iconst (-1), 1) := dk_2 (dk_at dksX1_years_0 12 rfl rfl)
theorem dX1_years_13 : decode cX1_years 13 = .ok (.ireturn, 1) := dk_172 (dk_at dksX1_years_0 13 rfl rfl)
theorem dX1_years_14 : decode cX1_years 14 = .ok (.aload_n 0, 1) := dk_42 (dk_at dksX1_years_0 14 rfl rfl)
theorem dX1_years_15 : decode cX1_years 15 = .ok (.iload_n 1, 1) := dk_27 (dk_at dksX1_years_0 15 rfl rfl)
theorem dX1_years_16 : decode cX1_years 16 = .ok (.putfield 472, 3) := dk_181 1 216 (dk_at dksX1_years_0 16 rfl rfl)
theorem dX1_years_19 : decode cX1_years 19 = .ok (.aload_n 0, 1) := dk_42 (dk_at dksX1_years_0 19 rfl rfl)
theorem dX1_years_20 : decode cX1_years 20 = .ok (.getfield 16, 3) := dk_180 0 16 (dk_at dksX1_years_0 20 rfl rfl)
theorem dX1_years_23 : decode cX1_years 23 = .ok (.aload_n 0, 1) := dk_42 (dk_at dksX1_years_0 23 rfl rfl)
theorem dX1_years_24 : decode cX1_years 24 = .ok (.getfield 12, 3) := dk_180 0 12 (dk_at dksX1_years_1 0 rfl rfl)
theorem dX1_years_27 : decode cX1_years 27 = .ok (.invokevirtual 314, 3) := dk_182 1 58 (dk_at dksX1_years_1 3 rfl rfl)
theorem dX1_years_30 : decode cX1_years 30 = .ok (.iconst 0, 1) := dk_3 (dk_at dksX1_years_1 6 rfl rfl)
theorem dX1_years_31 : decode cX1_years 31 = .ok (.istore_n 3, 1) := dk_62 (dk_at dksX1_years_1 7 rfl rfl)
theorem dX1_years_32 : decode cX1_years 32 = .ok (.iload_n 3, 1) := dk_29 (dk_at dksX1_years_1 8 rfl rfl)
theorem dX1_years_33 : decode cX1_years 33 = .ok (.iload_n 2, 1) := dk_28 (dk_at dksX1_years_1 9 rfl rfl)
theorem dX1_years_34 : decode cX1_years 34 = .ok (.if_icmp .ge 91, 3) := dk_162 0 91 (dk_at dksX1_years_1 10 rfl rfl)
theorem dX1_years_37 : decode cX1_years 37 = .ok (.aload_n 0, 1) := dk_42 (dk_at dksX1_years_1 13 rfl rfl)
theorem dX1_years_38 : decode cX1_years 38 = .ok (.iconst 4, 1) := dk_7 (dk_at dksX1_years_1 14 rfl rfl)
theorem dX1_years_39 : decode cX1_years 39 = .ok (.invokevirtual 476, 3) := dk_182 1 220 (dk_at dksX1_years_1 15 rfl rfl)
theorem dX1_years_42 : decode cX1_years 42 = .ok (.istore 4, 2) := dk_54 4 (dk_at dksX1_years_1 18 rfl rfl)
theorem dX1_years_44 : decode cX1_years 44 = .ok (.iload 4, 2) := dk_21 4 (dk_at dksX1_years_1 20 rfl rfl)
theorem dX1_years_46 : decode cX1_years 46 = .ok (.iconst 2, 1) := dk_5 (dk_at dksX1_years_1 22 rfl rfl)
theorem dX1_years_47 : decode cX1_years 47 = .ok (.if_icmp .ge 14, 3) := dk_162 0 14 (dk_at dksX1_years_2 0 rfl rfl)
theorem dX1_years_50 : decode cX1_years 50 = .ok (.aload_n 0, 1) := dk_42 (dk_at dksX1_years_2 3 rfl rfl)
theorem dX1_years_51 : decode cX1_years 51 = .ok (.aload_n 0, 1) := dk_42 (dk_at dksX1_years_2 4 rfl rfl)
theorem dX1_years_52 : decode cX1_years 52 = .ok (.getfield 16, 3) := dk_180 0 16 (dk_at dksX1_years_2 5 rfl rfl)
theorem dX1_years_55 : decode cX1_years 55 = .ok (.invokevirtual 334, 3) := dk_182 1 78 (dk_at dksX1_years_2 8 rfl rfl)
theorem dX1_years_58 : decode cX1_years 58 = .ok (.goto 61, 3) := dk_167 0 61 (dk_at dksX1_years_2 11 rfl rfl)
theorem dX1_years_61 : decode cX1_years 61 = .ok (.aload_n 0, 1) := dk_42 (dk_at dksX1_years_2 14 rfl rfl)
theorem dX1_years_62 : decode cX1_years 62 = .ok (.getfield 117, 3) := dk_180 0 117 (dk_at dksX1_years_2 15 rfl rfl)
theorem dX1_years_65 : decode cX1_years 65 = .ok (.ifCond .le 54, 3) := dk_158 0 54 (dk_at dksX1_years_2 18 rfl rfl)
theorem dX1_years_68 : decode cX1_years 68 = .ok (.aload_n 0, 1) := dk_42 (dk_at dksX1_years_2 21 rfl rfl)
theorem dX1_years_69 : decode cX1_years 69 = .ok (.aload_n 0, 1) := dk_42 (dk_at dksX1_years_2 22 rfl rfl)
theorem dX1_years_70 : decode cX1_years 70 = .ok (.getfield 117, 3) := dk_180 0 117 (dk_at dksX1_years_3 0 rfl rfl)
theorem dX1_years_73 : decode cX1_years 73 = .ok (.invokevirtual 476, 3) := dk_182 1 220 (dk_at dksX1_years_3 3 rfl rfl)
theorem dX1_years_76 : decode cX1_years 76 = .ok (.istore 5, 2) := dk_54 5 (dk_at dksX1_years_3 6 rfl rfl)
theorem dX1_years_78 : decode cX1_years 78 = .ok (.iload 4, 2) := dk_21 4 (dk_at dksX1_years_3 8 rfl rfl)
theorem dX1_years_80 : decode cX1_years 80 = .ok (.iconst 2, 1) := dk_5 (dk_at dksX1_years_3 10 rfl rfl)
theorem dX1_years_81 : decode cX1_years 81 = .ok (.if_icmp .ne 22, 3) := dk_160 0 22 (dk_at dksX1_years_3 11 rfl rfl)
theorem dX1_years_84 : decode cX1_years 84 = .ok (.aload_n 0, 1) := dk_42 (dk_at dksX1_years_3 14 rfl rfl)
theorem dX1_years_85 : decode cX1_years 85 = .ok (.getfield 16, 3) := dk_180 0 16 (dk_at dksX1_years_3 15 rfl rfl)
theorem dX1_years_88 : decode cX1_years 88 = .ok (.dup, 1) := dk_89 (dk_at dksX1_years_3 18 rfl rfl)
theorem dX1_years_89 : decode cX1_years 89 = .ok (.getfield 280, 3) := dk_180 1 24 (dk_at dksX1_years_3 19 rfl rfl)
theorem dX1_years_92 : decode cX1_years 92 = .ok (.iconst 1, 1) := dk_4 (dk_at dksX1_years_3 22 rfl rfl)
theorem dX1_years_93 : decode cX1_years 93 = .ok (.iload 5, 2) := dk_21 5 (dk_at dksX1_years_4 0 rfl rfl)
theorem dX1_years_95 : decode cX1_years 95 = .ok (.ishl, 1) := dk_120 (dk_at dksX1_years_4 2 rfl rfl)
theorem dX1_years_96 : decode cX1_years 96 = .ok (.ixor, 1) := dk_130 (dk_at dksX1_years_4 3 rfl rfl)
theorem dX1_years_97 : decode cX1_years 97 = .ok (.putfield 280, 3) := dk_181 1 24 (dk_at dksX1_years_4 4 rfl rfl)
theorem dX1_years_100 : decode cX1_years 100 = .ok (.goto 19, 3) := dk_167 0 19 (dk_at dksX1_years_4 7 rfl rfl)
theorem dX1_years_103 : decode cX1_years 103 = .ok (.aload_n 0, 1) := dk_42 (dk_at dksX1_years_4 10 rfl rfl)
theorem dX1_years_104 : decode cX1_years 104 = .ok (.getfield 16, 3) := dk_180 0 16 (dk_at dksX1_years_4 11 rfl rfl)
theorem dX1_years_107 : decode cX1_years 107 = .ok (.getfield 206, 3) := dk_180 0 206 (dk_at dksX1_years_4 14 rfl rfl)
theorem dX1_years_110 : decode cX1_years 110 = .ok (.iload 5, 2) := dk_21 5 (dk_at dksX1_years_4 17 rfl rfl)
theorem dX1_years_112 : decode cX1_years 112 = .ok (.aload_n 0, 1) := dk_42 (dk_at dksX1_years_4 19 rfl rfl)
theorem dX1_years_113 : decode cX1_years 113 = .ok (.bipush 10, 2) := dk_16 10 (dk_at dksX1_years_4 20 rfl rfl)
theorem dX1_years_115 : decode cX1_years 115 = .ok (.invokevirtual 476, 3) := dk_182 1 220 (dk_at dksX1_years_5 0 rfl rfl)
theorem dX1_years_118 : decode cX1_years 118 = .ok (.iastore, 1) := dk_79 (dk_at dksX1_years_5 3 rfl rfl)
theorem dX1_years_119 : decode cX1_years 119 = .ok (.iinc 3 1, 3) := dk_132 3 1 (dk_at dksX1_years_5 4 rfl rfl)
theorem dX1_years_122 : decode cX1_years 122 = .ok (.goto (-90), 3) := dk_167 255 166 (dk_at dksX1_years_5 7 rfl rfl)
theorem dX1_years_125 : decode cX1_years 125 = .ok (.aload_n 0, 1) := dk_42 (dk_at dksX1_years_5 10 rfl rfl)
theorem dX1_years_126 : decode cX1_years 126 = .ok (.iconst 0, 1) := dk_3 (dk_at dksX1_years_5 11 rfl rfl)
theorem dX1_years_127 : decode cX1_years 127 = .ok (.putfield 350, 3) := dk_181 1 94 (dk_at dksX1_years_5 12 rfl rfl)
theorem dX1_years_130 : decode cX1_years 130 = .ok (.aload_n 0, 1) := dk_42 (dk_at dksX1_years_5 15 rfl rfl)
theorem dX1_years_131 : decode cX1_years 131 = .ok (.aload_n 0, 1) := dk_42 (dk_at dksX1_years_5 16 rfl rfl)
theorem dX1_years_132 : decode cX1_years 132 = .ok (.getfield 16, 3) := dk_180 0 16 (dk_at dksX1_years_5 17 rfl rfl)
theorem dX1_years_135 : decode cX1_years 135 = .ok (.getfield 321, 3) := dk_180 1 65 (dk_at dksX1_years_5 20 rfl rfl)
theorem dX1_years_138 : decode cX1_years 138 = .ok (.aload_n 0, 1) := dk_42 (dk_at dksX1_years_5 23 rfl rfl)
theorem dX1_years_139 : decode cX1_years 139 = .ok (.getfield 12, 3) := dk_180 0 12 (dk_at dksX1_years_6 0 rfl rfl)
theorem dX1_years_142 : decode cX1_years 142 = .ok (.getfield 321, 3) := dk_180 1 65 (dk_at dksX1_years_6 3 rfl rfl)
theorem dX1_years_145 : decode cX1_years 145 = .ok (.isub, 1) := dk_100 (dk_at dksX1_years_6 6 rfl rfl)
theorem dX1_years_146 : decode cX1_years 146 = .ok (.i2l, 1) := dk_133 (dk_at dksX1_years_6 7 rfl rfl)
theorem dX1_years_147 : decode cX1_years 147 = .ok (.invokevirtual 353, 3) := dk_182 1 97 (dk_at dksX1_years_6 8 rfl rfl)
theorem dX1_years_150 : decode cX1_years 150 = .ok (.aload_n 0, 1) := dk_42 (dk_at dksX1_years_6 11 rfl rfl)
theorem dX1_years_151 : decode cX1_years 151 = .ok (.aload_n 0, 1) := dk_42 (dk_at dksX1_years_6 12 rfl rfl)
theorem dX1_years_152 : decode cX1_years 152 = .ok (.getfield 16, 3) := dk_180 0 16 (dk_at dksX1_years_6 13 rfl rfl)
theorem dX1_years_155 : decode cX1_years 155 = .ok (.getfield 324, 3) := dk_180 1 68 (dk_at dksX1_years_6 16 rfl rfl)
theorem dX1_years_158 : decode cX1_years 158 = .ok (.aload_n 0, 1) := dk_42 (dk_at dksX1_years_6 19 rfl rfl)
theorem dX1_years_159 : decode cX1_years 159 = .ok (.getfield 12, 3) := dk_180 0 12 (dk_at dksX1_years_6 20 rfl rfl)
theorem dX1_years_162 : decode cX1_years 162 = .ok (.getfield 324, 3) := dk_180 1 68 (dk_at dksX1_years_7 0 rfl rfl)
theorem dX1_years_165 : decode cX1_years 165 = .ok (.isub, 1) := dk_100 (dk_at dksX1_years_7 3 rfl rfl)
theorem dX1_years_166 : decode cX1_years 166 = .ok (.i2l, 1) := dk_133 (dk_at dksX1_years_7 4 rfl rfl)
theorem dX1_years_167 : decode cX1_years 167 = .ok (.invokevirtual 353, 3) := dk_182 1 97 (dk_at dksX1_years_7 5 rfl rfl)
theorem dX1_years_170 : decode cX1_years 170 = .ok (.aload_n 0, 1) := dk_42 (dk_at dksX1_years_7 8 rfl rfl)
theorem dX1_years_171 : decode cX1_years 171 = .ok (.aload_n 0, 1) := dk_42 (dk_at dksX1_years_7 9 rfl rfl)
theorem dX1_years_172 : decode cX1_years 172 = .ok (.getfield 16, 3) := dk_180 0 16 (dk_at dksX1_years_7 10 rfl rfl)
theorem dX1_years_175 : decode cX1_years 175 = .ok (.invokevirtual 310, 3) := dk_182 1 54 (dk_at dksX1_years_7 13 rfl rfl)
theorem dX1_years_178 : decode cX1_years 178 = .ok (.ireturn, 1) := dk_172 (dk_at dksX1_years_7 16 rfl rfl)
abbrev cX1_draws : ByteArray := prog_1_method_98_code
def yX1_draws : MethodName := ⟨RX1, "draws", "(I)I"⟩
def dkwX1_draws_1 : List UInt8 := [112, 172]
abbrev dktX1_draws_1 : List UInt8 := dkwX1_draws_1 ++ []
def dkwX1_draws_0 : List UInt8 := [42, 42, 180, 1, 216, 19, 1, 219, 104, 17, 48, 57, 96, 181, 1, 216, 42, 180, 1, 216, 16, 16, 124, 27]
abbrev dktX1_draws_0 : List UInt8 := dkwX1_draws_0 ++ dktX1_draws_1
theorem dksX1_draws_0 : cX1_draws.data.toList.drop 0 = dktX1_draws_0 := by decide +kernel
theorem dksX1_draws_1 : cX1_draws.data.toList.drop 24 = dktX1_draws_1 := dk_seg dksX1_draws_0 24 rfl rfl
theorem dX1_draws_0 : decode cX1_draws 0 = .ok (.aload_n 0, 1) := dk_42 (dk_at dksX1_draws_0 0 rfl rfl)
theorem dX1_draws_1 : decode cX1_draws 1 = .ok (.aload_n 0, 1) := dk_42 (dk_at dksX1_draws_0 1 rfl rfl)
theorem dX1_draws_2 : decode cX1_draws 2 = .ok (.getfield 472, 3) := dk_180 1 216 (dk_at dksX1_draws_0 2 rfl rfl)
theorem dX1_draws_5 : decode cX1_draws 5 = .ok (.ldc_w 475, 3) := dk_19 1 219 (dk_at dksX1_draws_0 5 rfl rfl)
theorem dX1_draws_8 : decode cX1_draws 8 = .ok (.imul, 1) := dk_104 (dk_at dksX1_draws_0 8 rfl rfl)
theorem dX1_draws_9 : decode cX1_draws 9 = .ok (.sipush 12345, 3) := dk_17 48 57 (dk_at dksX1_draws_0 9 rfl rfl)
theorem dX1_draws_12 : decode cX1_draws 12 = .ok (.iadd, 1) := dk_96 (dk_at dksX1_draws_0 12 rfl rfl)
theorem dX1_draws_13 : decode cX1_draws 13 = .ok (.putfield 472, 3) := dk_181 1 216 (dk_at dksX1_draws_0 13 rfl rfl)
theorem dX1_draws_16 : decode cX1_draws 16 = .ok (.aload_n 0, 1) := dk_42 (dk_at dksX1_draws_0 16 rfl rfl)
theorem dX1_draws_17 : decode cX1_draws 17 = .ok (.getfield 472, 3) := dk_180 1 216 (dk_at dksX1_draws_0 17 rfl rfl)
theorem dX1_draws_20 : decode cX1_draws 20 = .ok (.bipush 16, 2) := dk_16 16 (dk_at dksX1_draws_0 20 rfl rfl)
theorem dX1_draws_22 : decode cX1_draws 22 = .ok (.iushr, 1) := dk_124 (dk_at dksX1_draws_0 22 rfl rfl)
theorem dX1_draws_23 : decode cX1_draws 23 = .ok (.iload_n 1, 1) := dk_27 (dk_at dksX1_draws_0 23 rfl rfl)
theorem dX1_draws_24 : decode cX1_draws 24 = .ok (.irem, 1) := dk_112 (dk_at dksX1_draws_1 0 rfl rfl)
theorem dX1_draws_25 : decode cX1_draws 25 = .ok (.ireturn, 1) := dk_172 (dk_at dksX1_draws_1 1 rfl rfl)
abbrev cX1_keep : ByteArray := prog_1_method_100_code
def yX1_keep : MethodName := ⟨RX1, "keep", "(I)Z"⟩
def dkwX1_keep_2 : List UInt8 := [182, 1, 58, 42, 180, 0, 107, 27, 42, 180, 0, 229, 79, 4, 172]
abbrev dktX1_keep_2 : List UInt8 := dkwX1_keep_2 ++ []
def dkwX1_keep_1 : List UInt8 := [180, 0, 104, 27, 187, 0, 9, 89, 183, 0, 11, 83, 42, 180, 0, 104, 27, 50, 42, 180, 0, 12]
abbrev dktX1_keep_1 : List UInt8 := dkwX1_keep_1 ++ dktX1_keep_2
def dkwX1_keep_0 : List UInt8 := [27, 133, 9, 10, 184, 0, 121, 154, 0, 5, 3, 172, 42, 180, 0, 104, 27, 50, 199, 0, 16, 42]
abbrev dktX1_keep_0 : List UInt8 := dkwX1_keep_0 ++ dktX1_keep_1
theorem dksX1_keep_0 : cX1_keep.data.toList.drop 0 = dktX1_keep_0 := by decide +kernel
theorem dksX1_keep_1 : cX1_keep.data.toList.drop 22 = dktX1_keep_1 := dk_seg dksX1_keep_0 22 rfl rfl
theorem dksX1_keep_2 : cX1_keep.data.toList.drop 44 = dktX1_keep_2 := dk_seg dksX1_keep_1 22 rfl rfl
theorem dX1_keep_0 : decode cX1_keep 0 = .ok (.iload_n 1, 1) := dk_27 (dk_at dksX1_keep_0 0 rfl rfl)
theorem dX1_keep_1 : decode cX1_keep 1 = .ok (.i2l, 1) := dk_133 (dk_at dksX1_keep_0 1 rfl rfl)
theorem dX1_keep_2 : decode cX1_keep 2 = .ok (.lconst 0, 1) := dk_9 (dk_at dksX1_keep_0 2 rfl rfl)
theorem dX1_keep_3 : decode cX1_keep 3 = .ok (.lconst 1, 1) := dk_10 (dk_at dksX1_keep_0 3 rfl rfl)
theorem dX1_keep_4 : decode cX1_keep 4 = .ok (.invokestatic 121, 3) := dk_184 0 121 (dk_at dksX1_keep_0 4 rfl rfl)
theorem dX1_keep_7 : decode cX1_keep 7 = .ok (.ifCond .ne 5, 3) := dk_154 0 5 (dk_at dksX1_keep_0 7 rfl rfl)
theorem dX1_keep_10 : decode cX1_keep 10 = .ok (.iconst 0, 1) := dk_3 (dk_at dksX1_keep_0 10 rfl rfl)
theorem dX1_keep_11 : decode cX1_keep 11 = .ok (.ireturn, 1) := dk_172 (dk_at dksX1_keep_0 11 rfl rfl)
theorem dX1_keep_12 : decode cX1_keep 12 = .ok (.aload_n 0, 1) := dk_42 (dk_at dksX1_keep_0 12 rfl rfl)
theorem dX1_keep_13 : decode cX1_keep 13 = .ok (.getfield 104, 3) := dk_180 0 104 (dk_at dksX1_keep_0 13 rfl rfl)
theorem dX1_keep_16 : decode cX1_keep 16 = .ok (.iload_n 1, 1) := dk_27 (dk_at dksX1_keep_0 16 rfl rfl)
theorem dX1_keep_17 : decode cX1_keep 17 = .ok (.aaload, 1) := dk_50 (dk_at dksX1_keep_0 17 rfl rfl)
theorem dX1_keep_18 : decode cX1_keep 18 = .ok (.ifnonnull 16, 3) := dk_199 0 16 (dk_at dksX1_keep_0 18 rfl rfl)
theorem dX1_keep_21 : decode cX1_keep 21 = .ok (.aload_n 0, 1) := dk_42 (dk_at dksX1_keep_0 21 rfl rfl)
theorem dX1_keep_22 : decode cX1_keep 22 = .ok (.getfield 104, 3) := dk_180 0 104 (dk_at dksX1_keep_1 0 rfl rfl)
theorem dX1_keep_25 : decode cX1_keep 25 = .ok (.iload_n 1, 1) := dk_27 (dk_at dksX1_keep_1 3 rfl rfl)
theorem dX1_keep_26 : decode cX1_keep 26 = .ok (.new 9, 3) := dk_187 0 9 (dk_at dksX1_keep_1 4 rfl rfl)
theorem dX1_keep_29 : decode cX1_keep 29 = .ok (.dup, 1) := dk_89 (dk_at dksX1_keep_1 7 rfl rfl)
theorem dX1_keep_30 : decode cX1_keep 30 = .ok (.invokespecial 11, 3) := dk_183 0 11 (dk_at dksX1_keep_1 8 rfl rfl)
theorem dX1_keep_33 : decode cX1_keep 33 = .ok (.aastore, 1) := dk_83 (dk_at dksX1_keep_1 11 rfl rfl)
theorem dX1_keep_34 : decode cX1_keep 34 = .ok (.aload_n 0, 1) := dk_42 (dk_at dksX1_keep_1 12 rfl rfl)
theorem dX1_keep_35 : decode cX1_keep 35 = .ok (.getfield 104, 3) := dk_180 0 104 (dk_at dksX1_keep_1 13 rfl rfl)
theorem dX1_keep_38 : decode cX1_keep 38 = .ok (.iload_n 1, 1) := dk_27 (dk_at dksX1_keep_1 16 rfl rfl)
theorem dX1_keep_39 : decode cX1_keep 39 = .ok (.aaload, 1) := dk_50 (dk_at dksX1_keep_1 17 rfl rfl)
theorem dX1_keep_40 : decode cX1_keep 40 = .ok (.aload_n 0, 1) := dk_42 (dk_at dksX1_keep_1 18 rfl rfl)
theorem dX1_keep_41 : decode cX1_keep 41 = .ok (.getfield 12, 3) := dk_180 0 12 (dk_at dksX1_keep_1 19 rfl rfl)
theorem dX1_keep_44 : decode cX1_keep 44 = .ok (.invokevirtual 314, 3) := dk_182 1 58 (dk_at dksX1_keep_2 0 rfl rfl)
theorem dX1_keep_47 : decode cX1_keep 47 = .ok (.aload_n 0, 1) := dk_42 (dk_at dksX1_keep_2 3 rfl rfl)
theorem dX1_keep_48 : decode cX1_keep 48 = .ok (.getfield 107, 3) := dk_180 0 107 (dk_at dksX1_keep_2 4 rfl rfl)
theorem dX1_keep_51 : decode cX1_keep 51 = .ok (.iload_n 1, 1) := dk_27 (dk_at dksX1_keep_2 7 rfl rfl)
theorem dX1_keep_52 : decode cX1_keep 52 = .ok (.aload_n 0, 1) := dk_42 (dk_at dksX1_keep_2 8 rfl rfl)
theorem dX1_keep_53 : decode cX1_keep 53 = .ok (.getfield 229, 3) := dk_180 0 229 (dk_at dksX1_keep_2 9 rfl rfl)
theorem dX1_keep_56 : decode cX1_keep 56 = .ok (.iastore, 1) := dk_79 (dk_at dksX1_keep_2 12 rfl rfl)
theorem dX1_keep_57 : decode cX1_keep 57 = .ok (.iconst 1, 1) := dk_4 (dk_at dksX1_keep_2 13 rfl rfl)
theorem dX1_keep_58 : decode cX1_keep 58 = .ok (.ireturn, 1) := dk_172 (dk_at dksX1_keep_2 14 rfl rfl)
abbrev cX1_again : ByteArray := prog_1_method_101_code
def yX1_again : MethodName := ⟨RX1, "again", "(I)Z"⟩
def dkwX1_again_2 : List UInt8 := [3, 181, 0, 226, 4, 172]
abbrev dktX1_again_2 : List UInt8 := dkwX1_again_2 ++ []
def dkwX1_again_1 : List UInt8 := [46, 42, 180, 0, 229, 159, 0, 5, 3, 172, 42, 180, 0, 12, 42, 180, 0, 104, 27, 50, 182, 1, 58, 42]
abbrev dktX1_again_1 : List UInt8 := dkwX1_again_1 ++ dktX1_again_2
def dkwX1_again_0 : List UInt8 := [27, 133, 9, 10, 184, 0, 121, 153, 0, 25, 42, 180, 0, 104, 27, 50, 198, 0, 16, 42, 180, 0, 107, 27]
abbrev dktX1_again_0 : List UInt8 := dkwX1_again_0 ++ dktX1_again_1
theorem dksX1_again_0 : cX1_again.data.toList.drop 0 = dktX1_again_0 := by decide +kernel
theorem dksX1_again_1 : cX1_again.data.toList.drop 24 = dktX1_again_1 := dk_seg dksX1_again_0 24 rfl rfl
theorem dksX1_again_2 : cX1_again.data.toList.drop 48 = dktX1_again_2 := dk_seg dksX1_again_1 24 rfl rfl
theorem dX1_again_0 : decode cX1_again 0 = .ok (.iload_n 1, 1) := dk_27 (dk_at dksX1_again_0 0 rfl rfl)
theorem dX1_again_1 : decode cX1_again 1 = .ok (.i2l, 1) := dk_133 (dk_at dksX1_again_0 1 rfl rfl)
theorem dX1_again_2 : decode cX1_again 2 = .ok (.lconst 0, 1) := dk_9 (dk_at dksX1_again_0 2 rfl rfl)
theorem dX1_again_3 : decode cX1_again 3 = .ok (.lconst 1, 1) := dk_10 (dk_at dksX1_again_0 3 rfl rfl)
theorem dX1_again_4 : decode cX1_again 4 = .ok (.invokestatic 121, 3) := dk_184 0 121 (dk_at dksX1_again_0 4 rfl rfl)
theorem dX1_again_7 : decode cX1_again 7 = .ok (.ifCond .eq 25, 3) := dk_153 0 25 (dk_at dksX1_again_0 7 rfl rfl)
theorem dX1_again_10 : decode cX1_again 10 = .ok (.aload_n 0, 1) := dk_42 (dk_at dksX1_again_0 10 rfl rfl)
theorem dX1_again_11 : decode cX1_again 11 = .ok (.getfield 104, 3) := dk_180 0 104 (dk_at dksX1_again_0 11 rfl rfl)
theorem dX1_again_14 : decode cX1_again 14 = .ok (.iload_n 1, 1) := dk_27 (dk_at dksX1_again_0 14 rfl rfl)
theorem dX1_again_15 : decode cX1_again 15 = .ok (.aaload, 1) := dk_50 (dk_at dksX1_again_0 15 rfl rfl)
theorem dX1_again_16 : decode cX1_again 16 = .ok (.ifnull 16, 3) := dk_198 0 16 (dk_at dksX1_again_0 16 rfl rfl)
theorem dX1_again_19 : decode cX1_again 19 = .ok (.aload_n 0, 1) := dk_42 (dk_at dksX1_again_0 19 rfl rfl)
theorem dX1_again_20 : decode cX1_again 20 = .ok (.getfield 107, 3) := dk_180 0 107 (dk_at dksX1_again_0 20 rfl rfl)
theorem dX1_again_23 : decode cX1_again 23 = .ok (.iload_n 1, 1) := dk_27 (dk_at dksX1_again_0 23 rfl rfl)
theorem dX1_again_24 : decode cX1_again 24 = .ok (.iaload, 1) := dk_46 (dk_at dksX1_again_1 0 rfl rfl)
theorem dX1_again_25 : decode cX1_again 25 = .ok (.aload_n 0, 1) := dk_42 (dk_at dksX1_again_1 1 rfl rfl)
theorem dX1_again_26 : decode cX1_again 26 = .ok (.getfield 229, 3) := dk_180 0 229 (dk_at dksX1_again_1 2 rfl rfl)
theorem dX1_again_29 : decode cX1_again 29 = .ok (.if_icmp .eq 5, 3) := dk_159 0 5 (dk_at dksX1_again_1 5 rfl rfl)
theorem dX1_again_32 : decode cX1_again 32 = .ok (.iconst 0, 1) := dk_3 (dk_at dksX1_again_1 8 rfl rfl)
theorem dX1_again_33 : decode cX1_again 33 = .ok (.ireturn, 1) := dk_172 (dk_at dksX1_again_1 9 rfl rfl)
theorem dX1_again_34 : decode cX1_again 34 = .ok (.aload_n 0, 1) := dk_42 (dk_at dksX1_again_1 10 rfl rfl)
theorem dX1_again_35 : decode cX1_again 35 = .ok (.getfield 12, 3) := dk_180 0 12 (dk_at dksX1_again_1 11 rfl rfl)
theorem dX1_again_38 : decode cX1_again 38 = .ok (.aload_n 0, 1) := dk_42 (dk_at dksX1_again_1 14 rfl rfl)
theorem dX1_again_39 : decode cX1_again 39 = .ok (.getfield 104, 3) := dk_180 0 104 (dk_at dksX1_again_1 15 rfl rfl)
theorem dX1_again_42 : decode cX1_again 42 = .ok (.iload_n 1, 1) := dk_27 (dk_at dksX1_again_1 18 rfl rfl)
theorem dX1_again_43 : decode cX1_again 43 = .ok (.aaload, 1) := dk_50 (dk_at dksX1_again_1 19 rfl rfl)
theorem dX1_again_44 : decode cX1_again 44 = .ok (.invokevirtual 314, 3) := dk_182 1 58 (dk_at dksX1_again_1 20 rfl rfl)
theorem dX1_again_47 : decode cX1_again 47 = .ok (.aload_n 0, 1) := dk_42 (dk_at dksX1_again_1 23 rfl rfl)
theorem dX1_again_48 : decode cX1_again 48 = .ok (.iconst 0, 1) := dk_3 (dk_at dksX1_again_2 0 rfl rfl)
theorem dX1_again_49 : decode cX1_again 49 = .ok (.putfield 226, 3) := dk_181 0 226 (dk_at dksX1_again_2 1 rfl rfl)
theorem dX1_again_52 : decode cX1_again 52 = .ok (.iconst 1, 1) := dk_4 (dk_at dksX1_again_2 4 rfl rfl)
theorem dX1_again_53 : decode cX1_again 53 = .ok (.ireturn, 1) := dk_172 (dk_at dksX1_again_2 5 rfl rfl)
abbrev cX1_count : ByteArray := prog_1_method_103_code
def yX1_count : MethodName := ⟨RX1, "count", "(I)I"⟩
def dkwX1_count_6 : List UInt8 := [182, 1, 223, 172, 2, 172]
abbrev dktX1_count_6 : List UInt8 := dkwX1_count_6 ++ []
def dkwX1_count_5 : List UInt8 := [172, 42, 180, 1, 160, 172, 42, 180, 0, 226, 172, 42, 180, 1, 94, 172, 42, 180, 0, 143, 172, 42]
abbrev dktX1_count_5 : List UInt8 := dkwX1_count_5 ++ dktX1_count_6
def dkwX1_count_4 : List UInt8 := [42, 42, 180, 0, 12, 180, 0, 209, 42, 182, 0, 125, 182, 0, 136, 172, 42, 42, 180, 0, 12, 182, 1, 137]
abbrev dktX1_count_4 : List UInt8 := dkwX1_count_4 ++ dktX1_count_5
def dkwX1_count_3 : List UInt8 := [180, 0, 12, 180, 1, 68, 172, 42, 42, 180, 0, 12, 182, 1, 54, 172, 42, 180, 0, 12, 180, 1, 24, 172]
abbrev dktX1_count_3 : List UInt8 := dkwX1_count_3 ++ dktX1_count_4
def dkwX1_count_2 : List UInt8 := [42, 180, 0, 117, 172, 42, 180, 0, 12, 180, 1, 71, 172, 42, 180, 0, 12, 180, 1, 65, 172, 42]
abbrev dktX1_count_2 : List UInt8 := dkwX1_count_2 ++ dktX1_count_3
def dkwX1_count_1 : List UInt8 := [170, 0, 0, 0, 0, 0, 163, 0, 0, 0, 0, 0, 0, 0, 12, 0, 0, 0, 67, 0, 0, 0, 72, 0, 0, 0, 80, 0, 0, 0, 88, 0, 0, 0, 96, 0, 0, 0, 105, 0, 0, 0, 113, 0, 0, 0, 129, 0, 0, 0, 138, 0, 0, 0, 143, 0, 0, 0, 148, 0, 0, 0, 153, 0, 0, 0, 158]
abbrev dktX1_count_1 : List UInt8 := dkwX1_count_1 ++ dktX1_count_2
def dkwX1_count_0 : List UInt8 := [27]
abbrev dktX1_count_0 : List UInt8 := dkwX1_count_0 ++ dktX1_count_1
theorem dksX1_count_0 : cX1_count.data.toList.drop 0 = dktX1_count_0 := by decide +kernel
theorem dksX1_count_1 : cX1_count.data.toList.drop 1 = dktX1_count_1 := dk_seg dksX1_count_0 1 rfl rfl
theorem dksX1_count_2 : cX1_count.data.toList.drop 68 = dktX1_count_2 := dk_seg dksX1_count_1 67 rfl rfl
theorem dksX1_count_3 : cX1_count.data.toList.drop 90 = dktX1_count_3 := dk_seg dksX1_count_2 22 rfl rfl
theorem dksX1_count_4 : cX1_count.data.toList.drop 114 = dktX1_count_4 := dk_seg dksX1_count_3 24 rfl rfl
theorem dksX1_count_5 : cX1_count.data.toList.drop 138 = dktX1_count_5 := dk_seg dksX1_count_4 24 rfl rfl
theorem dksX1_count_6 : cX1_count.data.toList.drop 160 = dktX1_count_6 := dk_seg dksX1_count_5 22 rfl rfl
theorem dX1_count_0 : decode cX1_count 0 = .ok (.iload_n 1, 1) := dk_27 (dk_at dksX1_count_0 0 rfl rfl)
theorem dX1_count_1 : decode cX1_count 1 = .ok (.tableswitch 163 0 12 #[67, 72, 80, 88, 96, 105, 113, 129, 138, 143, 148, 153, 158], 67) := by decide +kernel
theorem dX1_count_68 : decode cX1_count 68 = .ok (.aload_n 0, 1) := dk_42 (dk_at dksX1_count_2 0 rfl rfl)
theorem dX1_count_69 : decode cX1_count 69 = .ok (.getfield 117, 3) := dk_180 0 117 (dk_at dksX1_count_2 1 rfl rfl)
theorem dX1_count_72 : decode cX1_count 72 = .ok (.ireturn, 1) := dk_172 (dk_at dksX1_count_2 4 rfl rfl)
theorem dX1_count_73 : decode cX1_count 73 = .ok (.aload_n 0, 1) := dk_42 (dk_at dksX1_count_2 5 rfl rfl)
theorem dX1_count_74 : decode cX1_count 74 = .ok (.getfield 12, 3) := dk_180 0 12 (dk_at dksX1_count_2 6 rfl rfl)
theorem dX1_count_77 : decode cX1_count 77 = .ok (.getfield 327, 3) := dk_180 1 71 (dk_at dksX1_count_2 9 rfl rfl)
theorem dX1_count_80 : decode cX1_count 80 = .ok (.ireturn, 1) := dk_172 (dk_at dksX1_count_2 12 rfl rfl)
theorem dX1_count_81 : decode cX1_count 81 = .ok (.aload_n 0, 1) := dk_42 (dk_at dksX1_count_2 13 rfl rfl)
theorem dX1_count_82 : decode cX1_count 82 = .ok (.getfield 12, 3) := dk_180 0 12 (dk_at dksX1_count_2 14 rfl rfl)
theorem dX1_count_85 : decode cX1_count 85 = .ok (.getfield 321, 3) := dk_180 1 65 (dk_at dksX1_count_2 17 rfl rfl)
theorem dX1_count_88 : decode cX1_count 88 = .ok (.ireturn, 1) := dk_172 (dk_at dksX1_count_2 20 rfl rfl)
theorem dX1_count_89 : decode cX1_count 89 = .ok (.aload_n 0, 1) := dk_42 (dk_at dksX1_count_2 21 rfl rfl)
theorem dX1_count_90 : decode cX1_count 90 = .ok (.getfield 12, 3) := dk_180 0 12 (dk_at dksX1_count_3 0 rfl rfl)
theorem dX1_count_93 : decode cX1_count 93 = .ok (.getfield 324, 3) := dk_180 1 68 (dk_at dksX1_count_3 3 rfl rfl)
theorem dX1_count_96 : decode cX1_count 96 = .ok (.ireturn, 1) := dk_172 (dk_at dksX1_count_3 6 rfl rfl)
theorem dX1_count_97 : decode cX1_count 97 = .ok (.aload_n 0, 1) := dk_42 (dk_at dksX1_count_3 7 rfl rfl)
theorem dX1_count_98 : decode cX1_count 98 = .ok (.aload_n 0, 1) := dk_42 (dk_at dksX1_count_3 8 rfl rfl)
theorem dX1_count_99 : decode cX1_count 99 = .ok (.getfield 12, 3) := dk_180 0 12 (dk_at dksX1_count_3 9 rfl rfl)
theorem dX1_count_102 : decode cX1_count 102 = .ok (.invokevirtual 310, 3) := dk_182 1 54 (dk_at dksX1_count_3 12 rfl rfl)
theorem dX1_count_105 : decode cX1_count 105 = .ok (.ireturn, 1) := dk_172 (dk_at dksX1_count_3 15 rfl rfl)
theorem dX1_count_106 : decode cX1_count 106 = .ok (.aload_n 0, 1) := dk_42 (dk_at dksX1_count_3 16 rfl rfl)
theorem dX1_count_107 : decode cX1_count 107 = .ok (.getfield 12, 3) := dk_180 0 12 (dk_at dksX1_count_3 17 rfl rfl)
theorem dX1_count_110 : decode cX1_count 110 = .ok (.getfield 280, 3) := dk_180 1 24 (dk_at dksX1_count_3 20 rfl rfl)
theorem dX1_count_113 : decode cX1_count 113 = .ok (.ireturn, 1) := dk_172 (dk_at dksX1_count_3 23 rfl rfl)
theorem dX1_count_114 : decode cX1_count 114 = .ok (.aload_n 0, 1) := dk_42 (dk_at dksX1_count_4 0 rfl rfl)
theorem dX1_count_115 : decode cX1_count 115 = .ok (.aload_n 0, 1) := dk_42 (dk_at dksX1_count_4 1 rfl rfl)
theorem dX1_count_116 : decode cX1_count 116 = .ok (.getfield 12, 3) := dk_180 0 12 (dk_at dksX1_count_4 2 rfl rfl)
theorem dX1_count_119 : decode cX1_count 119 = .ok (.getfield 209, 3) := dk_180 0 209 (dk_at dksX1_count_4 5 rfl rfl)
theorem dX1_count_122 : decode cX1_count 122 = .ok (.aload_n 0, 1) := dk_42 (dk_at dksX1_count_4 8 rfl rfl)
theorem dX1_count_123 : decode cX1_count 123 = .ok (.invokevirtual 125, 3) := dk_182 0 125 (dk_at dksX1_count_4 9 rfl rfl)
theorem dX1_count_126 : decode cX1_count 126 = .ok (.invokevirtual 136, 3) := dk_182 0 136 (dk_at dksX1_count_4 12 rfl rfl)
theorem dX1_count_129 : decode cX1_count 129 = .ok (.ireturn, 1) := dk_172 (dk_at dksX1_count_4 15 rfl rfl)
theorem dX1_count_130 : decode cX1_count 130 = .ok (.aload_n 0, 1) := dk_42 (dk_at dksX1_count_4 16 rfl rfl)
theorem dX1_count_131 : decode cX1_count 131 = .ok (.aload_n 0, 1) := dk_42 (dk_at dksX1_count_4 17 rfl rfl)
theorem dX1_count_132 : decode cX1_count 132 = .ok (.getfield 12, 3) := dk_180 0 12 (dk_at dksX1_count_4 18 rfl rfl)
theorem dX1_count_135 : decode cX1_count 135 = .ok (.invokevirtual 393, 3) := dk_182 1 137 (dk_at dksX1_count_4 21 rfl rfl)
theorem dX1_count_138 : decode cX1_count 138 = .ok (.ireturn, 1) := dk_172 (dk_at dksX1_count_5 0 rfl rfl)
theorem dX1_count_139 : decode cX1_count 139 = .ok (.aload_n 0, 1) := dk_42 (dk_at dksX1_count_5 1 rfl rfl)
theorem dX1_count_140 : decode cX1_count 140 = .ok (.getfield 416, 3) := dk_180 1 160 (dk_at dksX1_count_5 2 rfl rfl)
theorem dX1_count_143 : decode cX1_count 143 = .ok (.ireturn, 1) := dk_172 (dk_at dksX1_count_5 5 rfl rfl)
theorem dX1_count_144 : decode cX1_count 144 = .ok (.aload_n 0, 1) := dk_42 (dk_at dksX1_count_5 6 rfl rfl)
theorem dX1_count_145 : decode cX1_count 145 = .ok (.getfield 226, 3) := dk_180 0 226 (dk_at dksX1_count_5 7 rfl rfl)
theorem dX1_count_148 : decode cX1_count 148 = .ok (.ireturn, 1) := dk_172 (dk_at dksX1_count_5 10 rfl rfl)
theorem dX1_count_149 : decode cX1_count 149 = .ok (.aload_n 0, 1) := dk_42 (dk_at dksX1_count_5 11 rfl rfl)
theorem dX1_count_150 : decode cX1_count 150 = .ok (.getfield 350, 3) := dk_180 1 94 (dk_at dksX1_count_5 12 rfl rfl)
theorem dX1_count_153 : decode cX1_count 153 = .ok (.ireturn, 1) := dk_172 (dk_at dksX1_count_5 15 rfl rfl)
theorem dX1_count_154 : decode cX1_count 154 = .ok (.aload_n 0, 1) := dk_42 (dk_at dksX1_count_5 16 rfl rfl)
theorem dX1_count_155 : decode cX1_count 155 = .ok (.getfield 143, 3) := dk_180 0 143 (dk_at dksX1_count_5 17 rfl rfl)
theorem dX1_count_158 : decode cX1_count 158 = .ok (.ireturn, 1) := dk_172 (dk_at dksX1_count_5 20 rfl rfl)
theorem dX1_count_159 : decode cX1_count 159 = .ok (.aload_n 0, 1) := dk_42 (dk_at dksX1_count_5 21 rfl rfl)
theorem dX1_count_160 : decode cX1_count 160 = .ok (.invokevirtual 479, 3) := dk_182 1 223 (dk_at dksX1_count_6 0 rfl rfl)
theorem dX1_count_163 : decode cX1_count 163 = .ok (.ireturn, 1) := dk_172 (dk_at dksX1_count_6 3 rfl rfl)
theorem dX1_count_164 : decode cX1_count 164 = .ok (.iconst (-1), 1) := dk_2 (dk_at dksX1_count_6 4 rfl rfl)
theorem dX1_count_165 : decode cX1_count 165 = .ok (.ireturn, 1) := dk_172 (dk_at dksX1_count_6 5 rfl rfl)
abbrev cX1_fullOnes : ByteArray := prog_1_method_102_code
def yX1_fullOnes : MethodName := ⟨RX1, "fullOnes", "()I"⟩
def dkwX1_fullOnes_2 : List UInt8 := [172]
abbrev dktX1_fullOnes_2 : List UInt8 := dkwX1_fullOnes_2 ++ []
def dkwX1_fullOnes_1 : List UInt8 := [180, 0, 19, 28, 46, 160, 0, 9, 4, 28, 120, 167, 0, 4, 3, 128, 60, 132, 2, 1, 167, 255, 217, 27]
abbrev dktX1_fullOnes_1 : List UInt8 := dkwX1_fullOnes_1 ++ dktX1_fullOnes_2
def dkwX1_fullOnes_0 : List UInt8 := [3, 60, 3, 61, 28, 42, 180, 0, 117, 162, 0, 37, 27, 42, 180, 0, 12, 180, 0, 133, 28, 46, 42]
abbrev dktX1_fullOnes_0 : List UInt8 := dkwX1_fullOnes_0 ++ dktX1_fullOnes_1
theorem dksX1_fullOnes_0 : cX1_fullOnes.data.toList.drop 0 = dktX1_fullOnes_0 := by decide +kernel
theorem dksX1_fullOnes_1 : cX1_fullOnes.data.toList.drop 23 = dktX1_fullOnes_1 := dk_seg dksX1_fullOnes_0 23 rfl rfl
theorem dksX1_fullOnes_2 : cX1_fullOnes.data.toList.drop 47 = dktX1_fullOnes_2 := dk_seg dksX1_fullOnes_1 24 rfl rfl
theorem dX1_fullOnes_0 : decode cX1_fullOnes 0 = .ok (.iconst 0, 1) := dk_3 (dk_at dksX1_fullOnes_0 0 rfl rfl)
theorem dX1_fullOnes_1 : decode cX1_fullOnes 1 = .ok (.istore_n 1, 1) := dk_60 (dk_at dksX1_fullOnes_0 1 rfl rfl)
theorem dX1_fullOnes_2 : decode cX1_fullOnes 2 = .ok (.iconst 0, 1) := dk_3 (dk_at dksX1_fullOnes_0 2 rfl rfl)
theorem dX1_fullOnes_3 : decode cX1_fullOnes 3 = .ok (.istore_n 2, 1) := dk_61 (dk_at dksX1_fullOnes_0 3 rfl rfl)
theorem dX1_fullOnes_4 : decode cX1_fullOnes 4 = .ok (.iload_n 2, 1) := dk_28 (dk_at dksX1_fullOnes_0 4 rfl rfl)
theorem dX1_fullOnes_5 : decode cX1_fullOnes 5 = .ok (.aload_n 0, 1) := dk_42 (dk_at dksX1_fullOnes_0 5 rfl rfl)
theorem dX1_fullOnes_6 : decode cX1_fullOnes 6 = .ok (.getfield 117, 3) := dk_180 0 117 (dk_at dksX1_fullOnes_0 6 rfl rfl)
theorem dX1_fullOnes_9 : decode cX1_fullOnes 9 = .ok (.if_icmp .ge 37, 3) := dk_162 0 37 (dk_at dksX1_fullOnes_0 9 rfl rfl)
theorem dX1_fullOnes_12 : decode cX1_fullOnes 12 = .ok (.iload_n 1, 1) := dk_27 (dk_at dksX1_fullOnes_0 12 rfl rfl)
theorem dX1_fullOnes_13 : decode cX1_fullOnes 13 = .ok (.aload_n 0, 1) := dk_42 (dk_at dksX1_fullOnes_0 13 rfl rfl)
theorem dX1_fullOnes_14 : decode cX1_fullOnes 14 = .ok (.getfield 12, 3) := dk_180 0 12 (dk_at dksX1_fullOnes_0 14 rfl rfl)
theorem dX1_fullOnes_17 : decode cX1_fullOnes 17 = .ok (.getfield 133, 3) := dk_180 0 133 (dk_at dksX1_fullOnes_0 17 rfl rfl)
theorem dX1_fullOnes_20 : decode cX1_fullOnes 20 = .ok (.iload_n 2, 1) := dk_28 (dk_at dksX1_fullOnes_0 20 rfl rfl)
theorem dX1_fullOnes_21 : decode cX1_fullOnes 21 = .ok (.iaload, 1) := dk_46 (dk_at dksX1_fullOnes_0 21 rfl rfl)
theorem dX1_fullOnes_22 : decode cX1_fullOnes 22 = .ok (.aload_n 0, 1) := dk_42 (dk_at dksX1_fullOnes_0 22 rfl rfl)
theorem dX1_fullOnes_23 : decode cX1_fullOnes 23 = .ok (.getfield 19, 3) := dk_180 0 19 (dk_at dksX1_fullOnes_1 0 rfl rfl)
theorem dX1_fullOnes_26 : decode cX1_fullOnes 26 = .ok (.iload_n 2, 1) := dk_28 (dk_at dksX1_fullOnes_1 3 rfl rfl)
theorem dX1_fullOnes_27 : decode cX1_fullOnes 27 = .ok (.iaload, 1) := dk_46 (dk_at dksX1_fullOnes_1 4 rfl rfl)
theorem dX1_fullOnes_28 : decode cX1_fullOnes 28 = .ok (.if_icmp .ne 9, 3) := dk_160 0 9 (dk_at dksX1_fullOnes_1 5 rfl rfl)
theorem dX1_fullOnes_31 : decode cX1_fullOnes 31 = .ok (.iconst 1, 1) := dk_4 (dk_at dksX1_fullOnes_1 8 rfl rfl)
theorem dX1_fullOnes_32 : decode cX1_fullOnes 32 = .ok (.iload_n 2, 1) := dk_28 (dk_at dksX1_fullOnes_1 9 rfl rfl)
theorem dX1_fullOnes_33 : decode cX1_fullOnes 33 = .ok (.ishl, 1) := dk_120 (dk_at dksX1_fullOnes_1 10 rfl rfl)
theorem dX1_fullOnes_34 : decode cX1_fullOnes 34 = .ok (.goto 4, 3) := dk_167 0 4 (dk_at dksX1_fullOnes_1 11 rfl rfl)
theorem dX1_fullOnes_37 : decode cX1_fullOnes 37 = .ok (.iconst 0, 1) := dk_3 (dk_at dksX1_fullOnes_1 14 rfl rfl)
theorem dX1_fullOnes_38 : decode cX1_fullOnes 38 = .ok (.ior, 1) := dk_128 (dk_at dksX1_fullOnes_1 15 rfl rfl)
theorem dX1_fullOnes_39 : decode cX1_fullOnes 39 = .ok (.istore_n 1, 1) := dk_60 (dk_at dksX1_fullOnes_1 16 rfl rfl)
theorem dX1_fullOnes_40 : decode cX1_fullOnes 40 = .ok (.iinc 2 1, 3) := dk_132 2 1 (dk_at dksX1_fullOnes_1 17 rfl rfl)
theorem dX1_fullOnes_43 : decode cX1_fullOnes 43 = .ok (.goto (-39), 3) := dk_167 255 217 (dk_at dksX1_fullOnes_1 20 rfl rfl)
theorem dX1_fullOnes_46 : decode cX1_fullOnes 46 = .ok (.iload_n 1, 1) := dk_27 (dk_at dksX1_fullOnes_1 23 rfl rfl)
theorem dX1_fullOnes_47 : decode cX1_fullOnes 47 = .ok (.ireturn, 1) := dk_172 (dk_at dksX1_fullOnes_2 0 rfl rfl)
abbrev cX1_lake : ByteArray := prog_1_method_32_code
def yX1_lake : MethodName := ⟨RX1, "lake", "(II)I"⟩
def dkwX1_lake_6 : List UInt8 := [183, 1, 47, 191]
abbrev dktX1_lake_6 : List UInt8 := dkwX1_lake_6 ++ []
def dkwX1_lake_5 : List UInt8 := [180, 0, 12, 180, 0, 209, 27, 46, 172, 42, 42, 180, 0, 12, 27, 182, 1, 48, 172, 187, 1, 45, 89]
abbrev dktX1_lake_5 : List UInt8 := dkwX1_lake_5 ++ dktX1_lake_6
def dkwX1_lake_4 : List UInt8 := [27, 46, 172, 42, 180, 0, 12, 180, 1, 24, 27, 184, 0, 129, 153, 0, 7, 4, 167, 0, 4, 3, 172, 42]
abbrev dktX1_lake_4 : List UInt8 := dkwX1_lake_4 ++ dktX1_lake_5
def dkwX1_lake_3 : List UInt8 := [42, 180, 0, 12, 180, 0, 140, 27, 46, 172, 42, 180, 0, 26, 27, 46, 172, 42, 180, 0, 12, 180, 0, 133]
abbrev dktX1_lake_3 : List UInt8 := dkwX1_lake_3 ++ dktX1_lake_4
def dkwX1_lake_2 : List UInt8 := [42, 180, 0, 19, 27, 46, 172, 42, 180, 0, 12, 180, 0, 206, 27, 46, 172, 42, 180, 0, 23, 27, 46, 172]
abbrev dktX1_lake_2 : List UInt8 := dkwX1_lake_2 ++ dktX1_lake_3
def dkwX1_lake_1 : List UInt8 := [170, 0, 0, 0, 0, 0, 142, 0, 0, 0, 0, 0, 0, 0, 8, 0, 0, 0, 51, 0, 0, 0, 58, 0, 0, 0, 68, 0, 0, 0, 75, 0, 0, 0, 85, 0, 0, 0, 92, 0, 0, 0, 102, 0, 0, 0, 122, 0, 0, 0, 132]
abbrev dktX1_lake_1 : List UInt8 := dkwX1_lake_1 ++ dktX1_lake_2
def dkwX1_lake_0 : List UInt8 := [42, 27, 182, 1, 41, 154, 0, 11, 187, 1, 45, 89, 183, 1, 47, 191, 28]
abbrev dktX1_lake_0 : List UInt8 := dkwX1_lake_0 ++ dktX1_lake_1
theorem dksX1_lake_0 : cX1_lake.data.toList.drop 0 = dktX1_lake_0 := by decide +kernel
theorem dksX1_lake_1 : cX1_lake.data.toList.drop 17 = dktX1_lake_1 := dk_seg dksX1_lake_0 17 rfl rfl
theorem dksX1_lake_2 : cX1_lake.data.toList.drop 68 = dktX1_lake_2 := dk_seg dksX1_lake_1 51 rfl rfl
theorem dksX1_lake_3 : cX1_lake.data.toList.drop 92 = dktX1_lake_3 := dk_seg dksX1_lake_2 24 rfl rfl
theorem dksX1_lake_4 : cX1_lake.data.toList.drop 116 = dktX1_lake_4 := dk_seg dksX1_lake_3 24 rfl rfl
theorem dksX1_lake_5 : cX1_lake.data.toList.drop 140 = dktX1_lake_5 := dk_seg dksX1_lake_4 24 rfl rfl
theorem dksX1_lake_6 : cX1_lake.data.toList.drop 163 = dktX1_lake_6 := dk_seg dksX1_lake_5 23 rfl rfl
theorem dX1_lake_0 : decode cX1_lake 0 = .ok (.aload_n 0, 1) := dk_42 (dk_at dksX1_lake_0 0 rfl rfl)
theorem dX1_lake_1 : decode cX1_lake 1 = .ok (.iload_n 1, 1) := dk_27 (dk_at dksX1_lake_0 1 rfl rfl)
theorem dX1_lake_2 : decode cX1_lake 2 = .ok (.invokevirtual 297, 3) := dk_182 1 41 (dk_at dksX1_lake_0 2 rfl rfl)
theorem dX1_lake_5 : decode cX1_lake 5 = .ok (.ifCond .ne 11, 3) := dk_154 0 11 (dk_at dksX1_lake_0 5 rfl rfl)
theorem dX1_lake_8 : decode cX1_lake 8 = .ok (.new 301, 3) := dk_187 1 45 (dk_at dksX1_lake_0 8 rfl rfl)
theorem dX1_lake_11 : decode cX1_lake 11 = .ok (.dup, 1) := dk_89 (dk_at dksX1_lake_0 11 rfl rfl)
theorem dX1_lake_12 : decode cX1_lake 12 = .ok (.invokespecial 303, 3) := dk_183 1 47 (dk_at dksX1_lake_0 12 rfl rfl)
theorem dX1_lake_15 : decode cX1_lake 15 = .ok (.athrow, 1) := dk_191 (dk_at dksX1_lake_0 15 rfl rfl)
theorem dX1_lake_16 : decode cX1_lake 16 = .ok (.iload_n 2, 1) := dk_28 (dk_at dksX1_lake_0 16 rfl rfl)
theorem dX1_lake_17 : decode cX1_lake 17 = .ok (.tableswitch 142 0 8 #[51, 58, 68, 75, 85, 92, 102, 122, 132], 51) := by decide +kernel
theorem dX1_lake_68 : decode cX1_lake 68 = .ok (.aload_n 0, 1) := dk_42 (dk_at dksX1_lake_2 0 rfl rfl)
theorem dX1_lake_69 : decode cX1_lake 69 = .ok (.getfield 19, 3) := dk_180 0 19 (dk_at dksX1_lake_2 1 rfl rfl)
theorem dX1_lake_72 : decode cX1_lake 72 = .ok (.iload_n 1, 1) := dk_27 (dk_at dksX1_lake_2 4 rfl rfl)
theorem dX1_lake_73 : decode cX1_lake 73 = .ok (.iaload, 1) := dk_46 (dk_at dksX1_lake_2 5 rfl rfl)
theorem dX1_lake_74 : decode cX1_lake 74 = .ok (.ireturn, 1) := dk_172 (dk_at dksX1_lake_2 6 rfl rfl)
theorem dX1_lake_75 : decode cX1_lake 75 = .ok (.aload_n 0, 1) := dk_42 (dk_at dksX1_lake_2 7 rfl rfl)
theorem dX1_lake_76 : decode cX1_lake 76 = .ok (.getfield 12, 3) := dk_180 0 12 (dk_at dksX1_lake_2 8 rfl rfl)
theorem dX1_lake_79 : decode cX1_lake 79 = .ok (.getfield 206, 3) := dk_180 0 206 (dk_at dksX1_lake_2 11 rfl rfl)
theorem dX1_lake_82 : decode cX1_lake 82 = .ok (.iload_n 1, 1) := dk_27 (dk_at dksX1_lake_2 14 rfl rfl)
theorem dX1_lake_83 : decode cX1_lake 83 = .ok (.iaload, 1) := dk_46 (dk_at dksX1_lake_2 15 rfl rfl)
theorem dX1_lake_84 : decode cX1_lake 84 = .ok (.ireturn, 1) := dk_172 (dk_at dksX1_lake_2 16 rfl rfl)
theorem dX1_lake_85 : decode cX1_lake 85 = .ok (.aload_n 0, 1) := dk_42 (dk_at dksX1_lake_2 17 rfl rfl)
theorem dX1_lake_86 : decode cX1_lake 86 = .ok (.getfield 23, 3) := dk_180 0 23 (dk_at dksX1_lake_2 18 rfl rfl)
theorem dX1_lake_89 : decode cX1_lake 89 = .ok (.iload_n 1, 1) := dk_27 (dk_at dksX1_lake_2 21 rfl rfl)
theorem dX1_lake_90 : decode cX1_lake 90 = .ok (.iaload, 1) := dk_46 (dk_at dksX1_lake_2 22 rfl rfl)
theorem dX1_lake_91 : decode cX1_lake 91 = .ok (.ireturn, 1) := dk_172 (dk_at dksX1_lake_2 23 rfl rfl)
theorem dX1_lake_92 : decode cX1_lake 92 = .ok (.aload_n 0, 1) := dk_42 (dk_at dksX1_lake_3 0 rfl rfl)
theorem dX1_lake_93 : decode cX1_lake 93 = .ok (.getfield 12, 3) := dk_180 0 12 (dk_at dksX1_lake_3 1 rfl rfl)
theorem dX1_lake_96 : decode cX1_lake 96 = .ok (.getfield 140, 3) := dk_180 0 140 (dk_at dksX1_lake_3 4 rfl rfl)
theorem dX1_lake_99 : decode cX1_lake 99 = .ok (.iload_n 1, 1) := dk_27 (dk_at dksX1_lake_3 7 rfl rfl)
theorem dX1_lake_100 : decode cX1_lake 100 = .ok (.iaload, 1) := dk_46 (dk_at dksX1_lake_3 8 rfl rfl)
theorem dX1_lake_101 : decode cX1_lake 101 = .ok (.ireturn, 1) := dk_172 (dk_at dksX1_lake_3 9 rfl rfl)
theorem dX1_lake_102 : decode cX1_lake 102 = .ok (.aload_n 0, 1) := dk_42 (dk_at dksX1_lake_3 10 rfl rfl)
theorem dX1_lake_103 : decode cX1_lake 103 = .ok (.getfield 26, 3) := dk_180 0 26 (dk_at dksX1_lake_3 11 rfl rfl)
theorem dX1_lake_106 : decode cX1_lake 106 = .ok (.iload_n 1, 1) := dk_27 (dk_at dksX1_lake_3 14 rfl rfl)
theorem dX1_lake_107 : decode cX1_lake 107 = .ok (.iaload, 1) := dk_46 (dk_at dksX1_lake_3 15 rfl rfl)
theorem dX1_lake_108 : decode cX1_lake 108 = .ok (.ireturn, 1) := dk_172 (dk_at dksX1_lake_3 16 rfl rfl)
theorem dX1_lake_109 : decode cX1_lake 109 = .ok (.aload_n 0, 1) := dk_42 (dk_at dksX1_lake_3 17 rfl rfl)
theorem dX1_lake_110 : decode cX1_lake 110 = .ok (.getfield 12, 3) := dk_180 0 12 (dk_at dksX1_lake_3 18 rfl rfl)
theorem dX1_lake_113 : decode cX1_lake 113 = .ok (.getfield 133, 3) := dk_180 0 133 (dk_at dksX1_lake_3 21 rfl rfl)
theorem dX1_lake_116 : decode cX1_lake 116 = .ok (.iload_n 1, 1) := dk_27 (dk_at dksX1_lake_4 0 rfl rfl)
theorem dX1_lake_117 : decode cX1_lake 117 = .ok (.iaload, 1) := dk_46 (dk_at dksX1_lake_4 1 rfl rfl)
theorem dX1_lake_118 : decode cX1_lake 118 = .ok (.ireturn, 1) := dk_172 (dk_at dksX1_lake_4 2 rfl rfl)
theorem dX1_lake_119 : decode cX1_lake 119 = .ok (.aload_n 0, 1) := dk_42 (dk_at dksX1_lake_4 3 rfl rfl)
theorem dX1_lake_120 : decode cX1_lake 120 = .ok (.getfield 12, 3) := dk_180 0 12 (dk_at dksX1_lake_4 4 rfl rfl)
theorem dX1_lake_123 : decode cX1_lake 123 = .ok (.getfield 280, 3) := dk_180 1 24 (dk_at dksX1_lake_4 7 rfl rfl)
theorem dX1_lake_126 : decode cX1_lake 126 = .ok (.iload_n 1, 1) := dk_27 (dk_at dksX1_lake_4 10 rfl rfl)
theorem dX1_lake_127 : decode cX1_lake 127 = .ok (.invokestatic 129, 3) := dk_184 0 129 (dk_at dksX1_lake_4 11 rfl rfl)
theorem dX1_lake_130 : decode cX1_lake 130 = .ok (.ifCond .eq 7, 3) := dk_153 0 7 (dk_at dksX1_lake_4 14 rfl rfl)
theorem dX1_lake_133 : decode cX1_lake 133 = .ok (.iconst 1, 1) := dk_4 (dk_at dksX1_lake_4 17 rfl rfl)
theorem dX1_lake_134 : decode cX1_lake 134 = .ok (.goto 4, 3) := dk_167 0 4 (dk_at dksX1_lake_4 18 rfl rfl)
theorem dX1_lake_137 : decode cX1_lake 137 = .ok (.iconst 0, 1) := dk_3 (dk_at dksX1_lake_4 21 rfl rfl)
theorem dX1_lake_138 : decode cX1_lake 138 = .ok (.ireturn, 1) := dk_172 (dk_at dksX1_lake_4 22 rfl rfl)
theorem dX1_lake_139 : decode cX1_lake 139 = .ok (.aload_n 0, 1) := dk_42 (dk_at dksX1_lake_4 23 rfl rfl)
theorem dX1_lake_140 : decode cX1_lake 140 = .ok (.getfield 12, 3) := dk_180 0 12 (dk_at dksX1_lake_5 0 rfl rfl)
theorem dX1_lake_143 : decode cX1_lake 143 = .ok (.getfield 209, 3) := dk_180 0 209 (dk_at dksX1_lake_5 3 rfl rfl)
theorem dX1_lake_146 : decode cX1_lake 146 = .ok (.iload_n 1, 1) := dk_27 (dk_at dksX1_lake_5 6 rfl rfl)
theorem dX1_lake_147 : decode cX1_lake 147 = .ok (.iaload, 1) := dk_46 (dk_at dksX1_lake_5 7 rfl rfl)
theorem dX1_lake_148 : decode cX1_lake 148 = .ok (.ireturn, 1) := dk_172 (dk_at dksX1_lake_5 8 rfl rfl)
theorem dX1_lake_149 : decode cX1_lake 149 = .ok (.aload_n 0, 1) := dk_42 (dk_at dksX1_lake_5 9 rfl rfl)
theorem dX1_lake_150 : decode cX1_lake 150 = .ok (.aload_n 0, 1) := dk_42 (dk_at dksX1_lake_5 10 rfl rfl)
theorem dX1_lake_151 : decode cX1_lake 151 = .ok (.getfield 12, 3) := dk_180 0 12 (dk_at dksX1_lake_5 11 rfl rfl)
theorem dX1_lake_154 : decode cX1_lake 154 = .ok (.iload_n 1, 1) := dk_27 (dk_at dksX1_lake_5 14 rfl rfl)
theorem dX1_lake_155 : decode cX1_lake 155 = .ok (.invokevirtual 304, 3) := dk_182 1 48 (dk_at dksX1_lake_5 15 rfl rfl)
theorem dX1_lake_158 : decode cX1_lake 158 = .ok (.ireturn, 1) := dk_172 (dk_at dksX1_lake_5 18 rfl rfl)
theorem dX1_lake_159 : decode cX1_lake 159 = .ok (.new 301, 3) := dk_187 1 45 (dk_at dksX1_lake_5 19 rfl rfl)
theorem dX1_lake_162 : decode cX1_lake 162 = .ok (.dup, 1) := dk_89 (dk_at dksX1_lake_5 22 rfl rfl)
theorem dX1_lake_163 : decode cX1_lake 163 = .ok (.invokespecial 303, 3) := dk_183 1 47 (dk_at dksX1_lake_6 0 rfl rfl)
theorem dX1_lake_166 : decode cX1_lake 166 = .ok (.athrow, 1) := dk_191 (dk_at dksX1_lake_6 3 rfl rfl)
abbrev cX1_row : ByteArray := prog_1_method_105_code
def yX1_row : MethodName := ⟨RX1, "row", "(I)J"⟩
def dkwX1_row_1 : List UInt8 := [42, 180, 0, 110, 27, 47, 173]
abbrev dktX1_row_1 : List UInt8 := dkwX1_row_1 ++ []
def dkwX1_row_0 : List UInt8 := [27, 133, 9, 42, 180, 1, 94, 4, 100, 133, 184, 0, 121, 154, 0, 11, 187, 1, 45, 89, 183, 1, 47, 191]
abbrev dktX1_row_0 : List UInt8 := dkwX1_row_0 ++ dktX1_row_1
theorem dksX1_row_0 : cX1_row.data.toList.drop 0 = dktX1_row_0 := by decide +kernel
theorem dksX1_row_1 : cX1_row.data.toList.drop 24 = dktX1_row_1 := dk_seg dksX1_row_0 24 rfl rfl
theorem dX1_row_0 : decode cX1_row 0 = .ok (.iload_n 1, 1) := dk_27 (dk_at dksX1_row_0 0 rfl rfl)
theorem dX1_row_1 : decode cX1_row 1 = .ok (.i2l, 1) := dk_133 (dk_at dksX1_row_0 1 rfl rfl)
theorem dX1_row_2 : decode cX1_row 2 = .ok (.lconst 0, 1) := dk_9 (dk_at dksX1_row_0 2 rfl rfl)
theorem dX1_row_3 : decode cX1_row 3 = .ok (.aload_n 0, 1) := dk_42 (dk_at dksX1_row_0 3 rfl rfl)
theorem dX1_row_4 : decode cX1_row 4 = .ok (.getfield 350, 3) := dk_180 1 94 (dk_at dksX1_row_0 4 rfl rfl)
theorem dX1_row_7 : decode cX1_row 7 = .ok (.iconst 1, 1) := dk_4 (dk_at dksX1_row_0 7 rfl rfl)
theorem dX1_row_8 : decode cX1_row 8 = .ok (.isub, 1) := dk_100 (dk_at dksX1_row_0 8 rfl rfl)
theorem dX1_row_9 : decode cX1_row 9 = .ok (.i2l, 1) := dk_133 (dk_at dksX1_row_0 9 rfl rfl)
theorem dX1_row_10 : decode cX1_row 10 = .ok (.invokestatic 121, 3) := dk_184 0 121 (dk_at dksX1_row_0 10 rfl rfl)
theorem dX1_row_13 : decode cX1_row 13 = .ok (.ifCond .ne 11, 3) := dk_154 0 11 (dk_at dksX1_row_0 13 rfl rfl)
theorem dX1_row_16 : decode cX1_row 16 = .ok (.new 301, 3) := dk_187 1 45 (dk_at dksX1_row_0 16 rfl rfl)
theorem dX1_row_19 : decode cX1_row 19 = .ok (.dup, 1) := dk_89 (dk_at dksX1_row_0 19 rfl rfl)
theorem dX1_row_20 : decode cX1_row 20 = .ok (.invokespecial 303, 3) := dk_183 1 47 (dk_at dksX1_row_0 20 rfl rfl)
theorem dX1_row_23 : decode cX1_row 23 = .ok (.athrow, 1) := dk_191 (dk_at dksX1_row_0 23 rfl rfl)
theorem dX1_row_24 : decode cX1_row 24 = .ok (.aload_n 0, 1) := dk_42 (dk_at dksX1_row_1 0 rfl rfl)
theorem dX1_row_25 : decode cX1_row 25 = .ok (.getfield 110, 3) := dk_180 0 110 (dk_at dksX1_row_1 1 rfl rfl)
theorem dX1_row_28 : decode cX1_row 28 = .ok (.iload_n 1, 1) := dk_27 (dk_at dksX1_row_1 4 rfl rfl)
theorem dX1_row_29 : decode cX1_row 29 = .ok (.laload, 1) := dk_47 (dk_at dksX1_row_1 5 rfl rfl)
theorem dX1_row_30 : decode cX1_row 30 = .ok (.lreturn, 1) := dk_173 (dk_at dksX1_row_1 6 rfl rfl)
theorem q97 : (Jvm.Cond.initialized "PullThePlug") ∈ lw_all := lw_g (lw_at lw_m1 1 rfl) rfl
theorem q119 : (Jvm.Cond.instantiable "PullThePlug" (49 : Nat)) ∈ lw_all := lw_g (lw_at lw_m1 23 rfl) rfl
theorem q121 : (Jvm.Cond.instanceMethod ({ cls := "PullThePlug", name := "<init>", desc := "()V" } : Jvm.MethodName)) ∈ lw_all := lw_g (lw_at lw_m1 25 rfl) rfl
theorem q122 : (Jvm.Cond.code ({ cls := "PullThePlug", name := "<init>", desc := "()V" } : Jvm.MethodName) prog_1_method_1_code (1 : Nat) (Option.none : Option Jvm.ClassFile.FieldType)) ∈ lw_all := lw_g (lw_at lw_m1 26 rfl) rfl
theorem q123 : (Jvm.Cond.methodLink "PullThePlug" (3 : Nat) ({ cls := "java/lang/Object", name := "<init>", desc := "()V" } : Jvm.MethodName)) ∈ lw_all := lw_g (lw_at lw_m1 27 rfl) rfl
theorem q126 : (Jvm.Cond.classLink "PullThePlug" (9 : Nat) "PullThePlug$Water") ∈ lw_all := lw_g (lw_at lw_m1 30 rfl) rfl
theorem q128 : (Jvm.Cond.methodLinkNest "PullThePlug" (11 : Nat) ({ cls := "PullThePlug$Water", name := "<init>", desc := "()V" } : Jvm.MethodName) "PullThePlug") ∈ lw_tbl := lw_at lw_m1 32 rfl
theorem q134 : (Jvm.Cond.fieldLinkNest "PullThePlug" (133 : Nat) "PullThePlug$Water" "level" "[I" "PullThePlug") ∈ lw_tbl := lw_at lw_m1 38 rfl
theorem q137 : (Jvm.Cond.fieldLinkNest "PullThePlug" (209 : Nat) "PullThePlug$Water" "hair" "[I" "PullThePlug") ∈ lw_tbl := lw_at lw_m1 41 rfl
theorem q140 : (Jvm.Cond.fieldLinkNest "PullThePlug" (206 : Nat) "PullThePlug$Water" "tap" "[I" "PullThePlug") ∈ lw_tbl := lw_at lw_m1 44 rfl
theorem q142 : (Jvm.Cond.fieldLinkNest "PullThePlug" (140 : Nat) "PullThePlug$Water" "king" "[I" "PullThePlug") ∈ lw_tbl := lw_at lw_m1 46 rfl
theorem q145 : (Jvm.Cond.fieldLinkNest "PullThePlug" (280 : Nat) "PullThePlug$Water" "out" "I" "PullThePlug") ∈ lw_tbl := lw_at lw_m1 49 rfl
theorem q148 : (Jvm.Cond.fieldLinkNest "PullThePlug" (327 : Nat) "PullThePlug$Water" "day" "I" "PullThePlug") ∈ lw_tbl := lw_at lw_m1 52 rfl
theorem q150 : (Jvm.Cond.fieldLinkNest "PullThePlug" (321 : Nat) "PullThePlug$Water" "spilt" "I" "PullThePlug") ∈ lw_tbl := lw_at lw_m1 54 rfl
theorem q152 : (Jvm.Cond.fieldLinkNest "PullThePlug" (324 : Nat) "PullThePlug$Water" "dried" "I" "PullThePlug") ∈ lw_tbl := lw_at lw_m1 56 rfl
theorem q172 : (Jvm.Cond.fieldLink "PullThePlug" (12 : Nat) "PullThePlug" "now" "LPullThePlug$Water;") ∈ lw_all := lw_g (lw_at lw_m1 76 rfl) rfl
theorem q173 : (Jvm.Cond.fieldLink "PullThePlug" (16 : Nat) "PullThePlug" "tried" "LPullThePlug$Water;") ∈ lw_all := lw_g (lw_at lw_m1 77 rfl) rfl
theorem q174 : (Jvm.Cond.fieldLink "PullThePlug" (19 : Nat) "PullThePlug" "brim" "[I") ∈ lw_all := lw_g (lw_at lw_m1 78 rfl) rfl
theorem q176 : (Jvm.Cond.fieldLink "PullThePlug" (23 : Nat) "PullThePlug" "leak" "[I") ∈ lw_all := lw_g (lw_at lw_m1 80 rfl) rfl
theorem q177 : (Jvm.Cond.fieldLink "PullThePlug" (26 : Nat) "PullThePlug" "down" "[I") ∈ lw_all := lw_g (lw_at lw_m1 81 rfl) rfl
theorem q178 : (Jvm.Cond.fieldLink "PullThePlug" (117 : Nat) "PullThePlug" "lakes" "I") ∈ lw_all := lw_g (lw_at lw_m1 82 rfl) rfl
theorem q179 : (Jvm.Cond.fieldLink "PullThePlug" (229 : Nat) "PullThePlug" "changes" "I") ∈ lw_all := lw_g (lw_at lw_m1 83 rfl) rfl
theorem q180 : (Jvm.Cond.fieldLink "PullThePlug" (29 : Nat) "PullThePlug" "text" "[I") ∈ lw_all := lw_g (lw_at lw_m1 84 rfl) rfl
theorem q181 : (Jvm.Cond.fieldLink "PullThePlug" (143 : Nat) "PullThePlug" "signMany" "I") ∈ lw_all := lw_g (lw_at lw_m1 85 rfl) rfl
theorem q182 : (Jvm.Cond.fieldLink "PullThePlug" (146 : Nat) "PullThePlug" "at" "I") ∈ lw_all := lw_g (lw_at lw_m1 86 rfl) rfl
theorem q183 : (Jvm.Cond.fieldLink "PullThePlug" (158 : Nat) "PullThePlug" "end" "I") ∈ lw_all := lw_g (lw_at lw_m1 87 rfl) rfl
theorem q184 : (Jvm.Cond.fieldLink "PullThePlug" (149 : Nat) "PullThePlug" "nest" "I") ∈ lw_all := lw_g (lw_at lw_m1 88 rfl) rfl
theorem q185 : (Jvm.Cond.fieldLink "PullThePlug" (32 : Nat) "PullThePlug" "readBrim" "[I") ∈ lw_all := lw_g (lw_at lw_m1 89 rfl) rfl
theorem q186 : (Jvm.Cond.fieldLink "PullThePlug" (35 : Nat) "PullThePlug" "readTap" "[I") ∈ lw_all := lw_g (lw_at lw_m1 90 rfl) rfl
theorem q187 : (Jvm.Cond.fieldLink "PullThePlug" (38 : Nat) "PullThePlug" "readLeak" "[I") ∈ lw_all := lw_g (lw_at lw_m1 91 rfl) rfl
theorem q188 : (Jvm.Cond.fieldLink "PullThePlug" (41 : Nat) "PullThePlug" "readKing" "[I") ∈ lw_all := lw_g (lw_at lw_m1 92 rfl) rfl
theorem q189 : (Jvm.Cond.fieldLink "PullThePlug" (44 : Nat) "PullThePlug" "readDown" "[I") ∈ lw_all := lw_g (lw_at lw_m1 93 rfl) rfl
theorem q190 : (Jvm.Cond.fieldLink "PullThePlug" (186 : Nat) "PullThePlug" "readMany" "I") ∈ lw_all := lw_g (lw_at lw_m1 94 rfl) rfl
theorem q192 : (Jvm.Cond.fieldLink "PullThePlug" (283 : Nat) "PullThePlug" "askedWater" "LPullThePlug$Water;") ∈ lw_all := lw_g (lw_at lw_m1 96 rfl) rfl
theorem q194 : (Jvm.Cond.fieldLink "PullThePlug" (286 : Nat) "PullThePlug" "askedLake" "I") ∈ lw_all := lw_g (lw_at lw_m1 98 rfl) rfl
theorem q195 : (Jvm.Cond.fieldLink "PullThePlug" (277 : Nat) "PullThePlug" "rule" "LPullThePlug$Node;") ∈ lw_all := lw_g (lw_at lw_m1 99 rfl) rfl
theorem q196 : (Jvm.Cond.fieldLink "PullThePlug" (270 : Nat) "PullThePlug" "readRule" "LPullThePlug$Node;") ∈ lw_all := lw_g (lw_at lw_m1 100 rfl) rfl
theorem q197 : (Jvm.Cond.fieldLink "PullThePlug" (47 : Nat) "PullThePlug" "undone" "[LPullThePlug$Water;") ∈ lw_all := lw_g (lw_at lw_m1 101 rfl) rfl
theorem q198 : (Jvm.Cond.fieldLink "PullThePlug" (51 : Nat) "PullThePlug" "wasAhead" "LPullThePlug$Water;") ∈ lw_all := lw_g (lw_at lw_m1 102 rfl) rfl
theorem q199 : (Jvm.Cond.fieldLink "PullThePlug" (226 : Nat) "PullThePlug" "undoMany" "I") ∈ lw_all := lw_g (lw_at lw_m1 103 rfl) rfl
theorem q200 : (Jvm.Cond.fieldLink "PullThePlug" (54 : Nat) "PullThePlug" "runs" "[I") ∈ lw_all := lw_g (lw_at lw_m1 104 rfl) rfl
theorem q201 : (Jvm.Cond.fieldLink "PullThePlug" (57 : Nat) "PullThePlug" "next" "[I") ∈ lw_all := lw_g (lw_at lw_m1 105 rfl) rfl
theorem q202 : (Jvm.Cond.fieldLink "PullThePlug" (60 : Nat) "PullThePlug" "actSign" "[I") ∈ lw_all := lw_g (lw_at lw_m1 106 rfl) rfl
theorem q203 : (Jvm.Cond.fieldLink "PullThePlug" (63 : Nat) "PullThePlug" "actOne" "[I") ∈ lw_all := lw_g (lw_at lw_m1 107 rfl) rfl
theorem q204 : (Jvm.Cond.fieldLink "PullThePlug" (66 : Nat) "PullThePlug" "actTwo" "[I") ∈ lw_all := lw_g (lw_at lw_m1 108 rfl) rfl
theorem q205 : (Jvm.Cond.fieldLink "PullThePlug" (374 : Nat) "PullThePlug" "actMany" "I") ∈ lw_all := lw_g (lw_at lw_m1 109 rfl) rfl
theorem q206 : (Jvm.Cond.fieldLink "PullThePlug" (416 : Nat) "PullThePlug" "ringMany" "I") ∈ lw_all := lw_g (lw_at lw_m1 110 rfl) rfl
theorem q207 : (Jvm.Cond.fieldLink "PullThePlug" (69 : Nat) "PullThePlug" "ringLake" "[I") ∈ lw_all := lw_g (lw_at lw_m1 111 rfl) rfl
theorem q208 : (Jvm.Cond.fieldLink "PullThePlug" (72 : Nat) "PullThePlug" "ringDay" "[I") ∈ lw_all := lw_g (lw_at lw_m1 112 rfl) rfl
theorem q209 : (Jvm.Cond.fieldLink "PullThePlug" (75 : Nat) "PullThePlug" "ringOf" "[I") ∈ lw_all := lw_g (lw_at lw_m1 113 rfl) rfl
theorem q210 : (Jvm.Cond.fieldLink "PullThePlug" (78 : Nat) "PullThePlug" "fitsAll" "[Z") ∈ lw_all := lw_g (lw_at lw_m1 114 rfl) rfl
theorem q211 : (Jvm.Cond.fieldLink "PullThePlug" (82 : Nat) "PullThePlug" "levelBy" "[I") ∈ lw_all := lw_g (lw_at lw_m1 115 rfl) rfl
theorem q212 : (Jvm.Cond.fieldLink "PullThePlug" (85 : Nat) "PullThePlug" "often" "[I") ∈ lw_all := lw_g (lw_at lw_m1 116 rfl) rfl
theorem q213 : (Jvm.Cond.fieldLink "PullThePlug" (88 : Nat) "PullThePlug" "heir" "[I") ∈ lw_all := lw_g (lw_at lw_m1 117 rfl) rfl
theorem q214 : (Jvm.Cond.fieldLink "PullThePlug" (91 : Nat) "PullThePlug" "given" "[I") ∈ lw_all := lw_g (lw_at lw_m1 118 rfl) rfl
theorem q215 : (Jvm.Cond.fieldLink "PullThePlug" (94 : Nat) "PullThePlug" "bestGiven" "[I") ∈ lw_all := lw_g (lw_at lw_m1 119 rfl) rfl
theorem q216 : (Jvm.Cond.fieldLink "PullThePlug" (444 : Nat) "PullThePlug" "bestSum" "I") ∈ lw_all := lw_g (lw_at lw_m1 120 rfl) rfl
theorem q217 : (Jvm.Cond.fieldLink "PullThePlug" (97 : Nat) "PullThePlug" "ways" "[J") ∈ lw_all := lw_g (lw_at lw_m1 121 rfl) rfl
theorem q218 : (Jvm.Cond.fieldLink "PullThePlug" (101 : Nat) "PullThePlug" "then" "[J") ∈ lw_all := lw_g (lw_at lw_m1 122 rfl) rfl
theorem q219 : (Jvm.Cond.fieldLink "PullThePlug" (472 : Nat) "PullThePlug" "random" "I") ∈ lw_all := lw_g (lw_at lw_m1 123 rfl) rfl
theorem q220 : (Jvm.Cond.fieldLink "PullThePlug" (104 : Nat) "PullThePlug" "kept" "[LPullThePlug$Water;") ∈ lw_all := lw_g (lw_at lw_m1 124 rfl) rfl
theorem q221 : (Jvm.Cond.fieldLink "PullThePlug" (107 : Nat) "PullThePlug" "keptChanges" "[I") ∈ lw_all := lw_g (lw_at lw_m1 125 rfl) rfl
theorem q222 : (Jvm.Cond.fieldLink "PullThePlug" (110 : Nat) "PullThePlug" "row" "[J") ∈ lw_all := lw_g (lw_at lw_m1 126 rfl) rfl
theorem q223 : (Jvm.Cond.fieldLink "PullThePlug" (350 : Nat) "PullThePlug" "rowMany" "I") ∈ lw_all := lw_g (lw_at lw_m1 127 rfl) rfl
theorem q224 : (Jvm.Cond.laysFinal "PullThePlug" "PullThePlug" "now" "LPullThePlug$Water;") ∈ lw_all := lw_g (lw_at lw_m1 128 rfl) rfl
theorem q225 : (Jvm.Cond.soleField "PullThePlug" "now") ∈ lw_all := lw_g (lw_at lw_m1 129 rfl) rfl
theorem q226 : (Jvm.Cond.laysFinal "PullThePlug" "PullThePlug" "tried" "LPullThePlug$Water;") ∈ lw_all := lw_g (lw_at lw_m1 130 rfl) rfl
theorem q227 : (Jvm.Cond.soleField "PullThePlug" "tried") ∈ lw_all := lw_g (lw_at lw_m1 131 rfl) rfl
theorem q228 : (Jvm.Cond.laysFinal "PullThePlug" "PullThePlug" "brim" "[I") ∈ lw_all := lw_g (lw_at lw_m1 132 rfl) rfl
theorem q229 : (Jvm.Cond.soleField "PullThePlug" "brim") ∈ lw_all := lw_g (lw_at lw_m1 133 rfl) rfl
theorem q230 : (Jvm.Cond.laysFinal "PullThePlug" "PullThePlug" "leak" "[I") ∈ lw_all := lw_g (lw_at lw_m1 134 rfl) rfl
theorem q231 : (Jvm.Cond.soleField "PullThePlug" "leak") ∈ lw_all := lw_g (lw_at lw_m1 135 rfl) rfl
theorem q232 : (Jvm.Cond.laysFinal "PullThePlug" "PullThePlug" "down" "[I") ∈ lw_all := lw_g (lw_at lw_m1 136 rfl) rfl
theorem q233 : (Jvm.Cond.soleField "PullThePlug" "down") ∈ lw_all := lw_g (lw_at lw_m1 137 rfl) rfl
theorem q234 : (Jvm.Cond.lays "PullThePlug" "PullThePlug" "lakes" "I") ∈ lw_all := lw_g (lw_at lw_m1 138 rfl) rfl
theorem q235 : (Jvm.Cond.soleField "PullThePlug" "lakes") ∈ lw_all := lw_g (lw_at lw_m1 139 rfl) rfl
theorem q236 : (Jvm.Cond.lays "PullThePlug" "PullThePlug" "changes" "I") ∈ lw_all := lw_g (lw_at lw_m1 140 rfl) rfl
theorem q237 : (Jvm.Cond.soleField "PullThePlug" "changes") ∈ lw_all := lw_g (lw_at lw_m1 141 rfl) rfl
theorem q238 : (Jvm.Cond.laysFinal "PullThePlug" "PullThePlug" "text" "[I") ∈ lw_all := lw_g (lw_at lw_m1 142 rfl) rfl
theorem q239 : (Jvm.Cond.soleField "PullThePlug" "text") ∈ lw_all := lw_g (lw_at lw_m1 143 rfl) rfl
theorem q240 : (Jvm.Cond.lays "PullThePlug" "PullThePlug" "signMany" "I") ∈ lw_all := lw_g (lw_at lw_m1 144 rfl) rfl
theorem q241 : (Jvm.Cond.soleField "PullThePlug" "signMany") ∈ lw_all := lw_g (lw_at lw_m1 145 rfl) rfl
theorem q242 : (Jvm.Cond.lays "PullThePlug" "PullThePlug" "at" "I") ∈ lw_all := lw_g (lw_at lw_m1 146 rfl) rfl
theorem q243 : (Jvm.Cond.soleField "PullThePlug" "at") ∈ lw_all := lw_g (lw_at lw_m1 147 rfl) rfl
theorem q244 : (Jvm.Cond.lays "PullThePlug" "PullThePlug" "end" "I") ∈ lw_all := lw_g (lw_at lw_m1 148 rfl) rfl
theorem q245 : (Jvm.Cond.soleField "PullThePlug" "end") ∈ lw_all := lw_g (lw_at lw_m1 149 rfl) rfl
theorem q246 : (Jvm.Cond.lays "PullThePlug" "PullThePlug" "nest" "I") ∈ lw_all := lw_g (lw_at lw_m1 150 rfl) rfl
theorem q247 : (Jvm.Cond.soleField "PullThePlug" "nest") ∈ lw_all := lw_g (lw_at lw_m1 151 rfl) rfl
theorem q248 : (Jvm.Cond.laysFinal "PullThePlug" "PullThePlug" "readBrim" "[I") ∈ lw_all := lw_g (lw_at lw_m1 152 rfl) rfl
theorem q249 : (Jvm.Cond.soleField "PullThePlug" "readBrim") ∈ lw_all := lw_g (lw_at lw_m1 153 rfl) rfl
theorem q250 : (Jvm.Cond.laysFinal "PullThePlug" "PullThePlug" "readTap" "[I") ∈ lw_all := lw_g (lw_at lw_m1 154 rfl) rfl
theorem q251 : (Jvm.Cond.soleField "PullThePlug" "readTap") ∈ lw_all := lw_g (lw_at lw_m1 155 rfl) rfl
theorem q252 : (Jvm.Cond.laysFinal "PullThePlug" "PullThePlug" "readLeak" "[I") ∈ lw_all := lw_g (lw_at lw_m1 156 rfl) rfl
theorem q253 : (Jvm.Cond.soleField "PullThePlug" "readLeak") ∈ lw_all := lw_g (lw_at lw_m1 157 rfl) rfl
theorem q254 : (Jvm.Cond.laysFinal "PullThePlug" "PullThePlug" "readKing" "[I") ∈ lw_all := lw_g (lw_at lw_m1 158 rfl) rfl
theorem q255 : (Jvm.Cond.soleField "PullThePlug" "readKing") ∈ lw_all := lw_g (lw_at lw_m1 159 rfl) rfl
theorem q256 : (Jvm.Cond.laysFinal "PullThePlug" "PullThePlug" "readDown" "[I") ∈ lw_all := lw_g (lw_at lw_m1 160 rfl) rfl
theorem q257 : (Jvm.Cond.soleField "PullThePlug" "readDown") ∈ lw_all := lw_g (lw_at lw_m1 161 rfl) rfl
theorem q258 : (Jvm.Cond.lays "PullThePlug" "PullThePlug" "readMany" "I") ∈ lw_all := lw_g (lw_at lw_m1 162 rfl) rfl
theorem q259 : (Jvm.Cond.soleField "PullThePlug" "readMany") ∈ lw_all := lw_g (lw_at lw_m1 163 rfl) rfl
theorem q260 : (Jvm.Cond.lays "PullThePlug" "PullThePlug" "askedWater" "LPullThePlug$Water;") ∈ lw_all := lw_g (lw_at lw_m1 164 rfl) rfl
theorem q261 : (Jvm.Cond.soleField "PullThePlug" "askedWater") ∈ lw_all := lw_g (lw_at lw_m1 165 rfl) rfl
theorem q262 : (Jvm.Cond.lays "PullThePlug" "PullThePlug" "askedLake" "I") ∈ lw_all := lw_g (lw_at lw_m1 166 rfl) rfl
theorem q263 : (Jvm.Cond.soleField "PullThePlug" "askedLake") ∈ lw_all := lw_g (lw_at lw_m1 167 rfl) rfl
theorem q264 : (Jvm.Cond.lays "PullThePlug" "PullThePlug" "rule" "LPullThePlug$Node;") ∈ lw_all := lw_g (lw_at lw_m1 168 rfl) rfl
theorem q265 : (Jvm.Cond.soleField "PullThePlug" "rule") ∈ lw_all := lw_g (lw_at lw_m1 169 rfl) rfl
theorem q266 : (Jvm.Cond.lays "PullThePlug" "PullThePlug" "readRule" "LPullThePlug$Node;") ∈ lw_all := lw_g (lw_at lw_m1 170 rfl) rfl
theorem q267 : (Jvm.Cond.soleField "PullThePlug" "readRule") ∈ lw_all := lw_g (lw_at lw_m1 171 rfl) rfl
theorem q268 : (Jvm.Cond.laysFinal "PullThePlug" "PullThePlug" "undone" "[LPullThePlug$Water;") ∈ lw_all := lw_g (lw_at lw_m1 172 rfl) rfl
theorem q269 : (Jvm.Cond.soleField "PullThePlug" "undone") ∈ lw_all := lw_g (lw_at lw_m1 173 rfl) rfl
theorem q270 : (Jvm.Cond.laysFinal "PullThePlug" "PullThePlug" "wasAhead" "LPullThePlug$Water;") ∈ lw_all := lw_g (lw_at lw_m1 174 rfl) rfl
theorem q271 : (Jvm.Cond.soleField "PullThePlug" "wasAhead") ∈ lw_all := lw_g (lw_at lw_m1 175 rfl) rfl
theorem q272 : (Jvm.Cond.lays "PullThePlug" "PullThePlug" "undoMany" "I") ∈ lw_all := lw_g (lw_at lw_m1 176 rfl) rfl
theorem q273 : (Jvm.Cond.soleField "PullThePlug" "undoMany") ∈ lw_all := lw_g (lw_at lw_m1 177 rfl) rfl
theorem q274 : (Jvm.Cond.laysFinal "PullThePlug" "PullThePlug" "runs" "[I") ∈ lw_all := lw_g (lw_at lw_m1 178 rfl) rfl
theorem q275 : (Jvm.Cond.soleField "PullThePlug" "runs") ∈ lw_all := lw_g (lw_at lw_m1 179 rfl) rfl
theorem q276 : (Jvm.Cond.laysFinal "PullThePlug" "PullThePlug" "next" "[I") ∈ lw_all := lw_g (lw_at lw_m1 180 rfl) rfl
theorem q277 : (Jvm.Cond.soleField "PullThePlug" "next") ∈ lw_all := lw_g (lw_at lw_m1 181 rfl) rfl
theorem q278 : (Jvm.Cond.laysFinal "PullThePlug" "PullThePlug" "actSign" "[I") ∈ lw_all := lw_g (lw_at lw_m1 182 rfl) rfl
theorem q279 : (Jvm.Cond.soleField "PullThePlug" "actSign") ∈ lw_all := lw_g (lw_at lw_m1 183 rfl) rfl
theorem q280 : (Jvm.Cond.laysFinal "PullThePlug" "PullThePlug" "actOne" "[I") ∈ lw_all := lw_g (lw_at lw_m1 184 rfl) rfl
theorem q281 : (Jvm.Cond.soleField "PullThePlug" "actOne") ∈ lw_all := lw_g (lw_at lw_m1 185 rfl) rfl
theorem q282 : (Jvm.Cond.laysFinal "PullThePlug" "PullThePlug" "actTwo" "[I") ∈ lw_all := lw_g (lw_at lw_m1 186 rfl) rfl
theorem q283 : (Jvm.Cond.soleField "PullThePlug" "actTwo") ∈ lw_all := lw_g (lw_at lw_m1 187 rfl) rfl
theorem q284 : (Jvm.Cond.lays "PullThePlug" "PullThePlug" "actMany" "I") ∈ lw_all := lw_g (lw_at lw_m1 188 rfl) rfl
theorem q285 : (Jvm.Cond.soleField "PullThePlug" "actMany") ∈ lw_all := lw_g (lw_at lw_m1 189 rfl) rfl
theorem q286 : (Jvm.Cond.lays "PullThePlug" "PullThePlug" "ringMany" "I") ∈ lw_all := lw_g (lw_at lw_m1 190 rfl) rfl
theorem q287 : (Jvm.Cond.soleField "PullThePlug" "ringMany") ∈ lw_all := lw_g (lw_at lw_m1 191 rfl) rfl
theorem q288 : (Jvm.Cond.laysFinal "PullThePlug" "PullThePlug" "ringLake" "[I") ∈ lw_all := lw_g (lw_at lw_m1 192 rfl) rfl
theorem q289 : (Jvm.Cond.soleField "PullThePlug" "ringLake") ∈ lw_all := lw_g (lw_at lw_m1 193 rfl) rfl
theorem q290 : (Jvm.Cond.laysFinal "PullThePlug" "PullThePlug" "ringDay" "[I") ∈ lw_all := lw_g (lw_at lw_m1 194 rfl) rfl
theorem q291 : (Jvm.Cond.soleField "PullThePlug" "ringDay") ∈ lw_all := lw_g (lw_at lw_m1 195 rfl) rfl
theorem q292 : (Jvm.Cond.laysFinal "PullThePlug" "PullThePlug" "ringOf" "[I") ∈ lw_all := lw_g (lw_at lw_m1 196 rfl) rfl
theorem q293 : (Jvm.Cond.soleField "PullThePlug" "ringOf") ∈ lw_all := lw_g (lw_at lw_m1 197 rfl) rfl
theorem q294 : (Jvm.Cond.laysFinal "PullThePlug" "PullThePlug" "fitsAll" "[Z") ∈ lw_all := lw_g (lw_at lw_m1 198 rfl) rfl
theorem q295 : (Jvm.Cond.soleField "PullThePlug" "fitsAll") ∈ lw_all := lw_g (lw_at lw_m1 199 rfl) rfl
theorem q296 : (Jvm.Cond.laysFinal "PullThePlug" "PullThePlug" "levelBy" "[I") ∈ lw_all := lw_g (lw_at lw_m1 200 rfl) rfl
theorem q297 : (Jvm.Cond.soleField "PullThePlug" "levelBy") ∈ lw_all := lw_g (lw_at lw_m1 201 rfl) rfl
theorem q298 : (Jvm.Cond.laysFinal "PullThePlug" "PullThePlug" "often" "[I") ∈ lw_all := lw_g (lw_at lw_m1 202 rfl) rfl
theorem q299 : (Jvm.Cond.soleField "PullThePlug" "often") ∈ lw_all := lw_g (lw_at lw_m1 203 rfl) rfl
theorem q300 : (Jvm.Cond.laysFinal "PullThePlug" "PullThePlug" "heir" "[I") ∈ lw_all := lw_g (lw_at lw_m1 204 rfl) rfl
theorem q301 : (Jvm.Cond.soleField "PullThePlug" "heir") ∈ lw_all := lw_g (lw_at lw_m1 205 rfl) rfl
theorem q302 : (Jvm.Cond.laysFinal "PullThePlug" "PullThePlug" "given" "[I") ∈ lw_all := lw_g (lw_at lw_m1 206 rfl) rfl
theorem q303 : (Jvm.Cond.soleField "PullThePlug" "given") ∈ lw_all := lw_g (lw_at lw_m1 207 rfl) rfl
theorem q304 : (Jvm.Cond.laysFinal "PullThePlug" "PullThePlug" "bestGiven" "[I") ∈ lw_all := lw_g (lw_at lw_m1 208 rfl) rfl
theorem q305 : (Jvm.Cond.soleField "PullThePlug" "bestGiven") ∈ lw_all := lw_g (lw_at lw_m1 209 rfl) rfl
theorem q306 : (Jvm.Cond.lays "PullThePlug" "PullThePlug" "bestSum" "I") ∈ lw_all := lw_g (lw_at lw_m1 210 rfl) rfl
theorem q307 : (Jvm.Cond.soleField "PullThePlug" "bestSum") ∈ lw_all := lw_g (lw_at lw_m1 211 rfl) rfl
theorem q308 : (Jvm.Cond.laysFinal "PullThePlug" "PullThePlug" "ways" "[J") ∈ lw_all := lw_g (lw_at lw_m1 212 rfl) rfl
theorem q309 : (Jvm.Cond.soleField "PullThePlug" "ways") ∈ lw_all := lw_g (lw_at lw_m1 213 rfl) rfl
theorem q310 : (Jvm.Cond.laysFinal "PullThePlug" "PullThePlug" "then" "[J") ∈ lw_all := lw_g (lw_at lw_m1 214 rfl) rfl
theorem q311 : (Jvm.Cond.soleField "PullThePlug" "then") ∈ lw_all := lw_g (lw_at lw_m1 215 rfl) rfl
theorem q312 : (Jvm.Cond.lays "PullThePlug" "PullThePlug" "random" "I") ∈ lw_all := lw_g (lw_at lw_m1 216 rfl) rfl
theorem q313 : (Jvm.Cond.soleField "PullThePlug" "random") ∈ lw_all := lw_g (lw_at lw_m1 217 rfl) rfl
theorem q314 : (Jvm.Cond.laysFinal "PullThePlug" "PullThePlug" "kept" "[LPullThePlug$Water;") ∈ lw_all := lw_g (lw_at lw_m1 218 rfl) rfl
theorem q315 : (Jvm.Cond.soleField "PullThePlug" "kept") ∈ lw_all := lw_g (lw_at lw_m1 219 rfl) rfl
theorem q316 : (Jvm.Cond.laysFinal "PullThePlug" "PullThePlug" "keptChanges" "[I") ∈ lw_all := lw_g (lw_at lw_m1 220 rfl) rfl
theorem q317 : (Jvm.Cond.soleField "PullThePlug" "keptChanges") ∈ lw_all := lw_g (lw_at lw_m1 221 rfl) rfl
theorem q318 : (Jvm.Cond.laysFinal "PullThePlug" "PullThePlug" "row" "[J") ∈ lw_all := lw_g (lw_at lw_m1 222 rfl) rfl
theorem q319 : (Jvm.Cond.soleField "PullThePlug" "row") ∈ lw_all := lw_g (lw_at lw_m1 223 rfl) rfl
theorem q320 : (Jvm.Cond.lays "PullThePlug" "PullThePlug" "rowMany" "I") ∈ lw_all := lw_g (lw_at lw_m1 224 rfl) rfl
theorem q321 : (Jvm.Cond.soleField "PullThePlug" "rowMany") ∈ lw_all := lw_g (lw_at lw_m1 225 rfl) rfl
theorem q322 : (Jvm.Cond.superclass "PullThePlug" "java/lang/Object") ∈ lw_all := lw_g (lw_at lw_m1 226 rfl) rfl
theorem q326 : (Jvm.Cond.instanceMethod ({ cls := "PullThePlug", name := "sign", desc := "(I)I" } : Jvm.MethodName)) ∈ lw_all := lw_g (lw_at lw_m1 230 rfl) rfl
theorem q327 : (Jvm.Cond.selects "PullThePlug" ({ cls := "PullThePlug", name := "sign", desc := "(I)I" } : Jvm.MethodName) ({ cls := "PullThePlug", name := "sign", desc := "(I)I" } : Jvm.MethodName)) ∈ lw_all := lw_g (lw_at lw_m1 231 rfl) rfl
theorem q328 : (Jvm.Cond.code ({ cls := "PullThePlug", name := "sign", desc := "(I)I" } : Jvm.MethodName) prog_1_method_12_code (3 : Nat) (Option.some Jvm.ClassFile.FieldType.int)) ∈ lw_all := lw_g (lw_at lw_m1 232 rfl) rfl
theorem q330 : (Jvm.Cond.instanceMethod ({ cls := "PullThePlug", name := "end", desc := "(I)Z" } : Jvm.MethodName)) ∈ lw_all := lw_g (lw_at lw_m1 234 rfl) rfl
theorem q331 : (Jvm.Cond.selects "PullThePlug" ({ cls := "PullThePlug", name := "end", desc := "(I)Z" } : Jvm.MethodName) ({ cls := "PullThePlug", name := "end", desc := "(I)Z" } : Jvm.MethodName)) ∈ lw_all := lw_g (lw_at lw_m1 235 rfl) rfl
theorem q332 : (Jvm.Cond.code ({ cls := "PullThePlug", name := "end", desc := "(I)Z" } : Jvm.MethodName) prog_1_method_13_code (2 : Nat) (Option.some Jvm.ClassFile.FieldType.boolean)) ∈ lw_all := lw_g (lw_at lw_m1 236 rfl) rfl
theorem q333 : (Jvm.Cond.methodLink "PullThePlug" (121 : Nat) ({ cls := "PullThePlug", name := "in", desc := "(JJJ)Z" } : Jvm.MethodName)) ∈ lw_all := lw_g (lw_at lw_m1 237 rfl) rfl
theorem q334 : (Jvm.Cond.static ({ cls := "PullThePlug", name := "in", desc := "(JJJ)Z" } : Jvm.MethodName)) ∈ lw_all := lw_g (lw_at lw_m1 238 rfl) rfl
theorem q335 : (Jvm.Cond.code ({ cls := "PullThePlug", name := "in", desc := "(JJJ)Z" } : Jvm.MethodName) prog_1_method_2_code (6 : Nat) (Option.some Jvm.ClassFile.FieldType.boolean)) ∈ lw_all := lw_g (lw_at lw_m1 239 rfl) rfl
theorem q337 : (Jvm.Cond.instanceMethod ({ cls := "PullThePlug", name := "lakes", desc := "()I" } : Jvm.MethodName)) ∈ lw_all := lw_g (lw_at lw_m2 1 rfl) rfl
theorem q338 : (Jvm.Cond.selects "PullThePlug" ({ cls := "PullThePlug", name := "lakes", desc := "()I" } : Jvm.MethodName) ({ cls := "PullThePlug", name := "lakes", desc := "()I" } : Jvm.MethodName)) ∈ lw_all := lw_g (lw_at lw_m2 2 rfl) rfl
theorem q339 : (Jvm.Cond.code ({ cls := "PullThePlug", name := "lakes", desc := "()I" } : Jvm.MethodName) prog_1_method_25_code (6 : Nat) (Option.some Jvm.ClassFile.FieldType.int)) ∈ lw_all := lw_g (lw_at lw_m2 3 rfl) rfl
theorem q340 : (Jvm.Cond.methodLink "PullThePlug" (212 : Nat) ({ cls := "PullThePlug", name := "begins", desc := "(I)I" } : Jvm.MethodName)) ∈ lw_all := lw_g (lw_at lw_m2 4 rfl) rfl
theorem q341 : (Jvm.Cond.privateMethod ({ cls := "PullThePlug", name := "begins", desc := "(I)I" } : Jvm.MethodName)) ∈ lw_tbl := lw_at lw_m2 5 rfl
theorem q342 : (Jvm.Cond.instanceMethod ({ cls := "PullThePlug", name := "begins", desc := "(I)I" } : Jvm.MethodName)) ∈ lw_all := lw_g (lw_at lw_m2 6 rfl) rfl
theorem q343 : (Jvm.Cond.code ({ cls := "PullThePlug", name := "begins", desc := "(I)I" } : Jvm.MethodName) prog_1_method_14_code (3 : Nat) (Option.some Jvm.ClassFile.FieldType.int)) ∈ lw_all := lw_g (lw_at lw_m2 7 rfl) rfl
theorem q344 : (Jvm.Cond.methodLink "PullThePlug" (152 : Nat) ({ cls := "java/lang/Math", name := "min", desc := "(II)I" } : Jvm.MethodName)) ∈ lw_all := lw_g (lw_at lw_m2 8 rfl) rfl
theorem q347 : (Jvm.Cond.methodLink "PullThePlug" (215 : Nat) ({ cls := "PullThePlug", name := "readsLake", desc := "()Z" } : Jvm.MethodName)) ∈ lw_all := lw_g (lw_at lw_m2 11 rfl) rfl
theorem q348 : (Jvm.Cond.privateMethod ({ cls := "PullThePlug", name := "readsLake", desc := "()Z" } : Jvm.MethodName)) ∈ lw_tbl := lw_at lw_m2 12 rfl
theorem q349 : (Jvm.Cond.instanceMethod ({ cls := "PullThePlug", name := "readsLake", desc := "()Z" } : Jvm.MethodName)) ∈ lw_all := lw_g (lw_at lw_m2 13 rfl) rfl
theorem q350 : (Jvm.Cond.code ({ cls := "PullThePlug", name := "readsLake", desc := "()Z" } : Jvm.MethodName) prog_1_method_23_code (3 : Nat) (Option.some Jvm.ClassFile.FieldType.boolean)) ∈ lw_all := lw_g (lw_at lw_m2 14 rfl) rfl
theorem q351 : (Jvm.Cond.methodLink "PullThePlug" (189 : Nat) ({ cls := "PullThePlug", name := "readsBrim", desc := "()I" } : Jvm.MethodName)) ∈ lw_all := lw_g (lw_at lw_m2 15 rfl) rfl
theorem q352 : (Jvm.Cond.privateMethod ({ cls := "PullThePlug", name := "readsBrim", desc := "()I" } : Jvm.MethodName)) ∈ lw_tbl := lw_at lw_m2 16 rfl
theorem q353 : (Jvm.Cond.instanceMethod ({ cls := "PullThePlug", name := "readsBrim", desc := "()I" } : Jvm.MethodName)) ∈ lw_all := lw_g (lw_at lw_m2 17 rfl) rfl
theorem q354 : (Jvm.Cond.code ({ cls := "PullThePlug", name := "readsBrim", desc := "()I" } : Jvm.MethodName) prog_1_method_22_code (3 : Nat) (Option.some Jvm.ClassFile.FieldType.int)) ∈ lw_all := lw_g (lw_at lw_m2 18 rfl) rfl
theorem q355 : (Jvm.Cond.methodLink "PullThePlug" (183 : Nat) ({ cls := "PullThePlug", name := "number", desc := "(I)I" } : Jvm.MethodName)) ∈ lw_all := lw_g (lw_at lw_m2 19 rfl) rfl
theorem q356 : (Jvm.Cond.privateMethod ({ cls := "PullThePlug", name := "number", desc := "(I)I" } : Jvm.MethodName)) ∈ lw_tbl := lw_at lw_m2 20 rfl
theorem q357 : (Jvm.Cond.instanceMethod ({ cls := "PullThePlug", name := "number", desc := "(I)I" } : Jvm.MethodName)) ∈ lw_all := lw_g (lw_at lw_m2 21 rfl) rfl
theorem q358 : (Jvm.Cond.code ({ cls := "PullThePlug", name := "number", desc := "(I)I" } : Jvm.MethodName) prog_1_method_20_code (4 : Nat) (Option.some Jvm.ClassFile.FieldType.int)) ∈ lw_all := lw_g (lw_at lw_m2 22 rfl) rfl
theorem q359 : (Jvm.Cond.methodLink "PullThePlug" (179 : Nat) ({ cls := "PullThePlug", name := "isDigit", desc := "()Z" } : Jvm.MethodName)) ∈ lw_all := lw_g (lw_at lw_m2 23 rfl) rfl
theorem q360 : (Jvm.Cond.privateMethod ({ cls := "PullThePlug", name := "isDigit", desc := "()Z" } : Jvm.MethodName)) ∈ lw_tbl := lw_at lw_m2 24 rfl
theorem q361 : (Jvm.Cond.instanceMethod ({ cls := "PullThePlug", name := "isDigit", desc := "()Z" } : Jvm.MethodName)) ∈ lw_all := lw_g (lw_at lw_m2 25 rfl) rfl
theorem q362 : (Jvm.Cond.code ({ cls := "PullThePlug", name := "isDigit", desc := "()Z" } : Jvm.MethodName) prog_1_method_19_code (1 : Nat) (Option.some Jvm.ClassFile.FieldType.boolean)) ∈ lw_all := lw_g (lw_at lw_m2 26 rfl) rfl
theorem q363 : (Jvm.Cond.constantLong "PullThePlug" (175 : Nat) (48 : Int64)) ∈ lw_all := lw_g (lw_at lw_m2 27 rfl) rfl
theorem q364 : (Jvm.Cond.constantLong "PullThePlug" (177 : Nat) (57 : Int64)) ∈ lw_all := lw_g (lw_at lw_m2 28 rfl) rfl
theorem q365 : (Jvm.Cond.stringRef "PullThePlug" (192 : Nat) "abcd") ∈ lw_tbl := lw_at lw_m2 29 rfl
theorem q366 : (Jvm.Cond.methodLink "PullThePlug" (194 : Nat) ({ cls := "PullThePlug", name := "takesOf", desc := "(Ljava/lang/String;)I" } : Jvm.MethodName)) ∈ lw_all := lw_g (lw_at lw_m2 30 rfl) rfl
theorem q367 : (Jvm.Cond.privateMethod ({ cls := "PullThePlug", name := "takesOf", desc := "(Ljava/lang/String;)I" } : Jvm.MethodName)) ∈ lw_tbl := lw_at lw_m2 31 rfl
theorem q368 : (Jvm.Cond.instanceMethod ({ cls := "PullThePlug", name := "takesOf", desc := "(Ljava/lang/String;)I" } : Jvm.MethodName)) ∈ lw_all := lw_g (lw_at lw_m2 32 rfl) rfl
theorem q369 : (Jvm.Cond.code ({ cls := "PullThePlug", name := "takesOf", desc := "(Ljava/lang/String;)I" } : Jvm.MethodName) prog_1_method_18_code (3 : Nat) (Option.some Jvm.ClassFile.FieldType.int)) ∈ lw_all := lw_g (lw_at lw_m2 33 rfl) rfl
theorem q370 : (Jvm.Cond.methodLink "PullThePlug" (171 : Nat) ({ cls := "PullThePlug", name := "among", desc := "(Ljava/lang/String;)I" } : Jvm.MethodName)) ∈ lw_all := lw_g (lw_at lw_m2 34 rfl) rfl
theorem q371 : (Jvm.Cond.privateMethod ({ cls := "PullThePlug", name := "among", desc := "(Ljava/lang/String;)I" } : Jvm.MethodName)) ∈ lw_tbl := lw_at lw_m2 35 rfl
theorem q372 : (Jvm.Cond.instanceMethod ({ cls := "PullThePlug", name := "among", desc := "(Ljava/lang/String;)I" } : Jvm.MethodName)) ∈ lw_all := lw_g (lw_at lw_m2 36 rfl) rfl
theorem q373 : (Jvm.Cond.code ({ cls := "PullThePlug", name := "among", desc := "(Ljava/lang/String;)I" } : Jvm.MethodName) prog_1_method_17_code (2 : Nat) (Option.some Jvm.ClassFile.FieldType.int)) ∈ lw_all := lw_g (lw_at lw_m2 37 rfl) rfl
theorem q374 : (Jvm.Cond.methodLink "PullThePlug" (165 : Nat) ({ cls := "java/lang/String", name := "indexOf", desc := "(I)I" } : Jvm.MethodName)) ∈ lw_all := lw_g (lw_at lw_m2 38 rfl) rfl
theorem q458 : (Jvm.Cond.methodLink "PullThePlug" (197 : Nat) ({ cls := "PullThePlug", name := "takes", desc := "(C)Z" } : Jvm.MethodName)) ∈ lw_all := lw_g (lw_at lw_m2 122 rfl) rfl
theorem q459 : (Jvm.Cond.privateMethod ({ cls := "PullThePlug", name := "takes", desc := "(C)Z" } : Jvm.MethodName)) ∈ lw_tbl := lw_at lw_m2 123 rfl
theorem q460 : (Jvm.Cond.instanceMethod ({ cls := "PullThePlug", name := "takes", desc := "(C)Z" } : Jvm.MethodName)) ∈ lw_all := lw_g (lw_at lw_m2 124 rfl) rfl
theorem q461 : (Jvm.Cond.code ({ cls := "PullThePlug", name := "takes", desc := "(C)Z" } : Jvm.MethodName) prog_1_method_16_code (3 : Nat) (Option.some Jvm.ClassFile.FieldType.boolean)) ∈ lw_all := lw_g (lw_at lw_m2 125 rfl) rfl
theorem q462 : (Jvm.Cond.methodLink "PullThePlug" (161 : Nat) ({ cls := "PullThePlug", name := "isAt", desc := "(C)Z" } : Jvm.MethodName)) ∈ lw_all := lw_g (lw_at lw_m2 126 rfl) rfl
theorem q463 : (Jvm.Cond.privateMethod ({ cls := "PullThePlug", name := "isAt", desc := "(C)Z" } : Jvm.MethodName)) ∈ lw_tbl := lw_at lw_m2 127 rfl
theorem q464 : (Jvm.Cond.instanceMethod ({ cls := "PullThePlug", name := "isAt", desc := "(C)Z" } : Jvm.MethodName)) ∈ lw_all := lw_g (lw_at lw_m2 128 rfl) rfl
theorem q465 : (Jvm.Cond.code ({ cls := "PullThePlug", name := "isAt", desc := "(C)Z" } : Jvm.MethodName) prog_1_method_15_code (2 : Nat) (Option.some Jvm.ClassFile.FieldType.boolean)) ∈ lw_all := lw_g (lw_at lw_m2 129 rfl) rfl
theorem q466 : (Jvm.Cond.stringRef "PullThePlug" (200 : Nat) "0123456789") ∈ lw_tbl := lw_at lw_m2 130 rfl
theorem q467 : (Jvm.Cond.methodLink "PullThePlug" (202 : Nat) ({ cls := "java/lang/String", name := "substring", desc := "(II)Ljava/lang/String;" } : Jvm.MethodName)) ∈ lw_all := lw_g (lw_at lw_m2 131 rfl) rfl
theorem q544 : (Jvm.Cond.methodLink "PullThePlug" (218 : Nat) ({ cls := "PullThePlug", name := "faultOf", desc := "(IZ)I" } : Jvm.MethodName)) ∈ lw_all := lw_g (lw_at lw_m2 208 rfl) rfl
theorem q545 : (Jvm.Cond.privateMethod ({ cls := "PullThePlug", name := "faultOf", desc := "(IZ)I" } : Jvm.MethodName)) ∈ lw_tbl := lw_at lw_m2 209 rfl
theorem q546 : (Jvm.Cond.instanceMethod ({ cls := "PullThePlug", name := "faultOf", desc := "(IZ)I" } : Jvm.MethodName)) ∈ lw_all := lw_g (lw_at lw_m2 210 rfl) rfl
theorem q547 : (Jvm.Cond.code ({ cls := "PullThePlug", name := "faultOf", desc := "(IZ)I" } : Jvm.MethodName) prog_1_method_21_code (4 : Nat) (Option.some Jvm.ClassFile.FieldType.int)) ∈ lw_all := lw_g (lw_at lw_m2 211 rfl) rfl
theorem q548 : (Jvm.Cond.methodLink "PullThePlug" (222 : Nat) ({ cls := "PullThePlug", name := "comes", desc := "(I)V" } : Jvm.MethodName)) ∈ lw_all := lw_g (lw_at lw_m2 212 rfl) rfl
theorem q549 : (Jvm.Cond.privateMethod ({ cls := "PullThePlug", name := "comes", desc := "(I)V" } : Jvm.MethodName)) ∈ lw_tbl := lw_at lw_m2 213 rfl
theorem q550 : (Jvm.Cond.instanceMethod ({ cls := "PullThePlug", name := "comes", desc := "(I)V" } : Jvm.MethodName)) ∈ lw_all := lw_g (lw_at lw_m2 214 rfl) rfl
theorem q551 : (Jvm.Cond.code ({ cls := "PullThePlug", name := "comes", desc := "(I)V" } : Jvm.MethodName) prog_1_method_24_code (3 : Nat) (Option.none : Option Jvm.ClassFile.FieldType)) ∈ lw_all := lw_g (lw_at lw_m2 215 rfl) rfl
theorem q553 : (Jvm.Cond.instanceMethod ({ cls := "PullThePlug", name := "rule", desc := "()I" } : Jvm.MethodName)) ∈ lw_all := lw_g (lw_at lw_m2 217 rfl) rfl
theorem q554 : (Jvm.Cond.selects "PullThePlug" ({ cls := "PullThePlug", name := "rule", desc := "()I" } : Jvm.MethodName) ({ cls := "PullThePlug", name := "rule", desc := "()I" } : Jvm.MethodName)) ∈ lw_all := lw_g (lw_at lw_m2 218 rfl) rfl
theorem q555 : (Jvm.Cond.code ({ cls := "PullThePlug", name := "rule", desc := "()I" } : Jvm.MethodName) prog_1_method_30_code (2 : Nat) (Option.some Jvm.ClassFile.FieldType.int)) ∈ lw_all := lw_g (lw_at lw_m2 219 rfl) rfl
theorem q556 : (Jvm.Cond.methodLink "PullThePlug" (274 : Nat) ({ cls := "PullThePlug", name := "readsRule", desc := "()I" } : Jvm.MethodName)) ∈ lw_all := lw_g (lw_at lw_m2 220 rfl) rfl
theorem q557 : (Jvm.Cond.privateMethod ({ cls := "PullThePlug", name := "readsRule", desc := "()I" } : Jvm.MethodName)) ∈ lw_tbl := lw_at lw_m2 221 rfl
theorem q558 : (Jvm.Cond.instanceMethod ({ cls := "PullThePlug", name := "readsRule", desc := "()I" } : Jvm.MethodName)) ∈ lw_all := lw_g (lw_at lw_m2 222 rfl) rfl
theorem q559 : (Jvm.Cond.code ({ cls := "PullThePlug", name := "readsRule", desc := "()I" } : Jvm.MethodName) prog_1_method_29_code (2 : Nat) (Option.some Jvm.ClassFile.FieldType.int)) ∈ lw_all := lw_g (lw_at lw_m2 223 rfl) rfl
theorem q560 : (Jvm.Cond.methodLink "PullThePlug" (251 : Nat) ({ cls := "PullThePlug", name := "parses", desc := "(I)LPullThePlug$Node;" } : Jvm.MethodName)) ∈ lw_all := lw_g (lw_at lw_m2 224 rfl) rfl
theorem q561 : (Jvm.Cond.privateMethod ({ cls := "PullThePlug", name := "parses", desc := "(I)LPullThePlug$Node;" } : Jvm.MethodName)) ∈ lw_tbl := lw_at lw_m2 225 rfl
theorem q562 : (Jvm.Cond.instanceMethod ({ cls := "PullThePlug", name := "parses", desc := "(I)LPullThePlug$Node;" } : Jvm.MethodName)) ∈ lw_all := lw_g (lw_at lw_m2 226 rfl) rfl
theorem q563 : (Jvm.Cond.code ({ cls := "PullThePlug", name := "parses", desc := "(I)LPullThePlug$Node;" } : Jvm.MethodName) prog_1_method_28_code (6 : Nat) (Option.some (Jvm.ClassFile.FieldType.object "PullThePlug$Node"))) ∈ lw_all := lw_g (lw_at lw_m2 227 rfl) rfl
theorem q564 : (Jvm.Cond.methodLink "PullThePlug" (232 : Nat) ({ cls := "PullThePlug", name := "readsThing", desc := "()LPullThePlug$Node;" } : Jvm.MethodName)) ∈ lw_all := lw_g (lw_at lw_m2 228 rfl) rfl
theorem q565 : (Jvm.Cond.privateMethod ({ cls := "PullThePlug", name := "readsThing", desc := "()LPullThePlug$Node;" } : Jvm.MethodName)) ∈ lw_tbl := lw_at lw_m2 229 rfl
theorem q566 : (Jvm.Cond.instanceMethod ({ cls := "PullThePlug", name := "readsThing", desc := "()LPullThePlug$Node;" } : Jvm.MethodName)) ∈ lw_all := lw_g (lw_at lw_m2 230 rfl) rfl
theorem q567 : (Jvm.Cond.code ({ cls := "PullThePlug", name := "readsThing", desc := "()LPullThePlug$Node;" } : Jvm.MethodName) prog_1_method_26_code (2 : Nat) (Option.some (Jvm.ClassFile.FieldType.object "PullThePlug$Node"))) ∈ lw_all := lw_g (lw_at lw_m2 231 rfl) rfl
theorem q568 : (Jvm.Cond.classLink "PullThePlug" (236 : Nat) "PullThePlug$Less") ∈ lw_all := lw_g (lw_at lw_m2 232 rfl) rfl
theorem q570 : (Jvm.Cond.methodLink "PullThePlug" (238 : Nat) ({ cls := "PullThePlug$Less", name := "<init>", desc := "(LPullThePlug;LPullThePlug$Node;)V" } : Jvm.MethodName)) ∈ lw_all := lw_g (lw_at lw_m2 234 rfl) rfl
theorem q587 : (Jvm.Cond.classLink "PullThePlug" (241 : Nat) "PullThePlug$Number") ∈ lw_all := lw_g (lw_at lw_m3 11 rfl) rfl
theorem q589 : (Jvm.Cond.methodLink "PullThePlug" (243 : Nat) ({ cls := "PullThePlug$Number", name := "<init>", desc := "(LPullThePlug;I)V" } : Jvm.MethodName)) ∈ lw_all := lw_g (lw_at lw_m3 13 rfl) rfl
theorem q601 : (Jvm.Cond.stringRef "PullThePlug" (246 : Nat) "lbhtkn") ∈ lw_tbl := lw_at lw_m3 25 rfl
theorem q602 : (Jvm.Cond.classLink "PullThePlug" (248 : Nat) "PullThePlug$Sign") ∈ lw_all := lw_g (lw_at lw_m3 26 rfl) rfl
theorem q604 : (Jvm.Cond.methodLink "PullThePlug" (250 : Nat) ({ cls := "PullThePlug$Sign", name := "<init>", desc := "(LPullThePlug;I)V" } : Jvm.MethodName)) ∈ lw_all := lw_g (lw_at lw_m3 28 rfl) rfl
theorem q616 : (Jvm.Cond.methodLink "PullThePlug" (261 : Nat) ({ cls := "PullThePlug", name := "acts", desc := "(I)Ljava/lang/String;" } : Jvm.MethodName)) ∈ lw_all := lw_g (lw_at lw_m3 40 rfl) rfl
theorem q617 : (Jvm.Cond.static ({ cls := "PullThePlug", name := "acts", desc := "(I)Ljava/lang/String;" } : Jvm.MethodName)) ∈ lw_all := lw_g (lw_at lw_m3 41 rfl) rfl
theorem q618 : (Jvm.Cond.code ({ cls := "PullThePlug", name := "acts", desc := "(I)Ljava/lang/String;" } : Jvm.MethodName) prog_1_method_27_code (1 : Nat) (Option.some (Jvm.ClassFile.FieldType.object "java/lang/String"))) ∈ lw_all := lw_g (lw_at lw_m3 42 rfl) rfl
theorem q619 : (Jvm.Cond.stringRef "PullThePlug" (255 : Nat) "<>=") ∈ lw_tbl := lw_at lw_m3 43 rfl
theorem q620 : (Jvm.Cond.stringRef "PullThePlug" (257 : Nat) "+-") ∈ lw_tbl := lw_at lw_m3 44 rfl
theorem q621 : (Jvm.Cond.stringRef "PullThePlug" (259 : Nat) "*/") ∈ lw_tbl := lw_at lw_m3 45 rfl
theorem q622 : (Jvm.Cond.classLink "PullThePlug" (265 : Nat) "PullThePlug$Act") ∈ lw_all := lw_g (lw_at lw_m3 46 rfl) rfl
theorem q624 : (Jvm.Cond.methodLink "PullThePlug" (267 : Nat) ({ cls := "PullThePlug$Act", name := "<init>", desc := "(LPullThePlug;CLPullThePlug$Node;LPullThePlug$Node;)V" } : Jvm.MethodName)) ∈ lw_all := lw_g (lw_at lw_m3 48 rfl) rfl
theorem q643 : (Jvm.Cond.instanceMethod ({ cls := "PullThePlug", name := "sheet", desc := "(IIII)I" } : Jvm.MethodName)) ∈ lw_all := lw_g (lw_at lw_m3 67 rfl) rfl
theorem q644 : (Jvm.Cond.selects "PullThePlug" ({ cls := "PullThePlug", name := "sheet", desc := "(IIII)I" } : Jvm.MethodName) ({ cls := "PullThePlug", name := "sheet", desc := "(IIII)I" } : Jvm.MethodName)) ∈ lw_all := lw_g (lw_at lw_m3 68 rfl) rfl
theorem q645 : (Jvm.Cond.code ({ cls := "PullThePlug", name := "sheet", desc := "(IIII)I" } : Jvm.MethodName) prog_1_method_33_code (8 : Nat) (Option.some Jvm.ClassFile.FieldType.int)) ∈ lw_all := lw_g (lw_at lw_m3 69 rfl) rfl
theorem q646 : (Jvm.Cond.constantLong "PullThePlug" (308 : Nat) (3 : Int64)) ∈ lw_all := lw_g (lw_at lw_m3 70 rfl) rfl
theorem q647 : (Jvm.Cond.methodLink "PullThePlug" (294 : Nat) ({ cls := "java/lang/Math", name := "max", desc := "(II)I" } : Jvm.MethodName)) ∈ lw_all := lw_g (lw_at lw_m3 71 rfl) rfl
theorem q648 : (Jvm.Cond.methodLink "PullThePlug" (310 : Nat) ({ cls := "PullThePlug", name := "water", desc := "(LPullThePlug$Water;)I" } : Jvm.MethodName)) ∈ lw_all := lw_g (lw_at lw_m3 72 rfl) rfl
theorem q649 : (Jvm.Cond.privateMethod ({ cls := "PullThePlug", name := "water", desc := "(LPullThePlug$Water;)I" } : Jvm.MethodName)) ∈ lw_tbl := lw_at lw_m3 73 rfl
theorem q650 : (Jvm.Cond.instanceMethod ({ cls := "PullThePlug", name := "water", desc := "(LPullThePlug$Water;)I" } : Jvm.MethodName)) ∈ lw_all := lw_g (lw_at lw_m3 74 rfl) rfl
theorem q651 : (Jvm.Cond.code ({ cls := "PullThePlug", name := "water", desc := "(LPullThePlug$Water;)I" } : Jvm.MethodName) prog_1_method_9_code (2 : Nat) (Option.some Jvm.ClassFile.FieldType.int)) ∈ lw_all := lw_g (lw_at lw_m3 75 rfl) rfl
theorem q652 : (Jvm.Cond.methodLink "PullThePlug" (125 : Nat) ({ cls := "PullThePlug", name := "all", desc := "()I" } : Jvm.MethodName)) ∈ lw_all := lw_g (lw_at lw_m3 76 rfl) rfl
theorem q653 : (Jvm.Cond.privateMethod ({ cls := "PullThePlug", name := "all", desc := "()I" } : Jvm.MethodName)) ∈ lw_tbl := lw_at lw_m3 77 rfl
theorem q654 : (Jvm.Cond.instanceMethod ({ cls := "PullThePlug", name := "all", desc := "()I" } : Jvm.MethodName)) ∈ lw_all := lw_g (lw_at lw_m3 78 rfl) rfl
theorem q655 : (Jvm.Cond.code ({ cls := "PullThePlug", name := "all", desc := "()I" } : Jvm.MethodName) prog_1_method_6_code (1 : Nat) (Option.some Jvm.ClassFile.FieldType.int)) ∈ lw_all := lw_g (lw_at lw_m3 79 rfl) rfl
theorem q656 : (Jvm.Cond.methodLink "PullThePlug" (136 : Nat) ({ cls := "PullThePlug", name := "sumOf", desc := "([II)I" } : Jvm.MethodName)) ∈ lw_all := lw_g (lw_at lw_m3 80 rfl) rfl
theorem q657 : (Jvm.Cond.privateMethod ({ cls := "PullThePlug", name := "sumOf", desc := "([II)I" } : Jvm.MethodName)) ∈ lw_tbl := lw_at lw_m3 81 rfl
theorem q658 : (Jvm.Cond.instanceMethod ({ cls := "PullThePlug", name := "sumOf", desc := "([II)I" } : Jvm.MethodName)) ∈ lw_all := lw_g (lw_at lw_m3 82 rfl) rfl
theorem q659 : (Jvm.Cond.code ({ cls := "PullThePlug", name := "sumOf", desc := "([II)I" } : Jvm.MethodName) prog_1_method_8_code (5 : Nat) (Option.some Jvm.ClassFile.FieldType.int)) ∈ lw_all := lw_g (lw_at lw_m3 83 rfl) rfl
theorem q660 : (Jvm.Cond.methodLink "PullThePlug" (129 : Nat) ({ cls := "PullThePlug", name := "has", desc := "(II)Z" } : Jvm.MethodName)) ∈ lw_all := lw_g (lw_at lw_m3 84 rfl) rfl
theorem q661 : (Jvm.Cond.static ({ cls := "PullThePlug", name := "has", desc := "(II)Z" } : Jvm.MethodName)) ∈ lw_all := lw_g (lw_at lw_m3 85 rfl) rfl
theorem q662 : (Jvm.Cond.code ({ cls := "PullThePlug", name := "has", desc := "(II)Z" } : Jvm.MethodName) prog_1_method_3_code (2 : Nat) (Option.some Jvm.ClassFile.FieldType.boolean)) ∈ lw_all := lw_g (lw_at lw_m3 86 rfl) rfl
theorem q664 : (Jvm.Cond.instanceMethod ({ cls := "PullThePlug", name := "undo", desc := "()I" } : Jvm.MethodName)) ∈ lw_all := lw_g (lw_at lw_m3 88 rfl) rfl
theorem q665 : (Jvm.Cond.selects "PullThePlug" ({ cls := "PullThePlug", name := "undo", desc := "()I" } : Jvm.MethodName) ({ cls := "PullThePlug", name := "undo", desc := "()I" } : Jvm.MethodName)) ∈ lw_all := lw_g (lw_at lw_m3 89 rfl) rfl
theorem q666 : (Jvm.Cond.code ({ cls := "PullThePlug", name := "undo", desc := "()I" } : Jvm.MethodName) prog_1_method_35_code (1 : Nat) (Option.some Jvm.ClassFile.FieldType.int)) ∈ lw_all := lw_g (lw_at lw_m3 90 rfl) rfl
theorem q667 : (Jvm.Cond.methodLink "PullThePlug" (314 : Nat) ({ cls := "PullThePlug$Water", name := "becomes", desc := "(LPullThePlug$Water;)V" } : Jvm.MethodName)) ∈ lw_all := lw_g (lw_at lw_m3 91 rfl) rfl
theorem q673 : (Jvm.Cond.instanceMethod ({ cls := "PullThePlug", name := "days", desc := "(I)I" } : Jvm.MethodName)) ∈ lw_all := lw_g (lw_at lw_m3 97 rfl) rfl
theorem q674 : (Jvm.Cond.selects "PullThePlug" ({ cls := "PullThePlug", name := "days", desc := "(I)I" } : Jvm.MethodName) ({ cls := "PullThePlug", name := "days", desc := "(I)I" } : Jvm.MethodName)) ∈ lw_all := lw_g (lw_at lw_m3 98 rfl) rfl
theorem q675 : (Jvm.Cond.code ({ cls := "PullThePlug", name := "days", desc := "(I)I" } : Jvm.MethodName) prog_1_method_44_code (4 : Nat) (Option.some Jvm.ClassFile.FieldType.int)) ∈ lw_all := lw_g (lw_at lw_m3 99 rfl) rfl
theorem q676 : (Jvm.Cond.constantLong "PullThePlug" (344 : Nat) (60 : Int64)) ∈ lw_all := lw_g (lw_at lw_m3 100 rfl) rfl
theorem q677 : (Jvm.Cond.methodLink "PullThePlug" (318 : Nat) ({ cls := "PullThePlug", name := "putsBy", desc := "(LPullThePlug$Water;)V" } : Jvm.MethodName)) ∈ lw_all := lw_g (lw_at lw_m3 101 rfl) rfl
theorem q678 : (Jvm.Cond.privateMethod ({ cls := "PullThePlug", name := "putsBy", desc := "(LPullThePlug$Water;)V" } : Jvm.MethodName)) ∈ lw_tbl := lw_at lw_m3 102 rfl
theorem q679 : (Jvm.Cond.instanceMethod ({ cls := "PullThePlug", name := "putsBy", desc := "(LPullThePlug$Water;)V" } : Jvm.MethodName)) ∈ lw_all := lw_g (lw_at lw_m3 103 rfl) rfl
theorem q680 : (Jvm.Cond.code ({ cls := "PullThePlug", name := "putsBy", desc := "(LPullThePlug$Water;)V" } : Jvm.MethodName) prog_1_method_34_code (4 : Nat) (Option.none : Option Jvm.ClassFile.FieldType)) ∈ lw_all := lw_g (lw_at lw_m3 104 rfl) rfl
theorem q681 : (Jvm.Cond.methodLink "PullThePlug" (346 : Nat) ({ cls := "PullThePlug", name := "daysGo", desc := "(LPullThePlug$Water;I)V" } : Jvm.MethodName)) ∈ lw_all := lw_g (lw_at lw_m3 105 rfl) rfl
theorem q682 : (Jvm.Cond.privateMethod ({ cls := "PullThePlug", name := "daysGo", desc := "(LPullThePlug$Water;I)V" } : Jvm.MethodName)) ∈ lw_tbl := lw_at lw_m3 106 rfl
theorem q683 : (Jvm.Cond.instanceMethod ({ cls := "PullThePlug", name := "daysGo", desc := "(LPullThePlug$Water;I)V" } : Jvm.MethodName)) ∈ lw_all := lw_g (lw_at lw_m3 107 rfl) rfl
theorem q684 : (Jvm.Cond.code ({ cls := "PullThePlug", name := "daysGo", desc := "(LPullThePlug$Water;I)V" } : Jvm.MethodName) prog_1_method_39_code (4 : Nat) (Option.none : Option Jvm.ClassFile.FieldType)) ∈ lw_all := lw_g (lw_at lw_m3 108 rfl) rfl
theorem q685 : (Jvm.Cond.methodLink "PullThePlug" (334 : Nat) ({ cls := "PullThePlug", name := "dayGoes", desc := "(LPullThePlug$Water;)V" } : Jvm.MethodName)) ∈ lw_all := lw_g (lw_at lw_m3 109 rfl) rfl
theorem q686 : (Jvm.Cond.privateMethod ({ cls := "PullThePlug", name := "dayGoes", desc := "(LPullThePlug$Water;)V" } : Jvm.MethodName)) ∈ lw_tbl := lw_at lw_m3 110 rfl
theorem q687 : (Jvm.Cond.instanceMethod ({ cls := "PullThePlug", name := "dayGoes", desc := "(LPullThePlug$Water;)V" } : Jvm.MethodName)) ∈ lw_all := lw_g (lw_at lw_m3 111 rfl) rfl
theorem q688 : (Jvm.Cond.code ({ cls := "PullThePlug", name := "dayGoes", desc := "(LPullThePlug$Water;)V" } : Jvm.MethodName) prog_1_method_38_code (2 : Nat) (Option.none : Option Jvm.ClassFile.FieldType)) ∈ lw_all := lw_g (lw_at lw_m3 112 rfl) rfl
theorem q689 : (Jvm.Cond.methodLink "PullThePlug" (330 : Nat) ({ cls := "PullThePlug", name := "leaksDay", desc := "(LPullThePlug$Water;II)V" } : Jvm.MethodName)) ∈ lw_all := lw_g (lw_at lw_m3 113 rfl) rfl
theorem q690 : (Jvm.Cond.privateMethod ({ cls := "PullThePlug", name := "leaksDay", desc := "(LPullThePlug$Water;II)V" } : Jvm.MethodName)) ∈ lw_tbl := lw_at lw_m3 114 rfl
theorem q691 : (Jvm.Cond.instanceMethod ({ cls := "PullThePlug", name := "leaksDay", desc := "(LPullThePlug$Water;II)V" } : Jvm.MethodName)) ∈ lw_all := lw_g (lw_at lw_m3 115 rfl) rfl
theorem q692 : (Jvm.Cond.code ({ cls := "PullThePlug", name := "leaksDay", desc := "(LPullThePlug$Water;II)V" } : Jvm.MethodName) prog_1_method_37_code (6 : Nat) (Option.none : Option Jvm.ClassFile.FieldType)) ∈ lw_all := lw_g (lw_at lw_m3 116 rfl) rfl
theorem q693 : (Jvm.Cond.methodLink "PullThePlug" (304 : Nat) ({ cls := "PullThePlug", name := "run", desc := "(LPullThePlug$Water;I)I" } : Jvm.MethodName)) ∈ lw_all := lw_g (lw_at lw_m3 117 rfl) rfl
theorem q694 : (Jvm.Cond.privateMethod ({ cls := "PullThePlug", name := "run", desc := "(LPullThePlug$Water;I)I" } : Jvm.MethodName)) ∈ lw_tbl := lw_at lw_m3 118 rfl
theorem q695 : (Jvm.Cond.instanceMethod ({ cls := "PullThePlug", name := "run", desc := "(LPullThePlug$Water;I)I" } : Jvm.MethodName)) ∈ lw_all := lw_g (lw_at lw_m3 119 rfl) rfl
theorem q696 : (Jvm.Cond.code ({ cls := "PullThePlug", name := "run", desc := "(LPullThePlug$Water;I)I" } : Jvm.MethodName) prog_1_method_31_code (4 : Nat) (Option.some Jvm.ClassFile.FieldType.int)) ∈ lw_all := lw_g (lw_at lw_m3 120 rfl) rfl
theorem q697 : (Jvm.Cond.methodLink "PullThePlug" (289 : Nat) ({ cls := "PullThePlug$Node", name := "value", desc := "()I" } : Jvm.MethodName)) ∈ lw_all := lw_g (lw_at lw_m3 121 rfl) rfl
theorem q720 : (Jvm.Cond.methodLink "PullThePlug" (353 : Nat) ({ cls := "PullThePlug", name := "tells", desc := "(J)V" } : Jvm.MethodName)) ∈ lw_all := lw_g (lw_at lw_m3 144 rfl) rfl
theorem q721 : (Jvm.Cond.privateMethod ({ cls := "PullThePlug", name := "tells", desc := "(J)V" } : Jvm.MethodName)) ∈ lw_tbl := lw_at lw_m3 145 rfl
theorem q722 : (Jvm.Cond.instanceMethod ({ cls := "PullThePlug", name := "tells", desc := "(J)V" } : Jvm.MethodName)) ∈ lw_all := lw_g (lw_at lw_m3 146 rfl) rfl
theorem q723 : (Jvm.Cond.code ({ cls := "PullThePlug", name := "tells", desc := "(J)V" } : Jvm.MethodName) prog_1_method_104_code (3 : Nat) (Option.none : Option Jvm.ClassFile.FieldType)) ∈ lw_all := lw_g (lw_at lw_m3 147 rfl) rfl
theorem q725 : (Jvm.Cond.instanceMethod ({ cls := "PullThePlug", name := "pulls", desc := "(I)I" } : Jvm.MethodName)) ∈ lw_all := lw_g (lw_at lw_m3 149 rfl) rfl
theorem q726 : (Jvm.Cond.selects "PullThePlug" ({ cls := "PullThePlug", name := "pulls", desc := "(I)I" } : Jvm.MethodName) ({ cls := "PullThePlug", name := "pulls", desc := "(I)I" } : Jvm.MethodName)) ∈ lw_all := lw_g (lw_at lw_m3 150 rfl) rfl
theorem q727 : (Jvm.Cond.code ({ cls := "PullThePlug", name := "pulls", desc := "(I)I" } : Jvm.MethodName) prog_1_method_45_code (2 : Nat) (Option.some Jvm.ClassFile.FieldType.int)) ∈ lw_all := lw_g (lw_at lw_m3 151 rfl) rfl
theorem q728 : (Jvm.Cond.methodLink "PullThePlug" (357 : Nat) ({ cls := "PullThePlug", name := "touches", desc := "(LPullThePlug$Water;IZ)I" } : Jvm.MethodName)) ∈ lw_all := lw_g (lw_at lw_m3 152 rfl) rfl
theorem q729 : (Jvm.Cond.privateMethod ({ cls := "PullThePlug", name := "touches", desc := "(LPullThePlug$Water;IZ)I" } : Jvm.MethodName)) ∈ lw_tbl := lw_at lw_m3 153 rfl
theorem q730 : (Jvm.Cond.instanceMethod ({ cls := "PullThePlug", name := "touches", desc := "(LPullThePlug$Water;IZ)I" } : Jvm.MethodName)) ∈ lw_all := lw_g (lw_at lw_m3 154 rfl) rfl
theorem q731 : (Jvm.Cond.code ({ cls := "PullThePlug", name := "touches", desc := "(LPullThePlug$Water;IZ)I" } : Jvm.MethodName) prog_1_method_40_code (4 : Nat) (Option.some Jvm.ClassFile.FieldType.int)) ∈ lw_all := lw_g (lw_at lw_m3 155 rfl) rfl
theorem q732 : (Jvm.Cond.methodLink "PullThePlug" (297 : Nat) ({ cls := "PullThePlug", name := "isLake", desc := "(I)Z" } : Jvm.MethodName)) ∈ lw_all := lw_g (lw_at lw_m3 156 rfl) rfl
theorem q733 : (Jvm.Cond.privateMethod ({ cls := "PullThePlug", name := "isLake", desc := "(I)Z" } : Jvm.MethodName)) ∈ lw_tbl := lw_at lw_m3 157 rfl
theorem q734 : (Jvm.Cond.instanceMethod ({ cls := "PullThePlug", name := "isLake", desc := "(I)Z" } : Jvm.MethodName)) ∈ lw_all := lw_g (lw_at lw_m3 158 rfl) rfl
theorem q735 : (Jvm.Cond.code ({ cls := "PullThePlug", name := "isLake", desc := "(I)Z" } : Jvm.MethodName) prog_1_method_5_code (2 : Nat) (Option.some Jvm.ClassFile.FieldType.boolean)) ∈ lw_all := lw_g (lw_at lw_m3 159 rfl) rfl
theorem q736 : (Jvm.Cond.methodLink "PullThePlug" (337 : Nat) ({ cls := "java/lang/Integer", name := "bitCount", desc := "(I)I" } : Jvm.MethodName)) ∈ lw_all := lw_g (lw_at lw_m3 160 rfl) rfl
theorem q737 : (Jvm.Cond.methodLink "PullThePlug" (361 : Nat) ({ cls := "PullThePlug", name := "counts", desc := "(I)I" } : Jvm.MethodName)) ∈ lw_all := lw_g (lw_at lw_m3 161 rfl) rfl
theorem q738 : (Jvm.Cond.privateMethod ({ cls := "PullThePlug", name := "counts", desc := "(I)I" } : Jvm.MethodName)) ∈ lw_tbl := lw_at lw_m3 162 rfl
theorem q739 : (Jvm.Cond.instanceMethod ({ cls := "PullThePlug", name := "counts", desc := "(I)I" } : Jvm.MethodName)) ∈ lw_all := lw_g (lw_at lw_m3 163 rfl) rfl
theorem q740 : (Jvm.Cond.code ({ cls := "PullThePlug", name := "counts", desc := "(I)I" } : Jvm.MethodName) prog_1_method_36_code (2 : Nat) (Option.some Jvm.ClassFile.FieldType.int)) ∈ lw_all := lw_g (lw_at lw_m3 164 rfl) rfl
theorem q742 : (Jvm.Cond.instanceMethod ({ cls := "PullThePlug", name := "stops", desc := "(I)I" } : Jvm.MethodName)) ∈ lw_all := lw_g (lw_at lw_m3 166 rfl) rfl
theorem q743 : (Jvm.Cond.selects "PullThePlug" ({ cls := "PullThePlug", name := "stops", desc := "(I)I" } : Jvm.MethodName) ({ cls := "PullThePlug", name := "stops", desc := "(I)I" } : Jvm.MethodName)) ∈ lw_all := lw_g (lw_at lw_m3 167 rfl) rfl
theorem q744 : (Jvm.Cond.code ({ cls := "PullThePlug", name := "stops", desc := "(I)I" } : Jvm.MethodName) prog_1_method_46_code (2 : Nat) (Option.some Jvm.ClassFile.FieldType.int)) ∈ lw_all := lw_g (lw_at lw_m3 168 rfl) rfl
theorem q746 : (Jvm.Cond.instanceMethod ({ cls := "PullThePlug", name := "combs", desc := "(I)I" } : Jvm.MethodName)) ∈ lw_all := lw_g (lw_at lw_m3 170 rfl) rfl
theorem q747 : (Jvm.Cond.selects "PullThePlug" ({ cls := "PullThePlug", name := "combs", desc := "(I)I" } : Jvm.MethodName) ({ cls := "PullThePlug", name := "combs", desc := "(I)I" } : Jvm.MethodName)) ∈ lw_all := lw_g (lw_at lw_m3 171 rfl) rfl
theorem q748 : (Jvm.Cond.code ({ cls := "PullThePlug", name := "combs", desc := "(I)I" } : Jvm.MethodName) prog_1_method_47_code (2 : Nat) (Option.some Jvm.ClassFile.FieldType.int)) ∈ lw_all := lw_g (lw_at lw_m3 172 rfl) rfl
theorem q749 : (Jvm.Cond.methodLink "PullThePlug" (364 : Nat) ({ cls := "PullThePlug", name := "combsOne", desc := "(LPullThePlug$Water;I)I" } : Jvm.MethodName)) ∈ lw_all := lw_g (lw_at lw_m3 173 rfl) rfl
theorem q750 : (Jvm.Cond.privateMethod ({ cls := "PullThePlug", name := "combsOne", desc := "(LPullThePlug$Water;I)I" } : Jvm.MethodName)) ∈ lw_tbl := lw_at lw_m3 174 rfl
theorem q751 : (Jvm.Cond.instanceMethod ({ cls := "PullThePlug", name := "combsOne", desc := "(LPullThePlug$Water;I)I" } : Jvm.MethodName)) ∈ lw_all := lw_g (lw_at lw_m3 175 rfl) rfl
theorem q752 : (Jvm.Cond.code ({ cls := "PullThePlug", name := "combsOne", desc := "(LPullThePlug$Water;I)I" } : Jvm.MethodName) prog_1_method_41_code (4 : Nat) (Option.some Jvm.ClassFile.FieldType.int)) ∈ lw_all := lw_g (lw_at lw_m3 176 rfl) rfl
theorem q754 : (Jvm.Cond.instanceMethod ({ cls := "PullThePlug", name := "taps", desc := "(II)I" } : Jvm.MethodName)) ∈ lw_all := lw_g (lw_at lw_m3 178 rfl) rfl
theorem q755 : (Jvm.Cond.selects "PullThePlug" ({ cls := "PullThePlug", name := "taps", desc := "(II)I" } : Jvm.MethodName) ({ cls := "PullThePlug", name := "taps", desc := "(II)I" } : Jvm.MethodName)) ∈ lw_all := lw_g (lw_at lw_m3 179 rfl) rfl
theorem q756 : (Jvm.Cond.code ({ cls := "PullThePlug", name := "taps", desc := "(II)I" } : Jvm.MethodName) prog_1_method_48_code (3 : Nat) (Option.some Jvm.ClassFile.FieldType.int)) ∈ lw_all := lw_g (lw_at lw_m3 180 rfl) rfl
theorem q757 : (Jvm.Cond.methodLink "PullThePlug" (367 : Nat) ({ cls := "PullThePlug", name := "tapsOne", desc := "(LPullThePlug$Water;II)I" } : Jvm.MethodName)) ∈ lw_all := lw_g (lw_at lw_m3 181 rfl) rfl
theorem q758 : (Jvm.Cond.privateMethod ({ cls := "PullThePlug", name := "tapsOne", desc := "(LPullThePlug$Water;II)I" } : Jvm.MethodName)) ∈ lw_tbl := lw_at lw_m3 182 rfl
theorem q759 : (Jvm.Cond.instanceMethod ({ cls := "PullThePlug", name := "tapsOne", desc := "(LPullThePlug$Water;II)I" } : Jvm.MethodName)) ∈ lw_all := lw_g (lw_at lw_m3 183 rfl) rfl
theorem q760 : (Jvm.Cond.code ({ cls := "PullThePlug", name := "tapsOne", desc := "(LPullThePlug$Water;II)I" } : Jvm.MethodName) prog_1_method_42_code (5 : Nat) (Option.some Jvm.ClassFile.FieldType.int)) ∈ lw_all := lw_g (lw_at lw_m3 184 rfl) rfl
theorem q761 : (Jvm.Cond.constantLong "PullThePlug" (342 : Nat) (9 : Int64)) ∈ lw_all := lw_g (lw_at lw_m3 185 rfl) rfl
theorem q763 : (Jvm.Cond.instanceMethod ({ cls := "PullThePlug", name := "gives", desc := "(II)I" } : Jvm.MethodName)) ∈ lw_all := lw_g (lw_at lw_m3 187 rfl) rfl
theorem q764 : (Jvm.Cond.selects "PullThePlug" ({ cls := "PullThePlug", name := "gives", desc := "(II)I" } : Jvm.MethodName) ({ cls := "PullThePlug", name := "gives", desc := "(II)I" } : Jvm.MethodName)) ∈ lw_all := lw_g (lw_at lw_m3 188 rfl) rfl
theorem q765 : (Jvm.Cond.code ({ cls := "PullThePlug", name := "gives", desc := "(II)I" } : Jvm.MethodName) prog_1_method_49_code (3 : Nat) (Option.some Jvm.ClassFile.FieldType.int)) ∈ lw_all := lw_g (lw_at lw_m3 189 rfl) rfl
theorem q766 : (Jvm.Cond.methodLink "PullThePlug" (371 : Nat) ({ cls := "PullThePlug", name := "givesOne", desc := "(LPullThePlug$Water;II)I" } : Jvm.MethodName)) ∈ lw_all := lw_g (lw_at lw_m3 190 rfl) rfl
theorem q767 : (Jvm.Cond.privateMethod ({ cls := "PullThePlug", name := "givesOne", desc := "(LPullThePlug$Water;II)I" } : Jvm.MethodName)) ∈ lw_tbl := lw_at lw_m3 191 rfl
theorem q768 : (Jvm.Cond.instanceMethod ({ cls := "PullThePlug", name := "givesOne", desc := "(LPullThePlug$Water;II)I" } : Jvm.MethodName)) ∈ lw_all := lw_g (lw_at lw_m3 192 rfl) rfl
theorem q769 : (Jvm.Cond.code ({ cls := "PullThePlug", name := "givesOne", desc := "(LPullThePlug$Water;II)I" } : Jvm.MethodName) prog_1_method_43_code (5 : Nat) (Option.some Jvm.ClassFile.FieldType.int)) ∈ lw_all := lw_g (lw_at lw_m3 193 rfl) rfl
theorem q771 : (Jvm.Cond.instanceMethod ({ cls := "PullThePlug", name := "year", desc := "()I" } : Jvm.MethodName)) ∈ lw_all := lw_g (lw_at lw_m3 195 rfl) rfl
theorem q772 : (Jvm.Cond.selects "PullThePlug" ({ cls := "PullThePlug", name := "year", desc := "()I" } : Jvm.MethodName) ({ cls := "PullThePlug", name := "year", desc := "()I" } : Jvm.MethodName)) ∈ lw_all := lw_g (lw_at lw_m3 196 rfl) rfl
theorem q773 : (Jvm.Cond.code ({ cls := "PullThePlug", name := "year", desc := "()I" } : Jvm.MethodName) prog_1_method_52_code (5 : Nat) (Option.some Jvm.ClassFile.FieldType.int)) ∈ lw_all := lw_g (lw_at lw_m3 197 rfl) rfl
theorem q774 : (Jvm.Cond.methodLink "PullThePlug" (379 : Nat) ({ cls := "PullThePlug", name := "readsAct", desc := "()Z" } : Jvm.MethodName)) ∈ lw_all := lw_g (lw_at lw_m3 198 rfl) rfl
theorem q775 : (Jvm.Cond.privateMethod ({ cls := "PullThePlug", name := "readsAct", desc := "()Z" } : Jvm.MethodName)) ∈ lw_tbl := lw_at lw_m3 199 rfl
theorem q776 : (Jvm.Cond.instanceMethod ({ cls := "PullThePlug", name := "readsAct", desc := "()Z" } : Jvm.MethodName)) ∈ lw_all := lw_g (lw_at lw_m3 200 rfl) rfl
theorem q777 : (Jvm.Cond.code ({ cls := "PullThePlug", name := "readsAct", desc := "()Z" } : Jvm.MethodName) prog_1_method_50_code (3 : Nat) (Option.some Jvm.ClassFile.FieldType.boolean)) ∈ lw_all := lw_g (lw_at lw_m3 201 rfl) rfl
theorem q778 : (Jvm.Cond.stringRef "PullThePlug" (377 : Nat) "npsctg") ∈ lw_tbl := lw_at lw_m3 202 rfl
theorem q779 : (Jvm.Cond.methodLink "PullThePlug" (382 : Nat) ({ cls := "PullThePlug", name := "does", desc := "(I)Z" } : Jvm.MethodName)) ∈ lw_all := lw_g (lw_at lw_m3 203 rfl) rfl
theorem q780 : (Jvm.Cond.privateMethod ({ cls := "PullThePlug", name := "does", desc := "(I)Z" } : Jvm.MethodName)) ∈ lw_tbl := lw_at lw_m3 204 rfl
theorem q781 : (Jvm.Cond.instanceMethod ({ cls := "PullThePlug", name := "does", desc := "(I)Z" } : Jvm.MethodName)) ∈ lw_all := lw_g (lw_at lw_m3 205 rfl) rfl
theorem q782 : (Jvm.Cond.code ({ cls := "PullThePlug", name := "does", desc := "(I)Z" } : Jvm.MethodName) prog_1_method_51_code (3 : Nat) (Option.some Jvm.ClassFile.FieldType.boolean)) ∈ lw_all := lw_g (lw_at lw_m3 206 rfl) rfl
theorem q784 : (Jvm.Cond.instanceMethod ({ cls := "PullThePlug", name := "later", desc := "(II)I" } : Jvm.MethodName)) ∈ lw_all := lw_g (lw_at lw_m3 208 rfl) rfl
theorem q785 : (Jvm.Cond.selects "PullThePlug" ({ cls := "PullThePlug", name := "later", desc := "(II)I" } : Jvm.MethodName) ({ cls := "PullThePlug", name := "later", desc := "(II)I" } : Jvm.MethodName)) ∈ lw_all := lw_g (lw_at lw_m3 209 rfl) rfl
theorem q786 : (Jvm.Cond.code ({ cls := "PullThePlug", name := "later", desc := "(II)I" } : Jvm.MethodName) prog_1_method_53_code (4 : Nat) (Option.some Jvm.ClassFile.FieldType.int)) ∈ lw_all := lw_g (lw_at lw_m3 210 rfl) rfl
theorem q787 : (Jvm.Cond.constantLong "PullThePlug" (385 : Nat) (99 : Int64)) ∈ lw_all := lw_g (lw_at lw_m3 211 rfl) rfl
theorem q789 : (Jvm.Cond.instanceMethod ({ cls := "PullThePlug", name := "dries", desc := "(I)I" } : Jvm.MethodName)) ∈ lw_all := lw_g (lw_at lw_m3 213 rfl) rfl
theorem q790 : (Jvm.Cond.selects "PullThePlug" ({ cls := "PullThePlug", name := "dries", desc := "(I)I" } : Jvm.MethodName) ({ cls := "PullThePlug", name := "dries", desc := "(I)I" } : Jvm.MethodName)) ∈ lw_all := lw_g (lw_at lw_m3 214 rfl) rfl
theorem q791 : (Jvm.Cond.code ({ cls := "PullThePlug", name := "dries", desc := "(I)I" } : Jvm.MethodName) prog_1_method_55_code (3 : Nat) (Option.some Jvm.ClassFile.FieldType.int)) ∈ lw_all := lw_g (lw_at lw_m3 215 rfl) rfl
theorem q792 : (Jvm.Cond.methodLink "PullThePlug" (387 : Nat) ({ cls := "PullThePlug", name := "daysTill", desc := "(II)I" } : Jvm.MethodName)) ∈ lw_all := lw_g (lw_at lw_m3 216 rfl) rfl
theorem q793 : (Jvm.Cond.privateMethod ({ cls := "PullThePlug", name := "daysTill", desc := "(II)I" } : Jvm.MethodName)) ∈ lw_tbl := lw_at lw_m3 217 rfl
theorem q794 : (Jvm.Cond.instanceMethod ({ cls := "PullThePlug", name := "daysTill", desc := "(II)I" } : Jvm.MethodName)) ∈ lw_all := lw_g (lw_at lw_m3 218 rfl) rfl
theorem q795 : (Jvm.Cond.code ({ cls := "PullThePlug", name := "daysTill", desc := "(II)I" } : Jvm.MethodName) prog_1_method_54_code (4 : Nat) (Option.some Jvm.ClassFile.FieldType.int)) ∈ lw_all := lw_g (lw_at lw_m3 219 rfl) rfl
theorem q797 : (Jvm.Cond.instanceMethod ({ cls := "PullThePlug", name := "brims", desc := "(I)I" } : Jvm.MethodName)) ∈ lw_all := lw_g (lw_at lw_m3 221 rfl) rfl
theorem q798 : (Jvm.Cond.selects "PullThePlug" ({ cls := "PullThePlug", name := "brims", desc := "(I)I" } : Jvm.MethodName) ({ cls := "PullThePlug", name := "brims", desc := "(I)I" } : Jvm.MethodName)) ∈ lw_all := lw_g (lw_at lw_m3 222 rfl) rfl
theorem q799 : (Jvm.Cond.code ({ cls := "PullThePlug", name := "brims", desc := "(I)I" } : Jvm.MethodName) prog_1_method_56_code (3 : Nat) (Option.some Jvm.ClassFile.FieldType.int)) ∈ lw_all := lw_g (lw_at lw_m3 223 rfl) rfl
theorem q801 : (Jvm.Cond.instanceMethod ({ cls := "PullThePlug", name := "marks", desc := "(II)I" } : Jvm.MethodName)) ∈ lw_all := lw_g (lw_at lw_m3 225 rfl) rfl
theorem q802 : (Jvm.Cond.selects "PullThePlug" ({ cls := "PullThePlug", name := "marks", desc := "(II)I" } : Jvm.MethodName) ({ cls := "PullThePlug", name := "marks", desc := "(II)I" } : Jvm.MethodName)) ∈ lw_all := lw_g (lw_at lw_m3 226 rfl) rfl
theorem q803 : (Jvm.Cond.code ({ cls := "PullThePlug", name := "marks", desc := "(II)I" } : Jvm.MethodName) prog_1_method_57_code (9 : Nat) (Option.some Jvm.ClassFile.FieldType.int)) ∈ lw_all := lw_g (lw_at lw_m3 227 rfl) rfl
theorem q805 : (Jvm.Cond.instanceMethod ({ cls := "PullThePlug", name := "realm", desc := "(I)I" } : Jvm.MethodName)) ∈ lw_all := lw_g (lw_at lw_m3 229 rfl) rfl
theorem q806 : (Jvm.Cond.selects "PullThePlug" ({ cls := "PullThePlug", name := "realm", desc := "(I)I" } : Jvm.MethodName) ({ cls := "PullThePlug", name := "realm", desc := "(I)I" } : Jvm.MethodName)) ∈ lw_all := lw_g (lw_at lw_m3 230 rfl) rfl
theorem q807 : (Jvm.Cond.code ({ cls := "PullThePlug", name := "realm", desc := "(I)I" } : Jvm.MethodName) prog_1_method_58_code (3 : Nat) (Option.some Jvm.ClassFile.FieldType.int)) ∈ lw_all := lw_g (lw_at lw_m3 231 rfl) rfl
theorem q808 : (Jvm.Cond.methodLink "PullThePlug" (390 : Nat) ({ cls := "PullThePlug", name := "lakesOf", desc := "(I)I" } : Jvm.MethodName)) ∈ lw_all := lw_g (lw_at lw_m3 232 rfl) rfl
theorem q809 : (Jvm.Cond.privateMethod ({ cls := "PullThePlug", name := "lakesOf", desc := "(I)I" } : Jvm.MethodName)) ∈ lw_tbl := lw_at lw_m3 233 rfl
theorem q810 : (Jvm.Cond.instanceMethod ({ cls := "PullThePlug", name := "lakesOf", desc := "(I)I" } : Jvm.MethodName)) ∈ lw_all := lw_g (lw_at lw_m3 234 rfl) rfl
theorem q811 : (Jvm.Cond.code ({ cls := "PullThePlug", name := "lakesOf", desc := "(I)I" } : Jvm.MethodName) prog_1_method_11_code (4 : Nat) (Option.some Jvm.ClassFile.FieldType.int)) ∈ lw_all := lw_g (lw_at lw_m3 235 rfl) rfl
theorem q813 : (Jvm.Cond.instanceMethod ({ cls := "PullThePlug", name := "course", desc := "(I)I" } : Jvm.MethodName)) ∈ lw_all := lw_g (lw_at lw_m3 237 rfl) rfl
theorem q814 : (Jvm.Cond.selects "PullThePlug" ({ cls := "PullThePlug", name := "course", desc := "(I)I" } : Jvm.MethodName) ({ cls := "PullThePlug", name := "course", desc := "(I)I" } : Jvm.MethodName)) ∈ lw_all := lw_g (lw_at lw_m3 238 rfl) rfl
theorem q815 : (Jvm.Cond.code ({ cls := "PullThePlug", name := "course", desc := "(I)I" } : Jvm.MethodName) prog_1_method_59_code (3 : Nat) (Option.some Jvm.ClassFile.FieldType.int)) ∈ lw_all := lw_g (lw_at lw_m3 239 rfl) rfl
theorem q817 : (Jvm.Cond.instanceMethod ({ cls := "PullThePlug", name := "basin", desc := "(I)I" } : Jvm.MethodName)) ∈ lw_all := lw_g (lw_at lw_m4 1 rfl) rfl
theorem q818 : (Jvm.Cond.selects "PullThePlug" ({ cls := "PullThePlug", name := "basin", desc := "(I)I" } : Jvm.MethodName) ({ cls := "PullThePlug", name := "basin", desc := "(I)I" } : Jvm.MethodName)) ∈ lw_all := lw_g (lw_at lw_m4 2 rfl) rfl
theorem q819 : (Jvm.Cond.code ({ cls := "PullThePlug", name := "basin", desc := "(I)I" } : Jvm.MethodName) prog_1_method_60_code (5 : Nat) (Option.some Jvm.ClassFile.FieldType.int)) ∈ lw_all := lw_g (lw_at lw_m4 3 rfl) rfl
theorem q821 : (Jvm.Cond.instanceMethod ({ cls := "PullThePlug", name := "order", desc := "(I)I" } : Jvm.MethodName)) ∈ lw_all := lw_g (lw_at lw_m4 5 rfl) rfl
theorem q822 : (Jvm.Cond.selects "PullThePlug" ({ cls := "PullThePlug", name := "order", desc := "(I)I" } : Jvm.MethodName) ({ cls := "PullThePlug", name := "order", desc := "(I)I" } : Jvm.MethodName)) ∈ lw_all := lw_g (lw_at lw_m4 6 rfl) rfl
theorem q823 : (Jvm.Cond.code ({ cls := "PullThePlug", name := "order", desc := "(I)I" } : Jvm.MethodName) prog_1_method_61_code (6 : Nat) (Option.some Jvm.ClassFile.FieldType.int)) ∈ lw_all := lw_g (lw_at lw_m4 7 rfl) rfl
theorem q824 : (Jvm.Cond.methodLink "PullThePlug" (393 : Nat) ({ cls := "PullThePlug", name := "dryOnes", desc := "(LPullThePlug$Water;)I" } : Jvm.MethodName)) ∈ lw_all := lw_g (lw_at lw_m4 8 rfl) rfl
theorem q825 : (Jvm.Cond.privateMethod ({ cls := "PullThePlug", name := "dryOnes", desc := "(LPullThePlug$Water;)I" } : Jvm.MethodName)) ∈ lw_tbl := lw_at lw_m4 9 rfl
theorem q826 : (Jvm.Cond.instanceMethod ({ cls := "PullThePlug", name := "dryOnes", desc := "(LPullThePlug$Water;)I" } : Jvm.MethodName)) ∈ lw_all := lw_g (lw_at lw_m4 10 rfl) rfl
theorem q827 : (Jvm.Cond.code ({ cls := "PullThePlug", name := "dryOnes", desc := "(LPullThePlug$Water;)I" } : Jvm.MethodName) prog_1_method_10_code (4 : Nat) (Option.some Jvm.ClassFile.FieldType.int)) ∈ lw_all := lw_g (lw_at lw_m4 11 rfl) rfl
theorem q829 : (Jvm.Cond.instanceMethod ({ cls := "PullThePlug", name := "meets", desc := "(II)I" } : Jvm.MethodName)) ∈ lw_all := lw_g (lw_at lw_m4 13 rfl) rfl
theorem q830 : (Jvm.Cond.selects "PullThePlug" ({ cls := "PullThePlug", name := "meets", desc := "(II)I" } : Jvm.MethodName) ({ cls := "PullThePlug", name := "meets", desc := "(II)I" } : Jvm.MethodName)) ∈ lw_all := lw_g (lw_at lw_m4 14 rfl) rfl
theorem q831 : (Jvm.Cond.code ({ cls := "PullThePlug", name := "meets", desc := "(II)I" } : Jvm.MethodName) prog_1_method_62_code (4 : Nat) (Option.some Jvm.ClassFile.FieldType.int)) ∈ lw_all := lw_g (lw_at lw_m4 15 rfl) rfl
theorem q833 : (Jvm.Cond.instanceMethod ({ cls := "PullThePlug", name := "richest", desc := "(I)I" } : Jvm.MethodName)) ∈ lw_all := lw_g (lw_at lw_m4 17 rfl) rfl
theorem q834 : (Jvm.Cond.selects "PullThePlug" ({ cls := "PullThePlug", name := "richest", desc := "(I)I" } : Jvm.MethodName) ({ cls := "PullThePlug", name := "richest", desc := "(I)I" } : Jvm.MethodName)) ∈ lw_all := lw_g (lw_at lw_m4 18 rfl) rfl
theorem q835 : (Jvm.Cond.code ({ cls := "PullThePlug", name := "richest", desc := "(I)I" } : Jvm.MethodName) prog_1_method_63_code (6 : Nat) (Option.some Jvm.ClassFile.FieldType.int)) ∈ lw_all := lw_g (lw_at lw_m4 19 rfl) rfl
theorem q837 : (Jvm.Cond.instanceMethod ({ cls := "PullThePlug", name := "swims", desc := "(III)I" } : Jvm.MethodName)) ∈ lw_all := lw_g (lw_at lw_m4 21 rfl) rfl
theorem q838 : (Jvm.Cond.selects "PullThePlug" ({ cls := "PullThePlug", name := "swims", desc := "(III)I" } : Jvm.MethodName) ({ cls := "PullThePlug", name := "swims", desc := "(III)I" } : Jvm.MethodName)) ∈ lw_all := lw_g (lw_at lw_m4 22 rfl) rfl
theorem q839 : (Jvm.Cond.code ({ cls := "PullThePlug", name := "swims", desc := "(III)I" } : Jvm.MethodName) prog_1_method_64_code (10 : Nat) (Option.some Jvm.ClassFile.FieldType.int)) ∈ lw_all := lw_g (lw_at lw_m4 23 rfl) rfl
theorem q841 : (Jvm.Cond.instanceMethod ({ cls := "PullThePlug", name := "lets", desc := "(II)I" } : Jvm.MethodName)) ∈ lw_all := lw_g (lw_at lw_m4 25 rfl) rfl
theorem q842 : (Jvm.Cond.selects "PullThePlug" ({ cls := "PullThePlug", name := "lets", desc := "(II)I" } : Jvm.MethodName) ({ cls := "PullThePlug", name := "lets", desc := "(II)I" } : Jvm.MethodName)) ∈ lw_all := lw_g (lw_at lw_m4 26 rfl) rfl
theorem q843 : (Jvm.Cond.code ({ cls := "PullThePlug", name := "lets", desc := "(II)I" } : Jvm.MethodName) prog_1_method_68_code (5 : Nat) (Option.some Jvm.ClassFile.FieldType.int)) ∈ lw_all := lw_g (lw_at lw_m4 27 rfl) rfl
theorem q844 : (Jvm.Cond.constantLong "PullThePlug" (396 : Nat) (40 : Int64)) ∈ lw_all := lw_g (lw_at lw_m4 28 rfl) rfl
theorem q845 : (Jvm.Cond.methodLink "PullThePlug" (398 : Nat) ({ cls := "PullThePlug", name := "isFewer", desc := "(II)Z" } : Jvm.MethodName)) ∈ lw_all := lw_g (lw_at lw_m4 29 rfl) rfl
theorem q846 : (Jvm.Cond.static ({ cls := "PullThePlug", name := "isFewer", desc := "(II)Z" } : Jvm.MethodName)) ∈ lw_all := lw_g (lw_at lw_m4 30 rfl) rfl
theorem q847 : (Jvm.Cond.code ({ cls := "PullThePlug", name := "isFewer", desc := "(II)Z" } : Jvm.MethodName) prog_1_method_65_code (2 : Nat) (Option.some Jvm.ClassFile.FieldType.boolean)) ∈ lw_all := lw_g (lw_at lw_m4 31 rfl) rfl
theorem q848 : (Jvm.Cond.methodLink "PullThePlug" (401 : Nat) ({ cls := "PullThePlug", name := "touchedGo", desc := "(II)V" } : Jvm.MethodName)) ∈ lw_all := lw_g (lw_at lw_m4 32 rfl) rfl
theorem q849 : (Jvm.Cond.privateMethod ({ cls := "PullThePlug", name := "touchedGo", desc := "(II)V" } : Jvm.MethodName)) ∈ lw_tbl := lw_at lw_m4 33 rfl
theorem q850 : (Jvm.Cond.instanceMethod ({ cls := "PullThePlug", name := "touchedGo", desc := "(II)V" } : Jvm.MethodName)) ∈ lw_all := lw_g (lw_at lw_m4 34 rfl) rfl
theorem q851 : (Jvm.Cond.code ({ cls := "PullThePlug", name := "touchedGo", desc := "(II)V" } : Jvm.MethodName) prog_1_method_66_code (3 : Nat) (Option.none : Option Jvm.ClassFile.FieldType)) ∈ lw_all := lw_g (lw_at lw_m4 35 rfl) rfl
theorem q852 : (Jvm.Cond.methodLink "PullThePlug" (405 : Nat) ({ cls := "PullThePlug", name := "tellsFewest", desc := "(I)I" } : Jvm.MethodName)) ∈ lw_all := lw_g (lw_at lw_m4 36 rfl) rfl
theorem q853 : (Jvm.Cond.privateMethod ({ cls := "PullThePlug", name := "tellsFewest", desc := "(I)I" } : Jvm.MethodName)) ∈ lw_tbl := lw_at lw_m4 37 rfl
theorem q854 : (Jvm.Cond.instanceMethod ({ cls := "PullThePlug", name := "tellsFewest", desc := "(I)I" } : Jvm.MethodName)) ∈ lw_all := lw_g (lw_at lw_m4 38 rfl) rfl
theorem q855 : (Jvm.Cond.code ({ cls := "PullThePlug", name := "tellsFewest", desc := "(I)I" } : Jvm.MethodName) prog_1_method_67_code (2 : Nat) (Option.some Jvm.ClassFile.FieldType.int)) ∈ lw_all := lw_g (lw_at lw_m4 39 rfl) rfl
theorem q857 : (Jvm.Cond.instanceMethod ({ cls := "PullThePlug", name := "just", desc := "(II)I" } : Jvm.MethodName)) ∈ lw_all := lw_g (lw_at lw_m4 41 rfl) rfl
theorem q858 : (Jvm.Cond.selects "PullThePlug" ({ cls := "PullThePlug", name := "just", desc := "(II)I" } : Jvm.MethodName) ({ cls := "PullThePlug", name := "just", desc := "(II)I" } : Jvm.MethodName)) ∈ lw_all := lw_g (lw_at lw_m4 42 rfl) rfl
theorem q859 : (Jvm.Cond.code ({ cls := "PullThePlug", name := "just", desc := "(II)I" } : Jvm.MethodName) prog_1_method_69_code (5 : Nat) (Option.some Jvm.ClassFile.FieldType.int)) ∈ lw_all := lw_g (lw_at lw_m4 43 rfl) rfl
theorem q860 : (Jvm.Cond.methodLink "PullThePlug" (408 : Nat) ({ cls := "PullThePlug", name := "areLakes", desc := "(I)Z" } : Jvm.MethodName)) ∈ lw_all := lw_g (lw_at lw_m4 44 rfl) rfl
theorem q861 : (Jvm.Cond.privateMethod ({ cls := "PullThePlug", name := "areLakes", desc := "(I)Z" } : Jvm.MethodName)) ∈ lw_tbl := lw_at lw_m4 45 rfl
theorem q862 : (Jvm.Cond.instanceMethod ({ cls := "PullThePlug", name := "areLakes", desc := "(I)Z" } : Jvm.MethodName)) ∈ lw_all := lw_g (lw_at lw_m4 46 rfl) rfl
theorem q863 : (Jvm.Cond.code ({ cls := "PullThePlug", name := "areLakes", desc := "(I)Z" } : Jvm.MethodName) prog_1_method_7_code (2 : Nat) (Option.some Jvm.ClassFile.FieldType.boolean)) ∈ lw_all := lw_g (lw_at lw_m4 47 rfl) rfl
theorem q865 : (Jvm.Cond.instanceMethod ({ cls := "PullThePlug", name := "fills", desc := "(II)I" } : Jvm.MethodName)) ∈ lw_all := lw_g (lw_at lw_m4 49 rfl) rfl
theorem q866 : (Jvm.Cond.selects "PullThePlug" ({ cls := "PullThePlug", name := "fills", desc := "(II)I" } : Jvm.MethodName) ({ cls := "PullThePlug", name := "fills", desc := "(II)I" } : Jvm.MethodName)) ∈ lw_all := lw_g (lw_at lw_m4 50 rfl) rfl
theorem q867 : (Jvm.Cond.code ({ cls := "PullThePlug", name := "fills", desc := "(II)I" } : Jvm.MethodName) prog_1_method_70_code (6 : Nat) (Option.some Jvm.ClassFile.FieldType.int)) ∈ lw_all := lw_g (lw_at lw_m4 51 rfl) rfl
theorem q868 : (Jvm.Cond.constantLong "PullThePlug" (411 : Nat) (6 : Int64)) ∈ lw_all := lw_g (lw_at lw_m4 52 rfl) rfl
theorem q870 : (Jvm.Cond.instanceMethod ({ cls := "PullThePlug", name := "needs", desc := "(III)I" } : Jvm.MethodName)) ∈ lw_all := lw_g (lw_at lw_m4 54 rfl) rfl
theorem q871 : (Jvm.Cond.selects "PullThePlug" ({ cls := "PullThePlug", name := "needs", desc := "(III)I" } : Jvm.MethodName) ({ cls := "PullThePlug", name := "needs", desc := "(III)I" } : Jvm.MethodName)) ∈ lw_all := lw_g (lw_at lw_m4 55 rfl) rfl
theorem q872 : (Jvm.Cond.code ({ cls := "PullThePlug", name := "needs", desc := "(III)I" } : Jvm.MethodName) prog_1_method_71_code (5 : Nat) (Option.some Jvm.ClassFile.FieldType.int)) ∈ lw_all := lw_g (lw_at lw_m4 56 rfl) rfl
theorem q874 : (Jvm.Cond.instanceMethod ({ cls := "PullThePlug", name := "crosses", desc := "(I)I" } : Jvm.MethodName)) ∈ lw_all := lw_g (lw_at lw_m4 58 rfl) rfl
theorem q875 : (Jvm.Cond.selects "PullThePlug" ({ cls := "PullThePlug", name := "crosses", desc := "(I)I" } : Jvm.MethodName) ({ cls := "PullThePlug", name := "crosses", desc := "(I)I" } : Jvm.MethodName)) ∈ lw_all := lw_g (lw_at lw_m4 59 rfl) rfl
theorem q876 : (Jvm.Cond.code ({ cls := "PullThePlug", name := "crosses", desc := "(I)I" } : Jvm.MethodName) prog_1_method_72_code (7 : Nat) (Option.some Jvm.ClassFile.FieldType.int)) ∈ lw_all := lw_g (lw_at lw_m4 60 rfl) rfl
theorem q877 : (Jvm.Cond.constant "PullThePlug" (413 : Nat) (-1000000 : Int32)) ∈ lw_all := lw_g (lw_at lw_m4 61 rfl) rfl
theorem q879 : (Jvm.Cond.instanceMethod ({ cls := "PullThePlug", name := "ring", desc := "(III)I" } : Jvm.MethodName)) ∈ lw_all := lw_g (lw_at lw_m4 63 rfl) rfl
theorem q880 : (Jvm.Cond.selects "PullThePlug" ({ cls := "PullThePlug", name := "ring", desc := "(III)I" } : Jvm.MethodName) ({ cls := "PullThePlug", name := "ring", desc := "(III)I" } : Jvm.MethodName)) ∈ lw_all := lw_g (lw_at lw_m4 64 rfl) rfl
theorem q881 : (Jvm.Cond.code ({ cls := "PullThePlug", name := "ring", desc := "(III)I" } : Jvm.MethodName) prog_1_method_73_code (4 : Nat) (Option.some Jvm.ClassFile.FieldType.int)) ∈ lw_all := lw_g (lw_at lw_m4 65 rfl) rfl
theorem q882 : (Jvm.Cond.constantLong "PullThePlug" (414 : Nat) (20 : Int64)) ∈ lw_all := lw_g (lw_at lw_m4 66 rfl) rfl
theorem q884 : (Jvm.Cond.instanceMethod ({ cls := "PullThePlug", name := "washes", desc := "()I" } : Jvm.MethodName)) ∈ lw_all := lw_g (lw_at lw_m4 68 rfl) rfl
theorem q885 : (Jvm.Cond.selects "PullThePlug" ({ cls := "PullThePlug", name := "washes", desc := "()I" } : Jvm.MethodName) ({ cls := "PullThePlug", name := "washes", desc := "()I" } : Jvm.MethodName)) ∈ lw_all := lw_g (lw_at lw_m4 69 rfl) rfl
theorem q886 : (Jvm.Cond.code ({ cls := "PullThePlug", name := "washes", desc := "()I" } : Jvm.MethodName) prog_1_method_74_code (2 : Nat) (Option.some Jvm.ClassFile.FieldType.int)) ∈ lw_all := lw_g (lw_at lw_m4 70 rfl) rfl
theorem q888 : (Jvm.Cond.instanceMethod ({ cls := "PullThePlug", name := "leaks", desc := "()I" } : Jvm.MethodName)) ∈ lw_all := lw_g (lw_at lw_m4 72 rfl) rfl
theorem q889 : (Jvm.Cond.selects "PullThePlug" ({ cls := "PullThePlug", name := "leaks", desc := "()I" } : Jvm.MethodName) ({ cls := "PullThePlug", name := "leaks", desc := "()I" } : Jvm.MethodName)) ∈ lw_all := lw_g (lw_at lw_m4 73 rfl) rfl
theorem q890 : (Jvm.Cond.code ({ cls := "PullThePlug", name := "leaks", desc := "()I" } : Jvm.MethodName) prog_1_method_78_code (3 : Nat) (Option.some Jvm.ClassFile.FieldType.int)) ∈ lw_all := lw_g (lw_at lw_m4 74 rfl) rfl
theorem q891 : (Jvm.Cond.methodLink "PullThePlug" (426 : Nat) ({ cls := "PullThePlug", name := "laysLeaks", desc := "()I" } : Jvm.MethodName)) ∈ lw_all := lw_g (lw_at lw_m4 75 rfl) rfl
theorem q892 : (Jvm.Cond.privateMethod ({ cls := "PullThePlug", name := "laysLeaks", desc := "()I" } : Jvm.MethodName)) ∈ lw_tbl := lw_at lw_m4 76 rfl
theorem q893 : (Jvm.Cond.instanceMethod ({ cls := "PullThePlug", name := "laysLeaks", desc := "()I" } : Jvm.MethodName)) ∈ lw_all := lw_g (lw_at lw_m4 77 rfl) rfl
theorem q894 : (Jvm.Cond.code ({ cls := "PullThePlug", name := "laysLeaks", desc := "()I" } : Jvm.MethodName) prog_1_method_77_code (3 : Nat) (Option.some Jvm.ClassFile.FieldType.int)) ∈ lw_all := lw_g (lw_at lw_m4 78 rfl) rfl
theorem q895 : (Jvm.Cond.methodLink "PullThePlug" (423 : Nat) ({ cls := "PullThePlug", name := "laysLevels", desc := "(I)V" } : Jvm.MethodName)) ∈ lw_all := lw_g (lw_at lw_m4 79 rfl) rfl
theorem q896 : (Jvm.Cond.privateMethod ({ cls := "PullThePlug", name := "laysLevels", desc := "(I)V" } : Jvm.MethodName)) ∈ lw_tbl := lw_at lw_m4 80 rfl
theorem q897 : (Jvm.Cond.instanceMethod ({ cls := "PullThePlug", name := "laysLevels", desc := "(I)V" } : Jvm.MethodName)) ∈ lw_all := lw_g (lw_at lw_m4 81 rfl) rfl
theorem q898 : (Jvm.Cond.code ({ cls := "PullThePlug", name := "laysLevels", desc := "(I)V" } : Jvm.MethodName) prog_1_method_76_code (4 : Nat) (Option.none : Option Jvm.ClassFile.FieldType)) ∈ lw_all := lw_g (lw_at lw_m4 82 rfl) rfl
theorem q899 : (Jvm.Cond.methodLink "PullThePlug" (419 : Nat) ({ cls := "PullThePlug", name := "place", desc := "(III)I" } : Jvm.MethodName)) ∈ lw_all := lw_g (lw_at lw_m4 83 rfl) rfl
theorem q900 : (Jvm.Cond.static ({ cls := "PullThePlug", name := "place", desc := "(III)I" } : Jvm.MethodName)) ∈ lw_all := lw_g (lw_at lw_m4 84 rfl) rfl
theorem q901 : (Jvm.Cond.code ({ cls := "PullThePlug", name := "place", desc := "(III)I" } : Jvm.MethodName) prog_1_method_75_code (3 : Nat) (Option.some Jvm.ClassFile.FieldType.int)) ∈ lw_all := lw_g (lw_at lw_m4 85 rfl) rfl
theorem q903 : (Jvm.Cond.instanceMethod ({ cls := "PullThePlug", name := "reads", desc := "()I" } : Jvm.MethodName)) ∈ lw_all := lw_g (lw_at lw_m4 87 rfl) rfl
theorem q904 : (Jvm.Cond.selects "PullThePlug" ({ cls := "PullThePlug", name := "reads", desc := "()I" } : Jvm.MethodName) ({ cls := "PullThePlug", name := "reads", desc := "()I" } : Jvm.MethodName)) ∈ lw_all := lw_g (lw_at lw_m4 88 rfl) rfl
theorem q905 : (Jvm.Cond.code ({ cls := "PullThePlug", name := "reads", desc := "()I" } : Jvm.MethodName) prog_1_method_80_code (6 : Nat) (Option.some Jvm.ClassFile.FieldType.int)) ∈ lw_all := lw_g (lw_at lw_m4 89 rfl) rfl
theorem q906 : (Jvm.Cond.constant "PullThePlug" (429 : Nat) (1000000 : Int32)) ∈ lw_all := lw_g (lw_at lw_m4 90 rfl) rfl
theorem q907 : (Jvm.Cond.methodLink "PullThePlug" (430 : Nat) ({ cls := "PullThePlug", name := "mostAlike", desc := "(II)I" } : Jvm.MethodName)) ∈ lw_all := lw_g (lw_at lw_m4 91 rfl) rfl
theorem q908 : (Jvm.Cond.privateMethod ({ cls := "PullThePlug", name := "mostAlike", desc := "(II)I" } : Jvm.MethodName)) ∈ lw_tbl := lw_at lw_m4 92 rfl
theorem q909 : (Jvm.Cond.instanceMethod ({ cls := "PullThePlug", name := "mostAlike", desc := "(II)I" } : Jvm.MethodName)) ∈ lw_all := lw_g (lw_at lw_m4 93 rfl) rfl
theorem q910 : (Jvm.Cond.code ({ cls := "PullThePlug", name := "mostAlike", desc := "(II)I" } : Jvm.MethodName) prog_1_method_79_code (6 : Nat) (Option.some Jvm.ClassFile.FieldType.int)) ∈ lw_all := lw_g (lw_at lw_m4 94 rfl) rfl
theorem q912 : (Jvm.Cond.instanceMethod ({ cls := "PullThePlug", name := "threat", desc := "(I)I" } : Jvm.MethodName)) ∈ lw_all := lw_g (lw_at lw_m4 96 rfl) rfl
theorem q913 : (Jvm.Cond.selects "PullThePlug" ({ cls := "PullThePlug", name := "threat", desc := "(I)I" } : Jvm.MethodName) ({ cls := "PullThePlug", name := "threat", desc := "(I)I" } : Jvm.MethodName)) ∈ lw_all := lw_g (lw_at lw_m4 97 rfl) rfl
theorem q914 : (Jvm.Cond.code ({ cls := "PullThePlug", name := "threat", desc := "(I)I" } : Jvm.MethodName) prog_1_method_81_code (4 : Nat) (Option.some Jvm.ClassFile.FieldType.int)) ∈ lw_all := lw_g (lw_at lw_m4 98 rfl) rfl
theorem q916 : (Jvm.Cond.instanceMethod ({ cls := "PullThePlug", name := "treaty", desc := "(I)I" } : Jvm.MethodName)) ∈ lw_all := lw_g (lw_at lw_m4 100 rfl) rfl
theorem q917 : (Jvm.Cond.selects "PullThePlug" ({ cls := "PullThePlug", name := "treaty", desc := "(I)I" } : Jvm.MethodName) ({ cls := "PullThePlug", name := "treaty", desc := "(I)I" } : Jvm.MethodName)) ∈ lw_all := lw_g (lw_at lw_m4 101 rfl) rfl
theorem q918 : (Jvm.Cond.code ({ cls := "PullThePlug", name := "treaty", desc := "(I)I" } : Jvm.MethodName) prog_1_method_84_code (6 : Nat) (Option.some Jvm.ClassFile.FieldType.int)) ∈ lw_all := lw_g (lw_at lw_m4 102 rfl) rfl
theorem q919 : (Jvm.Cond.constantLong "PullThePlug" (436 : Nat) (999 : Int64)) ∈ lw_all := lw_g (lw_at lw_m4 103 rfl) rfl
theorem q920 : (Jvm.Cond.methodLink "PullThePlug" (438 : Nat) ({ cls := "PullThePlug", name := "isBare", desc := "(II)Z" } : Jvm.MethodName)) ∈ lw_all := lw_g (lw_at lw_m4 104 rfl) rfl
theorem q921 : (Jvm.Cond.privateMethod ({ cls := "PullThePlug", name := "isBare", desc := "(II)Z" } : Jvm.MethodName)) ∈ lw_tbl := lw_at lw_m4 105 rfl
theorem q922 : (Jvm.Cond.instanceMethod ({ cls := "PullThePlug", name := "isBare", desc := "(II)Z" } : Jvm.MethodName)) ∈ lw_all := lw_g (lw_at lw_m4 106 rfl) rfl
theorem q923 : (Jvm.Cond.code ({ cls := "PullThePlug", name := "isBare", desc := "(II)Z" } : Jvm.MethodName) prog_1_method_83_code (5 : Nat) (Option.some Jvm.ClassFile.FieldType.boolean)) ∈ lw_all := lw_g (lw_at lw_m4 107 rfl) rfl
theorem q924 : (Jvm.Cond.methodLink "PullThePlug" (433 : Nat) ({ cls := "PullThePlug", name := "levelOf", desc := "(I)I" } : Jvm.MethodName)) ∈ lw_all := lw_g (lw_at lw_m4 108 rfl) rfl
theorem q925 : (Jvm.Cond.privateMethod ({ cls := "PullThePlug", name := "levelOf", desc := "(I)I" } : Jvm.MethodName)) ∈ lw_tbl := lw_at lw_m4 109 rfl
theorem q926 : (Jvm.Cond.instanceMethod ({ cls := "PullThePlug", name := "levelOf", desc := "(I)I" } : Jvm.MethodName)) ∈ lw_all := lw_g (lw_at lw_m4 110 rfl) rfl
theorem q927 : (Jvm.Cond.code ({ cls := "PullThePlug", name := "levelOf", desc := "(I)I" } : Jvm.MethodName) prog_1_method_82_code (4 : Nat) (Option.some Jvm.ClassFile.FieldType.int)) ∈ lw_all := lw_g (lw_at lw_m4 111 rfl) rfl
theorem q929 : (Jvm.Cond.instanceMethod ({ cls := "PullThePlug", name := "wants", desc := "(I)I" } : Jvm.MethodName)) ∈ lw_all := lw_g (lw_at lw_m4 113 rfl) rfl
theorem q930 : (Jvm.Cond.selects "PullThePlug" ({ cls := "PullThePlug", name := "wants", desc := "(I)I" } : Jvm.MethodName) ({ cls := "PullThePlug", name := "wants", desc := "(I)I" } : Jvm.MethodName)) ∈ lw_all := lw_g (lw_at lw_m4 114 rfl) rfl
theorem q931 : (Jvm.Cond.code ({ cls := "PullThePlug", name := "wants", desc := "(I)I" } : Jvm.MethodName) prog_1_method_85_code (6 : Nat) (Option.some Jvm.ClassFile.FieldType.int)) ∈ lw_all := lw_g (lw_at lw_m4 115 rfl) rfl
theorem q933 : (Jvm.Cond.instanceMethod ({ cls := "PullThePlug", name := "evens", desc := "()I" } : Jvm.MethodName)) ∈ lw_all := lw_g (lw_at lw_m4 117 rfl) rfl
theorem q934 : (Jvm.Cond.selects "PullThePlug" ({ cls := "PullThePlug", name := "evens", desc := "()I" } : Jvm.MethodName) ({ cls := "PullThePlug", name := "evens", desc := "()I" } : Jvm.MethodName)) ∈ lw_all := lw_g (lw_at lw_m4 118 rfl) rfl
theorem q935 : (Jvm.Cond.code ({ cls := "PullThePlug", name := "evens", desc := "()I" } : Jvm.MethodName) prog_1_method_86_code (5 : Nat) (Option.some Jvm.ClassFile.FieldType.int)) ∈ lw_all := lw_g (lw_at lw_m4 119 rfl) rfl
theorem q936 : (Jvm.Cond.methodLink "PullThePlug" (441 : Nat) ({ cls := "java/lang/Math", name := "abs", desc := "(I)I" } : Jvm.MethodName)) ∈ lw_all := lw_g (lw_at lw_m4 120 rfl) rfl
theorem q940 : (Jvm.Cond.instanceMethod ({ cls := "PullThePlug", name := "feared", desc := "()I" } : Jvm.MethodName)) ∈ lw_all := lw_g (lw_at lw_m4 124 rfl) rfl
theorem q941 : (Jvm.Cond.selects "PullThePlug" ({ cls := "PullThePlug", name := "feared", desc := "()I" } : Jvm.MethodName) ({ cls := "PullThePlug", name := "feared", desc := "()I" } : Jvm.MethodName)) ∈ lw_all := lw_g (lw_at lw_m4 125 rfl) rfl
theorem q942 : (Jvm.Cond.code ({ cls := "PullThePlug", name := "feared", desc := "()I" } : Jvm.MethodName) prog_1_method_87_code (5 : Nat) (Option.some Jvm.ClassFile.FieldType.int)) ∈ lw_all := lw_g (lw_at lw_m4 126 rfl) rfl
theorem q944 : (Jvm.Cond.instanceMethod ({ cls := "PullThePlug", name := "heirs", desc := "()I" } : Jvm.MethodName)) ∈ lw_all := lw_g (lw_at lw_m4 128 rfl) rfl
theorem q945 : (Jvm.Cond.selects "PullThePlug" ({ cls := "PullThePlug", name := "heirs", desc := "()I" } : Jvm.MethodName) ({ cls := "PullThePlug", name := "heirs", desc := "()I" } : Jvm.MethodName)) ∈ lw_all := lw_g (lw_at lw_m4 129 rfl) rfl
theorem q946 : (Jvm.Cond.code ({ cls := "PullThePlug", name := "heirs", desc := "()I" } : Jvm.MethodName) prog_1_method_89_code (3 : Nat) (Option.some Jvm.ClassFile.FieldType.int)) ∈ lw_all := lw_g (lw_at lw_m4 130 rfl) rfl
theorem q947 : (Jvm.Cond.methodLink "PullThePlug" (453 : Nat) ({ cls := "PullThePlug", name := "givesFrom", desc := "(IIII)V" } : Jvm.MethodName)) ∈ lw_all := lw_g (lw_at lw_m4 131 rfl) rfl
theorem q948 : (Jvm.Cond.privateMethod ({ cls := "PullThePlug", name := "givesFrom", desc := "(IIII)V" } : Jvm.MethodName)) ∈ lw_tbl := lw_at lw_m4 132 rfl
theorem q949 : (Jvm.Cond.instanceMethod ({ cls := "PullThePlug", name := "givesFrom", desc := "(IIII)V" } : Jvm.MethodName)) ∈ lw_all := lw_g (lw_at lw_m4 133 rfl) rfl
theorem q950 : (Jvm.Cond.code ({ cls := "PullThePlug", name := "givesFrom", desc := "(IIII)V" } : Jvm.MethodName) prog_1_method_88_code (6 : Nat) (Option.none : Option Jvm.ClassFile.FieldType)) ∈ lw_all := lw_g (lw_at lw_m4 134 rfl) rfl
theorem q951 : (Jvm.Cond.methodLink "PullThePlug" (447 : Nat) ({ cls := "java/lang/System", name := "arraycopy", desc := "(Ljava/lang/Object;ILjava/lang/Object;II)V" } : Jvm.MethodName)) ∈ lw_all := lw_g (lw_at lw_m4 135 rfl) rfl
theorem q953 : (Jvm.Cond.instanceMethod ({ cls := "PullThePlug", name := "duck", desc := "(III)I" } : Jvm.MethodName)) ∈ lw_all := lw_g (lw_at lw_m4 137 rfl) rfl
theorem q954 : (Jvm.Cond.selects "PullThePlug" ({ cls := "PullThePlug", name := "duck", desc := "(III)I" } : Jvm.MethodName) ({ cls := "PullThePlug", name := "duck", desc := "(III)I" } : Jvm.MethodName)) ∈ lw_all := lw_g (lw_at lw_m4 138 rfl) rfl
theorem q955 : (Jvm.Cond.code ({ cls := "PullThePlug", name := "duck", desc := "(III)I" } : Jvm.MethodName) prog_1_method_92_code (8 : Nat) (Option.some Jvm.ClassFile.FieldType.int)) ∈ lw_all := lw_g (lw_at lw_m4 139 rfl) rfl
theorem q956 : (Jvm.Cond.constantLong "PullThePlug" (460 : Nat) (10 : Int64)) ∈ lw_all := lw_g (lw_at lw_m4 140 rfl) rfl
theorem q957 : (Jvm.Cond.methodLink "PullThePlug" (462 : Nat) ({ cls := "PullThePlug", name := "duckGoes", desc := "()V" } : Jvm.MethodName)) ∈ lw_all := lw_g (lw_at lw_m4 141 rfl) rfl
theorem q958 : (Jvm.Cond.privateMethod ({ cls := "PullThePlug", name := "duckGoes", desc := "()V" } : Jvm.MethodName)) ∈ lw_tbl := lw_at lw_m4 142 rfl
theorem q959 : (Jvm.Cond.instanceMethod ({ cls := "PullThePlug", name := "duckGoes", desc := "()V" } : Jvm.MethodName)) ∈ lw_all := lw_g (lw_at lw_m4 143 rfl) rfl
theorem q960 : (Jvm.Cond.code ({ cls := "PullThePlug", name := "duckGoes", desc := "()V" } : Jvm.MethodName) prog_1_method_91_code (4 : Nat) (Option.none : Option Jvm.ClassFile.FieldType)) ∈ lw_all := lw_g (lw_at lw_m4 144 rfl) rfl
theorem q961 : (Jvm.Cond.methodLink "PullThePlug" (457 : Nat) ({ cls := "PullThePlug", name := "areBeside", desc := "(II)Z" } : Jvm.MethodName)) ∈ lw_all := lw_g (lw_at lw_m4 145 rfl) rfl
theorem q962 : (Jvm.Cond.privateMethod ({ cls := "PullThePlug", name := "areBeside", desc := "(II)Z" } : Jvm.MethodName)) ∈ lw_tbl := lw_at lw_m4 146 rfl
theorem q963 : (Jvm.Cond.instanceMethod ({ cls := "PullThePlug", name := "areBeside", desc := "(II)Z" } : Jvm.MethodName)) ∈ lw_all := lw_g (lw_at lw_m4 147 rfl) rfl
theorem q964 : (Jvm.Cond.code ({ cls := "PullThePlug", name := "areBeside", desc := "(II)Z" } : Jvm.MethodName) prog_1_method_90_code (3 : Nat) (Option.some Jvm.ClassFile.FieldType.boolean)) ∈ lw_all := lw_g (lw_at lw_m4 148 rfl) rfl
theorem q965 : (Jvm.Cond.methodLink "PullThePlug" (113 : Nat) ({ cls := "PullThePlug", name := "common", desc := "(JJ)J" } : Jvm.MethodName)) ∈ lw_all := lw_g (lw_at lw_m4 149 rfl) rfl
theorem q966 : (Jvm.Cond.static ({ cls := "PullThePlug", name := "common", desc := "(JJ)J" } : Jvm.MethodName)) ∈ lw_all := lw_g (lw_at lw_m4 150 rfl) rfl
theorem q967 : (Jvm.Cond.code ({ cls := "PullThePlug", name := "common", desc := "(JJ)J" } : Jvm.MethodName) prog_1_method_4_code (4 : Nat) (Option.some Jvm.ClassFile.FieldType.long)) ∈ lw_all := lw_g (lw_at lw_m4 151 rfl) rfl
theorem q969 : (Jvm.Cond.instanceMethod ({ cls := "PullThePlug", name := "spoon", desc := "(III)I" } : Jvm.MethodName)) ∈ lw_all := lw_g (lw_at lw_m4 153 rfl) rfl
theorem q970 : (Jvm.Cond.selects "PullThePlug" ({ cls := "PullThePlug", name := "spoon", desc := "(III)I" } : Jvm.MethodName) ({ cls := "PullThePlug", name := "spoon", desc := "(III)I" } : Jvm.MethodName)) ∈ lw_all := lw_g (lw_at lw_m4 154 rfl) rfl
theorem q971 : (Jvm.Cond.code ({ cls := "PullThePlug", name := "spoon", desc := "(III)I" } : Jvm.MethodName) prog_1_method_93_code (7 : Nat) (Option.some Jvm.ClassFile.FieldType.int)) ∈ lw_all := lw_g (lw_at lw_m4 155 rfl) rfl
theorem q973 : (Jvm.Cond.instanceMethod ({ cls := "PullThePlug", name := "rests", desc := "(I)I" } : Jvm.MethodName)) ∈ lw_all := lw_g (lw_at lw_m4 157 rfl) rfl
theorem q974 : (Jvm.Cond.selects "PullThePlug" ({ cls := "PullThePlug", name := "rests", desc := "(I)I" } : Jvm.MethodName) ({ cls := "PullThePlug", name := "rests", desc := "(I)I" } : Jvm.MethodName)) ∈ lw_all := lw_g (lw_at lw_m4 158 rfl) rfl
theorem q975 : (Jvm.Cond.code ({ cls := "PullThePlug", name := "rests", desc := "(I)I" } : Jvm.MethodName) prog_1_method_96_code (5 : Nat) (Option.some Jvm.ClassFile.FieldType.int)) ∈ lw_all := lw_g (lw_at lw_m4 159 rfl) rfl
theorem q976 : (Jvm.Cond.methodLink "PullThePlug" (468 : Nat) ({ cls := "PullThePlug", name := "isRest", desc := "(III)Z" } : Jvm.MethodName)) ∈ lw_all := lw_g (lw_at lw_m4 160 rfl) rfl
theorem q977 : (Jvm.Cond.static ({ cls := "PullThePlug", name := "isRest", desc := "(III)Z" } : Jvm.MethodName)) ∈ lw_all := lw_g (lw_at lw_m4 161 rfl) rfl
theorem q978 : (Jvm.Cond.code ({ cls := "PullThePlug", name := "isRest", desc := "(III)Z" } : Jvm.MethodName) prog_1_method_95_code (4 : Nat) (Option.some Jvm.ClassFile.FieldType.boolean)) ∈ lw_all := lw_g (lw_at lw_m4 162 rfl) rfl
theorem q979 : (Jvm.Cond.methodLink "PullThePlug" (465 : Nat) ({ cls := "PullThePlug", name := "gains", desc := "(III)I" } : Jvm.MethodName)) ∈ lw_all := lw_g (lw_at lw_m4 163 rfl) rfl
theorem q980 : (Jvm.Cond.static ({ cls := "PullThePlug", name := "gains", desc := "(III)I" } : Jvm.MethodName)) ∈ lw_all := lw_g (lw_at lw_m4 164 rfl) rfl
theorem q981 : (Jvm.Cond.code ({ cls := "PullThePlug", name := "gains", desc := "(III)I" } : Jvm.MethodName) prog_1_method_94_code (3 : Nat) (Option.some Jvm.ClassFile.FieldType.int)) ∈ lw_all := lw_g (lw_at lw_m4 165 rfl) rfl
theorem q983 : (Jvm.Cond.instanceMethod ({ cls := "PullThePlug", name := "law", desc := "()I" } : Jvm.MethodName)) ∈ lw_all := lw_g (lw_at lw_m4 167 rfl) rfl
theorem q984 : (Jvm.Cond.selects "PullThePlug" ({ cls := "PullThePlug", name := "law", desc := "()I" } : Jvm.MethodName) ({ cls := "PullThePlug", name := "law", desc := "()I" } : Jvm.MethodName)) ∈ lw_all := lw_g (lw_at lw_m4 168 rfl) rfl
theorem q985 : (Jvm.Cond.code ({ cls := "PullThePlug", name := "law", desc := "()I" } : Jvm.MethodName) prog_1_method_97_code (4 : Nat) (Option.some Jvm.ClassFile.FieldType.int)) ∈ lw_all := lw_g (lw_at lw_m4 169 rfl) rfl
theorem q987 : (Jvm.Cond.instanceMethod ({ cls := "PullThePlug", name := "years", desc := "(II)I" } : Jvm.MethodName)) ∈ lw_all := lw_g (lw_at lw_m4 171 rfl) rfl
theorem q988 : (Jvm.Cond.selects "PullThePlug" ({ cls := "PullThePlug", name := "years", desc := "(II)I" } : Jvm.MethodName) ({ cls := "PullThePlug", name := "years", desc := "(II)I" } : Jvm.MethodName)) ∈ lw_all := lw_g (lw_at lw_m4 172 rfl) rfl
theorem q989 : (Jvm.Cond.code ({ cls := "PullThePlug", name := "years", desc := "(II)I" } : Jvm.MethodName) prog_1_method_99_code (6 : Nat) (Option.some Jvm.ClassFile.FieldType.int)) ∈ lw_all := lw_g (lw_at lw_m4 173 rfl) rfl
theorem q990 : (Jvm.Cond.methodLink "PullThePlug" (476 : Nat) ({ cls := "PullThePlug", name := "draws", desc := "(I)I" } : Jvm.MethodName)) ∈ lw_all := lw_g (lw_at lw_m4 174 rfl) rfl
theorem q991 : (Jvm.Cond.privateMethod ({ cls := "PullThePlug", name := "draws", desc := "(I)I" } : Jvm.MethodName)) ∈ lw_tbl := lw_at lw_m4 175 rfl
theorem q992 : (Jvm.Cond.instanceMethod ({ cls := "PullThePlug", name := "draws", desc := "(I)I" } : Jvm.MethodName)) ∈ lw_all := lw_g (lw_at lw_m4 176 rfl) rfl
theorem q993 : (Jvm.Cond.code ({ cls := "PullThePlug", name := "draws", desc := "(I)I" } : Jvm.MethodName) prog_1_method_98_code (2 : Nat) (Option.some Jvm.ClassFile.FieldType.int)) ∈ lw_all := lw_g (lw_at lw_m4 177 rfl) rfl
theorem q994 : (Jvm.Cond.constant "PullThePlug" (475 : Nat) (1103515245 : Int32)) ∈ lw_all := lw_g (lw_at lw_m4 178 rfl) rfl
theorem q996 : (Jvm.Cond.instanceMethod ({ cls := "PullThePlug", name := "keep", desc := "(I)Z" } : Jvm.MethodName)) ∈ lw_all := lw_g (lw_at lw_m4 180 rfl) rfl
theorem q997 : (Jvm.Cond.selects "PullThePlug" ({ cls := "PullThePlug", name := "keep", desc := "(I)Z" } : Jvm.MethodName) ({ cls := "PullThePlug", name := "keep", desc := "(I)Z" } : Jvm.MethodName)) ∈ lw_all := lw_g (lw_at lw_m4 181 rfl) rfl
theorem q998 : (Jvm.Cond.code ({ cls := "PullThePlug", name := "keep", desc := "(I)Z" } : Jvm.MethodName) prog_1_method_100_code (2 : Nat) (Option.some Jvm.ClassFile.FieldType.boolean)) ∈ lw_all := lw_g (lw_at lw_m4 182 rfl) rfl
theorem q1000 : (Jvm.Cond.instanceMethod ({ cls := "PullThePlug", name := "again", desc := "(I)Z" } : Jvm.MethodName)) ∈ lw_all := lw_g (lw_at lw_m4 184 rfl) rfl
theorem q1001 : (Jvm.Cond.selects "PullThePlug" ({ cls := "PullThePlug", name := "again", desc := "(I)Z" } : Jvm.MethodName) ({ cls := "PullThePlug", name := "again", desc := "(I)Z" } : Jvm.MethodName)) ∈ lw_all := lw_g (lw_at lw_m4 185 rfl) rfl
theorem q1002 : (Jvm.Cond.code ({ cls := "PullThePlug", name := "again", desc := "(I)Z" } : Jvm.MethodName) prog_1_method_101_code (2 : Nat) (Option.some Jvm.ClassFile.FieldType.boolean)) ∈ lw_all := lw_g (lw_at lw_m4 186 rfl) rfl
theorem q1004 : (Jvm.Cond.instanceMethod ({ cls := "PullThePlug", name := "count", desc := "(I)I" } : Jvm.MethodName)) ∈ lw_all := lw_g (lw_at lw_m4 188 rfl) rfl
theorem q1005 : (Jvm.Cond.selects "PullThePlug" ({ cls := "PullThePlug", name := "count", desc := "(I)I" } : Jvm.MethodName) ({ cls := "PullThePlug", name := "count", desc := "(I)I" } : Jvm.MethodName)) ∈ lw_all := lw_g (lw_at lw_m4 189 rfl) rfl
theorem q1006 : (Jvm.Cond.code ({ cls := "PullThePlug", name := "count", desc := "(I)I" } : Jvm.MethodName) prog_1_method_103_code (2 : Nat) (Option.some Jvm.ClassFile.FieldType.int)) ∈ lw_all := lw_g (lw_at lw_m4 190 rfl) rfl
theorem q1007 : (Jvm.Cond.methodLink "PullThePlug" (479 : Nat) ({ cls := "PullThePlug", name := "fullOnes", desc := "()I" } : Jvm.MethodName)) ∈ lw_all := lw_g (lw_at lw_m4 191 rfl) rfl
theorem q1008 : (Jvm.Cond.privateMethod ({ cls := "PullThePlug", name := "fullOnes", desc := "()I" } : Jvm.MethodName)) ∈ lw_tbl := lw_at lw_m4 192 rfl
theorem q1009 : (Jvm.Cond.instanceMethod ({ cls := "PullThePlug", name := "fullOnes", desc := "()I" } : Jvm.MethodName)) ∈ lw_all := lw_g (lw_at lw_m4 193 rfl) rfl
theorem q1010 : (Jvm.Cond.code ({ cls := "PullThePlug", name := "fullOnes", desc := "()I" } : Jvm.MethodName) prog_1_method_102_code (3 : Nat) (Option.some Jvm.ClassFile.FieldType.int)) ∈ lw_all := lw_g (lw_at lw_m4 194 rfl) rfl
theorem q1016 : (Jvm.Cond.instanceMethod ({ cls := "PullThePlug", name := "lake", desc := "(II)I" } : Jvm.MethodName)) ∈ lw_all := lw_g (lw_at lw_m4 200 rfl) rfl
theorem q1017 : (Jvm.Cond.selects "PullThePlug" ({ cls := "PullThePlug", name := "lake", desc := "(II)I" } : Jvm.MethodName) ({ cls := "PullThePlug", name := "lake", desc := "(II)I" } : Jvm.MethodName)) ∈ lw_all := lw_g (lw_at lw_m4 201 rfl) rfl
theorem q1018 : (Jvm.Cond.code ({ cls := "PullThePlug", name := "lake", desc := "(II)I" } : Jvm.MethodName) prog_1_method_32_code (3 : Nat) (Option.some Jvm.ClassFile.FieldType.int)) ∈ lw_all := lw_g (lw_at lw_m4 202 rfl) rfl
theorem q1019 : (Jvm.Cond.classLink "PullThePlug" (301 : Nat) "java/util/NoSuchElementException") ∈ lw_all := lw_g (lw_at lw_m4 203 rfl) rfl
theorem q1058 : (Jvm.Cond.methodLink "PullThePlug" (303 : Nat) ({ cls := "java/util/NoSuchElementException", name := "<init>", desc := "()V" } : Jvm.MethodName)) ∈ lw_all := lw_g (lw_at lw_m5 2 rfl) rfl
theorem q1084 : (Jvm.Cond.instanceMethod ({ cls := "PullThePlug", name := "row", desc := "(I)J" } : Jvm.MethodName)) ∈ lw_all := lw_g (lw_at lw_m5 28 rfl) rfl
theorem q1085 : (Jvm.Cond.selects "PullThePlug" ({ cls := "PullThePlug", name := "row", desc := "(I)J" } : Jvm.MethodName) ({ cls := "PullThePlug", name := "row", desc := "(I)J" } : Jvm.MethodName)) ∈ lw_all := lw_g (lw_at lw_m5 29 rfl) rfl
theorem q1086 : (Jvm.Cond.code ({ cls := "PullThePlug", name := "row", desc := "(I)J" } : Jvm.MethodName) prog_1_method_105_code (2 : Nat) (Option.some Jvm.ClassFile.FieldType.long)) ∈ lw_all := lw_g (lw_at lw_m5 30 rfl) rfl
theorem q1651 : (Jvm.Cond.castable "PullThePlug" "java/lang/Object") ∈ lw_tbl := lw_at lw_m7 115 rfl
theorem in_X1 : ∀ w ∈ wsX10, w ∈ lw_all := lw_in wsX10 [224, 226, 228, 230, 232, 234, 236, 238, 240, 242, 244, 246, 248, 250, 252, 254, 256, 258, 260, 262, 264, 266, 268, 270, 272, 274, 276, 278, 280, 282, 284, 286, 288, 290, 292, 294, 296, 298, 300, 302, 304, 306, 308, 310, 312, 314, 316, 318, 320] (by decide +kernel) (by decide +kernel)
