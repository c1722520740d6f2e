/-! StaveScoreModel -/
set_option maxRecDepth 100000
def RX4 : String := "StaveScoreModel"
def TX4 : u_T := fun k => match k with
  | 0 => ("StaveScoreModel", "parts", "I", false)
  | 1 => ("StaveScoreModel", "partKind", "[I", true)
  | 2 => ("StaveScoreModel", "bars", "I", false)
  | 3 => ("StaveScoreModel", "barTime", "[J", true)
  | 4 => ("StaveScoreModel", "ever", "I", false)
  | 5 => ("StaveScoreModel", "there", "I", false)
  | 6 => ("StaveScoreModel", "isThere", "[Z", true)
  | 7 => ("StaveScoreModel", "voiceOf", "[I", true)
  | 8 => ("StaveScoreModel", "kindOf", "[I", true)
  | 9 => ("StaveScoreModel", "pitches", "[I", true)
  | 10 => ("StaveScoreModel", "pitchOf", "[I", true)
  | 11 => ("StaveScoreModel", "valueOf", "[I", true)
  | 12 => ("StaveScoreModel", "dotsOf", "[I", true)
  | 13 => ("StaveScoreModel", "isTied", "[Z", true)
  | 14 => ("StaveScoreModel", "row", "[I", true)
  | 15 => ("StaveScoreModel", "many", "[I", true)
  | 16 => ("StaveScoreModel", "tupletsEver", "I", false)
  | 17 => ("StaveScoreModel", "tupletsThere", "I", false)
  | 18 => ("StaveScoreModel", "isTuplet", "[Z", true)
  | 19 => ("StaveScoreModel", "tupletVoice", "[I", true)
  | 20 => ("StaveScoreModel", "tupletFirst", "[I", true)
  | 21 => ("StaveScoreModel", "tupletLast", "[I", true)
  | 22 => ("StaveScoreModel", "tupletN", "[I", true)
  | 23 => ("StaveScoreModel", "tupletM", "[I", true)
  | 24 => ("StaveScoreModel", "tupletUnit", "[I", true)
  | 25 => ("StaveScoreModel", "linesEver", "I", false)
  | 26 => ("StaveScoreModel", "linesThere", "I", false)
  | 27 => ("StaveScoreModel", "isLine", "[Z", true)
  | 28 => ("StaveScoreModel", "lineKind", "[I", true)
  | 29 => ("StaveScoreModel", "lineFrom", "[I", true)
  | 30 => ("StaveScoreModel", "lineTo", "[I", true)
  | 31 => ("StaveScoreModel", "walkMany", "I", false)
  | 32 => ("StaveScoreModel", "walkRow", "[I", true)
  | 33 => ("StaveScoreModel", "found", "I", false)
  | 34 => ("StaveScoreModel", "findings", "[I", true)
  | 35 => ("StaveScoreModel", "hasRack", "[Z", true)
  | 36 => ("StaveScoreModel", "rackKind", "[I", true)
  | 37 => ("StaveScoreModel", "rackSize", "[I", true)
  | 38 => ("StaveScoreModel", "rackRow", "[I", true)
  | 39 => ("StaveScoreModel", "slid", "[I", true)
  | 40 => ("StaveScoreModel", "hasShelf", "[Z", true)
  | 41 => ("StaveScoreModel", "shelfKind", "[I", true)
  | 42 => ("StaveScoreModel", "shelfSize", "[I", true)
  | 43 => ("StaveScoreModel", "shelfRow", "[I", true)
  | 44 => ("StaveScoreModel", "copied", "[I", true)
  | 45 => ("StaveScoreModel", "failed", "[I", true)
  | 46 => ("StaveScoreModel", "status", "I", false)
  | 47 => ("StaveScoreModel", "trace", "J", false)
  | 48 => ("StaveScoreModel", "thrown", "I", false)
  | 49 => ("StaveScoreModel", "walkTime", "[J", true)
  | _ => ("StaveScoreModel", "laid", "I", false)
def tyX4 : Nat → FieldType := fun k => match k with
  | 0 => .int
  | 1 => .array .int
  | 2 => .int
  | 3 => .array .long
  | 4 => .int
  | 5 => .int
  | 6 => .array .boolean
  | 7 => .array .int
  | 8 => .array .int
  | 9 => .array .int
  | 10 => .array .int
  | 11 => .array .int
  | 12 => .array .int
  | 13 => .array .boolean
  | 14 => .array .int
  | 15 => .array .int
  | 16 => .int
  | 17 => .int
  | 18 => .array .boolean
  | 19 => .array .int
  | 20 => .array .int
  | 21 => .array .int
  | 22 => .array .int
  | 23 => .array .int
  | 24 => .array .int
  | 25 => .int
  | 26 => .int
  | 27 => .array .boolean
  | 28 => .array .int
  | 29 => .array .int
  | 30 => .array .int
  | 31 => .int
  | 32 => .array .int
  | 33 => .int
  | 34 => .array .int
  | 35 => .array .boolean
  | 36 => .array .int
  | 37 => .array .int
  | 38 => .array .int
  | 39 => .array .int
  | 40 => .array .boolean
  | 41 => .array .int
  | 42 => .array .int
  | 43 => .array .int
  | 44 => .array .int
  | 45 => .array .int
  | 46 => .int
  | 47 => .long
  | 48 => .int
  | 49 => .array .long
  | _ => .int
abbrev wsX40 : List Cond := u_ws RX4 TX4 51
set_option maxRecDepth 100000 in
theorem nmX4 : ∀ a, a < 51 → ∀ b, b < 51 → a ≠ b → (TX4 a).2.1 ≠ (TX4 b).2.1 := by decide +kernel
set_option maxRecDepth 100000 in
theorem tyX4_ok : ∀ k, k < 51 → parseFieldDescriptor (TX4 k).2.2.1 = some (tyX4 k) := by decide +kernel
abbrev cX4_init : ByteArray := prog_21_method_1_code
def yX4_init : MethodName := ⟨RX4, "<init>", "()V"⟩
def dkwX4_init_12 : List UInt8 := [16, 60, 188, 10, 181, 0, 114, 42, 8, 188, 10, 181, 0, 117, 42, 17, 0, 150, 188, 11, 181, 0, 120, 177]
abbrev dktX4_init_12 : List UInt8 := dkwX4_init_12 ++ []
def dkwX4_init_11 : List UInt8 := [7, 188, 10, 181, 0, 105, 42, 7, 188, 10, 181, 0, 108, 42, 17, 0, 240, 188, 10, 181, 0, 111, 42]
abbrev dktX4_init_11 : List UInt8 := dkwX4_init_11 ++ dktX4_init_12
def dkwX4_init_10 : List UInt8 := [42, 16, 80, 188, 10, 181, 0, 96, 42, 16, 20, 188, 10, 181, 0, 99, 42, 7, 188, 4, 181, 0, 102, 42]
abbrev dktX4_init_10 : List UInt8 := dkwX4_init_10 ++ dktX4_init_11
def dkwX4_init_9 : List UInt8 := [181, 0, 84, 42, 7, 188, 4, 181, 0, 87, 42, 7, 188, 10, 181, 0, 90, 42, 7, 188, 10, 181, 0, 93]
abbrev dktX4_init_9 : List UInt8 := dkwX4_init_9 ++ dktX4_init_10
def dkwX4_init_8 : List UInt8 := [42, 16, 30, 188, 10, 181, 0, 78, 42, 17, 0, 150, 188, 10, 181, 0, 81, 42, 17, 1, 44, 188, 10]
abbrev dktX4_init_8 : List UInt8 := dkwX4_init_8 ++ dktX4_init_9
def dkwX4_init_7 : List UInt8 := [42, 16, 30, 188, 4, 181, 0, 69, 42, 16, 30, 188, 10, 181, 0, 72, 42, 16, 30, 188, 10, 181, 0, 75]
abbrev dktX4_init_7 : List UInt8 := dkwX4_init_7 ++ dktX4_init_8
def dkwX4_init_6 : List UInt8 := [42, 16, 20, 188, 10, 181, 0, 60, 42, 16, 20, 188, 10, 181, 0, 63, 42, 16, 20, 188, 10, 181, 0, 66]
abbrev dktX4_init_6 : List UInt8 := dkwX4_init_6 ++ dktX4_init_7
def dkwX4_init_5 : List UInt8 := [42, 16, 20, 188, 10, 181, 0, 51, 42, 16, 20, 188, 10, 181, 0, 54, 42, 16, 20, 188, 10, 181, 0, 57]
abbrev dktX4_init_5 : List UInt8 := dkwX4_init_5 ++ dktX4_init_6
def dkwX4_init_4 : List UInt8 := [17, 2, 208, 188, 10, 181, 0, 42, 42, 16, 18, 188, 10, 181, 0, 45, 42, 16, 20, 188, 4, 181, 0, 48]
abbrev dktX4_init_4 : List UInt8 := dkwX4_init_4 ++ dktX4_init_5
def dkwX4_init_3 : List UInt8 := [181, 0, 33, 42, 17, 0, 150, 188, 10, 181, 0, 36, 42, 17, 0, 150, 188, 4, 181, 0, 39, 42]
abbrev dktX4_init_3 : List UInt8 := dkwX4_init_3 ++ dktX4_init_4
def dkwX4_init_2 : List UInt8 := [17, 0, 150, 188, 10, 181, 0, 27, 42, 17, 3, 132, 188, 10, 181, 0, 30, 42, 17, 0, 150, 188, 10]
abbrev dktX4_init_2 : List UInt8 := dkwX4_init_2 ++ dktX4_init_3
def dkwX4_init_1 : List UInt8 := [188, 4, 181, 0, 17, 42, 17, 0, 150, 188, 10, 181, 0, 21, 42, 17, 0, 150, 188, 10, 181, 0, 24, 42]
abbrev dktX4_init_1 : List UInt8 := dkwX4_init_1 ++ dktX4_init_2
def dkwX4_init_0 : List UInt8 := [42, 183, 0, 1, 42, 16, 6, 188, 10, 181, 0, 7, 42, 16, 24, 188, 11, 181, 0, 13, 42, 17, 0, 150]
abbrev dktX4_init_0 : List UInt8 := dkwX4_init_0 ++ dktX4_init_1
theorem dksX4_init_0 : cX4_init.data.toList.drop 0 = dktX4_init_0 := by decide +kernel
theorem dksX4_init_1 : cX4_init.data.toList.drop 24 = dktX4_init_1 := dk_seg dksX4_init_0 24 rfl rfl
theorem dksX4_init_2 : cX4_init.data.toList.drop 48 = dktX4_init_2 := dk_seg dksX4_init_1 24 rfl rfl
theorem dksX4_init_3 : cX4_init.data.toList.drop 71 = dktX4_init_3 := dk_seg dksX4_init_2 23 rfl rfl
theorem dksX4_init_4 : cX4_init.data.toList.drop 93 = dktX4_init_4 := dk_seg dksX4_init_3 22 rfl rfl
theorem dksX4_init_5 : cX4_init.data.toList.drop 117 = dktX4_init_5 := dk_seg dksX4_init_4 24 rfl rfl
theorem dksX4_init_6 : cX4_init.data.toList.drop 141 = dktX4_init_6 := dk_seg dksX4_init_5 24 rfl rfl
theorem dksX4_init_7 : cX4_init.data.toList.drop 165 = dktX4_init_7 := dk_seg dksX4_init_6 24 rfl rfl
theorem dksX4_init_8 : cX4_init.data.toList.drop 189 = dktX4_init_8 := dk_seg dksX4_init_7 24 rfl rfl
theorem dksX4_init_9 : cX4_init.data.toList.drop 212 = dktX4_init_9 := dk_seg dksX4_init_8 23 rfl rfl
theorem dksX4_init_10 : cX4_init.data.toList.drop 236 = dktX4_init_10 := dk_seg dksX4_init_9 24 rfl rfl
theorem dksX4_init_11 : cX4_init.data.toList.drop 260 = dktX4_init_11 := dk_seg dksX4_init_10 24 rfl rfl
theorem dksX4_init_12 : cX4_init.data.toList.drop 283 = dktX4_init_12 := dk_seg dksX4_init_11 23 rfl rfl
theorem dX4_init_0 : decode cX4_init 0 = .ok (.aload_n 0, 1) := dk_42 (dk_at dksX4_init_0 0 rfl rfl)
theorem dX4_init_1 : decode cX4_init 1 = .ok (.invokespecial 1, 3) := dk_183 0 1 (dk_at dksX4_init_0 1 rfl rfl)
theorem dX4_init_4 : decode cX4_init 4 = .ok (.aload_n 0, 1) := dk_42 (dk_at dksX4_init_0 4 rfl rfl)
theorem dX4_init_5 : decode cX4_init 5 = .ok (.bipush 6, 2) := dk_16 6 (dk_at dksX4_init_0 5 rfl rfl)
theorem dX4_init_7 : decode cX4_init 7 = .ok (.newarray .int, 2) := dk_188_10 (dk_at dksX4_init_0 7 rfl rfl)
theorem dX4_init_9 : decode cX4_init 9 = .ok (.putfield 7, 3) := dk_181 0 7 (dk_at dksX4_init_0 9 rfl rfl)
theorem dX4_init_12 : decode cX4_init 12 = .ok (.aload_n 0, 1) := dk_42 (dk_at dksX4_init_0 12 rfl rfl)
theorem dX4_init_13 : decode cX4_init 13 = .ok (.bipush 24, 2) := dk_16 24 (dk_at dksX4_init_0 13 rfl rfl)
theorem dX4_init_15 : decode cX4_init 15 = .ok (.newarray .long, 2) := dk_188_11 (dk_at dksX4_init_0 15 rfl rfl)
theorem dX4_init_17 : decode cX4_init 17 = .ok (.putfield 13, 3) := dk_181 0 13 (dk_at dksX4_init_0 17 rfl rfl)
theorem dX4_init_20 : decode cX4_init 20 = .ok (.aload_n 0, 1) := dk_42 (dk_at dksX4_init_0 20 rfl rfl)
theorem dX4_init_21 : decode cX4_init 21 = .ok (.sipush 150, 3) := dk_17 0 150 (dk_at dksX4_init_0 21 rfl rfl)
theorem dX4_init_24 : decode cX4_init 24 = .ok (.newarray .boolean, 2) := dk_188_4 (dk_at dksX4_init_1 0 rfl rfl)
theorem dX4_init_26 : decode cX4_init 26 = .ok (.putfield 17, 3) := dk_181 0 17 (dk_at dksX4_init_1 2 rfl rfl)
theorem dX4_init_29 : decode cX4_init 29 = .ok (.aload_n 0, 1) := dk_42 (dk_at dksX4_init_1 5 rfl rfl)
theorem dX4_init_30 : decode cX4_init 30 = .ok (.sipush 150, 3) := dk_17 0 150 (dk_at dksX4_init_1 6 rfl rfl)
theorem dX4_init_33 : decode cX4_init 33 = .ok (.newarray .int, 2) := dk_188_10 (dk_at dksX4_init_1 9 rfl rfl)
theorem dX4_init_35 : decode cX4_init 35 = .ok (.putfield 21, 3) := dk_181 0 21 (dk_at dksX4_init_1 11 rfl rfl)
theorem dX4_init_38 : decode cX4_init 38 = .ok (.aload_n 0, 1) := dk_42 (dk_at dksX4_init_1 14 rfl rfl)
theorem dX4_init_39 : decode cX4_init 39 = .ok (.sipush 150, 3) := dk_17 0 150 (dk_at dksX4_init_1 15 rfl rfl)
theorem dX4_init_42 : decode cX4_init 42 = .ok (.newarray .int, 2) := dk_188_10 (dk_at dksX4_init_1 18 rfl rfl)
theorem dX4_init_44 : decode cX4_init 44 = .ok (.putfield 24, 3) := dk_181 0 24 (dk_at dksX4_init_1 20 rfl rfl)
theorem dX4_init_47 : decode cX4_init 47 = .ok (.aload_n 0, 1) := dk_42 (dk_at dksX4_init_1 23 rfl rfl)
theorem dX4_init_48 : decode cX4_init 48 = .ok (.sipush 150, 3) := dk_17 0 150 (dk_at dksX4_init_2 0 rfl rfl)
theorem dX4_init_51 : decode cX4_init 51 = .ok (.newarray .int, 2) := dk_188_10 (dk_at dksX4_init_2 3 rfl rfl)
theorem dX4_init_53 : decode cX4_init 53 = .ok (.putfield 27, 3) := dk_181 0 27 (dk_at dksX4_init_2 5 rfl rfl)
theorem dX4_init_56 : decode cX4_init 56 = .ok (.aload_n 0, 1) := dk_42 (dk_at dksX4_init_2 8 rfl rfl)
theorem dX4_init_57 : decode cX4_init 57 = .ok (.sipush 900, 3) := dk_17 3 132 (dk_at dksX4_init_2 9 rfl rfl)
theorem dX4_init_60 : decode cX4_init 60 = .ok (.newarray .int, 2) := dk_188_10 (dk_at dksX4_init_2 12 rfl rfl)
theorem dX4_init_62 : decode cX4_init 62 = .ok (.putfield 30, 3) := dk_181 0 30 (dk_at dksX4_init_2 14 rfl rfl)
theorem dX4_init_65 : decode cX4_init 65 = .ok (.aload_n 0, 1) := dk_42 (dk_at dksX4_init_2 17 rfl rfl)
theorem dX4_init_66 : decode cX4_init 66 = .ok (.sipush 150, 3) := dk_17 0 150 (dk_at dksX4_init_2 18 rfl rfl)
theorem dX4_init_69 : decode cX4_init 69 = .ok (.newarray .int, 2) := dk_188_10 (dk_at dksX4_init_2 21 rfl rfl)
theorem dX4_init_71 : decode cX4_init 71 = .ok (.putfield 33, 3) := dk_181 0 33 (dk_at dksX4_init_3 0 rfl rfl)
theorem dX4_init_74 : decode cX4_init 74 = .ok (.aload_n 0, 1) := dk_42 (dk_at dksX4_init_3 3 rfl rfl)
theorem dX4_init_75 : decode cX4_init 75 = .ok (.sipush 150, 3) := dk_17 0 150 (dk_at dksX4_init_3 4 rfl rfl)
theorem dX4_init_78 : decode cX4_init 78 = .ok (.newarray .int, 2) := dk_188_10 (dk_at dksX4_init_3 7 rfl rfl)
theorem dX4_init_80 : decode cX4_init 80 = .ok (.putfield 36, 3) := dk_181 0 36 (dk_at dksX4_init_3 9 rfl rfl)
theorem dX4_init_83 : decode cX4_init 83 = .ok (.aload_n 0, 1) := dk_42 (dk_at dksX4_init_3 12 rfl rfl)
theorem dX4_init_84 : decode cX4_init 84 = .ok (.sipush 150, 3) := dk_17 0 150 (dk_at dksX4_init_3 13 rfl rfl)
theorem dX4_init_87 : decode cX4_init 87 = .ok (.newarray .boolean, 2) := dk_188_4 (dk_at dksX4_init_3 16 rfl rfl)
theorem dX4_init_89 : decode cX4_init 89 = .ok (.putfield 39, 3) := dk_181 0 39 (dk_at dksX4_init_3 18 rfl rfl)
theorem dX4_init_92 : decode cX4_init 92 = .ok (.aload_n 0, 1) := dk_42 (dk_at dksX4_init_3 21 rfl rfl)
theorem dX4_init_93 : decode cX4_init 93 = .ok (.sipush 720, 3) := dk_17 2 208 (dk_at dksX4_init_4 0 rfl rfl)
theorem dX4_init_96 : decode cX4_init 96 = .ok (.newarray .int, 2) := dk_188_10 (dk_at dksX4_init_4 3 rfl rfl)
theorem dX4_init_98 : decode cX4_init 98 = .ok (.putfield 42, 3) := dk_181 0 42 (dk_at dksX4_init_4 5 rfl rfl)
theorem dX4_init_101 : decode cX4_init 101 = .ok (.aload_n 0, 1) := dk_42 (dk_at dksX4_init_4 8 rfl rfl)
theorem dX4_init_102 : decode cX4_init 102 = .ok (.bipush 18, 2) := dk_16 18 (dk_at dksX4_init_4 9 rfl rfl)
theorem dX4_init_104 : decode cX4_init 104 = .ok (.newarray .int, 2) := dk_188_10 (dk_at dksX4_init_4 11 rfl rfl)
theorem dX4_init_106 : decode cX4_init 106 = .ok (.putfield 45, 3) := dk_181 0 45 (dk_at dksX4_init_4 13 rfl rfl)
theorem dX4_init_109 : decode cX4_init 109 = .ok (.aload_n 0, 1) := dk_42 (dk_at dksX4_init_4 16 rfl rfl)
theorem dX4_init_110 : decode cX4_init 110 = .ok (.bipush 20, 2) := dk_16 20 (dk_at dksX4_init_4 17 rfl rfl)
theorem dX4_init_112 : decode cX4_init 112 = .ok (.newarray .boolean, 2) := dk_188_4 (dk_at dksX4_init_4 19 rfl rfl)
theorem dX4_init_114 : decode cX4_init 114 = .ok (.putfield 48, 3) := dk_181 0 48 (dk_at dksX4_init_4 21 rfl rfl)
theorem dX4_init_117 : decode cX4_init 117 = .ok (.aload_n 0, 1) := dk_42 (dk_at dksX4_init_5 0 rfl rfl)
theorem dX4_init_118 : decode cX4_init 118 = .ok (.bipush 20, 2) := dk_16 20 (dk_at dksX4_init_5 1 rfl rfl)
theorem dX4_init_120 : decode cX4_init 120 = .ok (.newarray .int, 2) := dk_188_10 (dk_at dksX4_init_5 3 rfl rfl)
theorem dX4_init_122 : decode cX4_init 122 = .ok (.putfield 51, 3) := dk_181 0 51 (dk_at dksX4_init_5 5 rfl rfl)
theorem dX4_init_125 : decode cX4_init 125 = .ok (.aload_n 0, 1) := dk_42 (dk_at dksX4_init_5 8 rfl rfl)
theorem dX4_init_126 : decode cX4_init 126 = .ok (.bipush 20, 2) := dk_16 20 (dk_at dksX4_init_5 9 rfl rfl)
theorem dX4_init_128 : decode cX4_init 128 = .ok (.newarray .int, 2) := dk_188_10 (dk_at dksX4_init_5 11 rfl rfl)
theorem dX4_init_130 : decode cX4_init 130 = .ok (.putfield 54, 3) := dk_181 0 54 (dk_at dksX4_init_5 13 rfl rfl)
theorem dX4_init_133 : decode cX4_init 133 = .ok (.aload_n 0, 1) := dk_42 (dk_at dksX4_init_5 16 rfl rfl)
theorem dX4_init_134 : decode cX4_init 134 = .ok (.bipush 20, 2) := dk_16 20 (dk_at dksX4_init_5 17 rfl rfl)
theorem dX4_init_136 : decode cX4_init 136 = .ok (.newarray .int, 2) := dk_188_10 (dk_at dksX4_init_5 19 rfl rfl)
theorem dX4_init_138 : decode cX4_init 138 = .ok (.putfield 57, 3) := dk_181 0 57 (dk_at dksX4_init_5 21 rfl rfl)
theorem dX4_init_141 : decode cX4_init 141 = .ok (.aload_n 0, 1) := dk_42 (dk_at dksX4_init_6 0 rfl rfl)
theorem dX4_init_142 : decode cX4_init 142 = .ok (.bipush 20, 2) := dk_16 20 (dk_at dksX4_init_6 1 rfl rfl)
theorem dX4_init_144 : decode cX4_init 144 = .ok (.newarray .int, 2) := dk_188_10 (dk_at dksX4_init_6 3 rfl rfl)
theorem dX4_init_146 : decode cX4_init 146 = .ok (.putfield 60, 3) := dk_181 0 60 (dk_at dksX4_init_6 5 rfl rfl)
theorem dX4_init_149 : decode cX4_init 149 = .ok (.aload_n 0, 1) := dk_42 (dk_at dksX4_init_6 8 rfl rfl)
theorem dX4_init_150 : decode cX4_init 150 = .ok (.bipush 20, 2) := dk_16 20 (dk_at dksX4_init_6 9 rfl rfl)
theorem dX4_init_152 : decode cX4_init 152 = .ok (.newarray .int, 2) := dk_188_10 (dk_at dksX4_init_6 11 rfl rfl)
theorem dX4_init_154 : decode cX4_init 154 = .ok (.putfield 63, 3) := dk_181 0 63 (dk_at dksX4_init_6 13 rfl rfl)
theorem dX4_init_157 : decode cX4_init 157 = .ok (.aload_n 0, 1) := dk_42 (dk_at dksX4_init_6 16 rfl rfl)
theorem dX4_init_158 : decode cX4_init 158 = .ok (.bipush 20, 2) := dk_16 20 (dk_at dksX4_init_6 17 rfl rfl)
theorem dX4_init_160 : decode cX4_init 160 = .ok (.newarray .int, 2) := dk_188_10 (dk_at dksX4_init_6 19 rfl rfl)
theorem dX4_init_162 : decode cX4_init 162 = .ok (.putfield 66, 3) := dk_181 0 66 (dk_at dksX4_init_6 21 rfl rfl)
theorem dX4_init_165 : decode cX4_init 165 = .ok (.aload_n 0, 1) := dk_42 (dk_at dksX4_init_7 0 rfl rfl)
theorem dX4_init_166 : decode cX4_init 166 = .ok (.bipush 30, 2) := dk_16 30 (dk_at dksX4_init_7 1 rfl rfl)
theorem dX4_init_168 : decode cX4_init 168 = .ok (.newarray .boolean, 2) := dk_188_4 (dk_at dksX4_init_7 3 rfl rfl)
theorem dX4_init_170 : decode cX4_init 170 = .ok (.putfield 69, 3) := dk_181 0 69 (dk_at dksX4_init_7 5 rfl rfl)
theorem dX4_init_173 : decode cX4_init 173 = .ok (.aload_n 0, 1) := dk_42 (dk_at dksX4_init_7 8 rfl rfl)
theorem dX4_init_174 : decode cX4_init 174 = .ok (.bipush 30, 2) := dk_16 30 (dk_at dksX4_init_7 9 rfl rfl)
theorem dX4_init_176 : decode cX4_init 176 = .ok (.newarray .int, 2) := dk_188_10 (dk_at dksX4_init_7 11 rfl rfl)
theorem dX4_init_178 : decode cX4_init 178 = .ok (.putfield 72, 3) := dk_181 0 72 (dk_at dksX4_init_7 13 rfl rfl)
theorem dX4_init_181 : decode cX4_init 181 = .ok (.aload_n 0, 1) := dk_42 (dk_at dksX4_init_7 16 rfl rfl)
theorem dX4_init_182 : decode cX4_init 182 = .ok (.bipush 30, 2) := dk_16 30 (dk_at dksX4_init_7 17 rfl rfl)
theorem dX4_init_184 : decode cX4_init 184 = .ok (.newarray .int, 2) := dk_188_10 (dk_at dksX4_init_7 19 rfl rfl)
theorem dX4_init_186 : decode cX4_init 186 = .ok (.putfield 75, 3) := dk_181 0 75 (dk_at dksX4_init_7 21 rfl rfl)
theorem dX4_init_189 : decode cX4_init 189 = .ok (.aload_n 0, 1) := dk_42 (dk_at dksX4_init_8 0 rfl rfl)
theorem dX4_init_190 : decode cX4_init 190 = .ok (.bipush 30, 2) := dk_16 30 (dk_at dksX4_init_8 1 rfl rfl)
theorem dX4_init_192 : decode cX4_init 192 = .ok (.newarray .int, 2) := dk_188_10 (dk_at dksX4_init_8 3 rfl rfl)
theorem dX4_init_194 : decode cX4_init 194 = .ok (.putfield 78, 3) := dk_181 0 78 (dk_at dksX4_init_8 5 rfl rfl)
theorem dX4_init_197 : decode cX4_init 197 = .ok (.aload_n 0, 1) := dk_42 (dk_at dksX4_init_8 8 rfl rfl)
theorem dX4_init_198 : decode cX4_init 198 = .ok (.sipush 150, 3) := dk_17 0 150 (dk_at dksX4_init_8 9 rfl rfl)
theorem dX4_init_201 : decode cX4_init 201 = .ok (.newarray .int, 2) := dk_188_10 (dk_at dksX4_init_8 12 rfl rfl)
theorem dX4_init_203 : decode cX4_init 203 = .ok (.putfield 81, 3) := dk_181 0 81 (dk_at dksX4_init_8 14 rfl rfl)
theorem dX4_init_206 : decode cX4_init 206 = .ok (.aload_n 0, 1) := dk_42 (dk_at dksX4_init_8 17 rfl rfl)
theorem dX4_init_207 : decode cX4_init 207 = .ok (.sipush 300, 3) := dk_17 1 44 (dk_at dksX4_init_8 18 rfl rfl)
theorem dX4_init_210 : decode cX4_init 210 = .ok (.newarray .int, 2) := dk_188_10 (dk_at dksX4_init_8 21 rfl rfl)
theorem dX4_init_212 : decode cX4_init 212 = .ok (.putfield 84, 3) := dk_181 0 84 (dk_at dksX4_init_9 0 rfl rfl)
theorem dX4_init_215 : decode cX4_init 215 = .ok (.aload_n 0, 1) := dk_42 (dk_at dksX4_init_9 3 rfl rfl)
theorem dX4_init_216 : decode cX4_init 216 = .ok (.iconst 4, 1) := dk_7 (dk_at dksX4_init_9 4 rfl rfl)
theorem dX4_init_217 : decode cX4_init 217 = .ok (.newarray .boolean, 2) := dk_188_4 (dk_at dksX4_init_9 5 rfl rfl)
theorem dX4_init_219 : decode cX4_init 219 = .ok (.putfield 87, 3) := dk_181 0 87 (dk_at dksX4_init_9 7 rfl rfl)
theorem dX4_init_222 : decode cX4_init 222 = .ok (.aload_n 0, 1) := dk_42 (dk_at dksX4_init_9 10 rfl rfl)
theorem dX4_init_223 : decode cX4_init 223 = .ok (.iconst 4, 1) := dk_7 (dk_at dksX4_init_9 11 rfl rfl)
theorem dX4_init_224 : decode cX4_init 224 = .ok (.newarray .int, 2) := dk_188_10 (dk_at dksX4_init_9 12 rfl rfl)
theorem dX4_init_226 : decode cX4_init 226 = .ok (.putfield 90, 3) := dk_181 0 90 (dk_at dksX4_init_9 14 rfl rfl)
theorem dX4_init_229 : decode cX4_init 229 = .ok (.aload_n 0, 1) := dk_42 (dk_at dksX4_init_9 17 rfl rfl)
theorem dX4_init_230 : decode cX4_init 230 = .ok (.iconst 4, 1) := dk_7 (dk_at dksX4_init_9 18 rfl rfl)
theorem dX4_init_231 : decode cX4_init 231 = .ok (.newarray .int, 2) := dk_188_10 (dk_at dksX4_init_9 19 rfl rfl)
theorem dX4_init_233 : decode cX4_init 233 = .ok (.putfield 93, 3) := dk_181 0 93 (dk_at dksX4_init_9 21 rfl rfl)
theorem dX4_init_236 : decode cX4_init 236 = .ok (.aload_n 0, 1) := dk_42 (dk_at dksX4_init_10 0 rfl rfl)
theorem dX4_init_237 : decode cX4_init 237 = .ok (.bipush 80, 2) := dk_16 80 (dk_at dksX4_init_10 1 rfl rfl)
theorem dX4_init_239 : decode cX4_init 239 = .ok (.newarray .int, 2) := dk_188_10 (dk_at dksX4_init_10 3 rfl rfl)
theorem dX4_init_241 : decode cX4_init 241 = .ok (.putfield 96, 3) := dk_181 0 96 (dk_at dksX4_init_10 5 rfl rfl)
theorem dX4_init_244 : decode cX4_init 244 = .ok (.aload_n 0, 1) := dk_42 (dk_at dksX4_init_10 8 rfl rfl)
theorem dX4_init_245 : decode cX4_init 245 = .ok (.bipush 20, 2) := dk_16 20 (dk_at dksX4_init_10 9 rfl rfl)
theorem dX4_init_247 : decode cX4_init 247 = .ok (.newarray .int, 2) := dk_188_10 (dk_at dksX4_init_10 11 rfl rfl)
theorem dX4_init_249 : decode cX4_init 249 = .ok (.putfield 99, 3) := dk_181 0 99 (dk_at dksX4_init_10 13 rfl rfl)
theorem dX4_init_252 : decode cX4_init 252 = .ok (.aload_n 0, 1) := dk_42 (dk_at dksX4_init_10 16 rfl rfl)
theorem dX4_init_253 : decode cX4_init 253 = .ok (.iconst 4, 1) := dk_7 (dk_at dksX4_init_10 17 rfl rfl)
theorem dX4_init_254 : decode cX4_init 254 = .ok (.newarray .boolean, 2) := dk_188_4 (dk_at dksX4_init_10 18 rfl rfl)
theorem dX4_init_256 : decode cX4_init 256 = .ok (.putfield 102, 3) := dk_181 0 102 (dk_at dksX4_init_10 20 rfl rfl)
theorem dX4_init_259 : decode cX4_init 259 = .ok (.aload_n 0, 1) := dk_42 (dk_at dksX4_init_10 23 rfl rfl)
theorem dX4_init_260 : decode cX4_init 260 = .ok (.iconst 4, 1) := dk_7 (dk_at dksX4_init_11 0 rfl rfl)
theorem dX4_init_261 : decode cX4_init 261 = .ok (.newarray .int, 2) := dk_188_10 (dk_at dksX4_init_11 1 rfl rfl)
theorem dX4_init_263 : decode cX4_init 263 = .ok (.putfield 105, 3) := dk_181 0 105 (dk_at dksX4_init_11 3 rfl rfl)
theorem dX4_init_266 : decode cX4_init 266 = .ok (.aload_n 0, 1) := dk_42 (dk_at dksX4_init_11 6 rfl rfl)
theorem dX4_init_267 : decode cX4_init 267 = .ok (.iconst 4, 1) := dk_7 (dk_at dksX4_init_11 7 rfl rfl)
theorem dX4_init_268 : decode cX4_init 268 = .ok (.newarray .int, 2) := dk_188_10 (dk_at dksX4_init_11 8 rfl rfl)
theorem dX4_init_270 : decode cX4_init 270 = .ok (.putfield 108, 3) := dk_181 0 108 (dk_at dksX4_init_11 10 rfl rfl)
theorem dX4_init_273 : decode cX4_init 273 = .ok (.aload_n 0, 1) := dk_42 (dk_at dksX4_init_11 13 rfl rfl)
theorem dX4_init_274 : decode cX4_init 274 = .ok (.sipush 240, 3) := dk_17 0 240 (dk_at dksX4_init_11 14 rfl rfl)
theorem dX4_init_277 : decode cX4_init 277 = .ok (.newarray .int, 2) := dk_188_10 (dk_at dksX4_init_11 17 rfl rfl)
theorem dX4_init_279 : decode cX4_init 279 = .ok (.putfield 111, 3) := dk_181 0 111 (dk_at dksX4_init_11 19 rfl rfl)
theorem dX4_init_282 : decode cX4_init 282 = .ok (.aload_n 0, 1) := dk_42 (dk_at dksX4_init_11 22 rfl rfl)
theorem dX4_init_283 : decode cX4_init 283 = .ok (.bipush 60, 2) := dk_16 60 (dk_at dksX4_init_12 0 rfl rfl)
theorem dX4_init_285 : decode cX4_init 285 = .ok (.newarray .int, 2) := dk_188_10 (dk_at dksX4_init_12 2 rfl rfl)
theorem dX4_init_287 : decode cX4_init 287 = .ok (.putfield 114, 3) := dk_181 0 114 (dk_at dksX4_init_12 4 rfl rfl)
theorem dX4_init_290 : decode cX4_init 290 = .ok (.aload_n 0, 1) := dk_42 (dk_at dksX4_init_12 7 rfl rfl)
theorem dX4_init_291 : decode cX4_init 291 = .ok (.iconst 5, 1) := dk_8 (dk_at dksX4_init_12 8 rfl rfl)
theorem dX4_init_292 : decode cX4_init 292 = .ok (.newarray .int, 2) := dk_188_10 (dk_at dksX4_init_12 9 rfl rfl)
theorem dX4_init_294 : decode cX4_init 294 = .ok (.putfield 117, 3) := dk_181 0 117 (dk_at dksX4_init_12 11 rfl rfl)
theorem dX4_init_297 : decode cX4_init 297 = .ok (.aload_n 0, 1) := dk_42 (dk_at dksX4_init_12 14 rfl rfl)
theorem dX4_init_298 : decode cX4_init 298 = .ok (.sipush 150, 3) := dk_17 0 150 (dk_at dksX4_init_12 15 rfl rfl)
theorem dX4_init_301 : decode cX4_init 301 = .ok (.newarray .long, 2) := dk_188_11 (dk_at dksX4_init_12 18 rfl rfl)
theorem dX4_init_303 : decode cX4_init 303 = .ok (.putfield 120, 3) := dk_181 0 120 (dk_at dksX4_init_12 20 rfl rfl)
theorem dX4_init_306 : decode cX4_init 306 = .ok (.return_, 1) := dk_177 (dk_at dksX4_init_12 23 rfl rfl)
abbrev cX4_part : ByteArray := prog_21_method_11_code
def yX4_part : MethodName := ⟨RX4, "part", "(I)I"⟩
def dkwX4_part_2 : List UInt8 := [79, 42, 89, 180, 0, 134, 4, 96, 181, 0, 134, 42, 180, 0, 134, 4, 100, 172]
abbrev dktX4_part_2 : List UInt8 := dkwX4_part_2 ++ []
def dkwX4_part_1 : List UInt8 := [180, 0, 134, 16, 6, 160, 0, 10, 42, 16, 252, 182, 0, 130, 172, 42, 180, 0, 7, 42, 180, 0, 134, 27]
abbrev dktX4_part_1 : List UInt8 := dkwX4_part_1 ++ dktX4_part_2
def dkwX4_part_0 : List UInt8 := [42, 182, 0, 144, 27, 133, 9, 20, 0, 147, 184, 0, 137, 154, 0, 10, 42, 16, 254, 182, 0, 130, 172, 42]
abbrev dktX4_part_0 : List UInt8 := dkwX4_part_0 ++ dktX4_part_1
theorem dksX4_part_0 : cX4_part.data.toList.drop 0 = dktX4_part_0 := by decide +kernel
theorem dksX4_part_1 : cX4_part.data.toList.drop 24 = dktX4_part_1 := dk_seg dksX4_part_0 24 rfl rfl
theorem dksX4_part_2 : cX4_part.data.toList.drop 48 = dktX4_part_2 := dk_seg dksX4_part_1 24 rfl rfl
theorem dX4_part_0 : decode cX4_part 0 = .ok (.aload_n 0, 1) := dk_42 (dk_at dksX4_part_0 0 rfl rfl)
theorem dX4_part_1 : decode cX4_part 1 = .ok (.invokevirtual 144, 3) := dk_182 0 144 (dk_at dksX4_part_0 1 rfl rfl)
theorem dX4_part_4 : decode cX4_part 4 = .ok (.iload_n 1, 1) := dk_27 (dk_at dksX4_part_0 4 rfl rfl)
theorem dX4_part_5 : decode cX4_part 5 = .ok (.i2l, 1) := dk_133 (dk_at dksX4_part_0 5 rfl rfl)
theorem dX4_part_6 : decode cX4_part 6 = .ok (.lconst 0, 1) := dk_9 (dk_at dksX4_part_0 6 rfl rfl)
theorem dX4_part_7 : decode cX4_part 7 = .ok (.ldc2_w 147, 3) := dk_20 0 147 (dk_at dksX4_part_0 7 rfl rfl)
theorem dX4_part_10 : decode cX4_part 10 = .ok (.invokestatic 137, 3) := dk_184 0 137 (dk_at dksX4_part_0 10 rfl rfl)
theorem dX4_part_13 : decode cX4_part 13 = .ok (.ifCond .ne 10, 3) := dk_154 0 10 (dk_at dksX4_part_0 13 rfl rfl)
theorem dX4_part_16 : decode cX4_part 16 = .ok (.aload_n 0, 1) := dk_42 (dk_at dksX4_part_0 16 rfl rfl)
theorem dX4_part_17 : decode cX4_part 17 = .ok (.bipush (-2), 2) := dk_16 254 (dk_at dksX4_part_0 17 rfl rfl)
theorem dX4_part_19 : decode cX4_part 19 = .ok (.invokevirtual 130, 3) := dk_182 0 130 (dk_at dksX4_part_0 19 rfl rfl)
theorem dX4_part_22 : decode cX4_part 22 = .ok (.ireturn, 1) := dk_172 (dk_at dksX4_part_0 22 rfl rfl)
theorem dX4_part_23 : decode cX4_part 23 = .ok (.aload_n 0, 1) := dk_42 (dk_at dksX4_part_0 23 rfl rfl)
theorem dX4_part_24 : decode cX4_part 24 = .ok (.getfield 134, 3) := dk_180 0 134 (dk_at dksX4_part_1 0 rfl rfl)
theorem dX4_part_27 : decode cX4_part 27 = .ok (.bipush 6, 2) := dk_16 6 (dk_at dksX4_part_1 3 rfl rfl)
theorem dX4_part_29 : decode cX4_part 29 = .ok (.if_icmp .ne 10, 3) := dk_160 0 10 (dk_at dksX4_part_1 5 rfl rfl)
theorem dX4_part_32 : decode cX4_part 32 = .ok (.aload_n 0, 1) := dk_42 (dk_at dksX4_part_1 8 rfl rfl)
theorem dX4_part_33 : decode cX4_part 33 = .ok (.bipush (-4), 2) := dk_16 252 (dk_at dksX4_part_1 9 rfl rfl)
theorem dX4_part_35 : decode cX4_part 35 = .ok (.invokevirtual 130, 3) := dk_182 0 130 (dk_at dksX4_part_1 11 rfl rfl)
theorem dX4_part_38 : decode cX4_part 38 = .ok (.ireturn, 1) := dk_172 (dk_at dksX4_part_1 14 rfl rfl)
theorem dX4_part_39 : decode cX4_part 39 = .ok (.aload_n 0, 1) := dk_42 (dk_at dksX4_part_1 15 rfl rfl)
theorem dX4_part_40 : decode cX4_part 40 = .ok (.getfield 7, 3) := dk_180 0 7 (dk_at dksX4_part_1 16 rfl rfl)
theorem dX4_part_43 : decode cX4_part 43 = .ok (.aload_n 0, 1) := dk_42 (dk_at dksX4_part_1 19 rfl rfl)
theorem dX4_part_44 : decode cX4_part 44 = .ok (.getfield 134, 3) := dk_180 0 134 (dk_at dksX4_part_1 20 rfl rfl)
theorem dX4_part_47 : decode cX4_part 47 = .ok (.iload_n 1, 1) := dk_27 (dk_at dksX4_part_1 23 rfl rfl)
theorem dX4_part_48 : decode cX4_part 48 = .ok (.iastore, 1) := dk_79 (dk_at dksX4_part_2 0 rfl rfl)
theorem dX4_part_49 : decode cX4_part 49 = .ok (.aload_n 0, 1) := dk_42 (dk_at dksX4_part_2 1 rfl rfl)
theorem dX4_part_50 : decode cX4_part 50 = .ok (.dup, 1) := dk_89 (dk_at dksX4_part_2 2 rfl rfl)
theorem dX4_part_51 : decode cX4_part 51 = .ok (.getfield 134, 3) := dk_180 0 134 (dk_at dksX4_part_2 3 rfl rfl)
theorem dX4_part_54 : decode cX4_part 54 = .ok (.iconst 1, 1) := dk_4 (dk_at dksX4_part_2 6 rfl rfl)
theorem dX4_part_55 : decode cX4_part 55 = .ok (.iadd, 1) := dk_96 (dk_at dksX4_part_2 7 rfl rfl)
theorem dX4_part_56 : decode cX4_part 56 = .ok (.putfield 134, 3) := dk_181 0 134 (dk_at dksX4_part_2 8 rfl rfl)
theorem dX4_part_59 : decode cX4_part 59 = .ok (.aload_n 0, 1) := dk_42 (dk_at dksX4_part_2 11 rfl rfl)
theorem dX4_part_60 : decode cX4_part 60 = .ok (.getfield 134, 3) := dk_180 0 134 (dk_at dksX4_part_2 12 rfl rfl)
theorem dX4_part_63 : decode cX4_part 63 = .ok (.iconst 1, 1) := dk_4 (dk_at dksX4_part_2 15 rfl rfl)
theorem dX4_part_64 : decode cX4_part 64 = .ok (.isub, 1) := dk_100 (dk_at dksX4_part_2 16 rfl rfl)
theorem dX4_part_65 : decode cX4_part 65 = .ok (.ireturn, 1) := dk_172 (dk_at dksX4_part_2 17 rfl rfl)
abbrev cX4_begin : ByteArray := prog_21_method_4_code
def yX4_begin : MethodName := ⟨RX4, "begin", "()V"⟩
def dkwX4_begin_0 : List UInt8 := [42, 3, 181, 0, 123, 42, 3, 181, 0, 127, 177]
abbrev dktX4_begin_0 : List UInt8 := dkwX4_begin_0 ++ []
theorem dksX4_begin_0 : cX4_begin.data.toList.drop 0 = dktX4_begin_0 := by decide +kernel
theorem dX4_begin_0 : decode cX4_begin 0 = .ok (.aload_n 0, 1) := dk_42 (dk_at dksX4_begin_0 0 rfl rfl)
theorem dX4_begin_1 : decode cX4_begin 1 = .ok (.iconst 0, 1) := dk_3 (dk_at dksX4_begin_0 1 rfl rfl)
theorem dX4_begin_2 : decode cX4_begin 2 = .ok (.putfield 123, 3) := dk_181 0 123 (dk_at dksX4_begin_0 2 rfl rfl)
theorem dX4_begin_5 : decode cX4_begin 5 = .ok (.aload_n 0, 1) := dk_42 (dk_at dksX4_begin_0 5 rfl rfl)
theorem dX4_begin_6 : decode cX4_begin 6 = .ok (.iconst 0, 1) := dk_3 (dk_at dksX4_begin_0 6 rfl rfl)
theorem dX4_begin_7 : decode cX4_begin 7 = .ok (.putfield 127, 3) := dk_181 0 127 (dk_at dksX4_begin_0 7 rfl rfl)
theorem dX4_begin_10 : decode cX4_begin 10 = .ok (.return_, 1) := dk_177 (dk_at dksX4_begin_0 10 rfl rfl)
abbrev cX4_in : ByteArray := prog_21_method_3_code
def yX4_in : MethodName := ⟨RX4, "in", "(JJJ)Z"⟩
def dkwX4_in_0 : List UInt8 := [30, 32, 148, 155, 0, 14, 30, 22, 4, 148, 157, 0, 7, 4, 167, 0, 4, 3, 172]
abbrev dktX4_in_0 : List UInt8 := dkwX4_in_0 ++ []
theorem dksX4_in_0 : cX4_in.data.toList.drop 0 = dktX4_in_0 := by decide +kernel
theorem dX4_in_0 : decode cX4_in 0 = .ok (.lload_n 0, 1) := dk_30 (dk_at dksX4_in_0 0 rfl rfl)
theorem dX4_in_1 : decode cX4_in 1 = .ok (.lload_n 2, 1) := dk_32 (dk_at dksX4_in_0 1 rfl rfl)
theorem dX4_in_2 : decode cX4_in 2 = .ok (.lcmp, 1) := dk_148 (dk_at dksX4_in_0 2 rfl rfl)
theorem dX4_in_3 : decode cX4_in 3 = .ok (.ifCond .lt 14, 3) := dk_155 0 14 (dk_at dksX4_in_0 3 rfl rfl)
theorem dX4_in_6 : decode cX4_in 6 = .ok (.lload_n 0, 1) := dk_30 (dk_at dksX4_in_0 6 rfl rfl)
theorem dX4_in_7 : decode cX4_in 7 = .ok (.lload 4, 2) := dk_22 4 (dk_at dksX4_in_0 7 rfl rfl)
theorem dX4_in_9 : decode cX4_in 9 = .ok (.lcmp, 1) := dk_148 (dk_at dksX4_in_0 9 rfl rfl)
theorem dX4_in_10 : decode cX4_in 10 = .ok (.ifCond .gt 7, 3) := dk_157 0 7 (dk_at dksX4_in_0 10 rfl rfl)
theorem dX4_in_13 : decode cX4_in 13 = .ok (.iconst 1, 1) := dk_4 (dk_at dksX4_in_0 13 rfl rfl)
theorem dX4_in_14 : decode cX4_in 14 = .ok (.goto 4, 3) := dk_167 0 4 (dk_at dksX4_in_0 14 rfl rfl)
theorem dX4_in_17 : decode cX4_in 17 = .ok (.iconst 0, 1) := dk_3 (dk_at dksX4_in_0 17 rfl rfl)
theorem dX4_in_18 : decode cX4_in 18 = .ok (.ireturn, 1) := dk_172 (dk_at dksX4_in_0 18 rfl rfl)
abbrev cX4_no : ByteArray := prog_21_method_5_code
def yX4_no : MethodName := ⟨RX4, "no", "(I)I"⟩
def dkwX4_no_0 : List UInt8 := [42, 27, 181, 0, 127, 27, 172]
abbrev dktX4_no_0 : List UInt8 := dkwX4_no_0 ++ []
theorem dksX4_no_0 : cX4_no.data.toList.drop 0 = dktX4_no_0 := by decide +kernel
theorem dX4_no_0 : decode cX4_no 0 = .ok (.aload_n 0, 1) := dk_42 (dk_at dksX4_no_0 0 rfl rfl)
theorem dX4_no_1 : decode cX4_no 1 = .ok (.iload_n 1, 1) := dk_27 (dk_at dksX4_no_0 1 rfl rfl)
theorem dX4_no_2 : decode cX4_no 2 = .ok (.putfield 127, 3) := dk_181 0 127 (dk_at dksX4_no_0 2 rfl rfl)
theorem dX4_no_5 : decode cX4_no 5 = .ok (.iload_n 1, 1) := dk_27 (dk_at dksX4_no_0 5 rfl rfl)
theorem dX4_no_6 : decode cX4_no 6 = .ok (.ireturn, 1) := dk_172 (dk_at dksX4_no_0 6 rfl rfl)
abbrev cX4_bar : ByteArray := prog_21_method_12_code
def yX4_bar : MethodName := ⟨RX4, "bar", "(II)I"⟩
def dkwX4_bar_5 : List UInt8 := [4, 100, 172]
abbrev dktX4_bar_5 : List UInt8 := dkwX4_bar_5 ++ []
def dkwX4_bar_4 : List UInt8 := [20, 0, 154, 28, 133, 109, 27, 133, 105, 80, 42, 89, 180, 0, 151, 4, 96, 181, 0, 151, 42, 180, 0, 151]
abbrev dktX4_bar_4 : List UInt8 := dkwX4_bar_4 ++ dktX4_bar_5
def dkwX4_bar_3 : List UInt8 := [180, 0, 151, 16, 24, 160, 0, 10, 42, 16, 252, 182, 0, 130, 172, 42, 180, 0, 13, 42, 180, 0, 151]
abbrev dktX4_bar_3 : List UInt8 := dkwX4_bar_3 ++ dktX4_bar_4
def dkwX4_bar_2 : List UInt8 := [153, 0, 15, 27, 133, 10, 20, 0, 149, 184, 0, 137, 154, 0, 10, 42, 16, 254, 182, 0, 130, 172, 42]
abbrev dktX4_bar_2 : List UInt8 := dkwX4_bar_2 ++ dktX4_bar_3
def dkwX4_bar_1 : List UInt8 := [159, 0, 15, 28, 16, 16, 159, 0, 9, 28, 16, 32, 160, 0, 7, 4, 167, 0, 4, 3, 62, 29]
abbrev dktX4_bar_1 : List UInt8 := dkwX4_bar_1 ++ dktX4_bar_2
def dkwX4_bar_0 : List UInt8 := [42, 182, 0, 144, 28, 4, 159, 0, 31, 28, 5, 159, 0, 26, 28, 7, 159, 0, 21, 28, 16, 8]
abbrev dktX4_bar_0 : List UInt8 := dkwX4_bar_0 ++ dktX4_bar_1
theorem dksX4_bar_0 : cX4_bar.data.toList.drop 0 = dktX4_bar_0 := by decide +kernel
theorem dksX4_bar_1 : cX4_bar.data.toList.drop 22 = dktX4_bar_1 := dk_seg dksX4_bar_0 22 rfl rfl
theorem dksX4_bar_2 : cX4_bar.data.toList.drop 44 = dktX4_bar_2 := dk_seg dksX4_bar_1 22 rfl rfl
theorem dksX4_bar_3 : cX4_bar.data.toList.drop 67 = dktX4_bar_3 := dk_seg dksX4_bar_2 23 rfl rfl
theorem dksX4_bar_4 : cX4_bar.data.toList.drop 90 = dktX4_bar_4 := dk_seg dksX4_bar_3 23 rfl rfl
theorem dksX4_bar_5 : cX4_bar.data.toList.drop 114 = dktX4_bar_5 := dk_seg dksX4_bar_4 24 rfl rfl
theorem dX4_bar_0 : decode cX4_bar 0 = .ok (.aload_n 0, 1) := dk_42 (dk_at dksX4_bar_0 0 rfl rfl)
theorem dX4_bar_1 : decode cX4_bar 1 = .ok (.invokevirtual 144, 3) := dk_182 0 144 (dk_at dksX4_bar_0 1 rfl rfl)
theorem dX4_bar_4 : decode cX4_bar 4 = .ok (.iload_n 2, 1) := dk_28 (dk_at dksX4_bar_0 4 rfl rfl)
theorem dX4_bar_5 : decode cX4_bar 5 = .ok (.iconst 1, 1) := dk_4 (dk_at dksX4_bar_0 5 rfl rfl)
theorem dX4_bar_6 : decode cX4_bar 6 = .ok (.if_icmp .eq 31, 3) := dk_159 0 31 (dk_at dksX4_bar_0 6 rfl rfl)
theorem dX4_bar_9 : decode cX4_bar 9 = .ok (.iload_n 2, 1) := dk_28 (dk_at dksX4_bar_0 9 rfl rfl)
theorem dX4_bar_10 : decode cX4_bar 10 = .ok (.iconst 2, 1) := dk_5 (dk_at dksX4_bar_0 10 rfl rfl)
theorem dX4_bar_11 : decode cX4_bar 11 = .ok (.if_icmp .eq 26, 3) := dk_159 0 26 (dk_at dksX4_bar_0 11 rfl rfl)
theorem dX4_bar_14 : decode cX4_bar 14 = .ok (.iload_n 2, 1) := dk_28 (dk_at dksX4_bar_0 14 rfl rfl)
theorem dX4_bar_15 : decode cX4_bar 15 = .ok (.iconst 4, 1) := dk_7 (dk_at dksX4_bar_0 15 rfl rfl)
theorem dX4_bar_16 : decode cX4_bar 16 = .ok (.if_icmp .eq 21, 3) := dk_159 0 21 (dk_at dksX4_bar_0 16 rfl rfl)
theorem dX4_bar_19 : decode cX4_bar 19 = .ok (.iload_n 2, 1) := dk_28 (dk_at dksX4_bar_0 19 rfl rfl)
theorem dX4_bar_20 : decode cX4_bar 20 = .ok (.bipush 8, 2) := dk_16 8 (dk_at dksX4_bar_0 20 rfl rfl)
theorem dX4_bar_22 : decode cX4_bar 22 = .ok (.if_icmp .eq 15, 3) := dk_159 0 15 (dk_at dksX4_bar_1 0 rfl rfl)
theorem dX4_bar_25 : decode cX4_bar 25 = .ok (.iload_n 2, 1) := dk_28 (dk_at dksX4_bar_1 3 rfl rfl)
theorem dX4_bar_26 : decode cX4_bar 26 = .ok (.bipush 16, 2) := dk_16 16 (dk_at dksX4_bar_1 4 rfl rfl)
theorem dX4_bar_28 : decode cX4_bar 28 = .ok (.if_icmp .eq 9, 3) := dk_159 0 9 (dk_at dksX4_bar_1 6 rfl rfl)
theorem dX4_bar_31 : decode cX4_bar 31 = .ok (.iload_n 2, 1) := dk_28 (dk_at dksX4_bar_1 9 rfl rfl)
theorem dX4_bar_32 : decode cX4_bar 32 = .ok (.bipush 32, 2) := dk_16 32 (dk_at dksX4_bar_1 10 rfl rfl)
theorem dX4_bar_34 : decode cX4_bar 34 = .ok (.if_icmp .ne 7, 3) := dk_160 0 7 (dk_at dksX4_bar_1 12 rfl rfl)
theorem dX4_bar_37 : decode cX4_bar 37 = .ok (.iconst 1, 1) := dk_4 (dk_at dksX4_bar_1 15 rfl rfl)
theorem dX4_bar_38 : decode cX4_bar 38 = .ok (.goto 4, 3) := dk_167 0 4 (dk_at dksX4_bar_1 16 rfl rfl)
theorem dX4_bar_41 : decode cX4_bar 41 = .ok (.iconst 0, 1) := dk_3 (dk_at dksX4_bar_1 19 rfl rfl)
theorem dX4_bar_42 : decode cX4_bar 42 = .ok (.istore_n 3, 1) := dk_62 (dk_at dksX4_bar_1 20 rfl rfl)
theorem dX4_bar_43 : decode cX4_bar 43 = .ok (.iload_n 3, 1) := dk_29 (dk_at dksX4_bar_1 21 rfl rfl)
theorem dX4_bar_44 : decode cX4_bar 44 = .ok (.ifCond .eq 15, 3) := dk_153 0 15 (dk_at dksX4_bar_2 0 rfl rfl)
theorem dX4_bar_47 : decode cX4_bar 47 = .ok (.iload_n 1, 1) := dk_27 (dk_at dksX4_bar_2 3 rfl rfl)
theorem dX4_bar_48 : decode cX4_bar 48 = .ok (.i2l, 1) := dk_133 (dk_at dksX4_bar_2 4 rfl rfl)
theorem dX4_bar_49 : decode cX4_bar 49 = .ok (.lconst 1, 1) := dk_10 (dk_at dksX4_bar_2 5 rfl rfl)
theorem dX4_bar_50 : decode cX4_bar 50 = .ok (.ldc2_w 149, 3) := dk_20 0 149 (dk_at dksX4_bar_2 6 rfl rfl)
theorem dX4_bar_53 : decode cX4_bar 53 = .ok (.invokestatic 137, 3) := dk_184 0 137 (dk_at dksX4_bar_2 9 rfl rfl)
theorem dX4_bar_56 : decode cX4_bar 56 = .ok (.ifCond .ne 10, 3) := dk_154 0 10 (dk_at dksX4_bar_2 12 rfl rfl)
theorem dX4_bar_59 : decode cX4_bar 59 = .ok (.aload_n 0, 1) := dk_42 (dk_at dksX4_bar_2 15 rfl rfl)
theorem dX4_bar_60 : decode cX4_bar 60 = .ok (.bipush (-2), 2) := dk_16 254 (dk_at dksX4_bar_2 16 rfl rfl)
theorem dX4_bar_62 : decode cX4_bar 62 = .ok (.invokevirtual 130, 3) := dk_182 0 130 (dk_at dksX4_bar_2 18 rfl rfl)
theorem dX4_bar_65 : decode cX4_bar 65 = .ok (.ireturn, 1) := dk_172 (dk_at dksX4_bar_2 21 rfl rfl)
theorem dX4_bar_66 : decode cX4_bar 66 = .ok (.aload_n 0, 1) := dk_42 (dk_at dksX4_bar_2 22 rfl rfl)
theorem dX4_bar_67 : decode cX4_bar 67 = .ok (.getfield 151, 3) := dk_180 0 151 (dk_at dksX4_bar_3 0 rfl rfl)
theorem dX4_bar_70 : decode cX4_bar 70 = .ok (.bipush 24, 2) := dk_16 24 (dk_at dksX4_bar_3 3 rfl rfl)
theorem dX4_bar_72 : decode cX4_bar 72 = .ok (.if_icmp .ne 10, 3) := dk_160 0 10 (dk_at dksX4_bar_3 5 rfl rfl)
theorem dX4_bar_75 : decode cX4_bar 75 = .ok (.aload_n 0, 1) := dk_42 (dk_at dksX4_bar_3 8 rfl rfl)
theorem dX4_bar_76 : decode cX4_bar 76 = .ok (.bipush (-4), 2) := dk_16 252 (dk_at dksX4_bar_3 9 rfl rfl)
theorem dX4_bar_78 : decode cX4_bar 78 = .ok (.invokevirtual 130, 3) := dk_182 0 130 (dk_at dksX4_bar_3 11 rfl rfl)
theorem dX4_bar_81 : decode cX4_bar 81 = .ok (.ireturn, 1) := dk_172 (dk_at dksX4_bar_3 14 rfl rfl)
theorem dX4_bar_82 : decode cX4_bar 82 = .ok (.aload_n 0, 1) := dk_42 (dk_at dksX4_bar_3 15 rfl rfl)
theorem dX4_bar_83 : decode cX4_bar 83 = .ok (.getfield 13, 3) := dk_180 0 13 (dk_at dksX4_bar_3 16 rfl rfl)
theorem dX4_bar_86 : decode cX4_bar 86 = .ok (.aload_n 0, 1) := dk_42 (dk_at dksX4_bar_3 19 rfl rfl)
theorem dX4_bar_87 : decode cX4_bar 87 = .ok (.getfield 151, 3) := dk_180 0 151 (dk_at dksX4_bar_3 20 rfl rfl)
theorem dX4_bar_90 : decode cX4_bar 90 = .ok (.ldc2_w 154, 3) := dk_20 0 154 (dk_at dksX4_bar_4 0 rfl rfl)
theorem dX4_bar_93 : decode cX4_bar 93 = .ok (.iload_n 2, 1) := dk_28 (dk_at dksX4_bar_4 3 rfl rfl)
theorem dX4_bar_94 : decode cX4_bar 94 = .ok (.i2l, 1) := dk_133 (dk_at dksX4_bar_4 4 rfl rfl)
theorem dX4_bar_95 : decode cX4_bar 95 = .ok (.ldiv, 1) := dk_109 (dk_at dksX4_bar_4 5 rfl rfl)
theorem dX4_bar_96 : decode cX4_bar 96 = .ok (.iload_n 1, 1) := dk_27 (dk_at dksX4_bar_4 6 rfl rfl)
theorem dX4_bar_97 : decode cX4_bar 97 = .ok (.i2l, 1) := dk_133 (dk_at dksX4_bar_4 7 rfl rfl)
theorem dX4_bar_98 : decode cX4_bar 98 = .ok (.lmul, 1) := dk_105 (dk_at dksX4_bar_4 8 rfl rfl)
theorem dX4_bar_99 : decode cX4_bar 99 = .ok (.lastore, 1) := dk_80 (dk_at dksX4_bar_4 9 rfl rfl)
theorem dX4_bar_100 : decode cX4_bar 100 = .ok (.aload_n 0, 1) := dk_42 (dk_at dksX4_bar_4 10 rfl rfl)
theorem dX4_bar_101 : decode cX4_bar 101 = .ok (.dup, 1) := dk_89 (dk_at dksX4_bar_4 11 rfl rfl)
theorem dX4_bar_102 : decode cX4_bar 102 = .ok (.getfield 151, 3) := dk_180 0 151 (dk_at dksX4_bar_4 12 rfl rfl)
theorem dX4_bar_105 : decode cX4_bar 105 = .ok (.iconst 1, 1) := dk_4 (dk_at dksX4_bar_4 15 rfl rfl)
theorem dX4_bar_106 : decode cX4_bar 106 = .ok (.iadd, 1) := dk_96 (dk_at dksX4_bar_4 16 rfl rfl)
theorem dX4_bar_107 : decode cX4_bar 107 = .ok (.putfield 151, 3) := dk_181 0 151 (dk_at dksX4_bar_4 17 rfl rfl)
theorem dX4_bar_110 : decode cX4_bar 110 = .ok (.aload_n 0, 1) := dk_42 (dk_at dksX4_bar_4 20 rfl rfl)
theorem dX4_bar_111 : decode cX4_bar 111 = .ok (.getfield 151, 3) := dk_180 0 151 (dk_at dksX4_bar_4 21 rfl rfl)
theorem dX4_bar_114 : decode cX4_bar 114 = .ok (.iconst 1, 1) := dk_4 (dk_at dksX4_bar_5 0 rfl rfl)
theorem dX4_bar_115 : decode cX4_bar 115 = .ok (.isub, 1) := dk_100 (dk_at dksX4_bar_5 1 rfl rfl)
theorem dX4_bar_116 : decode cX4_bar 116 = .ok (.ireturn, 1) := dk_172 (dk_at dksX4_bar_5 2 rfl rfl)
abbrev cX4_asks : ByteArray := prog_21_method_16_code
def yX4_asks : MethodName := ⟨RX4, "asks", "(III)I"⟩
def dkwX4_asks_3 : List UInt8 := [21, 4, 182, 0, 178, 167, 0, 8, 21, 4, 184, 0, 181, 172]
abbrev dktX4_asks_3 : List UInt8 := dkwX4_asks_3 ++ []
def dkwX4_asks_2 : List UInt8 := [46, 54, 4, 28, 154, 0, 13, 42, 21, 4, 29, 182, 0, 174, 167, 0, 22, 28, 4, 160, 0, 12, 42]
abbrev dktX4_asks_2 : List UInt8 := dkwX4_asks_2 ++ dktX4_asks_3
def dkwX4_asks_1 : List UInt8 := [20, 0, 170, 184, 0, 137, 154, 0, 13, 42, 16, 254, 181, 0, 127, 17, 248, 48, 172, 42, 180, 0, 7, 27]
abbrev dktX4_asks_1 : List UInt8 := dkwX4_asks_1 ++ dktX4_asks_2
def dkwX4_asks_0 : List UInt8 := [42, 182, 0, 144, 27, 133, 9, 42, 180, 0, 134, 4, 100, 133, 184, 0, 137, 153, 0, 15, 28, 133, 9]
abbrev dktX4_asks_0 : List UInt8 := dkwX4_asks_0 ++ dktX4_asks_1
theorem dksX4_asks_0 : cX4_asks.data.toList.drop 0 = dktX4_asks_0 := by decide +kernel
theorem dksX4_asks_1 : cX4_asks.data.toList.drop 23 = dktX4_asks_1 := dk_seg dksX4_asks_0 23 rfl rfl
theorem dksX4_asks_2 : cX4_asks.data.toList.drop 47 = dktX4_asks_2 := dk_seg dksX4_asks_1 24 rfl rfl
theorem dksX4_asks_3 : cX4_asks.data.toList.drop 70 = dktX4_asks_3 := dk_seg dksX4_asks_2 23 rfl rfl
theorem dX4_asks_0 : decode cX4_asks 0 = .ok (.aload_n 0, 1) := dk_42 (dk_at dksX4_asks_0 0 rfl rfl)
theorem dX4_asks_1 : decode cX4_asks 1 = .ok (.invokevirtual 144, 3) := dk_182 0 144 (dk_at dksX4_asks_0 1 rfl rfl)
theorem dX4_asks_4 : decode cX4_asks 4 = .ok (.iload_n 1, 1) := dk_27 (dk_at dksX4_asks_0 4 rfl rfl)
theorem dX4_asks_5 : decode cX4_asks 5 = .ok (.i2l, 1) := dk_133 (dk_at dksX4_asks_0 5 rfl rfl)
theorem dX4_asks_6 : decode cX4_asks 6 = .ok (.lconst 0, 1) := dk_9 (dk_at dksX4_asks_0 6 rfl rfl)
theorem dX4_asks_7 : decode cX4_asks 7 = .ok (.aload_n 0, 1) := dk_42 (dk_at dksX4_asks_0 7 rfl rfl)
theorem dX4_asks_8 : decode cX4_asks 8 = .ok (.getfield 134, 3) := dk_180 0 134 (dk_at dksX4_asks_0 8 rfl rfl)
theorem dX4_asks_11 : decode cX4_asks 11 = .ok (.iconst 1, 1) := dk_4 (dk_at dksX4_asks_0 11 rfl rfl)
theorem dX4_asks_12 : decode cX4_asks 12 = .ok (.isub, 1) := dk_100 (dk_at dksX4_asks_0 12 rfl rfl)
theorem dX4_asks_13 : decode cX4_asks 13 = .ok (.i2l, 1) := dk_133 (dk_at dksX4_asks_0 13 rfl rfl)
theorem dX4_asks_14 : decode cX4_asks 14 = .ok (.invokestatic 137, 3) := dk_184 0 137 (dk_at dksX4_asks_0 14 rfl rfl)
theorem dX4_asks_17 : decode cX4_asks 17 = .ok (.ifCond .eq 15, 3) := dk_153 0 15 (dk_at dksX4_asks_0 17 rfl rfl)
theorem dX4_asks_20 : decode cX4_asks 20 = .ok (.iload_n 2, 1) := dk_28 (dk_at dksX4_asks_0 20 rfl rfl)
theorem dX4_asks_21 : decode cX4_asks 21 = .ok (.i2l, 1) := dk_133 (dk_at dksX4_asks_0 21 rfl rfl)
theorem dX4_asks_22 : decode cX4_asks 22 = .ok (.lconst 0, 1) := dk_9 (dk_at dksX4_asks_0 22 rfl rfl)
theorem dX4_asks_23 : decode cX4_asks 23 = .ok (.ldc2_w 170, 3) := dk_20 0 170 (dk_at dksX4_asks_1 0 rfl rfl)
theorem dX4_asks_26 : decode cX4_asks 26 = .ok (.invokestatic 137, 3) := dk_184 0 137 (dk_at dksX4_asks_1 3 rfl rfl)
theorem dX4_asks_29 : decode cX4_asks 29 = .ok (.ifCond .ne 13, 3) := dk_154 0 13 (dk_at dksX4_asks_1 6 rfl rfl)
theorem dX4_asks_32 : decode cX4_asks 32 = .ok (.aload_n 0, 1) := dk_42 (dk_at dksX4_asks_1 9 rfl rfl)
theorem dX4_asks_33 : decode cX4_asks 33 = .ok (.bipush (-2), 2) := dk_16 254 (dk_at dksX4_asks_1 10 rfl rfl)
theorem dX4_asks_35 : decode cX4_asks 35 = .ok (.putfield 127, 3) := dk_181 0 127 (dk_at dksX4_asks_1 12 rfl rfl)
theorem dX4_asks_38 : decode cX4_asks 38 = .ok (.sipush (-2000), 3) := dk_17 248 48 (dk_at dksX4_asks_1 15 rfl rfl)
theorem dX4_asks_41 : decode cX4_asks 41 = .ok (.ireturn, 1) := dk_172 (dk_at dksX4_asks_1 18 rfl rfl)
theorem dX4_asks_42 : decode cX4_asks 42 = .ok (.aload_n 0, 1) := dk_42 (dk_at dksX4_asks_1 19 rfl rfl)
theorem dX4_asks_43 : decode cX4_asks 43 = .ok (.getfield 7, 3) := dk_180 0 7 (dk_at dksX4_asks_1 20 rfl rfl)
theorem dX4_asks_46 : decode cX4_asks 46 = .ok (.iload_n 1, 1) := dk_27 (dk_at dksX4_asks_1 23 rfl rfl)
theorem dX4_asks_47 : decode cX4_asks 47 = .ok (.iaload, 1) := dk_46 (dk_at dksX4_asks_2 0 rfl rfl)
theorem dX4_asks_48 : decode cX4_asks 48 = .ok (.istore 4, 2) := dk_54 4 (dk_at dksX4_asks_2 1 rfl rfl)
theorem dX4_asks_50 : decode cX4_asks 50 = .ok (.iload_n 2, 1) := dk_28 (dk_at dksX4_asks_2 3 rfl rfl)
theorem dX4_asks_51 : decode cX4_asks 51 = .ok (.ifCond .ne 13, 3) := dk_154 0 13 (dk_at dksX4_asks_2 4 rfl rfl)
theorem dX4_asks_54 : decode cX4_asks 54 = .ok (.aload_n 0, 1) := dk_42 (dk_at dksX4_asks_2 7 rfl rfl)
theorem dX4_asks_55 : decode cX4_asks 55 = .ok (.iload 4, 2) := dk_21 4 (dk_at dksX4_asks_2 8 rfl rfl)
theorem dX4_asks_57 : decode cX4_asks 57 = .ok (.iload_n 3, 1) := dk_29 (dk_at dksX4_asks_2 10 rfl rfl)
theorem dX4_asks_58 : decode cX4_asks 58 = .ok (.invokevirtual 174, 3) := dk_182 0 174 (dk_at dksX4_asks_2 11 rfl rfl)
theorem dX4_asks_61 : decode cX4_asks 61 = .ok (.goto 22, 3) := dk_167 0 22 (dk_at dksX4_asks_2 14 rfl rfl)
theorem dX4_asks_64 : decode cX4_asks 64 = .ok (.iload_n 2, 1) := dk_28 (dk_at dksX4_asks_2 17 rfl rfl)
theorem dX4_asks_65 : decode cX4_asks 65 = .ok (.iconst 1, 1) := dk_4 (dk_at dksX4_asks_2 18 rfl rfl)
theorem dX4_asks_66 : decode cX4_asks 66 = .ok (.if_icmp .ne 12, 3) := dk_160 0 12 (dk_at dksX4_asks_2 19 rfl rfl)
theorem dX4_asks_69 : decode cX4_asks 69 = .ok (.aload_n 0, 1) := dk_42 (dk_at dksX4_asks_2 22 rfl rfl)
theorem dX4_asks_70 : decode cX4_asks 70 = .ok (.iload 4, 2) := dk_21 4 (dk_at dksX4_asks_3 0 rfl rfl)
theorem dX4_asks_72 : decode cX4_asks 72 = .ok (.invokevirtual 178, 3) := dk_182 0 178 (dk_at dksX4_asks_3 2 rfl rfl)
theorem dX4_asks_75 : decode cX4_asks 75 = .ok (.goto 8, 3) := dk_167 0 8 (dk_at dksX4_asks_3 5 rfl rfl)
theorem dX4_asks_78 : decode cX4_asks 78 = .ok (.iload 4, 2) := dk_21 4 (dk_at dksX4_asks_3 8 rfl rfl)
theorem dX4_asks_80 : decode cX4_asks 80 = .ok (.invokestatic 181, 3) := dk_184 0 181 (dk_at dksX4_asks_3 10 rfl rfl)
theorem dX4_asks_83 : decode cX4_asks 83 = .ok (.ireturn, 1) := dk_172 (dk_at dksX4_asks_3 13 rfl rfl)
abbrev cX4_sounds : ByteArray := prog_21_method_13_code
def yX4_sounds : MethodName := ⟨RX4, "sounds", "(II)I"⟩
def dkwX4_sounds_5 : List UInt8 := [89, 180, 0, 156, 10, 97, 181, 0, 156, 28, 172]
abbrev dktX4_sounds_5 : List UInt8 := dkwX4_sounds_5 ++ []
def dkwX4_sounds_4 : List UInt8 := [28, 16, 7, 100, 16, 12, 100, 172, 42, 89, 180, 0, 156, 20, 0, 166, 97, 181, 0, 156, 16, 35, 172, 42]
abbrev dktX4_sounds_4 : List UInt8 := dkwX4_sounds_4 ++ dktX4_sounds_5
def dkwX4_sounds_3 : List UInt8 := [20, 0, 162, 97, 181, 0, 156, 28, 16, 7, 100, 172, 42, 89, 180, 0, 156, 20, 0, 164, 97, 181, 0, 156]
abbrev dktX4_sounds_3 : List UInt8 := dkwX4_sounds_3 ++ dktX4_sounds_4
def dkwX4_sounds_2 : List UInt8 := [42, 89, 180, 0, 156, 20, 0, 160, 97, 181, 0, 156, 28, 16, 12, 100, 172, 42, 89, 180, 0, 156]
abbrev dktX4_sounds_2 : List UInt8 := dkwX4_sounds_2 ++ dktX4_sounds_3
def dkwX4_sounds_1 : List UInt8 := [170, 0, 0, 0, 0, 0, 104, 0, 0, 0, 1, 0, 0, 0, 5, 0, 0, 0, 35, 0, 0, 0, 104, 0, 0, 0, 52, 0, 0, 0, 69, 0, 0, 0, 89]
abbrev dktX4_sounds_1 : List UInt8 := dkwX4_sounds_1 ++ dktX4_sounds_2
def dkwX4_sounds_0 : List UInt8 := [27]
abbrev dktX4_sounds_0 : List UInt8 := dkwX4_sounds_0 ++ dktX4_sounds_1
theorem dksX4_sounds_0 : cX4_sounds.data.toList.drop 0 = dktX4_sounds_0 := by decide +kernel
theorem dksX4_sounds_1 : cX4_sounds.data.toList.drop 1 = dktX4_sounds_1 := dk_seg dksX4_sounds_0 1 rfl rfl
theorem dksX4_sounds_2 : cX4_sounds.data.toList.drop 36 = dktX4_sounds_2 := dk_seg dksX4_sounds_1 35 rfl rfl
theorem dksX4_sounds_3 : cX4_sounds.data.toList.drop 58 = dktX4_sounds_3 := dk_seg dksX4_sounds_2 22 rfl rfl
theorem dksX4_sounds_4 : cX4_sounds.data.toList.drop 82 = dktX4_sounds_4 := dk_seg dksX4_sounds_3 24 rfl rfl
theorem dksX4_sounds_5 : cX4_sounds.data.toList.drop 106 = dktX4_sounds_5 := dk_seg dksX4_sounds_4 24 rfl rfl
theorem dX4_sounds_0 : decode cX4_sounds 0 = .ok (.iload_n 1, 1) := dk_27 (dk_at dksX4_sounds_0 0 rfl rfl)
theorem dX4_sounds_1 : decode cX4_sounds 1 = .ok (.tableswitch 104 1 5 #[35, 104, 52, 69, 89], 35) := by decide +kernel
theorem dX4_sounds_36 : decode cX4_sounds 36 = .ok (.aload_n 0, 1) := dk_42 (dk_at dksX4_sounds_2 0 rfl rfl)
theorem dX4_sounds_37 : decode cX4_sounds 37 = .ok (.dup, 1) := dk_89 (dk_at dksX4_sounds_2 1 rfl rfl)
theorem dX4_sounds_38 : decode cX4_sounds 38 = .ok (.getfield 156, 3) := dk_180 0 156 (dk_at dksX4_sounds_2 2 rfl rfl)
theorem dX4_sounds_41 : decode cX4_sounds 41 = .ok (.ldc2_w 160, 3) := dk_20 0 160 (dk_at dksX4_sounds_2 5 rfl rfl)
theorem dX4_sounds_44 : decode cX4_sounds 44 = .ok (.ladd, 1) := dk_97 (dk_at dksX4_sounds_2 8 rfl rfl)
theorem dX4_sounds_45 : decode cX4_sounds 45 = .ok (.putfield 156, 3) := dk_181 0 156 (dk_at dksX4_sounds_2 9 rfl rfl)
theorem dX4_sounds_48 : decode cX4_sounds 48 = .ok (.iload_n 2, 1) := dk_28 (dk_at dksX4_sounds_2 12 rfl rfl)
theorem dX4_sounds_49 : decode cX4_sounds 49 = .ok (.bipush 12, 2) := dk_16 12 (dk_at dksX4_sounds_2 13 rfl rfl)
theorem dX4_sounds_51 : decode cX4_sounds 51 = .ok (.isub, 1) := dk_100 (dk_at dksX4_sounds_2 15 rfl rfl)
theorem dX4_sounds_52 : decode cX4_sounds 52 = .ok (.ireturn, 1) := dk_172 (dk_at dksX4_sounds_2 16 rfl rfl)
theorem dX4_sounds_53 : decode cX4_sounds 53 = .ok (.aload_n 0, 1) := dk_42 (dk_at dksX4_sounds_2 17 rfl rfl)
theorem dX4_sounds_54 : decode cX4_sounds 54 = .ok (.dup, 1) := dk_89 (dk_at dksX4_sounds_2 18 rfl rfl)
theorem dX4_sounds_55 : decode cX4_sounds 55 = .ok (.getfield 156, 3) := dk_180 0 156 (dk_at dksX4_sounds_2 19 rfl rfl)
theorem dX4_sounds_58 : decode cX4_sounds 58 = .ok (.ldc2_w 162, 3) := dk_20 0 162 (dk_at dksX4_sounds_3 0 rfl rfl)
theorem dX4_sounds_61 : decode cX4_sounds 61 = .ok (.ladd, 1) := dk_97 (dk_at dksX4_sounds_3 3 rfl rfl)
theorem dX4_sounds_62 : decode cX4_sounds 62 = .ok (.putfield 156, 3) := dk_181 0 156 (dk_at dksX4_sounds_3 4 rfl rfl)
theorem dX4_sounds_65 : decode cX4_sounds 65 = .ok (.iload_n 2, 1) := dk_28 (dk_at dksX4_sounds_3 7 rfl rfl)
theorem dX4_sounds_66 : decode cX4_sounds 66 = .ok (.bipush 7, 2) := dk_16 7 (dk_at dksX4_sounds_3 8 rfl rfl)
theorem dX4_sounds_68 : decode cX4_sounds 68 = .ok (.isub, 1) := dk_100 (dk_at dksX4_sounds_3 10 rfl rfl)
theorem dX4_sounds_69 : decode cX4_sounds 69 = .ok (.ireturn, 1) := dk_172 (dk_at dksX4_sounds_3 11 rfl rfl)
theorem dX4_sounds_70 : decode cX4_sounds 70 = .ok (.aload_n 0, 1) := dk_42 (dk_at dksX4_sounds_3 12 rfl rfl)
theorem dX4_sounds_71 : decode cX4_sounds 71 = .ok (.dup, 1) := dk_89 (dk_at dksX4_sounds_3 13 rfl rfl)
theorem dX4_sounds_72 : decode cX4_sounds 72 = .ok (.getfield 156, 3) := dk_180 0 156 (dk_at dksX4_sounds_3 14 rfl rfl)
theorem dX4_sounds_75 : decode cX4_sounds 75 = .ok (.ldc2_w 164, 3) := dk_20 0 164 (dk_at dksX4_sounds_3 17 rfl rfl)
theorem dX4_sounds_78 : decode cX4_sounds 78 = .ok (.ladd, 1) := dk_97 (dk_at dksX4_sounds_3 20 rfl rfl)
theorem dX4_sounds_79 : decode cX4_sounds 79 = .ok (.putfield 156, 3) := dk_181 0 156 (dk_at dksX4_sounds_3 21 rfl rfl)
theorem dX4_sounds_82 : decode cX4_sounds 82 = .ok (.iload_n 2, 1) := dk_28 (dk_at dksX4_sounds_4 0 rfl rfl)
theorem dX4_sounds_83 : decode cX4_sounds 83 = .ok (.bipush 7, 2) := dk_16 7 (dk_at dksX4_sounds_4 1 rfl rfl)
theorem dX4_sounds_85 : decode cX4_sounds 85 = .ok (.isub, 1) := dk_100 (dk_at dksX4_sounds_4 3 rfl rfl)
theorem dX4_sounds_86 : decode cX4_sounds 86 = .ok (.bipush 12, 2) := dk_16 12 (dk_at dksX4_sounds_4 4 rfl rfl)
theorem dX4_sounds_88 : decode cX4_sounds 88 = .ok (.isub, 1) := dk_100 (dk_at dksX4_sounds_4 6 rfl rfl)
theorem dX4_sounds_89 : decode cX4_sounds 89 = .ok (.ireturn, 1) := dk_172 (dk_at dksX4_sounds_4 7 rfl rfl)
theorem dX4_sounds_90 : decode cX4_sounds 90 = .ok (.aload_n 0, 1) := dk_42 (dk_at dksX4_sounds_4 8 rfl rfl)
theorem dX4_sounds_91 : decode cX4_sounds 91 = .ok (.dup, 1) := dk_89 (dk_at dksX4_sounds_4 9 rfl rfl)
theorem dX4_sounds_92 : decode cX4_sounds 92 = .ok (.getfield 156, 3) := dk_180 0 156 (dk_at dksX4_sounds_4 10 rfl rfl)
theorem dX4_sounds_95 : decode cX4_sounds 95 = .ok (.ldc2_w 166, 3) := dk_20 0 166 (dk_at dksX4_sounds_4 13 rfl rfl)
theorem dX4_sounds_98 : decode cX4_sounds 98 = .ok (.ladd, 1) := dk_97 (dk_at dksX4_sounds_4 16 rfl rfl)
theorem dX4_sounds_99 : decode cX4_sounds 99 = .ok (.putfield 156, 3) := dk_181 0 156 (dk_at dksX4_sounds_4 17 rfl rfl)
theorem dX4_sounds_102 : decode cX4_sounds 102 = .ok (.bipush 35, 2) := dk_16 35 (dk_at dksX4_sounds_4 20 rfl rfl)
theorem dX4_sounds_104 : decode cX4_sounds 104 = .ok (.ireturn, 1) := dk_172 (dk_at dksX4_sounds_4 22 rfl rfl)
theorem dX4_sounds_105 : decode cX4_sounds 105 = .ok (.aload_n 0, 1) := dk_42 (dk_at dksX4_sounds_4 23 rfl rfl)
theorem dX4_sounds_106 : decode cX4_sounds 106 = .ok (.dup, 1) := dk_89 (dk_at dksX4_sounds_5 0 rfl rfl)
theorem dX4_sounds_107 : decode cX4_sounds 107 = .ok (.getfield 156, 3) := dk_180 0 156 (dk_at dksX4_sounds_5 1 rfl rfl)
theorem dX4_sounds_110 : decode cX4_sounds 110 = .ok (.lconst 1, 1) := dk_10 (dk_at dksX4_sounds_5 4 rfl rfl)
theorem dX4_sounds_111 : decode cX4_sounds 111 = .ok (.ladd, 1) := dk_97 (dk_at dksX4_sounds_5 5 rfl rfl)
theorem dX4_sounds_112 : decode cX4_sounds 112 = .ok (.putfield 156, 3) := dk_181 0 156 (dk_at dksX4_sounds_5 6 rfl rfl)
theorem dX4_sounds_115 : decode cX4_sounds 115 = .ok (.iload_n 2, 1) := dk_28 (dk_at dksX4_sounds_5 9 rfl rfl)
theorem dX4_sounds_116 : decode cX4_sounds 116 = .ok (.ireturn, 1) := dk_172 (dk_at dksX4_sounds_5 10 rfl rfl)
abbrev cX4_leastOf : ByteArray := prog_21_method_14_code
def yX4_leastOf : MethodName := ⟨RX4, "leastOf", "(I)I"⟩
def dkwX4_leastOf_2 : List UInt8 := [16, 21, 172]
abbrev dktX4_leastOf_2 : List UInt8 := dkwX4_leastOf_2 ++ []
def dkwX4_leastOf_1 : List UInt8 := [160, 0, 8, 16, 23, 167, 0, 20, 27, 5, 159, 0, 8, 27, 6, 160, 0, 8, 16, 28, 167, 0, 5]
abbrev dktX4_leastOf_1 : List UInt8 := dkwX4_leastOf_1 ++ dktX4_leastOf_2
def dkwX4_leastOf_0 : List UInt8 := [42, 89, 180, 0, 156, 27, 7, 160, 0, 9, 20, 0, 168, 167, 0, 4, 9, 97, 181, 0, 156, 27, 7]
abbrev dktX4_leastOf_0 : List UInt8 := dkwX4_leastOf_0 ++ dktX4_leastOf_1
theorem dksX4_leastOf_0 : cX4_leastOf.data.toList.drop 0 = dktX4_leastOf_0 := by decide +kernel
theorem dksX4_leastOf_1 : cX4_leastOf.data.toList.drop 23 = dktX4_leastOf_1 := dk_seg dksX4_leastOf_0 23 rfl rfl
theorem dksX4_leastOf_2 : cX4_leastOf.data.toList.drop 46 = dktX4_leastOf_2 := dk_seg dksX4_leastOf_1 23 rfl rfl
theorem dX4_leastOf_0 : decode cX4_leastOf 0 = .ok (.aload_n 0, 1) := dk_42 (dk_at dksX4_leastOf_0 0 rfl rfl)
theorem dX4_leastOf_1 : decode cX4_leastOf 1 = .ok (.dup, 1) := dk_89 (dk_at dksX4_leastOf_0 1 rfl rfl)
theorem dX4_leastOf_2 : decode cX4_leastOf 2 = .ok (.getfield 156, 3) := dk_180 0 156 (dk_at dksX4_leastOf_0 2 rfl rfl)
theorem dX4_leastOf_5 : decode cX4_leastOf 5 = .ok (.iload_n 1, 1) := dk_27 (dk_at dksX4_leastOf_0 5 rfl rfl)
theorem dX4_leastOf_6 : decode cX4_leastOf 6 = .ok (.iconst 4, 1) := dk_7 (dk_at dksX4_leastOf_0 6 rfl rfl)
theorem dX4_leastOf_7 : decode cX4_leastOf 7 = .ok (.if_icmp .ne 9, 3) := dk_160 0 9 (dk_at dksX4_leastOf_0 7 rfl rfl)
theorem dX4_leastOf_10 : decode cX4_leastOf 10 = .ok (.ldc2_w 168, 3) := dk_20 0 168 (dk_at dksX4_leastOf_0 10 rfl rfl)
theorem dX4_leastOf_13 : decode cX4_leastOf 13 = .ok (.goto 4, 3) := dk_167 0 4 (dk_at dksX4_leastOf_0 13 rfl rfl)
theorem dX4_leastOf_16 : decode cX4_leastOf 16 = .ok (.lconst 0, 1) := dk_9 (dk_at dksX4_leastOf_0 16 rfl rfl)
theorem dX4_leastOf_17 : decode cX4_leastOf 17 = .ok (.ladd, 1) := dk_97 (dk_at dksX4_leastOf_0 17 rfl rfl)
theorem dX4_leastOf_18 : decode cX4_leastOf 18 = .ok (.putfield 156, 3) := dk_181 0 156 (dk_at dksX4_leastOf_0 18 rfl rfl)
theorem dX4_leastOf_21 : decode cX4_leastOf 21 = .ok (.iload_n 1, 1) := dk_27 (dk_at dksX4_leastOf_0 21 rfl rfl)
theorem dX4_leastOf_22 : decode cX4_leastOf 22 = .ok (.iconst 4, 1) := dk_7 (dk_at dksX4_leastOf_0 22 rfl rfl)
theorem dX4_leastOf_23 : decode cX4_leastOf 23 = .ok (.if_icmp .ne 8, 3) := dk_160 0 8 (dk_at dksX4_leastOf_1 0 rfl rfl)
theorem dX4_leastOf_26 : decode cX4_leastOf 26 = .ok (.bipush 23, 2) := dk_16 23 (dk_at dksX4_leastOf_1 3 rfl rfl)
theorem dX4_leastOf_28 : decode cX4_leastOf 28 = .ok (.goto 20, 3) := dk_167 0 20 (dk_at dksX4_leastOf_1 5 rfl rfl)
theorem dX4_leastOf_31 : decode cX4_leastOf 31 = .ok (.iload_n 1, 1) := dk_27 (dk_at dksX4_leastOf_1 8 rfl rfl)
theorem dX4_leastOf_32 : decode cX4_leastOf 32 = .ok (.iconst 2, 1) := dk_5 (dk_at dksX4_leastOf_1 9 rfl rfl)
theorem dX4_leastOf_33 : decode cX4_leastOf 33 = .ok (.if_icmp .eq 8, 3) := dk_159 0 8 (dk_at dksX4_leastOf_1 10 rfl rfl)
theorem dX4_leastOf_36 : decode cX4_leastOf 36 = .ok (.iload_n 1, 1) := dk_27 (dk_at dksX4_leastOf_1 13 rfl rfl)
theorem dX4_leastOf_37 : decode cX4_leastOf 37 = .ok (.iconst 3, 1) := dk_6 (dk_at dksX4_leastOf_1 14 rfl rfl)
theorem dX4_leastOf_38 : decode cX4_leastOf 38 = .ok (.if_icmp .ne 8, 3) := dk_160 0 8 (dk_at dksX4_leastOf_1 15 rfl rfl)
theorem dX4_leastOf_41 : decode cX4_leastOf 41 = .ok (.bipush 28, 2) := dk_16 28 (dk_at dksX4_leastOf_1 18 rfl rfl)
theorem dX4_leastOf_43 : decode cX4_leastOf 43 = .ok (.goto 5, 3) := dk_167 0 5 (dk_at dksX4_leastOf_1 20 rfl rfl)
theorem dX4_leastOf_46 : decode cX4_leastOf 46 = .ok (.bipush 21, 2) := dk_16 21 (dk_at dksX4_leastOf_2 0 rfl rfl)
theorem dX4_leastOf_48 : decode cX4_leastOf 48 = .ok (.ireturn, 1) := dk_172 (dk_at dksX4_leastOf_2 2 rfl rfl)
abbrev cX4_mostOf : ByteArray := prog_21_method_15_code
def yX4_mostOf : MethodName := ⟨RX4, "mostOf", "(I)I"⟩
def dkwX4_mostOf_0 : List UInt8 := [26, 133, 20, 0, 170, 20, 0, 172, 184, 0, 137, 153, 0, 8, 16, 82, 167, 0, 5, 16, 108, 172]
abbrev dktX4_mostOf_0 : List UInt8 := dkwX4_mostOf_0 ++ []
theorem dksX4_mostOf_0 : cX4_mostOf.data.toList.drop 0 = dktX4_mostOf_0 := by decide +kernel
theorem dX4_mostOf_0 : decode cX4_mostOf 0 = .ok (.iload_n 0, 1) := dk_26 (dk_at dksX4_mostOf_0 0 rfl rfl)
theorem dX4_mostOf_1 : decode cX4_mostOf 1 = .ok (.i2l, 1) := dk_133 (dk_at dksX4_mostOf_0 1 rfl rfl)
theorem dX4_mostOf_2 : decode cX4_mostOf 2 = .ok (.ldc2_w 170, 3) := dk_20 0 170 (dk_at dksX4_mostOf_0 2 rfl rfl)
theorem dX4_mostOf_5 : decode cX4_mostOf 5 = .ok (.ldc2_w 172, 3) := dk_20 0 172 (dk_at dksX4_mostOf_0 5 rfl rfl)
theorem dX4_mostOf_8 : decode cX4_mostOf 8 = .ok (.invokestatic 137, 3) := dk_184 0 137 (dk_at dksX4_mostOf_0 8 rfl rfl)
theorem dX4_mostOf_11 : decode cX4_mostOf 11 = .ok (.ifCond .eq 8, 3) := dk_153 0 8 (dk_at dksX4_mostOf_0 11 rfl rfl)
theorem dX4_mostOf_14 : decode cX4_mostOf 14 = .ok (.bipush 82, 2) := dk_16 82 (dk_at dksX4_mostOf_0 14 rfl rfl)
theorem dX4_mostOf_16 : decode cX4_mostOf 16 = .ok (.goto 5, 3) := dk_167 0 5 (dk_at dksX4_mostOf_0 16 rfl rfl)
theorem dX4_mostOf_19 : decode cX4_mostOf 19 = .ok (.bipush 108, 2) := dk_16 108 (dk_at dksX4_mostOf_0 19 rfl rfl)
theorem dX4_mostOf_21 : decode cX4_mostOf 21 = .ok (.ireturn, 1) := dk_172 (dk_at dksX4_mostOf_0 21 rfl rfl)
abbrev cX4_put : ByteArray := prog_21_method_17_code
def yX4_put : MethodName := ⟨RX4, "put", "(IIIIII)I"⟩
def dkwX4_put_12 : List UInt8 := [21, 7, 79, 42, 180, 0, 45, 27, 92, 46, 4, 96, 79, 21, 7, 172]
abbrev dktX4_put_12 : List UInt8 := dkwX4_put_12 ++ []
def dkwX4_put_11 : List UInt8 := [104, 21, 8, 96, 4, 100, 46, 79, 132, 8, 255, 167, 255, 221, 42, 180, 0, 42, 16, 40, 27, 104, 28, 96]
abbrev dktX4_put_11 : List UInt8 := dkwX4_put_11 ++ dktX4_put_12
def dkwX4_put_10 : List UInt8 := [21, 8, 28, 164, 0, 35, 42, 180, 0, 42, 16, 40, 27, 104, 21, 8, 96, 42, 180, 0, 42, 16, 40, 27]
abbrev dktX4_put_10 : List UInt8 := dkwX4_put_10 ++ dktX4_put_11
def dkwX4_put_9 : List UInt8 := [180, 0, 36, 21, 7, 21, 6, 79, 42, 180, 0, 39, 21, 7, 3, 84, 42, 180, 0, 45, 27, 46, 54, 8]
abbrev dktX4_put_9 : List UInt8 := dkwX4_put_9 ++ dktX4_put_10
def dkwX4_put_8 : List UInt8 := [79, 42, 180, 0, 30, 16, 6, 21, 7, 104, 21, 4, 79, 42, 180, 0, 33, 21, 7, 21, 5, 79, 42]
abbrev dktX4_put_8 : List UInt8 := dkwX4_put_8 ++ dktX4_put_9
def dkwX4_put_7 : List UInt8 := [42, 180, 0, 24, 21, 7, 29, 79, 42, 180, 0, 27, 21, 7, 29, 6, 162, 0, 7, 4, 167, 0, 4, 3]
abbrev dktX4_put_7 : List UInt8 := dkwX4_put_7 ++ dktX4_put_8
def dkwX4_put_6 : List UInt8 := [180, 0, 190, 4, 96, 181, 0, 190, 42, 180, 0, 17, 21, 7, 4, 84, 42, 180, 0, 21, 21, 7, 27, 79]
abbrev dktX4_put_6 : List UInt8 := dkwX4_put_6 ++ dktX4_put_7
def dkwX4_put_5 : List UInt8 := [182, 0, 130, 172, 42, 180, 0, 141, 54, 7, 42, 89, 180, 0, 141, 4, 96, 181, 0, 141, 42, 89]
abbrev dktX4_put_5 : List UInt8 := dkwX4_put_5 ++ dktX4_put_6
def dkwX4_put_4 : List UInt8 := [180, 0, 141, 17, 0, 150, 159, 0, 14, 42, 180, 0, 45, 27, 46, 16, 40, 160, 0, 10, 42, 16, 252]
abbrev dktX4_put_4 : List UInt8 := dkwX4_put_4 ++ dktX4_put_5
def dkwX4_put_3 : List UInt8 := [153, 0, 16, 21, 6, 133, 9, 20, 0, 170, 184, 0, 137, 154, 0, 10, 42, 16, 254, 182, 0, 130, 172, 42]
abbrev dktX4_put_3 : List UInt8 := dkwX4_put_3 ++ dktX4_put_4
def dkwX4_put_2 : List UInt8 := [21, 4, 133, 9, 20, 0, 188, 184, 0, 137, 153, 0, 29, 21, 5, 133, 9, 20, 0, 147, 184, 0, 137]
abbrev dktX4_put_2 : List UInt8 := dkwX4_put_2 ++ dktX4_put_3
def dkwX4_put_1 : List UInt8 := [184, 0, 137, 153, 0, 59, 29, 133, 9, 20, 0, 172, 184, 0, 137, 153, 0, 47, 29, 6, 162, 0, 16]
abbrev dktX4_put_1 : List UInt8 := dkwX4_put_1 ++ dktX4_put_2
def dkwX4_put_0 : List UInt8 := [42, 182, 0, 144, 42, 27, 182, 0, 184, 153, 0, 75, 28, 133, 9, 42, 180, 0, 45, 27, 46, 133]
abbrev dktX4_put_0 : List UInt8 := dkwX4_put_0 ++ dktX4_put_1
theorem dksX4_put_0 : cX4_put.data.toList.drop 0 = dktX4_put_0 := by decide +kernel
theorem dksX4_put_1 : cX4_put.data.toList.drop 22 = dktX4_put_1 := dk_seg dksX4_put_0 22 rfl rfl
theorem dksX4_put_2 : cX4_put.data.toList.drop 45 = dktX4_put_2 := dk_seg dksX4_put_1 23 rfl rfl
theorem dksX4_put_3 : cX4_put.data.toList.drop 68 = dktX4_put_3 := dk_seg dksX4_put_2 23 rfl rfl
theorem dksX4_put_4 : cX4_put.data.toList.drop 92 = dktX4_put_4 := dk_seg dksX4_put_3 24 rfl rfl
theorem dksX4_put_5 : cX4_put.data.toList.drop 115 = dktX4_put_5 := dk_seg dksX4_put_4 23 rfl rfl
theorem dksX4_put_6 : cX4_put.data.toList.drop 137 = dktX4_put_6 := dk_seg dksX4_put_5 22 rfl rfl
theorem dksX4_put_7 : cX4_put.data.toList.drop 161 = dktX4_put_7 := dk_seg dksX4_put_6 24 rfl rfl
theorem dksX4_put_8 : cX4_put.data.toList.drop 185 = dktX4_put_8 := dk_seg dksX4_put_7 24 rfl rfl
theorem dksX4_put_9 : cX4_put.data.toList.drop 208 = dktX4_put_9 := dk_seg dksX4_put_8 23 rfl rfl
theorem dksX4_put_10 : cX4_put.data.toList.drop 232 = dktX4_put_10 := dk_seg dksX4_put_9 24 rfl rfl
theorem dksX4_put_11 : cX4_put.data.toList.drop 256 = dktX4_put_11 := dk_seg dksX4_put_10 24 rfl rfl
theorem dksX4_put_12 : cX4_put.data.toList.drop 280 = dktX4_put_12 := dk_seg dksX4_put_11 24 rfl rfl
theorem dX4_put_0 : decode cX4_put 0 = .ok (.aload_n 0, 1) := dk_42 (dk_at dksX4_put_0 0 rfl rfl)
theorem dX4_put_1 : decode cX4_put 1 = .ok (.invokevirtual 144, 3) := dk_182 0 144 (dk_at dksX4_put_0 1 rfl rfl)
theorem dX4_put_4 : decode cX4_put 4 = .ok (.aload_n 0, 1) := dk_42 (dk_at dksX4_put_0 4 rfl rfl)
theorem dX4_put_5 : decode cX4_put 5 = .ok (.iload_n 1, 1) := dk_27 (dk_at dksX4_put_0 5 rfl rfl)
theorem dX4_put_6 : decode cX4_put 6 = .ok (.invokevirtual 184, 3) := dk_182 0 184 (dk_at dksX4_put_0 6 rfl rfl)
theorem dX4_put_9 : decode cX4_put 9 = .ok (.ifCond .eq 75, 3) := dk_153 0 75 (dk_at dksX4_put_0 9 rfl rfl)
theorem dX4_put_12 : decode cX4_put 12 = .ok (.iload_n 2, 1) := dk_28 (dk_at dksX4_put_0 12 rfl rfl)
theorem dX4_put_13 : decode cX4_put 13 = .ok (.i2l, 1) := dk_133 (dk_at dksX4_put_0 13 rfl rfl)
theorem dX4_put_14 : decode cX4_put 14 = .ok (.lconst 0, 1) := dk_9 (dk_at dksX4_put_0 14 rfl rfl)
theorem dX4_put_15 : decode cX4_put 15 = .ok (.aload_n 0, 1) := dk_42 (dk_at dksX4_put_0 15 rfl rfl)
theorem dX4_put_16 : decode cX4_put 16 = .ok (.getfield 45, 3) := dk_180 0 45 (dk_at dksX4_put_0 16 rfl rfl)
theorem dX4_put_19 : decode cX4_put 19 = .ok (.iload_n 1, 1) := dk_27 (dk_at dksX4_put_0 19 rfl rfl)
theorem dX4_put_20 : decode cX4_put 20 = .ok (.iaload, 1) := dk_46 (dk_at dksX4_put_0 20 rfl rfl)
theorem dX4_put_21 : decode cX4_put 21 = .ok (.i2l, 1) := dk_133 (dk_at dksX4_put_0 21 rfl rfl)
theorem dX4_put_22 : decode cX4_put 22 = .ok (.invokestatic 137, 3) := dk_184 0 137 (dk_at dksX4_put_1 0 rfl rfl)
theorem dX4_put_25 : decode cX4_put 25 = .ok (.ifCond .eq 59, 3) := dk_153 0 59 (dk_at dksX4_put_1 3 rfl rfl)
theorem dX4_put_28 : decode cX4_put 28 = .ok (.iload_n 3, 1) := dk_29 (dk_at dksX4_put_1 6 rfl rfl)
theorem dX4_put_29 : decode cX4_put 29 = .ok (.i2l, 1) := dk_133 (dk_at dksX4_put_1 7 rfl rfl)
theorem dX4_put_30 : decode cX4_put 30 = .ok (.lconst 0, 1) := dk_9 (dk_at dksX4_put_1 8 rfl rfl)
theorem dX4_put_31 : decode cX4_put 31 = .ok (.ldc2_w 172, 3) := dk_20 0 172 (dk_at dksX4_put_1 9 rfl rfl)
theorem dX4_put_34 : decode cX4_put 34 = .ok (.invokestatic 137, 3) := dk_184 0 137 (dk_at dksX4_put_1 12 rfl rfl)
theorem dX4_put_37 : decode cX4_put 37 = .ok (.ifCond .eq 47, 3) := dk_153 0 47 (dk_at dksX4_put_1 15 rfl rfl)
theorem dX4_put_40 : decode cX4_put 40 = .ok (.iload_n 3, 1) := dk_29 (dk_at dksX4_put_1 18 rfl rfl)
theorem dX4_put_41 : decode cX4_put 41 = .ok (.iconst 3, 1) := dk_6 (dk_at dksX4_put_1 19 rfl rfl)
theorem dX4_put_42 : decode cX4_put 42 = .ok (.if_icmp .ge 16, 3) := dk_162 0 16 (dk_at dksX4_put_1 20 rfl rfl)
theorem dX4_put_45 : decode cX4_put 45 = .ok (.iload 4, 2) := dk_21 4 (dk_at dksX4_put_2 0 rfl rfl)
theorem dX4_put_47 : decode cX4_put 47 = .ok (.i2l, 1) := dk_133 (dk_at dksX4_put_2 2 rfl rfl)
theorem dX4_put_48 : decode cX4_put 48 = .ok (.lconst 0, 1) := dk_9 (dk_at dksX4_put_2 3 rfl rfl)
theorem dX4_put_49 : decode cX4_put 49 = .ok (.ldc2_w 188, 3) := dk_20 0 188 (dk_at dksX4_put_2 4 rfl rfl)
theorem dX4_put_52 : decode cX4_put 52 = .ok (.invokestatic 137, 3) := dk_184 0 137 (dk_at dksX4_put_2 7 rfl rfl)
theorem dX4_put_55 : decode cX4_put 55 = .ok (.ifCond .eq 29, 3) := dk_153 0 29 (dk_at dksX4_put_2 10 rfl rfl)
theorem dX4_put_58 : decode cX4_put 58 = .ok (.iload 5, 2) := dk_21 5 (dk_at dksX4_put_2 13 rfl rfl)
theorem dX4_put_60 : decode cX4_put 60 = .ok (.i2l, 1) := dk_133 (dk_at dksX4_put_2 15 rfl rfl)
theorem dX4_put_61 : decode cX4_put 61 = .ok (.lconst 0, 1) := dk_9 (dk_at dksX4_put_2 16 rfl rfl)
theorem dX4_put_62 : decode cX4_put 62 = .ok (.ldc2_w 147, 3) := dk_20 0 147 (dk_at dksX4_put_2 17 rfl rfl)
theorem dX4_put_65 : decode cX4_put 65 = .ok (.invokestatic 137, 3) := dk_184 0 137 (dk_at dksX4_put_2 20 rfl rfl)
theorem dX4_put_68 : decode cX4_put 68 = .ok (.ifCond .eq 16, 3) := dk_153 0 16 (dk_at dksX4_put_3 0 rfl rfl)
theorem dX4_put_71 : decode cX4_put 71 = .ok (.iload 6, 2) := dk_21 6 (dk_at dksX4_put_3 3 rfl rfl)
theorem dX4_put_73 : decode cX4_put 73 = .ok (.i2l, 1) := dk_133 (dk_at dksX4_put_3 5 rfl rfl)
theorem dX4_put_74 : decode cX4_put 74 = .ok (.lconst 0, 1) := dk_9 (dk_at dksX4_put_3 6 rfl rfl)
theorem dX4_put_75 : decode cX4_put 75 = .ok (.ldc2_w 170, 3) := dk_20 0 170 (dk_at dksX4_put_3 7 rfl rfl)
theorem dX4_put_78 : decode cX4_put 78 = .ok (.invokestatic 137, 3) := dk_184 0 137 (dk_at dksX4_put_3 10 rfl rfl)
theorem dX4_put_81 : decode cX4_put 81 = .ok (.ifCond .ne 10, 3) := dk_154 0 10 (dk_at dksX4_put_3 13 rfl rfl)
theorem dX4_put_84 : decode cX4_put 84 = .ok (.aload_n 0, 1) := dk_42 (dk_at dksX4_put_3 16 rfl rfl)
theorem dX4_put_85 : decode cX4_put 85 = .ok (.bipush (-2), 2) := dk_16 254 (dk_at dksX4_put_3 17 rfl rfl)
theorem dX4_put_87 : decode cX4_put 87 = .ok (.invokevirtual 130, 3) := dk_182 0 130 (dk_at dksX4_put_3 19 rfl rfl)
theorem dX4_put_90 : decode cX4_put 90 = .ok (.ireturn, 1) := dk_172 (dk_at dksX4_put_3 22 rfl rfl)
theorem dX4_put_91 : decode cX4_put 91 = .ok (.aload_n 0, 1) := dk_42 (dk_at dksX4_put_3 23 rfl rfl)
theorem dX4_put_92 : decode cX4_put 92 = .ok (.getfield 141, 3) := dk_180 0 141 (dk_at dksX4_put_4 0 rfl rfl)
theorem dX4_put_95 : decode cX4_put 95 = .ok (.sipush 150, 3) := dk_17 0 150 (dk_at dksX4_put_4 3 rfl rfl)
theorem dX4_put_98 : decode cX4_put 98 = .ok (.if_icmp .eq 14, 3) := dk_159 0 14 (dk_at dksX4_put_4 6 rfl rfl)
theorem dX4_put_101 : decode cX4_put 101 = .ok (.aload_n 0, 1) := dk_42 (dk_at dksX4_put_4 9 rfl rfl)
theorem dX4_put_102 : decode cX4_put 102 = .ok (.getfield 45, 3) := dk_180 0 45 (dk_at dksX4_put_4 10 rfl rfl)
theorem dX4_put_105 : decode cX4_put 105 = .ok (.iload_n 1, 1) := dk_27 (dk_at dksX4_put_4 13 rfl rfl)
theorem dX4_put_106 : decode cX4_put 106 = .ok (.iaload, 1) := dk_46 (dk_at dksX4_put_4 14 rfl rfl)
theorem dX4_put_107 : decode cX4_put 107 = .ok (.bipush 40, 2) := dk_16 40 (dk_at dksX4_put_4 15 rfl rfl)
theorem dX4_put_109 : decode cX4_put 109 = .ok (.if_icmp .ne 10, 3) := dk_160 0 10 (dk_at dksX4_put_4 17 rfl rfl)
theorem dX4_put_112 : decode cX4_put 112 = .ok (.aload_n 0, 1) := dk_42 (dk_at dksX4_put_4 20 rfl rfl)
theorem dX4_put_113 : decode cX4_put 113 = .ok (.bipush (-4), 2) := dk_16 252 (dk_at dksX4_put_4 21 rfl rfl)
theorem dX4_put_115 : decode cX4_put 115 = .ok (.invokevirtual 130, 3) := dk_182 0 130 (dk_at dksX4_put_5 0 rfl rfl)
theorem dX4_put_118 : decode cX4_put 118 = .ok (.ireturn, 1) := dk_172 (dk_at dksX4_put_5 3 rfl rfl)
theorem dX4_put_119 : decode cX4_put 119 = .ok (.aload_n 0, 1) := dk_42 (dk_at dksX4_put_5 4 rfl rfl)
theorem dX4_put_120 : decode cX4_put 120 = .ok (.getfield 141, 3) := dk_180 0 141 (dk_at dksX4_put_5 5 rfl rfl)
theorem dX4_put_123 : decode cX4_put 123 = .ok (.istore 7, 2) := dk_54 7 (dk_at dksX4_put_5 8 rfl rfl)
theorem dX4_put_125 : decode cX4_put 125 = .ok (.aload_n 0, 1) := dk_42 (dk_at dksX4_put_5 10 rfl rfl)
theorem dX4_put_126 : decode cX4_put 126 = .ok (.dup, 1) := dk_89 (dk_at dksX4_put_5 11 rfl rfl)
theorem dX4_put_127 : decode cX4_put 127 = .ok (.getfield 141, 3) := dk_180 0 141 (dk_at dksX4_put_5 12 rfl rfl)
theorem dX4_put_130 : decode cX4_put 130 = .ok (.iconst 1, 1) := dk_4 (dk_at dksX4_put_5 15 rfl rfl)
theorem dX4_put_131 : decode cX4_put 131 = .ok (.iadd, 1) := dk_96 (dk_at dksX4_put_5 16 rfl rfl)
theorem dX4_put_132 : decode cX4_put 132 = .ok (.putfield 141, 3) := dk_181 0 141 (dk_at dksX4_put_5 17 rfl rfl)
theorem dX4_put_135 : decode cX4_put 135 = .ok (.aload_n 0, 1) := dk_42 (dk_at dksX4_put_5 20 rfl rfl)
theorem dX4_put_136 : decode cX4_put 136 = .ok (.dup, 1) := dk_89 (dk_at dksX4_put_5 21 rfl rfl)
theorem dX4_put_137 : decode cX4_put 137 = .ok (.getfield 190, 3) := dk_180 0 190 (dk_at dksX4_put_6 0 rfl rfl)
theorem dX4_put_140 : decode cX4_put 140 = .ok (.iconst 1, 1) := dk_4 (dk_at dksX4_put_6 3 rfl rfl)
theorem dX4_put_141 : decode cX4_put 141 = .ok (.iadd, 1) := dk_96 (dk_at dksX4_put_6 4 rfl rfl)
theorem dX4_put_142 : decode cX4_put 142 = .ok (.putfield 190, 3) := dk_181 0 190 (dk_at dksX4_put_6 5 rfl rfl)
theorem dX4_put_145 : decode cX4_put 145 = .ok (.aload_n 0, 1) := dk_42 (dk_at dksX4_put_6 8 rfl rfl)
theorem dX4_put_146 : decode cX4_put 146 = .ok (.getfield 17, 3) := dk_180 0 17 (dk_at dksX4_put_6 9 rfl rfl)
theorem dX4_put_149 : decode cX4_put 149 = .ok (.iload 7, 2) := dk_21 7 (dk_at dksX4_put_6 12 rfl rfl)
theorem dX4_put_151 : decode cX4_put 151 = .ok (.iconst 1, 1) := dk_4 (dk_at dksX4_put_6 14 rfl rfl)
theorem dX4_put_152 : decode cX4_put 152 = .ok (.bastore, 1) := dk_84 (dk_at dksX4_put_6 15 rfl rfl)
theorem dX4_put_153 : decode cX4_put 153 = .ok (.aload_n 0, 1) := dk_42 (dk_at dksX4_put_6 16 rfl rfl)
theorem dX4_put_154 : decode cX4_put 154 = .ok (.getfield 21, 3) := dk_180 0 21 (dk_at dksX4_put_6 17 rfl rfl)
theorem dX4_put_157 : decode cX4_put 157 = .ok (.iload 7, 2) := dk_21 7 (dk_at dksX4_put_6 20 rfl rfl)
theorem dX4_put_159 : decode cX4_put 159 = .ok (.iload_n 1, 1) := dk_27 (dk_at dksX4_put_6 22 rfl rfl)
theorem dX4_put_160 : decode cX4_put 160 = .ok (.iastore, 1) := dk_79 (dk_at dksX4_put_6 23 rfl rfl)
theorem dX4_put_161 : decode cX4_put 161 = .ok (.aload_n 0, 1) := dk_42 (dk_at dksX4_put_7 0 rfl rfl)
theorem dX4_put_162 : decode cX4_put 162 = .ok (.getfield 24, 3) := dk_180 0 24 (dk_at dksX4_put_7 1 rfl rfl)
theorem dX4_put_165 : decode cX4_put 165 = .ok (.iload 7, 2) := dk_21 7 (dk_at dksX4_put_7 4 rfl rfl)
theorem dX4_put_167 : decode cX4_put 167 = .ok (.iload_n 3, 1) := dk_29 (dk_at dksX4_put_7 6 rfl rfl)
theorem dX4_put_168 : decode cX4_put 168 = .ok (.iastore, 1) := dk_79 (dk_at dksX4_put_7 7 rfl rfl)
theorem dX4_put_169 : decode cX4_put 169 = .ok (.aload_n 0, 1) := dk_42 (dk_at dksX4_put_7 8 rfl rfl)
theorem dX4_put_170 : decode cX4_put 170 = .ok (.getfield 27, 3) := dk_180 0 27 (dk_at dksX4_put_7 9 rfl rfl)
theorem dX4_put_173 : decode cX4_put 173 = .ok (.iload 7, 2) := dk_21 7 (dk_at dksX4_put_7 12 rfl rfl)
theorem dX4_put_175 : decode cX4_put 175 = .ok (.iload_n 3, 1) := dk_29 (dk_at dksX4_put_7 14 rfl rfl)
theorem dX4_put_176 : decode cX4_put 176 = .ok (.iconst 3, 1) := dk_6 (dk_at dksX4_put_7 15 rfl rfl)
theorem dX4_put_177 : decode cX4_put 177 = .ok (.if_icmp .ge 7, 3) := dk_162 0 7 (dk_at dksX4_put_7 16 rfl rfl)
theorem dX4_put_180 : decode cX4_put 180 = .ok (.iconst 1, 1) := dk_4 (dk_at dksX4_put_7 19 rfl rfl)
theorem dX4_put_181 : decode cX4_put 181 = .ok (.goto 4, 3) := dk_167 0 4 (dk_at dksX4_put_7 20 rfl rfl)
theorem dX4_put_184 : decode cX4_put 184 = .ok (.iconst 0, 1) := dk_3 (dk_at dksX4_put_7 23 rfl rfl)
theorem dX4_put_185 : decode cX4_put 185 = .ok (.iastore, 1) := dk_79 (dk_at dksX4_put_8 0 rfl rfl)
theorem dX4_put_186 : decode cX4_put 186 = .ok (.aload_n 0, 1) := dk_42 (dk_at dksX4_put_8 1 rfl rfl)
theorem dX4_put_187 : decode cX4_put 187 = .ok (.getfield 30, 3) := dk_180 0 30 (dk_at dksX4_put_8 2 rfl rfl)
theorem dX4_put_190 : decode cX4_put 190 = .ok (.bipush 6, 2) := dk_16 6 (dk_at dksX4_put_8 5 rfl rfl)
theorem dX4_put_192 : decode cX4_put 192 = .ok (.iload 7, 2) := dk_21 7 (dk_at dksX4_put_8 7 rfl rfl)
theorem dX4_put_194 : decode cX4_put 194 = .ok (.imul, 1) := dk_104 (dk_at dksX4_put_8 9 rfl rfl)
theorem dX4_put_195 : decode cX4_put 195 = .ok (.iload 4, 2) := dk_21 4 (dk_at dksX4_put_8 10 rfl rfl)
theorem dX4_put_197 : decode cX4_put 197 = .ok (.iastore, 1) := dk_79 (dk_at dksX4_put_8 12 rfl rfl)
theorem dX4_put_198 : decode cX4_put 198 = .ok (.aload_n 0, 1) := dk_42 (dk_at dksX4_put_8 13 rfl rfl)
theorem dX4_put_199 : decode cX4_put 199 = .ok (.getfield 33, 3) := dk_180 0 33 (dk_at dksX4_put_8 14 rfl rfl)
theorem dX4_put_202 : decode cX4_put 202 = .ok (.iload 7, 2) := dk_21 7 (dk_at dksX4_put_8 17 rfl rfl)
theorem dX4_put_204 : decode cX4_put 204 = .ok (.iload 5, 2) := dk_21 5 (dk_at dksX4_put_8 19 rfl rfl)
theorem dX4_put_206 : decode cX4_put 206 = .ok (.iastore, 1) := dk_79 (dk_at dksX4_put_8 21 rfl rfl)
theorem dX4_put_207 : decode cX4_put 207 = .ok (.aload_n 0, 1) := dk_42 (dk_at dksX4_put_8 22 rfl rfl)
theorem dX4_put_208 : decode cX4_put 208 = .ok (.getfield 36, 3) := dk_180 0 36 (dk_at dksX4_put_9 0 rfl rfl)
theorem dX4_put_211 : decode cX4_put 211 = .ok (.iload 7, 2) := dk_21 7 (dk_at dksX4_put_9 3 rfl rfl)
theorem dX4_put_213 : decode cX4_put 213 = .ok (.iload 6, 2) := dk_21 6 (dk_at dksX4_put_9 5 rfl rfl)
theorem dX4_put_215 : decode cX4_put 215 = .ok (.iastore, 1) := dk_79 (dk_at dksX4_put_9 7 rfl rfl)
theorem dX4_put_216 : decode cX4_put 216 = .ok (.aload_n 0, 1) := dk_42 (dk_at dksX4_put_9 8 rfl rfl)
theorem dX4_put_217 : decode cX4_put 217 = .ok (.getfield 39, 3) := dk_180 0 39 (dk_at dksX4_put_9 9 rfl rfl)
theorem dX4_put_220 : decode cX4_put 220 = .ok (.iload 7, 2) := dk_21 7 (dk_at dksX4_put_9 12 rfl rfl)
theorem dX4_put_222 : decode cX4_put 222 = .ok (.iconst 0, 1) := dk_3 (dk_at dksX4_put_9 14 rfl rfl)
theorem dX4_put_223 : decode cX4_put 223 = .ok (.bastore, 1) := dk_84 (dk_at dksX4_put_9 15 rfl rfl)
theorem dX4_put_224 : decode cX4_put 224 = .ok (.aload_n 0, 1) := dk_42 (dk_at dksX4_put_9 16 rfl rfl)
theorem dX4_put_225 : decode cX4_put 225 = .ok (.getfield 45, 3) := dk_180 0 45 (dk_at dksX4_put_9 17 rfl rfl)
theorem dX4_put_228 : decode cX4_put 228 = .ok (.iload_n 1, 1) := dk_27 (dk_at dksX4_put_9 20 rfl rfl)
theorem dX4_put_229 : decode cX4_put 229 = .ok (.iaload, 1) := dk_46 (dk_at dksX4_put_9 21 rfl rfl)
theorem dX4_put_230 : decode cX4_put 230 = .ok (.istore 8, 2) := dk_54 8 (dk_at dksX4_put_9 22 rfl rfl)
theorem dX4_put_232 : decode cX4_put 232 = .ok (.iload 8, 2) := dk_21 8 (dk_at dksX4_put_10 0 rfl rfl)
theorem dX4_put_234 : decode cX4_put 234 = .ok (.iload_n 2, 1) := dk_28 (dk_at dksX4_put_10 2 rfl rfl)
theorem dX4_put_235 : decode cX4_put 235 = .ok (.if_icmp .le 35, 3) := dk_164 0 35 (dk_at dksX4_put_10 3 rfl rfl)
theorem dX4_put_238 : decode cX4_put 238 = .ok (.aload_n 0, 1) := dk_42 (dk_at dksX4_put_10 6 rfl rfl)
theorem dX4_put_239 : decode cX4_put 239 = .ok (.getfield 42, 3) := dk_180 0 42 (dk_at dksX4_put_10 7 rfl rfl)
theorem dX4_put_242 : decode cX4_put 242 = .ok (.bipush 40, 2) := dk_16 40 (dk_at dksX4_put_10 10 rfl rfl)
theorem dX4_put_244 : decode cX4_put 244 = .ok (.iload_n 1, 1) := dk_27 (dk_at dksX4_put_10 12 rfl rfl)
theorem dX4_put_245 : decode cX4_put 245 = .ok (.imul, 1) := dk_104 (dk_at dksX4_put_10 13 rfl rfl)
theorem dX4_put_246 : decode cX4_put 246 = .ok (.iload 8, 2) := dk_21 8 (dk_at dksX4_put_10 14 rfl rfl)
theorem dX4_put_248 : decode cX4_put 248 = .ok (.iadd, 1) := dk_96 (dk_at dksX4_put_10 16 rfl rfl)
theorem dX4_put_249 : decode cX4_put 249 = .ok (.aload_n 0, 1) := dk_42 (dk_at dksX4_put_10 17 rfl rfl)
theorem dX4_put_250 : decode cX4_put 250 = .ok (.getfield 42, 3) := dk_180 0 42 (dk_at dksX4_put_10 18 rfl rfl)
theorem dX4_put_253 : decode cX4_put 253 = .ok (.bipush 40, 2) := dk_16 40 (dk_at dksX4_put_10 21 rfl rfl)
theorem dX4_put_255 : decode cX4_put 255 = .ok (.iload_n 1, 1) := dk_27 (dk_at dksX4_put_10 23 rfl rfl)
theorem dX4_put_256 : decode cX4_put 256 = .ok (.imul, 1) := dk_104 (dk_at dksX4_put_11 0 rfl rfl)
theorem dX4_put_257 : decode cX4_put 257 = .ok (.iload 8, 2) := dk_21 8 (dk_at dksX4_put_11 1 rfl rfl)
theorem dX4_put_259 : decode cX4_put 259 = .ok (.iadd, 1) := dk_96 (dk_at dksX4_put_11 3 rfl rfl)
theorem dX4_put_260 : decode cX4_put 260 = .ok (.iconst 1, 1) := dk_4 (dk_at dksX4_put_11 4 rfl rfl)
theorem dX4_put_261 : decode cX4_put 261 = .ok (.isub, 1) := dk_100 (dk_at dksX4_put_11 5 rfl rfl)
theorem dX4_put_262 : decode cX4_put 262 = .ok (.iaload, 1) := dk_46 (dk_at dksX4_put_11 6 rfl rfl)
theorem dX4_put_263 : decode cX4_put 263 = .ok (.iastore, 1) := dk_79 (dk_at dksX4_put_11 7 rfl rfl)
theorem dX4_put_264 : decode cX4_put 264 = .ok (.iinc 8 (-1), 3) := dk_132 8 255 (dk_at dksX4_put_11 8 rfl rfl)
theorem dX4_put_267 : decode cX4_put 267 = .ok (.goto (-35), 3) := dk_167 255 221 (dk_at dksX4_put_11 11 rfl rfl)
theorem dX4_put_270 : decode cX4_put 270 = .ok (.aload_n 0, 1) := dk_42 (dk_at dksX4_put_11 14 rfl rfl)
theorem dX4_put_271 : decode cX4_put 271 = .ok (.getfield 42, 3) := dk_180 0 42 (dk_at dksX4_put_11 15 rfl rfl)
theorem dX4_put_274 : decode cX4_put 274 = .ok (.bipush 40, 2) := dk_16 40 (dk_at dksX4_put_11 18 rfl rfl)
theorem dX4_put_276 : decode cX4_put 276 = .ok (.iload_n 1, 1) := dk_27 (dk_at dksX4_put_11 20 rfl rfl)
theorem dX4_put_277 : decode cX4_put 277 = .ok (.imul, 1) := dk_104 (dk_at dksX4_put_11 21 rfl rfl)
theorem dX4_put_278 : decode cX4_put 278 = .ok (.iload_n 2, 1) := dk_28 (dk_at dksX4_put_11 22 rfl rfl)
theorem dX4_put_279 : decode cX4_put 279 = .ok (.iadd, 1) := dk_96 (dk_at dksX4_put_11 23 rfl rfl)
theorem dX4_put_280 : decode cX4_put 280 = .ok (.iload 7, 2) := dk_21 7 (dk_at dksX4_put_12 0 rfl rfl)
theorem dX4_put_282 : decode cX4_put 282 = .ok (.iastore, 1) := dk_79 (dk_at dksX4_put_12 2 rfl rfl)
theorem dX4_put_283 : decode cX4_put 283 = .ok (.aload_n 0, 1) := dk_42 (dk_at dksX4_put_12 3 rfl rfl)
theorem dX4_put_284 : decode cX4_put 284 = .ok (.getfield 45, 3) := dk_180 0 45 (dk_at dksX4_put_12 4 rfl rfl)
theorem dX4_put_287 : decode cX4_put 287 = .ok (.iload_n 1, 1) := dk_27 (dk_at dksX4_put_12 7 rfl rfl)
theorem dX4_put_288 : decode cX4_put 288 = .ok (.dup2, 1) := dk_92 (dk_at dksX4_put_12 8 rfl rfl)
theorem dX4_put_289 : decode cX4_put 289 = .ok (.iaload, 1) := dk_46 (dk_at dksX4_put_12 9 rfl rfl)
theorem dX4_put_290 : decode cX4_put 290 = .ok (.iconst 1, 1) := dk_4 (dk_at dksX4_put_12 10 rfl rfl)
theorem dX4_put_291 : decode cX4_put 291 = .ok (.iadd, 1) := dk_96 (dk_at dksX4_put_12 11 rfl rfl)
theorem dX4_put_292 : decode cX4_put 292 = .ok (.iastore, 1) := dk_79 (dk_at dksX4_put_12 12 rfl rfl)
theorem dX4_put_293 : decode cX4_put 293 = .ok (.iload 7, 2) := dk_21 7 (dk_at dksX4_put_12 13 rfl rfl)
theorem dX4_put_295 : decode cX4_put 295 = .ok (.ireturn, 1) := dk_172 (dk_at dksX4_put_12 15 rfl rfl)
abbrev cX4_isVoice : ByteArray := prog_21_method_7_code
def yX4_isVoice : MethodName := ⟨RX4, "isVoice", "(I)Z"⟩
def dkwX4_isVoice_0 : List UInt8 := [27, 133, 9, 6, 42, 180, 0, 134, 104, 4, 100, 133, 184, 0, 137, 172]
abbrev dktX4_isVoice_0 : List UInt8 := dkwX4_isVoice_0 ++ []
theorem dksX4_isVoice_0 : cX4_isVoice.data.toList.drop 0 = dktX4_isVoice_0 := by decide +kernel
theorem dX4_isVoice_0 : decode cX4_isVoice 0 = .ok (.iload_n 1, 1) := dk_27 (dk_at dksX4_isVoice_0 0 rfl rfl)
theorem dX4_isVoice_1 : decode cX4_isVoice 1 = .ok (.i2l, 1) := dk_133 (dk_at dksX4_isVoice_0 1 rfl rfl)
theorem dX4_isVoice_2 : decode cX4_isVoice 2 = .ok (.lconst 0, 1) := dk_9 (dk_at dksX4_isVoice_0 2 rfl rfl)
theorem dX4_isVoice_3 : decode cX4_isVoice 3 = .ok (.iconst 3, 1) := dk_6 (dk_at dksX4_isVoice_0 3 rfl rfl)
theorem dX4_isVoice_4 : decode cX4_isVoice 4 = .ok (.aload_n 0, 1) := dk_42 (dk_at dksX4_isVoice_0 4 rfl rfl)
theorem dX4_isVoice_5 : decode cX4_isVoice 5 = .ok (.getfield 134, 3) := dk_180 0 134 (dk_at dksX4_isVoice_0 5 rfl rfl)
theorem dX4_isVoice_8 : decode cX4_isVoice 8 = .ok (.imul, 1) := dk_104 (dk_at dksX4_isVoice_0 8 rfl rfl)
theorem dX4_isVoice_9 : decode cX4_isVoice 9 = .ok (.iconst 1, 1) := dk_4 (dk_at dksX4_isVoice_0 9 rfl rfl)
theorem dX4_isVoice_10 : decode cX4_isVoice 10 = .ok (.isub, 1) := dk_100 (dk_at dksX4_isVoice_0 10 rfl rfl)
theorem dX4_isVoice_11 : decode cX4_isVoice 11 = .ok (.i2l, 1) := dk_133 (dk_at dksX4_isVoice_0 11 rfl rfl)
theorem dX4_isVoice_12 : decode cX4_isVoice 12 = .ok (.invokestatic 137, 3) := dk_184 0 137 (dk_at dksX4_isVoice_0 12 rfl rfl)
theorem dX4_isVoice_15 : decode cX4_isVoice 15 = .ok (.ireturn, 1) := dk_172 (dk_at dksX4_isVoice_0 15 rfl rfl)
abbrev cX4_drop : ByteArray := prog_21_method_18_code
def yX4_drop : MethodName := ⟨RX4, "drop", "(I)I"⟩
def dkwX4_drop_16 : List UInt8 := [4, 100, 79, 42, 180, 0, 17, 27, 3, 84, 42, 89, 180, 0, 190, 4, 100, 181, 0, 190, 29, 172]
abbrev dktX4_drop_16 : List UInt8 := dkwX4_drop_16 ++ []
def dkwX4_drop_15 : List UInt8 := [16, 40, 28, 104, 21, 4, 96, 4, 96, 46, 79, 132, 4, 1, 167, 255, 214, 42, 180, 0, 45, 28, 92, 46]
abbrev dktX4_drop_15 : List UInt8 := dkwX4_drop_15 ++ dktX4_drop_16
def dkwX4_drop_14 : List UInt8 := [42, 180, 0, 45, 28, 46, 162, 0, 35, 42, 180, 0, 42, 16, 40, 28, 104, 21, 4, 96, 42, 180, 0, 42]
abbrev dktX4_drop_14 : List UInt8 := dkwX4_drop_14 ++ dktX4_drop_15
def dkwX4_drop_13 : List UInt8 := [167, 0, 10, 42, 180, 0, 96, 21, 4, 46, 79, 132, 4, 1, 167, 255, 217, 29, 54, 4, 21, 4, 4, 96]
abbrev dktX4_drop_13 : List UInt8 := dkwX4_drop_13 ++ dktX4_drop_14
def dkwX4_drop_12 : List UInt8 := [16, 80, 162, 0, 38, 42, 180, 0, 96, 21, 4, 42, 180, 0, 96, 21, 4, 46, 27, 160, 0, 7, 2]
abbrev dktX4_drop_12 : List UInt8 := dkwX4_drop_12 ++ dktX4_drop_13
def dkwX4_drop_11 : List UInt8 := [27, 160, 0, 11, 42, 180, 0, 78, 21, 4, 2, 79, 132, 4, 1, 167, 255, 173, 3, 54, 4, 21, 4]
abbrev dktX4_drop_11 : List UInt8 := dkwX4_drop_11 ++ dktX4_drop_12
def dkwX4_drop_10 : List UInt8 := [100, 181, 0, 208, 167, 0, 32, 42, 180, 0, 69, 21, 4, 51, 153, 0, 22, 42, 180, 0, 78, 21, 4, 46]
abbrev dktX4_drop_10 : List UInt8 := dkwX4_drop_10 ++ dktX4_drop_11
def dkwX4_drop_9 : List UInt8 := [180, 0, 75, 21, 4, 46, 27, 160, 0, 24, 42, 180, 0, 69, 21, 4, 3, 84, 42, 89, 180, 0, 208, 4]
abbrev dktX4_drop_9 : List UInt8 := dkwX4_drop_9 ++ dktX4_drop_10
def dkwX4_drop_8 : List UInt8 := [54, 4, 21, 4, 42, 180, 0, 205, 162, 0, 80, 42, 180, 0, 69, 21, 4, 51, 153, 0, 35, 42]
abbrev dktX4_drop_8 : List UInt8 := dkwX4_drop_8 ++ dktX4_drop_9
def dkwX4_drop_7 : List UInt8 := [21, 4, 42, 180, 0, 42, 16, 40, 28, 104, 29, 96, 4, 100, 46, 79, 132, 4, 1, 167, 255, 106, 3]
abbrev dktX4_drop_7 : List UInt8 := dkwX4_drop_7 ++ dktX4_drop_8
def dkwX4_drop_6 : List UInt8 := [180, 0, 48, 21, 4, 51, 153, 0, 34, 42, 180, 0, 57, 21, 4, 46, 27, 160, 0, 23, 42, 180, 0, 57]
abbrev dktX4_drop_6 : List UInt8 := dkwX4_drop_6 ++ dktX4_drop_7
def dkwX4_drop_5 : List UInt8 := [42, 180, 0, 54, 21, 4, 42, 180, 0, 42, 16, 40, 28, 104, 29, 96, 4, 96, 46, 79, 167, 0, 44, 42]
abbrev dktX4_drop_5 : List UInt8 := dkwX4_drop_5 ++ dktX4_drop_6
def dkwX4_drop_4 : List UInt8 := [167, 0, 88, 42, 180, 0, 48, 21, 4, 51, 153, 0, 37, 42, 180, 0, 54, 21, 4, 46, 27, 160, 0, 26]
abbrev dktX4_drop_4 : List UInt8 := dkwX4_drop_4 ++ dktX4_drop_5
def dkwX4_drop_3 : List UInt8 := [27, 160, 0, 24, 42, 180, 0, 48, 21, 4, 3, 84, 42, 89, 180, 0, 202, 4, 100, 181, 0, 202]
abbrev dktX4_drop_3 : List UInt8 := dkwX4_drop_3 ++ dktX4_drop_4
def dkwX4_drop_2 : List UInt8 := [21, 4, 51, 153, 0, 46, 42, 180, 0, 54, 21, 4, 46, 27, 160, 0, 35, 42, 180, 0, 57, 21, 4, 46]
abbrev dktX4_drop_2 : List UInt8 := dkwX4_drop_2 ++ dktX4_drop_3
def dkwX4_drop_1 : List UInt8 := [46, 61, 42, 27, 182, 0, 196, 62, 3, 54, 4, 21, 4, 42, 180, 0, 199, 162, 0, 147, 42, 180, 0, 48]
abbrev dktX4_drop_1 : List UInt8 := dkwX4_drop_1 ++ dktX4_drop_2
def dkwX4_drop_0 : List UInt8 := [42, 182, 0, 144, 42, 27, 182, 0, 193, 154, 0, 10, 42, 16, 254, 182, 0, 130, 172, 42, 180, 0, 21, 27]
abbrev dktX4_drop_0 : List UInt8 := dkwX4_drop_0 ++ dktX4_drop_1
theorem dksX4_drop_0 : cX4_drop.data.toList.drop 0 = dktX4_drop_0 := by decide +kernel
theorem dksX4_drop_1 : cX4_drop.data.toList.drop 24 = dktX4_drop_1 := dk_seg dksX4_drop_0 24 rfl rfl
theorem dksX4_drop_2 : cX4_drop.data.toList.drop 48 = dktX4_drop_2 := dk_seg dksX4_drop_1 24 rfl rfl
theorem dksX4_drop_3 : cX4_drop.data.toList.drop 72 = dktX4_drop_3 := dk_seg dksX4_drop_2 24 rfl rfl
theorem dksX4_drop_4 : cX4_drop.data.toList.drop 94 = dktX4_drop_4 := dk_seg dksX4_drop_3 22 rfl rfl
theorem dksX4_drop_5 : cX4_drop.data.toList.drop 118 = dktX4_drop_5 := dk_seg dksX4_drop_4 24 rfl rfl
theorem dksX4_drop_6 : cX4_drop.data.toList.drop 142 = dktX4_drop_6 := dk_seg dksX4_drop_5 24 rfl rfl
theorem dksX4_drop_7 : cX4_drop.data.toList.drop 166 = dktX4_drop_7 := dk_seg dksX4_drop_6 24 rfl rfl
theorem dksX4_drop_8 : cX4_drop.data.toList.drop 189 = dktX4_drop_8 := dk_seg dksX4_drop_7 23 rfl rfl
theorem dksX4_drop_9 : cX4_drop.data.toList.drop 211 = dktX4_drop_9 := dk_seg dksX4_drop_8 22 rfl rfl
theorem dksX4_drop_10 : cX4_drop.data.toList.drop 235 = dktX4_drop_10 := dk_seg dksX4_drop_9 24 rfl rfl
theorem dksX4_drop_11 : cX4_drop.data.toList.drop 259 = dktX4_drop_11 := dk_seg dksX4_drop_10 24 rfl rfl
theorem dksX4_drop_12 : cX4_drop.data.toList.drop 282 = dktX4_drop_12 := dk_seg dksX4_drop_11 23 rfl rfl
theorem dksX4_drop_13 : cX4_drop.data.toList.drop 305 = dktX4_drop_13 := dk_seg dksX4_drop_12 23 rfl rfl
theorem dksX4_drop_14 : cX4_drop.data.toList.drop 329 = dktX4_drop_14 := dk_seg dksX4_drop_13 24 rfl rfl
theorem dksX4_drop_15 : cX4_drop.data.toList.drop 353 = dktX4_drop_15 := dk_seg dksX4_drop_14 24 rfl rfl
theorem dksX4_drop_16 : cX4_drop.data.toList.drop 377 = dktX4_drop_16 := dk_seg dksX4_drop_15 24 rfl rfl
theorem dX4_drop_0 : decode cX4_drop 0 = .ok (.aload_n 0, 1) := dk_42 (dk_at dksX4_drop_0 0 rfl rfl)
theorem dX4_drop_1 : decode cX4_drop 1 = .ok (.invokevirtual 144, 3) := dk_182 0 144 (dk_at dksX4_drop_0 1 rfl rfl)
theorem dX4_drop_4 : decode cX4_drop 4 = .ok (.aload_n 0, 1) := dk_42 (dk_at dksX4_drop_0 4 rfl rfl)
theorem dX4_drop_5 : decode cX4_drop 5 = .ok (.iload_n 1, 1) := dk_27 (dk_at dksX4_drop_0 5 rfl rfl)
theorem dX4_drop_6 : decode cX4_drop 6 = .ok (.invokevirtual 193, 3) := dk_182 0 193 (dk_at dksX4_drop_0 6 rfl rfl)
theorem dX4_drop_9 : decode cX4_drop 9 = .ok (.ifCond .ne 10, 3) := dk_154 0 10 (dk_at dksX4_drop_0 9 rfl rfl)
theorem dX4_drop_12 : decode cX4_drop 12 = .ok (.aload_n 0, 1) := dk_42 (dk_at dksX4_drop_0 12 rfl rfl)
theorem dX4_drop_13 : decode cX4_drop 13 = .ok (.bipush (-2), 2) := dk_16 254 (dk_at dksX4_drop_0 13 rfl rfl)
theorem dX4_drop_15 : decode cX4_drop 15 = .ok (.invokevirtual 130, 3) := dk_182 0 130 (dk_at dksX4_drop_0 15 rfl rfl)
theorem dX4_drop_18 : decode cX4_drop 18 = .ok (.ireturn, 1) := dk_172 (dk_at dksX4_drop_0 18 rfl rfl)
theorem dX4_drop_19 : decode cX4_drop 19 = .ok (.aload_n 0, 1) := dk_42 (dk_at dksX4_drop_0 19 rfl rfl)
theorem dX4_drop_20 : decode cX4_drop 20 = .ok (.getfield 21, 3) := dk_180 0 21 (dk_at dksX4_drop_0 20 rfl rfl)
theorem dX4_drop_23 : decode cX4_drop 23 = .ok (.iload_n 1, 1) := dk_27 (dk_at dksX4_drop_0 23 rfl rfl)
theorem dX4_drop_24 : decode cX4_drop 24 = .ok (.iaload, 1) := dk_46 (dk_at dksX4_drop_1 0 rfl rfl)
theorem dX4_drop_25 : decode cX4_drop 25 = .ok (.istore_n 2, 1) := dk_61 (dk_at dksX4_drop_1 1 rfl rfl)
theorem dX4_drop_26 : decode cX4_drop 26 = .ok (.aload_n 0, 1) := dk_42 (dk_at dksX4_drop_1 2 rfl rfl)
theorem dX4_drop_27 : decode cX4_drop 27 = .ok (.iload_n 1, 1) := dk_27 (dk_at dksX4_drop_1 3 rfl rfl)
theorem dX4_drop_28 : decode cX4_drop 28 = .ok (.invokevirtual 196, 3) := dk_182 0 196 (dk_at dksX4_drop_1 4 rfl rfl)
theorem dX4_drop_31 : decode cX4_drop 31 = .ok (.istore_n 3, 1) := dk_62 (dk_at dksX4_drop_1 7 rfl rfl)
theorem dX4_drop_32 : decode cX4_drop 32 = .ok (.iconst 0, 1) := dk_3 (dk_at dksX4_drop_1 8 rfl rfl)
theorem dX4_drop_33 : decode cX4_drop 33 = .ok (.istore 4, 2) := dk_54 4 (dk_at dksX4_drop_1 9 rfl rfl)
theorem dX4_drop_35 : decode cX4_drop 35 = .ok (.iload 4, 2) := dk_21 4 (dk_at dksX4_drop_1 11 rfl rfl)
theorem dX4_drop_37 : decode cX4_drop 37 = .ok (.aload_n 0, 1) := dk_42 (dk_at dksX4_drop_1 13 rfl rfl)
theorem dX4_drop_38 : decode cX4_drop 38 = .ok (.getfield 199, 3) := dk_180 0 199 (dk_at dksX4_drop_1 14 rfl rfl)
theorem dX4_drop_41 : decode cX4_drop 41 = .ok (.if_icmp .ge 147, 3) := dk_162 0 147 (dk_at dksX4_drop_1 17 rfl rfl)
theorem dX4_drop_44 : decode cX4_drop 44 = .ok (.aload_n 0, 1) := dk_42 (dk_at dksX4_drop_1 20 rfl rfl)
theorem dX4_drop_45 : decode cX4_drop 45 = .ok (.getfield 48, 3) := dk_180 0 48 (dk_at dksX4_drop_1 21 rfl rfl)
theorem dX4_drop_48 : decode cX4_drop 48 = .ok (.iload 4, 2) := dk_21 4 (dk_at dksX4_drop_2 0 rfl rfl)
theorem dX4_drop_50 : decode cX4_drop 50 = .ok (.baload, 1) := dk_51 (dk_at dksX4_drop_2 2 rfl rfl)
theorem dX4_drop_51 : decode cX4_drop 51 = .ok (.ifCond .eq 46, 3) := dk_153 0 46 (dk_at dksX4_drop_2 3 rfl rfl)
theorem dX4_drop_54 : decode cX4_drop 54 = .ok (.aload_n 0, 1) := dk_42 (dk_at dksX4_drop_2 6 rfl rfl)
theorem dX4_drop_55 : decode cX4_drop 55 = .ok (.getfield 54, 3) := dk_180 0 54 (dk_at dksX4_drop_2 7 rfl rfl)
theorem dX4_drop_58 : decode cX4_drop 58 = .ok (.iload 4, 2) := dk_21 4 (dk_at dksX4_drop_2 10 rfl rfl)
theorem dX4_drop_60 : decode cX4_drop 60 = .ok (.iaload, 1) := dk_46 (dk_at dksX4_drop_2 12 rfl rfl)
theorem dX4_drop_61 : decode cX4_drop 61 = .ok (.iload_n 1, 1) := dk_27 (dk_at dksX4_drop_2 13 rfl rfl)
theorem dX4_drop_62 : decode cX4_drop 62 = .ok (.if_icmp .ne 35, 3) := dk_160 0 35 (dk_at dksX4_drop_2 14 rfl rfl)
theorem dX4_drop_65 : decode cX4_drop 65 = .ok (.aload_n 0, 1) := dk_42 (dk_at dksX4_drop_2 17 rfl rfl)
theorem dX4_drop_66 : decode cX4_drop 66 = .ok (.getfield 57, 3) := dk_180 0 57 (dk_at dksX4_drop_2 18 rfl rfl)
theorem dX4_drop_69 : decode cX4_drop 69 = .ok (.iload 4, 2) := dk_21 4 (dk_at dksX4_drop_2 21 rfl rfl)
theorem dX4_drop_71 : decode cX4_drop 71 = .ok (.iaload, 1) := dk_46 (dk_at dksX4_drop_2 23 rfl rfl)
theorem dX4_drop_72 : decode cX4_drop 72 = .ok (.iload_n 1, 1) := dk_27 (dk_at dksX4_drop_3 0 rfl rfl)
theorem dX4_drop_73 : decode cX4_drop 73 = .ok (.if_icmp .ne 24, 3) := dk_160 0 24 (dk_at dksX4_drop_3 1 rfl rfl)
theorem dX4_drop_76 : decode cX4_drop 76 = .ok (.aload_n 0, 1) := dk_42 (dk_at dksX4_drop_3 4 rfl rfl)
theorem dX4_drop_77 : decode cX4_drop 77 = .ok (.getfield 48, 3) := dk_180 0 48 (dk_at dksX4_drop_3 5 rfl rfl)
theorem dX4_drop_80 : decode cX4_drop 80 = .ok (.iload 4, 2) := dk_21 4 (dk_at dksX4_drop_3 8 rfl rfl)
theorem dX4_drop_82 : decode cX4_drop 82 = .ok (.iconst 0, 1) := dk_3 (dk_at dksX4_drop_3 10 rfl rfl)
theorem dX4_drop_83 : decode cX4_drop 83 = .ok (.bastore, 1) := dk_84 (dk_at dksX4_drop_3 11 rfl rfl)
theorem dX4_drop_84 : decode cX4_drop 84 = .ok (.aload_n 0, 1) := dk_42 (dk_at dksX4_drop_3 12 rfl rfl)
theorem dX4_drop_85 : decode cX4_drop 85 = .ok (.dup, 1) := dk_89 (dk_at dksX4_drop_3 13 rfl rfl)
theorem dX4_drop_86 : decode cX4_drop 86 = .ok (.getfield 202, 3) := dk_180 0 202 (dk_at dksX4_drop_3 14 rfl rfl)
theorem dX4_drop_89 : decode cX4_drop 89 = .ok (.iconst 1, 1) := dk_4 (dk_at dksX4_drop_3 17 rfl rfl)
theorem dX4_drop_90 : decode cX4_drop 90 = .ok (.isub, 1) := dk_100 (dk_at dksX4_drop_3 18 rfl rfl)
theorem dX4_drop_91 : decode cX4_drop 91 = .ok (.putfield 202, 3) := dk_181 0 202 (dk_at dksX4_drop_3 19 rfl rfl)
theorem dX4_drop_94 : decode cX4_drop 94 = .ok (.goto 88, 3) := dk_167 0 88 (dk_at dksX4_drop_4 0 rfl rfl)
theorem dX4_drop_97 : decode cX4_drop 97 = .ok (.aload_n 0, 1) := dk_42 (dk_at dksX4_drop_4 3 rfl rfl)
theorem dX4_drop_98 : decode cX4_drop 98 = .ok (.getfield 48, 3) := dk_180 0 48 (dk_at dksX4_drop_4 4 rfl rfl)
theorem dX4_drop_101 : decode cX4_drop 101 = .ok (.iload 4, 2) := dk_21 4 (dk_at dksX4_drop_4 7 rfl rfl)
theorem dX4_drop_103 : decode cX4_drop 103 = .ok (.baload, 1) := dk_51 (dk_at dksX4_drop_4 9 rfl rfl)
theorem dX4_drop_104 : decode cX4_drop 104 = .ok (.ifCond .eq 37, 3) := dk_153 0 37 (dk_at dksX4_drop_4 10 rfl rfl)
theorem dX4_drop_107 : decode cX4_drop 107 = .ok (.aload_n 0, 1) := dk_42 (dk_at dksX4_drop_4 13 rfl rfl)
theorem dX4_drop_108 : decode cX4_drop 108 = .ok (.getfield 54, 3) := dk_180 0 54 (dk_at dksX4_drop_4 14 rfl rfl)
theorem dX4_drop_111 : decode cX4_drop 111 = .ok (.iload 4, 2) := dk_21 4 (dk_at dksX4_drop_4 17 rfl rfl)
theorem dX4_drop_113 : decode cX4_drop 113 = .ok (.iaload, 1) := dk_46 (dk_at dksX4_drop_4 19 rfl rfl)
theorem dX4_drop_114 : decode cX4_drop 114 = .ok (.iload_n 1, 1) := dk_27 (dk_at dksX4_drop_4 20 rfl rfl)
theorem dX4_drop_115 : decode cX4_drop 115 = .ok (.if_icmp .ne 26, 3) := dk_160 0 26 (dk_at dksX4_drop_4 21 rfl rfl)
theorem dX4_drop_118 : decode cX4_drop 118 = .ok (.aload_n 0, 1) := dk_42 (dk_at dksX4_drop_5 0 rfl rfl)
theorem dX4_drop_119 : decode cX4_drop 119 = .ok (.getfield 54, 3) := dk_180 0 54 (dk_at dksX4_drop_5 1 rfl rfl)
theorem dX4_drop_122 : decode cX4_drop 122 = .ok (.iload 4, 2) := dk_21 4 (dk_at dksX4_drop_5 4 rfl rfl)
theorem dX4_drop_124 : decode cX4_drop 124 = .ok (.aload_n 0, 1) := dk_42 (dk_at dksX4_drop_5 6 rfl rfl)
theorem dX4_drop_125 : decode cX4_drop 125 = .ok (.getfield 42, 3) := dk_180 0 42 (dk_at dksX4_drop_5 7 rfl rfl)
theorem dX4_drop_128 : decode cX4_drop 128 = .ok (.bipush 40, 2) := dk_16 40 (dk_at dksX4_drop_5 10 rfl rfl)
theorem dX4_drop_130 : decode cX4_drop 130 = .ok (.iload_n 2, 1) := dk_28 (dk_at dksX4_drop_5 12 rfl rfl)
theorem dX4_drop_131 : decode cX4_drop 131 = .ok (.imul, 1) := dk_104 (dk_at dksX4_drop_5 13 rfl rfl)
theorem dX4_drop_132 : decode cX4_drop 132 = .ok (.iload_n 3, 1) := dk_29 (dk_at dksX4_drop_5 14 rfl rfl)
theorem dX4_drop_133 : decode cX4_drop 133 = .ok (.iadd, 1) := dk_96 (dk_at dksX4_drop_5 15 rfl rfl)
theorem dX4_drop_134 : decode cX4_drop 134 = .ok (.iconst 1, 1) := dk_4 (dk_at dksX4_drop_5 16 rfl rfl)
theorem dX4_drop_135 : decode cX4_drop 135 = .ok (.iadd, 1) := dk_96 (dk_at dksX4_drop_5 17 rfl rfl)
theorem dX4_drop_136 : decode cX4_drop 136 = .ok (.iaload, 1) := dk_46 (dk_at dksX4_drop_5 18 rfl rfl)
theorem dX4_drop_137 : decode cX4_drop 137 = .ok (.iastore, 1) := dk_79 (dk_at dksX4_drop_5 19 rfl rfl)
theorem dX4_drop_138 : decode cX4_drop 138 = .ok (.goto 44, 3) := dk_167 0 44 (dk_at dksX4_drop_5 20 rfl rfl)
theorem dX4_drop_141 : decode cX4_drop 141 = .ok (.aload_n 0, 1) := dk_42 (dk_at dksX4_drop_5 23 rfl rfl)
theorem dX4_drop_142 : decode cX4_drop 142 = .ok (.getfield 48, 3) := dk_180 0 48 (dk_at dksX4_drop_6 0 rfl rfl)
theorem dX4_drop_145 : decode cX4_drop 145 = .ok (.iload 4, 2) := dk_21 4 (dk_at dksX4_drop_6 3 rfl rfl)
theorem dX4_drop_147 : decode cX4_drop 147 = .ok (.baload, 1) := dk_51 (dk_at dksX4_drop_6 5 rfl rfl)
theorem dX4_drop_148 : decode cX4_drop 148 = .ok (.ifCond .eq 34, 3) := dk_153 0 34 (dk_at dksX4_drop_6 6 rfl rfl)
theorem dX4_drop_151 : decode cX4_drop 151 = .ok (.aload_n 0, 1) := dk_42 (dk_at dksX4_drop_6 9 rfl rfl)
theorem dX4_drop_152 : decode cX4_drop 152 = .ok (.getfield 57, 3) := dk_180 0 57 (dk_at dksX4_drop_6 10 rfl rfl)
theorem dX4_drop_155 : decode cX4_drop 155 = .ok (.iload 4, 2) := dk_21 4 (dk_at dksX4_drop_6 13 rfl rfl)
theorem dX4_drop_157 : decode cX4_drop 157 = .ok (.iaload, 1) := dk_46 (dk_at dksX4_drop_6 15 rfl rfl)
theorem dX4_drop_158 : decode cX4_drop 158 = .ok (.iload_n 1, 1) := dk_27 (dk_at dksX4_drop_6 16 rfl rfl)
theorem dX4_drop_159 : decode cX4_drop 159 = .ok (.if_icmp .ne 23, 3) := dk_160 0 23 (dk_at dksX4_drop_6 17 rfl rfl)
theorem dX4_drop_162 : decode cX4_drop 162 = .ok (.aload_n 0, 1) := dk_42 (dk_at dksX4_drop_6 20 rfl rfl)
theorem dX4_drop_163 : decode cX4_drop 163 = .ok (.getfield 57, 3) := dk_180 0 57 (dk_at dksX4_drop_6 21 rfl rfl)
theorem dX4_drop_166 : decode cX4_drop 166 = .ok (.iload 4, 2) := dk_21 4 (dk_at dksX4_drop_7 0 rfl rfl)
theorem dX4_drop_168 : decode cX4_drop 168 = .ok (.aload_n 0, 1) := dk_42 (dk_at dksX4_drop_7 2 rfl rfl)
theorem dX4_drop_169 : decode cX4_drop 169 = .ok (.getfield 42, 3) := dk_180 0 42 (dk_at dksX4_drop_7 3 rfl rfl)
theorem dX4_drop_172 : decode cX4_drop 172 = .ok (.bipush 40, 2) := dk_16 40 (dk_at dksX4_drop_7 6 rfl rfl)
theorem dX4_drop_174 : decode cX4_drop 174 = .ok (.iload_n 2, 1) := dk_28 (dk_at dksX4_drop_7 8 rfl rfl)
theorem dX4_drop_175 : decode cX4_drop 175 = .ok (.imul, 1) := dk_104 (dk_at dksX4_drop_7 9 rfl rfl)
theorem dX4_drop_176 : decode cX4_drop 176 = .ok (.iload_n 3, 1) := dk_29 (dk_at dksX4_drop_7 10 rfl rfl)
theorem dX4_drop_177 : decode cX4_drop 177 = .ok (.iadd, 1) := dk_96 (dk_at dksX4_drop_7 11 rfl rfl)
theorem dX4_drop_178 : decode cX4_drop 178 = .ok (.iconst 1, 1) := dk_4 (dk_at dksX4_drop_7 12 rfl rfl)
theorem dX4_drop_179 : decode cX4_drop 179 = .ok (.isub, 1) := dk_100 (dk_at dksX4_drop_7 13 rfl rfl)
theorem dX4_drop_180 : decode cX4_drop 180 = .ok (.iaload, 1) := dk_46 (dk_at dksX4_drop_7 14 rfl rfl)
theorem dX4_drop_181 : decode cX4_drop 181 = .ok (.iastore, 1) := dk_79 (dk_at dksX4_drop_7 15 rfl rfl)
theorem dX4_drop_182 : decode cX4_drop 182 = .ok (.iinc 4 1, 3) := dk_132 4 1 (dk_at dksX4_drop_7 16 rfl rfl)
theorem dX4_drop_185 : decode cX4_drop 185 = .ok (.goto (-150), 3) := dk_167 255 106 (dk_at dksX4_drop_7 19 rfl rfl)
theorem dX4_drop_188 : decode cX4_drop 188 = .ok (.iconst 0, 1) := dk_3 (dk_at dksX4_drop_7 22 rfl rfl)
theorem dX4_drop_189 : decode cX4_drop 189 = .ok (.istore 4, 2) := dk_54 4 (dk_at dksX4_drop_8 0 rfl rfl)
theorem dX4_drop_191 : decode cX4_drop 191 = .ok (.iload 4, 2) := dk_21 4 (dk_at dksX4_drop_8 2 rfl rfl)
theorem dX4_drop_193 : decode cX4_drop 193 = .ok (.aload_n 0, 1) := dk_42 (dk_at dksX4_drop_8 4 rfl rfl)
theorem dX4_drop_194 : decode cX4_drop 194 = .ok (.getfield 205, 3) := dk_180 0 205 (dk_at dksX4_drop_8 5 rfl rfl)
theorem dX4_drop_197 : decode cX4_drop 197 = .ok (.if_icmp .ge 80, 3) := dk_162 0 80 (dk_at dksX4_drop_8 8 rfl rfl)
theorem dX4_drop_200 : decode cX4_drop 200 = .ok (.aload_n 0, 1) := dk_42 (dk_at dksX4_drop_8 11 rfl rfl)
theorem dX4_drop_201 : decode cX4_drop 201 = .ok (.getfield 69, 3) := dk_180 0 69 (dk_at dksX4_drop_8 12 rfl rfl)
theorem dX4_drop_204 : decode cX4_drop 204 = .ok (.iload 4, 2) := dk_21 4 (dk_at dksX4_drop_8 15 rfl rfl)
theorem dX4_drop_206 : decode cX4_drop 206 = .ok (.baload, 1) := dk_51 (dk_at dksX4_drop_8 17 rfl rfl)
theorem dX4_drop_207 : decode cX4_drop 207 = .ok (.ifCond .eq 35, 3) := dk_153 0 35 (dk_at dksX4_drop_8 18 rfl rfl)
theorem dX4_drop_210 : decode cX4_drop 210 = .ok (.aload_n 0, 1) := dk_42 (dk_at dksX4_drop_8 21 rfl rfl)
theorem dX4_drop_211 : decode cX4_drop 211 = .ok (.getfield 75, 3) := dk_180 0 75 (dk_at dksX4_drop_9 0 rfl rfl)
theorem dX4_drop_214 : decode cX4_drop 214 = .ok (.iload 4, 2) := dk_21 4 (dk_at dksX4_drop_9 3 rfl rfl)
theorem dX4_drop_216 : decode cX4_drop 216 = .ok (.iaload, 1) := dk_46 (dk_at dksX4_drop_9 5 rfl rfl)
theorem dX4_drop_217 : decode cX4_drop 217 = .ok (.iload_n 1, 1) := dk_27 (dk_at dksX4_drop_9 6 rfl rfl)
theorem dX4_drop_218 : decode cX4_drop 218 = .ok (.if_icmp .ne 24, 3) := dk_160 0 24 (dk_at dksX4_drop_9 7 rfl rfl)
theorem dX4_drop_221 : decode cX4_drop 221 = .ok (.aload_n 0, 1) := dk_42 (dk_at dksX4_drop_9 10 rfl rfl)
theorem dX4_drop_222 : decode cX4_drop 222 = .ok (.getfield 69, 3) := dk_180 0 69 (dk_at dksX4_drop_9 11 rfl rfl)
theorem dX4_drop_225 : decode cX4_drop 225 = .ok (.iload 4, 2) := dk_21 4 (dk_at dksX4_drop_9 14 rfl rfl)
theorem dX4_drop_227 : decode cX4_drop 227 = .ok (.iconst 0, 1) := dk_3 (dk_at dksX4_drop_9 16 rfl rfl)
theorem dX4_drop_228 : decode cX4_drop 228 = .ok (.bastore, 1) := dk_84 (dk_at dksX4_drop_9 17 rfl rfl)
theorem dX4_drop_229 : decode cX4_drop 229 = .ok (.aload_n 0, 1) := dk_42 (dk_at dksX4_drop_9 18 rfl rfl)
theorem dX4_drop_230 : decode cX4_drop 230 = .ok (.dup, 1) := dk_89 (dk_at dksX4_drop_9 19 rfl rfl)
theorem dX4_drop_231 : decode cX4_drop 231 = .ok (.getfield 208, 3) := dk_180 0 208 (dk_at dksX4_drop_9 20 rfl rfl)
theorem dX4_drop_234 : decode cX4_drop 234 = .ok (.iconst 1, 1) := dk_4 (dk_at dksX4_drop_9 23 rfl rfl)
theorem dX4_drop_235 : decode cX4_drop 235 = .ok (.isub, 1) := dk_100 (dk_at dksX4_drop_10 0 rfl rfl)
theorem dX4_drop_236 : decode cX4_drop 236 = .ok (.putfield 208, 3) := dk_181 0 208 (dk_at dksX4_drop_10 1 rfl rfl)
theorem dX4_drop_239 : decode cX4_drop 239 = .ok (.goto 32, 3) := dk_167 0 32 (dk_at dksX4_drop_10 4 rfl rfl)
theorem dX4_drop_242 : decode cX4_drop 242 = .ok (.aload_n 0, 1) := dk_42 (dk_at dksX4_drop_10 7 rfl rfl)
theorem dX4_drop_243 : decode cX4_drop 243 = .ok (.getfield 69, 3) := dk_180 0 69 (dk_at dksX4_drop_10 8 rfl rfl)
theorem dX4_drop_246 : decode cX4_drop 246 = .ok (.iload 4, 2) := dk_21 4 (dk_at dksX4_drop_10 11 rfl rfl)
theorem dX4_drop_248 : decode cX4_drop 248 = .ok (.baload, 1) := dk_51 (dk_at dksX4_drop_10 13 rfl rfl)
theorem dX4_drop_249 : decode cX4_drop 249 = .ok (.ifCond .eq 22, 3) := dk_153 0 22 (dk_at dksX4_drop_10 14 rfl rfl)
theorem dX4_drop_252 : decode cX4_drop 252 = .ok (.aload_n 0, 1) := dk_42 (dk_at dksX4_drop_10 17 rfl rfl)
theorem dX4_drop_253 : decode cX4_drop 253 = .ok (.getfield 78, 3) := dk_180 0 78 (dk_at dksX4_drop_10 18 rfl rfl)
theorem dX4_drop_256 : decode cX4_drop 256 = .ok (.iload 4, 2) := dk_21 4 (dk_at dksX4_drop_10 21 rfl rfl)
theorem dX4_drop_258 : decode cX4_drop 258 = .ok (.iaload, 1) := dk_46 (dk_at dksX4_drop_10 23 rfl rfl)
theorem dX4_drop_259 : decode cX4_drop 259 = .ok (.iload_n 1, 1) := dk_27 (dk_at dksX4_drop_11 0 rfl rfl)
theorem dX4_drop_260 : decode cX4_drop 260 = .ok (.if_icmp .ne 11, 3) := dk_160 0 11 (dk_at dksX4_drop_11 1 rfl rfl)
theorem dX4_drop_263 : decode cX4_drop 263 = .ok (.aload_n 0, 1) := dk_42 (dk_at dksX4_drop_11 4 rfl rfl)
theorem dX4_drop_264 : decode cX4_drop 264 = .ok (.getfield 78, 3) := dk_180 0 78 (dk_at dksX4_drop_11 5 rfl rfl)
theorem dX4_drop_267 : decode cX4_drop 267 = .ok (.iload 4, 2) := dk_21 4 (dk_at dksX4_drop_11 8 rfl rfl)
theorem dX4_drop_269 : decode cX4_drop 269 = .ok (.iconst (-1), 1) := dk_2 (dk_at dksX4_drop_11 10 rfl rfl)
theorem dX4_drop_270 : decode cX4_drop 270 = .ok (.iastore, 1) := dk_79 (dk_at dksX4_drop_11 11 rfl rfl)
theorem dX4_drop_271 : decode cX4_drop 271 = .ok (.iinc 4 1, 3) := dk_132 4 1 (dk_at dksX4_drop_11 12 rfl rfl)
theorem dX4_drop_274 : decode cX4_drop 274 = .ok (.goto (-83), 3) := dk_167 255 173 (dk_at dksX4_drop_11 15 rfl rfl)
theorem dX4_drop_277 : decode cX4_drop 277 = .ok (.iconst 0, 1) := dk_3 (dk_at dksX4_drop_11 18 rfl rfl)
theorem dX4_drop_278 : decode cX4_drop 278 = .ok (.istore 4, 2) := dk_54 4 (dk_at dksX4_drop_11 19 rfl rfl)
theorem dX4_drop_280 : decode cX4_drop 280 = .ok (.iload 4, 2) := dk_21 4 (dk_at dksX4_drop_11 21 rfl rfl)
theorem dX4_drop_282 : decode cX4_drop 282 = .ok (.bipush 80, 2) := dk_16 80 (dk_at dksX4_drop_12 0 rfl rfl)
theorem dX4_drop_284 : decode cX4_drop 284 = .ok (.if_icmp .ge 38, 3) := dk_162 0 38 (dk_at dksX4_drop_12 2 rfl rfl)
theorem dX4_drop_287 : decode cX4_drop 287 = .ok (.aload_n 0, 1) := dk_42 (dk_at dksX4_drop_12 5 rfl rfl)
theorem dX4_drop_288 : decode cX4_drop 288 = .ok (.getfield 96, 3) := dk_180 0 96 (dk_at dksX4_drop_12 6 rfl rfl)
theorem dX4_drop_291 : decode cX4_drop 291 = .ok (.iload 4, 2) := dk_21 4 (dk_at dksX4_drop_12 9 rfl rfl)
theorem dX4_drop_293 : decode cX4_drop 293 = .ok (.aload_n 0, 1) := dk_42 (dk_at dksX4_drop_12 11 rfl rfl)
theorem dX4_drop_294 : decode cX4_drop 294 = .ok (.getfield 96, 3) := dk_180 0 96 (dk_at dksX4_drop_12 12 rfl rfl)
theorem dX4_drop_297 : decode cX4_drop 297 = .ok (.iload 4, 2) := dk_21 4 (dk_at dksX4_drop_12 15 rfl rfl)
theorem dX4_drop_299 : decode cX4_drop 299 = .ok (.iaload, 1) := dk_46 (dk_at dksX4_drop_12 17 rfl rfl)
theorem dX4_drop_300 : decode cX4_drop 300 = .ok (.iload_n 1, 1) := dk_27 (dk_at dksX4_drop_12 18 rfl rfl)
theorem dX4_drop_301 : decode cX4_drop 301 = .ok (.if_icmp .ne 7, 3) := dk_160 0 7 (dk_at dksX4_drop_12 19 rfl rfl)
theorem dX4_drop_304 : decode cX4_drop 304 = .ok (.iconst (-1), 1) := dk_2 (dk_at dksX4_drop_12 22 rfl rfl)
theorem dX4_drop_305 : decode cX4_drop 305 = .ok (.goto 10, 3) := dk_167 0 10 (dk_at dksX4_drop_13 0 rfl rfl)
theorem dX4_drop_308 : decode cX4_drop 308 = .ok (.aload_n 0, 1) := dk_42 (dk_at dksX4_drop_13 3 rfl rfl)
theorem dX4_drop_309 : decode cX4_drop 309 = .ok (.getfield 96, 3) := dk_180 0 96 (dk_at dksX4_drop_13 4 rfl rfl)
theorem dX4_drop_312 : decode cX4_drop 312 = .ok (.iload 4, 2) := dk_21 4 (dk_at dksX4_drop_13 7 rfl rfl)
theorem dX4_drop_314 : decode cX4_drop 314 = .ok (.iaload, 1) := dk_46 (dk_at dksX4_drop_13 9 rfl rfl)
theorem dX4_drop_315 : decode cX4_drop 315 = .ok (.iastore, 1) := dk_79 (dk_at dksX4_drop_13 10 rfl rfl)
theorem dX4_drop_316 : decode cX4_drop 316 = .ok (.iinc 4 1, 3) := dk_132 4 1 (dk_at dksX4_drop_13 11 rfl rfl)
theorem dX4_drop_319 : decode cX4_drop 319 = .ok (.goto (-39), 3) := dk_167 255 217 (dk_at dksX4_drop_13 14 rfl rfl)
theorem dX4_drop_322 : decode cX4_drop 322 = .ok (.iload_n 3, 1) := dk_29 (dk_at dksX4_drop_13 17 rfl rfl)
theorem dX4_drop_323 : decode cX4_drop 323 = .ok (.istore 4, 2) := dk_54 4 (dk_at dksX4_drop_13 18 rfl rfl)
theorem dX4_drop_325 : decode cX4_drop 325 = .ok (.iload 4, 2) := dk_21 4 (dk_at dksX4_drop_13 20 rfl rfl)
theorem dX4_drop_327 : decode cX4_drop 327 = .ok (.iconst 1, 1) := dk_4 (dk_at dksX4_drop_13 22 rfl rfl)
theorem dX4_drop_328 : decode cX4_drop 328 = .ok (.iadd, 1) := dk_96 (dk_at dksX4_drop_13 23 rfl rfl)
theorem dX4_drop_329 : decode cX4_drop 329 = .ok (.aload_n 0, 1) := dk_42 (dk_at dksX4_drop_14 0 rfl rfl)
theorem dX4_drop_330 : decode cX4_drop 330 = .ok (.getfield 45, 3) := dk_180 0 45 (dk_at dksX4_drop_14 1 rfl rfl)
theorem dX4_drop_333 : decode cX4_drop 333 = .ok (.iload_n 2, 1) := dk_28 (dk_at dksX4_drop_14 4 rfl rfl)
theorem dX4_drop_334 : decode cX4_drop 334 = .ok (.iaload, 1) := dk_46 (dk_at dksX4_drop_14 5 rfl rfl)
theorem dX4_drop_335 : decode cX4_drop 335 = .ok (.if_icmp .ge 35, 3) := dk_162 0 35 (dk_at dksX4_drop_14 6 rfl rfl)
theorem dX4_drop_338 : decode cX4_drop 338 = .ok (.aload_n 0, 1) := dk_42 (dk_at dksX4_drop_14 9 rfl rfl)
theorem dX4_drop_339 : decode cX4_drop 339 = .ok (.getfield 42, 3) := dk_180 0 42 (dk_at dksX4_drop_14 10 rfl rfl)
theorem dX4_drop_342 : decode cX4_drop 342 = .ok (.bipush 40, 2) := dk_16 40 (dk_at dksX4_drop_14 13 rfl rfl)
theorem dX4_drop_344 : decode cX4_drop 344 = .ok (.iload_n 2, 1) := dk_28 (dk_at dksX4_drop_14 15 rfl rfl)
theorem dX4_drop_345 : decode cX4_drop 345 = .ok (.imul, 1) := dk_104 (dk_at dksX4_drop_14 16 rfl rfl)
theorem dX4_drop_346 : decode cX4_drop 346 = .ok (.iload 4, 2) := dk_21 4 (dk_at dksX4_drop_14 17 rfl rfl)
theorem dX4_drop_348 : decode cX4_drop 348 = .ok (.iadd, 1) := dk_96 (dk_at dksX4_drop_14 19 rfl rfl)
theorem dX4_drop_349 : decode cX4_drop 349 = .ok (.aload_n 0, 1) := dk_42 (dk_at dksX4_drop_14 20 rfl rfl)
theorem dX4_drop_350 : decode cX4_drop 350 = .ok (.getfield 42, 3) := dk_180 0 42 (dk_at dksX4_drop_14 21 rfl rfl)
theorem dX4_drop_353 : decode cX4_drop 353 = .ok (.bipush 40, 2) := dk_16 40 (dk_at dksX4_drop_15 0 rfl rfl)
theorem dX4_drop_355 : decode cX4_drop 355 = .ok (.iload_n 2, 1) := dk_28 (dk_at dksX4_drop_15 2 rfl rfl)
theorem dX4_drop_356 : decode cX4_drop 356 = .ok (.imul, 1) := dk_104 (dk_at dksX4_drop_15 3 rfl rfl)
theorem dX4_drop_357 : decode cX4_drop 357 = .ok (.iload 4, 2) := dk_21 4 (dk_at dksX4_drop_15 4 rfl rfl)
theorem dX4_drop_359 : decode cX4_drop 359 = .ok (.iadd, 1) := dk_96 (dk_at dksX4_drop_15 6 rfl rfl)
theorem dX4_drop_360 : decode cX4_drop 360 = .ok (.iconst 1, 1) := dk_4 (dk_at dksX4_drop_15 7 rfl rfl)
theorem dX4_drop_361 : decode cX4_drop 361 = .ok (.iadd, 1) := dk_96 (dk_at dksX4_drop_15 8 rfl rfl)
theorem dX4_drop_362 : decode cX4_drop 362 = .ok (.iaload, 1) := dk_46 (dk_at dksX4_drop_15 9 rfl rfl)
theorem dX4_drop_363 : decode cX4_drop 363 = .ok (.iastore, 1) := dk_79 (dk_at dksX4_drop_15 10 rfl rfl)
theorem dX4_drop_364 : decode cX4_drop 364 = .ok (.iinc 4 1, 3) := dk_132 4 1 (dk_at dksX4_drop_15 11 rfl rfl)
theorem dX4_drop_367 : decode cX4_drop 367 = .ok (.goto (-42), 3) := dk_167 255 214 (dk_at dksX4_drop_15 14 rfl rfl)
theorem dX4_drop_370 : decode cX4_drop 370 = .ok (.aload_n 0, 1) := dk_42 (dk_at dksX4_drop_15 17 rfl rfl)
theorem dX4_drop_371 : decode cX4_drop 371 = .ok (.getfield 45, 3) := dk_180 0 45 (dk_at dksX4_drop_15 18 rfl rfl)
theorem dX4_drop_374 : decode cX4_drop 374 = .ok (.iload_n 2, 1) := dk_28 (dk_at dksX4_drop_15 21 rfl rfl)
theorem dX4_drop_375 : decode cX4_drop 375 = .ok (.dup2, 1) := dk_92 (dk_at dksX4_drop_15 22 rfl rfl)
theorem dX4_drop_376 : decode cX4_drop 376 = .ok (.iaload, 1) := dk_46 (dk_at dksX4_drop_15 23 rfl rfl)
theorem dX4_drop_377 : decode cX4_drop 377 = .ok (.iconst 1, 1) := dk_4 (dk_at dksX4_drop_16 0 rfl rfl)
theorem dX4_drop_378 : decode cX4_drop 378 = .ok (.isub, 1) := dk_100 (dk_at dksX4_drop_16 1 rfl rfl)
theorem dX4_drop_379 : decode cX4_drop 379 = .ok (.iastore, 1) := dk_79 (dk_at dksX4_drop_16 2 rfl rfl)
theorem dX4_drop_380 : decode cX4_drop 380 = .ok (.aload_n 0, 1) := dk_42 (dk_at dksX4_drop_16 3 rfl rfl)
theorem dX4_drop_381 : decode cX4_drop 381 = .ok (.getfield 17, 3) := dk_180 0 17 (dk_at dksX4_drop_16 4 rfl rfl)
theorem dX4_drop_384 : decode cX4_drop 384 = .ok (.iload_n 1, 1) := dk_27 (dk_at dksX4_drop_16 7 rfl rfl)
theorem dX4_drop_385 : decode cX4_drop 385 = .ok (.iconst 0, 1) := dk_3 (dk_at dksX4_drop_16 8 rfl rfl)
theorem dX4_drop_386 : decode cX4_drop 386 = .ok (.bastore, 1) := dk_84 (dk_at dksX4_drop_16 9 rfl rfl)
theorem dX4_drop_387 : decode cX4_drop 387 = .ok (.aload_n 0, 1) := dk_42 (dk_at dksX4_drop_16 10 rfl rfl)
theorem dX4_drop_388 : decode cX4_drop 388 = .ok (.dup, 1) := dk_89 (dk_at dksX4_drop_16 11 rfl rfl)
theorem dX4_drop_389 : decode cX4_drop 389 = .ok (.getfield 190, 3) := dk_180 0 190 (dk_at dksX4_drop_16 12 rfl rfl)
theorem dX4_drop_392 : decode cX4_drop 392 = .ok (.iconst 1, 1) := dk_4 (dk_at dksX4_drop_16 15 rfl rfl)
theorem dX4_drop_393 : decode cX4_drop 393 = .ok (.isub, 1) := dk_100 (dk_at dksX4_drop_16 16 rfl rfl)
theorem dX4_drop_394 : decode cX4_drop 394 = .ok (.putfield 190, 3) := dk_181 0 190 (dk_at dksX4_drop_16 17 rfl rfl)
theorem dX4_drop_397 : decode cX4_drop 397 = .ok (.iload_n 3, 1) := dk_29 (dk_at dksX4_drop_16 20 rfl rfl)
theorem dX4_drop_398 : decode cX4_drop 398 = .ok (.ireturn, 1) := dk_172 (dk_at dksX4_drop_16 21 rfl rfl)
abbrev cX4_isEvent : ByteArray := prog_21_method_8_code
def yX4_isEvent : MethodName := ⟨RX4, "isEvent", "(I)Z"⟩
def dkwX4_isEvent_1 : List UInt8 := [153, 0, 7, 4, 167, 0, 4, 3, 172]
abbrev dktX4_isEvent_1 : List UInt8 := dkwX4_isEvent_1 ++ []
def dkwX4_isEvent_0 : List UInt8 := [27, 133, 9, 42, 180, 0, 141, 4, 100, 133, 184, 0, 137, 153, 0, 16, 42, 180, 0, 17, 27, 51]
abbrev dktX4_isEvent_0 : List UInt8 := dkwX4_isEvent_0 ++ dktX4_isEvent_1
theorem dksX4_isEvent_0 : cX4_isEvent.data.toList.drop 0 = dktX4_isEvent_0 := by decide +kernel
theorem dksX4_isEvent_1 : cX4_isEvent.data.toList.drop 22 = dktX4_isEvent_1 := dk_seg dksX4_isEvent_0 22 rfl rfl
theorem dX4_isEvent_0 : decode cX4_isEvent 0 = .ok (.iload_n 1, 1) := dk_27 (dk_at dksX4_isEvent_0 0 rfl rfl)
theorem dX4_isEvent_1 : decode cX4_isEvent 1 = .ok (.i2l, 1) := dk_133 (dk_at dksX4_isEvent_0 1 rfl rfl)
theorem dX4_isEvent_2 : decode cX4_isEvent 2 = .ok (.lconst 0, 1) := dk_9 (dk_at dksX4_isEvent_0 2 rfl rfl)
theorem dX4_isEvent_3 : decode cX4_isEvent 3 = .ok (.aload_n 0, 1) := dk_42 (dk_at dksX4_isEvent_0 3 rfl rfl)
theorem dX4_isEvent_4 : decode cX4_isEvent 4 = .ok (.getfield 141, 3) := dk_180 0 141 (dk_at dksX4_isEvent_0 4 rfl rfl)
theorem dX4_isEvent_7 : decode cX4_isEvent 7 = .ok (.iconst 1, 1) := dk_4 (dk_at dksX4_isEvent_0 7 rfl rfl)
theorem dX4_isEvent_8 : decode cX4_isEvent 8 = .ok (.isub, 1) := dk_100 (dk_at dksX4_isEvent_0 8 rfl rfl)
theorem dX4_isEvent_9 : decode cX4_isEvent 9 = .ok (.i2l, 1) := dk_133 (dk_at dksX4_isEvent_0 9 rfl rfl)
theorem dX4_isEvent_10 : decode cX4_isEvent 10 = .ok (.invokestatic 137, 3) := dk_184 0 137 (dk_at dksX4_isEvent_0 10 rfl rfl)
theorem dX4_isEvent_13 : decode cX4_isEvent 13 = .ok (.ifCond .eq 16, 3) := dk_153 0 16 (dk_at dksX4_isEvent_0 13 rfl rfl)
theorem dX4_isEvent_16 : decode cX4_isEvent 16 = .ok (.aload_n 0, 1) := dk_42 (dk_at dksX4_isEvent_0 16 rfl rfl)
theorem dX4_isEvent_17 : decode cX4_isEvent 17 = .ok (.getfield 17, 3) := dk_180 0 17 (dk_at dksX4_isEvent_0 17 rfl rfl)
theorem dX4_isEvent_20 : decode cX4_isEvent 20 = .ok (.iload_n 1, 1) := dk_27 (dk_at dksX4_isEvent_0 20 rfl rfl)
theorem dX4_isEvent_21 : decode cX4_isEvent 21 = .ok (.baload, 1) := dk_51 (dk_at dksX4_isEvent_0 21 rfl rfl)
theorem dX4_isEvent_22 : decode cX4_isEvent 22 = .ok (.ifCond .eq 7, 3) := dk_153 0 7 (dk_at dksX4_isEvent_1 0 rfl rfl)
theorem dX4_isEvent_25 : decode cX4_isEvent 25 = .ok (.iconst 1, 1) := dk_4 (dk_at dksX4_isEvent_1 3 rfl rfl)
theorem dX4_isEvent_26 : decode cX4_isEvent 26 = .ok (.goto 4, 3) := dk_167 0 4 (dk_at dksX4_isEvent_1 4 rfl rfl)
theorem dX4_isEvent_29 : decode cX4_isEvent 29 = .ok (.iconst 0, 1) := dk_3 (dk_at dksX4_isEvent_1 7 rfl rfl)
theorem dX4_isEvent_30 : decode cX4_isEvent 30 = .ok (.ireturn, 1) := dk_172 (dk_at dksX4_isEvent_1 8 rfl rfl)
abbrev cX4_placeOf : ByteArray := prog_21_method_10_code
def yX4_placeOf : MethodName := ⟨RX4, "placeOf", "(I)I"⟩
def dkwX4_placeOf_1 : List UInt8 := [132, 3, 1, 167, 255, 238, 29, 172]
abbrev dktX4_placeOf_1 : List UInt8 := dkwX4_placeOf_1 ++ []
def dkwX4_placeOf_0 : List UInt8 := [42, 180, 0, 21, 27, 46, 61, 3, 62, 42, 180, 0, 42, 16, 40, 28, 104, 29, 96, 46, 27, 159, 0, 9]
abbrev dktX4_placeOf_0 : List UInt8 := dkwX4_placeOf_0 ++ dktX4_placeOf_1
theorem dksX4_placeOf_0 : cX4_placeOf.data.toList.drop 0 = dktX4_placeOf_0 := by decide +kernel
theorem dksX4_placeOf_1 : cX4_placeOf.data.toList.drop 24 = dktX4_placeOf_1 := dk_seg dksX4_placeOf_0 24 rfl rfl
theorem dX4_placeOf_0 : decode cX4_placeOf 0 = .ok (.aload_n 0, 1) := dk_42 (dk_at dksX4_placeOf_0 0 rfl rfl)
theorem dX4_placeOf_1 : decode cX4_placeOf 1 = .ok (.getfield 21, 3) := dk_180 0 21 (dk_at dksX4_placeOf_0 1 rfl rfl)
theorem dX4_placeOf_4 : decode cX4_placeOf 4 = .ok (.iload_n 1, 1) := dk_27 (dk_at dksX4_placeOf_0 4 rfl rfl)
theorem dX4_placeOf_5 : decode cX4_placeOf 5 = .ok (.iaload, 1) := dk_46 (dk_at dksX4_placeOf_0 5 rfl rfl)
theorem dX4_placeOf_6 : decode cX4_placeOf 6 = .ok (.istore_n 2, 1) := dk_61 (dk_at dksX4_placeOf_0 6 rfl rfl)
theorem dX4_placeOf_7 : decode cX4_placeOf 7 = .ok (.iconst 0, 1) := dk_3 (dk_at dksX4_placeOf_0 7 rfl rfl)
theorem dX4_placeOf_8 : decode cX4_placeOf 8 = .ok (.istore_n 3, 1) := dk_62 (dk_at dksX4_placeOf_0 8 rfl rfl)
theorem dX4_placeOf_9 : decode cX4_placeOf 9 = .ok (.aload_n 0, 1) := dk_42 (dk_at dksX4_placeOf_0 9 rfl rfl)
theorem dX4_placeOf_10 : decode cX4_placeOf 10 = .ok (.getfield 42, 3) := dk_180 0 42 (dk_at dksX4_placeOf_0 10 rfl rfl)
theorem dX4_placeOf_13 : decode cX4_placeOf 13 = .ok (.bipush 40, 2) := dk_16 40 (dk_at dksX4_placeOf_0 13 rfl rfl)
theorem dX4_placeOf_15 : decode cX4_placeOf 15 = .ok (.iload_n 2, 1) := dk_28 (dk_at dksX4_placeOf_0 15 rfl rfl)
theorem dX4_placeOf_16 : decode cX4_placeOf 16 = .ok (.imul, 1) := dk_104 (dk_at dksX4_placeOf_0 16 rfl rfl)
theorem dX4_placeOf_17 : decode cX4_placeOf 17 = .ok (.iload_n 3, 1) := dk_29 (dk_at dksX4_placeOf_0 17 rfl rfl)
theorem dX4_placeOf_18 : decode cX4_placeOf 18 = .ok (.iadd, 1) := dk_96 (dk_at dksX4_placeOf_0 18 rfl rfl)
theorem dX4_placeOf_19 : decode cX4_placeOf 19 = .ok (.iaload, 1) := dk_46 (dk_at dksX4_placeOf_0 19 rfl rfl)
theorem dX4_placeOf_20 : decode cX4_placeOf 20 = .ok (.iload_n 1, 1) := dk_27 (dk_at dksX4_placeOf_0 20 rfl rfl)
theorem dX4_placeOf_21 : decode cX4_placeOf 21 = .ok (.if_icmp .eq 9, 3) := dk_159 0 9 (dk_at dksX4_placeOf_0 21 rfl rfl)
theorem dX4_placeOf_24 : decode cX4_placeOf 24 = .ok (.iinc 3 1, 3) := dk_132 3 1 (dk_at dksX4_placeOf_1 0 rfl rfl)
theorem dX4_placeOf_27 : decode cX4_placeOf 27 = .ok (.goto (-18), 3) := dk_167 255 238 (dk_at dksX4_placeOf_1 3 rfl rfl)
theorem dX4_placeOf_30 : decode cX4_placeOf 30 = .ok (.iload_n 3, 1) := dk_29 (dk_at dksX4_placeOf_1 6 rfl rfl)
theorem dX4_placeOf_31 : decode cX4_placeOf 31 = .ok (.ireturn, 1) := dk_172 (dk_at dksX4_placeOf_1 7 rfl rfl)
abbrev cX4_chord : ByteArray := prog_21_method_19_code
def yX4_chord : MethodName := ⟨RX4, "chord", "(II)I"⟩
def dkwX4_chord_4 : List UInt8 := [16, 6, 27, 104, 29, 96, 28, 79, 42, 180, 0, 27, 27, 92, 46, 4, 96, 79, 29, 4, 96, 172]
abbrev dktX4_chord_4 : List UInt8 := dkwX4_chord_4 ++ []
def dkwX4_chord_3 : List UInt8 := [42, 16, 253, 182, 0, 130, 172, 29, 16, 6, 160, 0, 10, 42, 16, 252, 182, 0, 130, 172, 42, 180, 0, 30]
abbrev dktX4_chord_3 : List UInt8 := dkwX4_chord_3 ++ dktX4_chord_4
def dkwX4_chord_2 : List UInt8 := [42, 180, 0, 27, 27, 46, 62, 28, 42, 180, 0, 30, 16, 6, 27, 104, 29, 96, 4, 100, 46, 163, 0, 10]
abbrev dktX4_chord_2 : List UInt8 := dkwX4_chord_2 ++ dktX4_chord_3
def dkwX4_chord_1 : List UInt8 := [42, 16, 254, 182, 0, 130, 172, 42, 180, 0, 24, 27, 46, 4, 159, 0, 10, 42, 16, 243, 182, 0, 211, 172]
abbrev dktX4_chord_1 : List UInt8 := dkwX4_chord_1 ++ dktX4_chord_2
def dkwX4_chord_0 : List UInt8 := [42, 182, 0, 144, 42, 27, 182, 0, 193, 153, 0, 15, 28, 133, 9, 20, 0, 188, 184, 0, 137, 154, 0, 10]
abbrev dktX4_chord_0 : List UInt8 := dkwX4_chord_0 ++ dktX4_chord_1
theorem dksX4_chord_0 : cX4_chord.data.toList.drop 0 = dktX4_chord_0 := by decide +kernel
theorem dksX4_chord_1 : cX4_chord.data.toList.drop 24 = dktX4_chord_1 := dk_seg dksX4_chord_0 24 rfl rfl
theorem dksX4_chord_2 : cX4_chord.data.toList.drop 48 = dktX4_chord_2 := dk_seg dksX4_chord_1 24 rfl rfl
theorem dksX4_chord_3 : cX4_chord.data.toList.drop 72 = dktX4_chord_3 := dk_seg dksX4_chord_2 24 rfl rfl
theorem dksX4_chord_4 : cX4_chord.data.toList.drop 96 = dktX4_chord_4 := dk_seg dksX4_chord_3 24 rfl rfl
theorem dX4_chord_0 : decode cX4_chord 0 = .ok (.aload_n 0, 1) := dk_42 (dk_at dksX4_chord_0 0 rfl rfl)
theorem dX4_chord_1 : decode cX4_chord 1 = .ok (.invokevirtual 144, 3) := dk_182 0 144 (dk_at dksX4_chord_0 1 rfl rfl)
theorem dX4_chord_4 : decode cX4_chord 4 = .ok (.aload_n 0, 1) := dk_42 (dk_at dksX4_chord_0 4 rfl rfl)
theorem dX4_chord_5 : decode cX4_chord 5 = .ok (.iload_n 1, 1) := dk_27 (dk_at dksX4_chord_0 5 rfl rfl)
theorem dX4_chord_6 : decode cX4_chord 6 = .ok (.invokevirtual 193, 3) := dk_182 0 193 (dk_at dksX4_chord_0 6 rfl rfl)
theorem dX4_chord_9 : decode cX4_chord 9 = .ok (.ifCond .eq 15, 3) := dk_153 0 15 (dk_at dksX4_chord_0 9 rfl rfl)
theorem dX4_chord_12 : decode cX4_chord 12 = .ok (.iload_n 2, 1) := dk_28 (dk_at dksX4_chord_0 12 rfl rfl)
theorem dX4_chord_13 : decode cX4_chord 13 = .ok (.i2l, 1) := dk_133 (dk_at dksX4_chord_0 13 rfl rfl)
theorem dX4_chord_14 : decode cX4_chord 14 = .ok (.lconst 0, 1) := dk_9 (dk_at dksX4_chord_0 14 rfl rfl)
theorem dX4_chord_15 : decode cX4_chord 15 = .ok (.ldc2_w 188, 3) := dk_20 0 188 (dk_at dksX4_chord_0 15 rfl rfl)
theorem dX4_chord_18 : decode cX4_chord 18 = .ok (.invokestatic 137, 3) := dk_184 0 137 (dk_at dksX4_chord_0 18 rfl rfl)
theorem dX4_chord_21 : decode cX4_chord 21 = .ok (.ifCond .ne 10, 3) := dk_154 0 10 (dk_at dksX4_chord_0 21 rfl rfl)
theorem dX4_chord_24 : decode cX4_chord 24 = .ok (.aload_n 0, 1) := dk_42 (dk_at dksX4_chord_1 0 rfl rfl)
theorem dX4_chord_25 : decode cX4_chord 25 = .ok (.bipush (-2), 2) := dk_16 254 (dk_at dksX4_chord_1 1 rfl rfl)
theorem dX4_chord_27 : decode cX4_chord 27 = .ok (.invokevirtual 130, 3) := dk_182 0 130 (dk_at dksX4_chord_1 3 rfl rfl)
theorem dX4_chord_30 : decode cX4_chord 30 = .ok (.ireturn, 1) := dk_172 (dk_at dksX4_chord_1 6 rfl rfl)
theorem dX4_chord_31 : decode cX4_chord 31 = .ok (.aload_n 0, 1) := dk_42 (dk_at dksX4_chord_1 7 rfl rfl)
theorem dX4_chord_32 : decode cX4_chord 32 = .ok (.getfield 24, 3) := dk_180 0 24 (dk_at dksX4_chord_1 8 rfl rfl)
theorem dX4_chord_35 : decode cX4_chord 35 = .ok (.iload_n 1, 1) := dk_27 (dk_at dksX4_chord_1 11 rfl rfl)
theorem dX4_chord_36 : decode cX4_chord 36 = .ok (.iaload, 1) := dk_46 (dk_at dksX4_chord_1 12 rfl rfl)
theorem dX4_chord_37 : decode cX4_chord 37 = .ok (.iconst 1, 1) := dk_4 (dk_at dksX4_chord_1 13 rfl rfl)
theorem dX4_chord_38 : decode cX4_chord 38 = .ok (.if_icmp .eq 10, 3) := dk_159 0 10 (dk_at dksX4_chord_1 14 rfl rfl)
theorem dX4_chord_41 : decode cX4_chord 41 = .ok (.aload_n 0, 1) := dk_42 (dk_at dksX4_chord_1 17 rfl rfl)
theorem dX4_chord_42 : decode cX4_chord 42 = .ok (.bipush (-13), 2) := dk_16 243 (dk_at dksX4_chord_1 18 rfl rfl)
theorem dX4_chord_44 : decode cX4_chord 44 = .ok (.invokevirtual 211, 3) := dk_182 0 211 (dk_at dksX4_chord_1 20 rfl rfl)
theorem dX4_chord_47 : decode cX4_chord 47 = .ok (.ireturn, 1) := dk_172 (dk_at dksX4_chord_1 23 rfl rfl)
theorem dX4_chord_48 : decode cX4_chord 48 = .ok (.aload_n 0, 1) := dk_42 (dk_at dksX4_chord_2 0 rfl rfl)
theorem dX4_chord_49 : decode cX4_chord 49 = .ok (.getfield 27, 3) := dk_180 0 27 (dk_at dksX4_chord_2 1 rfl rfl)
theorem dX4_chord_52 : decode cX4_chord 52 = .ok (.iload_n 1, 1) := dk_27 (dk_at dksX4_chord_2 4 rfl rfl)
theorem dX4_chord_53 : decode cX4_chord 53 = .ok (.iaload, 1) := dk_46 (dk_at dksX4_chord_2 5 rfl rfl)
theorem dX4_chord_54 : decode cX4_chord 54 = .ok (.istore_n 3, 1) := dk_62 (dk_at dksX4_chord_2 6 rfl rfl)
theorem dX4_chord_55 : decode cX4_chord 55 = .ok (.iload_n 2, 1) := dk_28 (dk_at dksX4_chord_2 7 rfl rfl)
theorem dX4_chord_56 : decode cX4_chord 56 = .ok (.aload_n 0, 1) := dk_42 (dk_at dksX4_chord_2 8 rfl rfl)
theorem dX4_chord_57 : decode cX4_chord 57 = .ok (.getfield 30, 3) := dk_180 0 30 (dk_at dksX4_chord_2 9 rfl rfl)
theorem dX4_chord_60 : decode cX4_chord 60 = .ok (.bipush 6, 2) := dk_16 6 (dk_at dksX4_chord_2 12 rfl rfl)
theorem dX4_chord_62 : decode cX4_chord 62 = .ok (.iload_n 1, 1) := dk_27 (dk_at dksX4_chord_2 14 rfl rfl)
theorem dX4_chord_63 : decode cX4_chord 63 = .ok (.imul, 1) := dk_104 (dk_at dksX4_chord_2 15 rfl rfl)
theorem dX4_chord_64 : decode cX4_chord 64 = .ok (.iload_n 3, 1) := dk_29 (dk_at dksX4_chord_2 16 rfl rfl)
theorem dX4_chord_65 : decode cX4_chord 65 = .ok (.iadd, 1) := dk_96 (dk_at dksX4_chord_2 17 rfl rfl)
theorem dX4_chord_66 : decode cX4_chord 66 = .ok (.iconst 1, 1) := dk_4 (dk_at dksX4_chord_2 18 rfl rfl)
theorem dX4_chord_67 : decode cX4_chord 67 = .ok (.isub, 1) := dk_100 (dk_at dksX4_chord_2 19 rfl rfl)
theorem dX4_chord_68 : decode cX4_chord 68 = .ok (.iaload, 1) := dk_46 (dk_at dksX4_chord_2 20 rfl rfl)
theorem dX4_chord_69 : decode cX4_chord 69 = .ok (.if_icmp .gt 10, 3) := dk_163 0 10 (dk_at dksX4_chord_2 21 rfl rfl)
theorem dX4_chord_72 : decode cX4_chord 72 = .ok (.aload_n 0, 1) := dk_42 (dk_at dksX4_chord_3 0 rfl rfl)
theorem dX4_chord_73 : decode cX4_chord 73 = .ok (.bipush (-3), 2) := dk_16 253 (dk_at dksX4_chord_3 1 rfl rfl)
theorem dX4_chord_75 : decode cX4_chord 75 = .ok (.invokevirtual 130, 3) := dk_182 0 130 (dk_at dksX4_chord_3 3 rfl rfl)
theorem dX4_chord_78 : decode cX4_chord 78 = .ok (.ireturn, 1) := dk_172 (dk_at dksX4_chord_3 6 rfl rfl)
theorem dX4_chord_79 : decode cX4_chord 79 = .ok (.iload_n 3, 1) := dk_29 (dk_at dksX4_chord_3 7 rfl rfl)
theorem dX4_chord_80 : decode cX4_chord 80 = .ok (.bipush 6, 2) := dk_16 6 (dk_at dksX4_chord_3 8 rfl rfl)
theorem dX4_chord_82 : decode cX4_chord 82 = .ok (.if_icmp .ne 10, 3) := dk_160 0 10 (dk_at dksX4_chord_3 10 rfl rfl)
theorem dX4_chord_85 : decode cX4_chord 85 = .ok (.aload_n 0, 1) := dk_42 (dk_at dksX4_chord_3 13 rfl rfl)
theorem dX4_chord_86 : decode cX4_chord 86 = .ok (.bipush (-4), 2) := dk_16 252 (dk_at dksX4_chord_3 14 rfl rfl)
theorem dX4_chord_88 : decode cX4_chord 88 = .ok (.invokevirtual 130, 3) := dk_182 0 130 (dk_at dksX4_chord_3 16 rfl rfl)
theorem dX4_chord_91 : decode cX4_chord 91 = .ok (.ireturn, 1) := dk_172 (dk_at dksX4_chord_3 19 rfl rfl)
theorem dX4_chord_92 : decode cX4_chord 92 = .ok (.aload_n 0, 1) := dk_42 (dk_at dksX4_chord_3 20 rfl rfl)
theorem dX4_chord_93 : decode cX4_chord 93 = .ok (.getfield 30, 3) := dk_180 0 30 (dk_at dksX4_chord_3 21 rfl rfl)
theorem dX4_chord_96 : decode cX4_chord 96 = .ok (.bipush 6, 2) := dk_16 6 (dk_at dksX4_chord_4 0 rfl rfl)
theorem dX4_chord_98 : decode cX4_chord 98 = .ok (.iload_n 1, 1) := dk_27 (dk_at dksX4_chord_4 2 rfl rfl)
theorem dX4_chord_99 : decode cX4_chord 99 = .ok (.imul, 1) := dk_104 (dk_at dksX4_chord_4 3 rfl rfl)
theorem dX4_chord_100 : decode cX4_chord 100 = .ok (.iload_n 3, 1) := dk_29 (dk_at dksX4_chord_4 4 rfl rfl)
theorem dX4_chord_101 : decode cX4_chord 101 = .ok (.iadd, 1) := dk_96 (dk_at dksX4_chord_4 5 rfl rfl)
theorem dX4_chord_102 : decode cX4_chord 102 = .ok (.iload_n 2, 1) := dk_28 (dk_at dksX4_chord_4 6 rfl rfl)
theorem dX4_chord_103 : decode cX4_chord 103 = .ok (.iastore, 1) := dk_79 (dk_at dksX4_chord_4 7 rfl rfl)
theorem dX4_chord_104 : decode cX4_chord 104 = .ok (.aload_n 0, 1) := dk_42 (dk_at dksX4_chord_4 8 rfl rfl)
theorem dX4_chord_105 : decode cX4_chord 105 = .ok (.getfield 27, 3) := dk_180 0 27 (dk_at dksX4_chord_4 9 rfl rfl)
theorem dX4_chord_108 : decode cX4_chord 108 = .ok (.iload_n 1, 1) := dk_27 (dk_at dksX4_chord_4 12 rfl rfl)
theorem dX4_chord_109 : decode cX4_chord 109 = .ok (.dup2, 1) := dk_92 (dk_at dksX4_chord_4 13 rfl rfl)
theorem dX4_chord_110 : decode cX4_chord 110 = .ok (.iaload, 1) := dk_46 (dk_at dksX4_chord_4 14 rfl rfl)
theorem dX4_chord_111 : decode cX4_chord 111 = .ok (.iconst 1, 1) := dk_4 (dk_at dksX4_chord_4 15 rfl rfl)
theorem dX4_chord_112 : decode cX4_chord 112 = .ok (.iadd, 1) := dk_96 (dk_at dksX4_chord_4 16 rfl rfl)
theorem dX4_chord_113 : decode cX4_chord 113 = .ok (.iastore, 1) := dk_79 (dk_at dksX4_chord_4 17 rfl rfl)
theorem dX4_chord_114 : decode cX4_chord 114 = .ok (.iload_n 3, 1) := dk_29 (dk_at dksX4_chord_4 18 rfl rfl)
theorem dX4_chord_115 : decode cX4_chord 115 = .ok (.iconst 1, 1) := dk_4 (dk_at dksX4_chord_4 19 rfl rfl)
theorem dX4_chord_116 : decode cX4_chord 116 = .ok (.iadd, 1) := dk_96 (dk_at dksX4_chord_4 20 rfl rfl)
theorem dX4_chord_117 : decode cX4_chord 117 = .ok (.ireturn, 1) := dk_172 (dk_at dksX4_chord_4 21 rfl rfl)
abbrev cX4_fails : ByteArray := prog_21_method_6_code
def yX4_fails : MethodName := ⟨RX4, "fails", "(I)I"⟩
def dkwX4_fails_0 : List UInt8 := [42, 180, 0, 117, 16, 245, 27, 100, 92, 46, 4, 96, 79, 42, 27, 182, 0, 130, 172]
abbrev dktX4_fails_0 : List UInt8 := dkwX4_fails_0 ++ []
theorem dksX4_fails_0 : cX4_fails.data.toList.drop 0 = dktX4_fails_0 := by decide +kernel
theorem dX4_fails_0 : decode cX4_fails 0 = .ok (.aload_n 0, 1) := dk_42 (dk_at dksX4_fails_0 0 rfl rfl)
theorem dX4_fails_1 : decode cX4_fails 1 = .ok (.getfield 117, 3) := dk_180 0 117 (dk_at dksX4_fails_0 1 rfl rfl)
theorem dX4_fails_4 : decode cX4_fails 4 = .ok (.bipush (-11), 2) := dk_16 245 (dk_at dksX4_fails_0 4 rfl rfl)
theorem dX4_fails_6 : decode cX4_fails 6 = .ok (.iload_n 1, 1) := dk_27 (dk_at dksX4_fails_0 6 rfl rfl)
theorem dX4_fails_7 : decode cX4_fails 7 = .ok (.isub, 1) := dk_100 (dk_at dksX4_fails_0 7 rfl rfl)
theorem dX4_fails_8 : decode cX4_fails 8 = .ok (.dup2, 1) := dk_92 (dk_at dksX4_fails_0 8 rfl rfl)
theorem dX4_fails_9 : decode cX4_fails 9 = .ok (.iaload, 1) := dk_46 (dk_at dksX4_fails_0 9 rfl rfl)
theorem dX4_fails_10 : decode cX4_fails 10 = .ok (.iconst 1, 1) := dk_4 (dk_at dksX4_fails_0 10 rfl rfl)
theorem dX4_fails_11 : decode cX4_fails 11 = .ok (.iadd, 1) := dk_96 (dk_at dksX4_fails_0 11 rfl rfl)
theorem dX4_fails_12 : decode cX4_fails 12 = .ok (.iastore, 1) := dk_79 (dk_at dksX4_fails_0 12 rfl rfl)
theorem dX4_fails_13 : decode cX4_fails 13 = .ok (.aload_n 0, 1) := dk_42 (dk_at dksX4_fails_0 13 rfl rfl)
theorem dX4_fails_14 : decode cX4_fails 14 = .ok (.iload_n 1, 1) := dk_27 (dk_at dksX4_fails_0 14 rfl rfl)
theorem dX4_fails_15 : decode cX4_fails 15 = .ok (.invokevirtual 130, 3) := dk_182 0 130 (dk_at dksX4_fails_0 15 rfl rfl)
theorem dX4_fails_18 : decode cX4_fails 18 = .ok (.ireturn, 1) := dk_172 (dk_at dksX4_fails_0 18 rfl rfl)
abbrev cX4_pitch : ByteArray := prog_21_method_20_code
def yX4_pitch : MethodName := ⟨RX4, "pitch", "(II)I"⟩
def dkwX4_pitch_2 : List UInt8 := [184, 0, 137, 153, 0, 17, 42, 180, 0, 30, 16, 6, 27, 104, 28, 96, 46, 167, 0, 4, 2, 172]
abbrev dktX4_pitch_2 : List UInt8 := dkwX4_pitch_2 ++ []
def dkwX4_pitch_1 : List UInt8 := [154, 0, 10, 42, 16, 243, 182, 0, 211, 172, 28, 133, 9, 42, 180, 0, 27, 27, 46, 4, 100, 133]
abbrev dktX4_pitch_1 : List UInt8 := dkwX4_pitch_1 ++ dktX4_pitch_2
def dkwX4_pitch_0 : List UInt8 := [42, 182, 0, 144, 42, 27, 182, 0, 193, 154, 0, 10, 42, 16, 254, 182, 0, 130, 172, 42, 27, 182, 0, 214]
abbrev dktX4_pitch_0 : List UInt8 := dkwX4_pitch_0 ++ dktX4_pitch_1
theorem dksX4_pitch_0 : cX4_pitch.data.toList.drop 0 = dktX4_pitch_0 := by decide +kernel
theorem dksX4_pitch_1 : cX4_pitch.data.toList.drop 24 = dktX4_pitch_1 := dk_seg dksX4_pitch_0 24 rfl rfl
theorem dksX4_pitch_2 : cX4_pitch.data.toList.drop 46 = dktX4_pitch_2 := dk_seg dksX4_pitch_1 22 rfl rfl
theorem dX4_pitch_0 : decode cX4_pitch 0 = .ok (.aload_n 0, 1) := dk_42 (dk_at dksX4_pitch_0 0 rfl rfl)
theorem dX4_pitch_1 : decode cX4_pitch 1 = .ok (.invokevirtual 144, 3) := dk_182 0 144 (dk_at dksX4_pitch_0 1 rfl rfl)
theorem dX4_pitch_4 : decode cX4_pitch 4 = .ok (.aload_n 0, 1) := dk_42 (dk_at dksX4_pitch_0 4 rfl rfl)
theorem dX4_pitch_5 : decode cX4_pitch 5 = .ok (.iload_n 1, 1) := dk_27 (dk_at dksX4_pitch_0 5 rfl rfl)
theorem dX4_pitch_6 : decode cX4_pitch 6 = .ok (.invokevirtual 193, 3) := dk_182 0 193 (dk_at dksX4_pitch_0 6 rfl rfl)
theorem dX4_pitch_9 : decode cX4_pitch 9 = .ok (.ifCond .ne 10, 3) := dk_154 0 10 (dk_at dksX4_pitch_0 9 rfl rfl)
theorem dX4_pitch_12 : decode cX4_pitch 12 = .ok (.aload_n 0, 1) := dk_42 (dk_at dksX4_pitch_0 12 rfl rfl)
theorem dX4_pitch_13 : decode cX4_pitch 13 = .ok (.bipush (-2), 2) := dk_16 254 (dk_at dksX4_pitch_0 13 rfl rfl)
theorem dX4_pitch_15 : decode cX4_pitch 15 = .ok (.invokevirtual 130, 3) := dk_182 0 130 (dk_at dksX4_pitch_0 15 rfl rfl)
theorem dX4_pitch_18 : decode cX4_pitch 18 = .ok (.ireturn, 1) := dk_172 (dk_at dksX4_pitch_0 18 rfl rfl)
theorem dX4_pitch_19 : decode cX4_pitch 19 = .ok (.aload_n 0, 1) := dk_42 (dk_at dksX4_pitch_0 19 rfl rfl)
theorem dX4_pitch_20 : decode cX4_pitch 20 = .ok (.iload_n 1, 1) := dk_27 (dk_at dksX4_pitch_0 20 rfl rfl)
theorem dX4_pitch_21 : decode cX4_pitch 21 = .ok (.invokevirtual 214, 3) := dk_182 0 214 (dk_at dksX4_pitch_0 21 rfl rfl)
theorem dX4_pitch_24 : decode cX4_pitch 24 = .ok (.ifCond .ne 10, 3) := dk_154 0 10 (dk_at dksX4_pitch_1 0 rfl rfl)
theorem dX4_pitch_27 : decode cX4_pitch 27 = .ok (.aload_n 0, 1) := dk_42 (dk_at dksX4_pitch_1 3 rfl rfl)
theorem dX4_pitch_28 : decode cX4_pitch 28 = .ok (.bipush (-13), 2) := dk_16 243 (dk_at dksX4_pitch_1 4 rfl rfl)
theorem dX4_pitch_30 : decode cX4_pitch 30 = .ok (.invokevirtual 211, 3) := dk_182 0 211 (dk_at dksX4_pitch_1 6 rfl rfl)
theorem dX4_pitch_33 : decode cX4_pitch 33 = .ok (.ireturn, 1) := dk_172 (dk_at dksX4_pitch_1 9 rfl rfl)
theorem dX4_pitch_34 : decode cX4_pitch 34 = .ok (.iload_n 2, 1) := dk_28 (dk_at dksX4_pitch_1 10 rfl rfl)
theorem dX4_pitch_35 : decode cX4_pitch 35 = .ok (.i2l, 1) := dk_133 (dk_at dksX4_pitch_1 11 rfl rfl)
theorem dX4_pitch_36 : decode cX4_pitch 36 = .ok (.lconst 0, 1) := dk_9 (dk_at dksX4_pitch_1 12 rfl rfl)
theorem dX4_pitch_37 : decode cX4_pitch 37 = .ok (.aload_n 0, 1) := dk_42 (dk_at dksX4_pitch_1 13 rfl rfl)
theorem dX4_pitch_38 : decode cX4_pitch 38 = .ok (.getfield 27, 3) := dk_180 0 27 (dk_at dksX4_pitch_1 14 rfl rfl)
theorem dX4_pitch_41 : decode cX4_pitch 41 = .ok (.iload_n 1, 1) := dk_27 (dk_at dksX4_pitch_1 17 rfl rfl)
theorem dX4_pitch_42 : decode cX4_pitch 42 = .ok (.iaload, 1) := dk_46 (dk_at dksX4_pitch_1 18 rfl rfl)
theorem dX4_pitch_43 : decode cX4_pitch 43 = .ok (.iconst 1, 1) := dk_4 (dk_at dksX4_pitch_1 19 rfl rfl)
theorem dX4_pitch_44 : decode cX4_pitch 44 = .ok (.isub, 1) := dk_100 (dk_at dksX4_pitch_1 20 rfl rfl)
theorem dX4_pitch_45 : decode cX4_pitch 45 = .ok (.i2l, 1) := dk_133 (dk_at dksX4_pitch_1 21 rfl rfl)
theorem dX4_pitch_46 : decode cX4_pitch 46 = .ok (.invokestatic 137, 3) := dk_184 0 137 (dk_at dksX4_pitch_2 0 rfl rfl)
theorem dX4_pitch_49 : decode cX4_pitch 49 = .ok (.ifCond .eq 17, 3) := dk_153 0 17 (dk_at dksX4_pitch_2 3 rfl rfl)
theorem dX4_pitch_52 : decode cX4_pitch 52 = .ok (.aload_n 0, 1) := dk_42 (dk_at dksX4_pitch_2 6 rfl rfl)
theorem dX4_pitch_53 : decode cX4_pitch 53 = .ok (.getfield 30, 3) := dk_180 0 30 (dk_at dksX4_pitch_2 7 rfl rfl)
theorem dX4_pitch_56 : decode cX4_pitch 56 = .ok (.bipush 6, 2) := dk_16 6 (dk_at dksX4_pitch_2 10 rfl rfl)
theorem dX4_pitch_58 : decode cX4_pitch 58 = .ok (.iload_n 1, 1) := dk_27 (dk_at dksX4_pitch_2 12 rfl rfl)
theorem dX4_pitch_59 : decode cX4_pitch 59 = .ok (.imul, 1) := dk_104 (dk_at dksX4_pitch_2 13 rfl rfl)
theorem dX4_pitch_60 : decode cX4_pitch 60 = .ok (.iload_n 2, 1) := dk_28 (dk_at dksX4_pitch_2 14 rfl rfl)
theorem dX4_pitch_61 : decode cX4_pitch 61 = .ok (.iadd, 1) := dk_96 (dk_at dksX4_pitch_2 15 rfl rfl)
theorem dX4_pitch_62 : decode cX4_pitch 62 = .ok (.iaload, 1) := dk_46 (dk_at dksX4_pitch_2 16 rfl rfl)
theorem dX4_pitch_63 : decode cX4_pitch 63 = .ok (.goto 4, 3) := dk_167 0 4 (dk_at dksX4_pitch_2 17 rfl rfl)
theorem dX4_pitch_66 : decode cX4_pitch 66 = .ok (.iconst (-1), 1) := dk_2 (dk_at dksX4_pitch_2 20 rfl rfl)
theorem dX4_pitch_67 : decode cX4_pitch 67 = .ok (.ireturn, 1) := dk_172 (dk_at dksX4_pitch_2 21 rfl rfl)
abbrev cX4_isNote : ByteArray := prog_21_method_9_code
def yX4_isNote : MethodName := ⟨RX4, "isNote", "(I)Z"⟩
def dkwX4_isNote_0 : List UInt8 := [42, 180, 0, 24, 27, 46, 6, 162, 0, 7, 4, 167, 0, 4, 3, 172]
abbrev dktX4_isNote_0 : List UInt8 := dkwX4_isNote_0 ++ []
theorem dksX4_isNote_0 : cX4_isNote.data.toList.drop 0 = dktX4_isNote_0 := by decide +kernel
theorem dX4_isNote_0 : decode cX4_isNote 0 = .ok (.aload_n 0, 1) := dk_42 (dk_at dksX4_isNote_0 0 rfl rfl)
theorem dX4_isNote_1 : decode cX4_isNote 1 = .ok (.getfield 24, 3) := dk_180 0 24 (dk_at dksX4_isNote_0 1 rfl rfl)
theorem dX4_isNote_4 : decode cX4_isNote 4 = .ok (.iload_n 1, 1) := dk_27 (dk_at dksX4_isNote_0 4 rfl rfl)
theorem dX4_isNote_5 : decode cX4_isNote 5 = .ok (.iaload, 1) := dk_46 (dk_at dksX4_isNote_0 5 rfl rfl)
theorem dX4_isNote_6 : decode cX4_isNote 6 = .ok (.iconst 3, 1) := dk_6 (dk_at dksX4_isNote_0 6 rfl rfl)
theorem dX4_isNote_7 : decode cX4_isNote 7 = .ok (.if_icmp .ge 7, 3) := dk_162 0 7 (dk_at dksX4_isNote_0 7 rfl rfl)
theorem dX4_isNote_10 : decode cX4_isNote 10 = .ok (.iconst 1, 1) := dk_4 (dk_at dksX4_isNote_0 10 rfl rfl)
theorem dX4_isNote_11 : decode cX4_isNote 11 = .ok (.goto 4, 3) := dk_167 0 4 (dk_at dksX4_isNote_0 11 rfl rfl)
theorem dX4_isNote_14 : decode cX4_isNote 14 = .ok (.iconst 0, 1) := dk_3 (dk_at dksX4_isNote_0 14 rfl rfl)
theorem dX4_isNote_15 : decode cX4_isNote 15 = .ok (.ireturn, 1) := dk_172 (dk_at dksX4_isNote_0 15 rfl rfl)
abbrev cX4_heard : ByteArray := prog_21_method_23_code
def yX4_heard : MethodName := ⟨RX4, "heard", "(II)I"⟩
def dkwX4_heard_2 : List UInt8 := [27, 46, 4, 100, 133, 184, 0, 137, 153, 0, 12, 42, 27, 28, 182, 0, 220, 167, 0, 6, 17, 252, 24, 172]
abbrev dktX4_heard_2 : List UInt8 := dkwX4_heard_2 ++ []
def dkwX4_heard_1 : List UInt8 := [182, 0, 214, 154, 0, 14, 42, 16, 243, 182, 0, 211, 62, 17, 248, 47, 172, 28, 133, 9, 42, 180, 0, 27]
abbrev dktX4_heard_1 : List UInt8 := dkwX4_heard_1 ++ dktX4_heard_2
def dkwX4_heard_0 : List UInt8 := [42, 182, 0, 144, 42, 27, 182, 0, 193, 154, 0, 13, 42, 16, 254, 181, 0, 127, 17, 248, 48, 172, 42, 27]
abbrev dktX4_heard_0 : List UInt8 := dkwX4_heard_0 ++ dktX4_heard_1
theorem dksX4_heard_0 : cX4_heard.data.toList.drop 0 = dktX4_heard_0 := by decide +kernel
theorem dksX4_heard_1 : cX4_heard.data.toList.drop 24 = dktX4_heard_1 := dk_seg dksX4_heard_0 24 rfl rfl
theorem dksX4_heard_2 : cX4_heard.data.toList.drop 48 = dktX4_heard_2 := dk_seg dksX4_heard_1 24 rfl rfl
theorem dX4_heard_0 : decode cX4_heard 0 = .ok (.aload_n 0, 1) := dk_42 (dk_at dksX4_heard_0 0 rfl rfl)
theorem dX4_heard_1 : decode cX4_heard 1 = .ok (.invokevirtual 144, 3) := dk_182 0 144 (dk_at dksX4_heard_0 1 rfl rfl)
theorem dX4_heard_4 : decode cX4_heard 4 = .ok (.aload_n 0, 1) := dk_42 (dk_at dksX4_heard_0 4 rfl rfl)
theorem dX4_heard_5 : decode cX4_heard 5 = .ok (.iload_n 1, 1) := dk_27 (dk_at dksX4_heard_0 5 rfl rfl)
theorem dX4_heard_6 : decode cX4_heard 6 = .ok (.invokevirtual 193, 3) := dk_182 0 193 (dk_at dksX4_heard_0 6 rfl rfl)
theorem dX4_heard_9 : decode cX4_heard 9 = .ok (.ifCond .ne 13, 3) := dk_154 0 13 (dk_at dksX4_heard_0 9 rfl rfl)
theorem dX4_heard_12 : decode cX4_heard 12 = .ok (.aload_n 0, 1) := dk_42 (dk_at dksX4_heard_0 12 rfl rfl)
theorem dX4_heard_13 : decode cX4_heard 13 = .ok (.bipush (-2), 2) := dk_16 254 (dk_at dksX4_heard_0 13 rfl rfl)
theorem dX4_heard_15 : decode cX4_heard 15 = .ok (.putfield 127, 3) := dk_181 0 127 (dk_at dksX4_heard_0 15 rfl rfl)
theorem dX4_heard_18 : decode cX4_heard 18 = .ok (.sipush (-2000), 3) := dk_17 248 48 (dk_at dksX4_heard_0 18 rfl rfl)
theorem dX4_heard_21 : decode cX4_heard 21 = .ok (.ireturn, 1) := dk_172 (dk_at dksX4_heard_0 21 rfl rfl)
theorem dX4_heard_22 : decode cX4_heard 22 = .ok (.aload_n 0, 1) := dk_42 (dk_at dksX4_heard_0 22 rfl rfl)
theorem dX4_heard_23 : decode cX4_heard 23 = .ok (.iload_n 1, 1) := dk_27 (dk_at dksX4_heard_0 23 rfl rfl)
theorem dX4_heard_24 : decode cX4_heard 24 = .ok (.invokevirtual 214, 3) := dk_182 0 214 (dk_at dksX4_heard_1 0 rfl rfl)
theorem dX4_heard_27 : decode cX4_heard 27 = .ok (.ifCond .ne 14, 3) := dk_154 0 14 (dk_at dksX4_heard_1 3 rfl rfl)
theorem dX4_heard_30 : decode cX4_heard 30 = .ok (.aload_n 0, 1) := dk_42 (dk_at dksX4_heard_1 6 rfl rfl)
theorem dX4_heard_31 : decode cX4_heard 31 = .ok (.bipush (-13), 2) := dk_16 243 (dk_at dksX4_heard_1 7 rfl rfl)
theorem dX4_heard_33 : decode cX4_heard 33 = .ok (.invokevirtual 211, 3) := dk_182 0 211 (dk_at dksX4_heard_1 9 rfl rfl)
theorem dX4_heard_36 : decode cX4_heard 36 = .ok (.istore_n 3, 1) := dk_62 (dk_at dksX4_heard_1 12 rfl rfl)
theorem dX4_heard_37 : decode cX4_heard 37 = .ok (.sipush (-2001), 3) := dk_17 248 47 (dk_at dksX4_heard_1 13 rfl rfl)
theorem dX4_heard_40 : decode cX4_heard 40 = .ok (.ireturn, 1) := dk_172 (dk_at dksX4_heard_1 16 rfl rfl)
theorem dX4_heard_41 : decode cX4_heard 41 = .ok (.iload_n 2, 1) := dk_28 (dk_at dksX4_heard_1 17 rfl rfl)
theorem dX4_heard_42 : decode cX4_heard 42 = .ok (.i2l, 1) := dk_133 (dk_at dksX4_heard_1 18 rfl rfl)
theorem dX4_heard_43 : decode cX4_heard 43 = .ok (.lconst 0, 1) := dk_9 (dk_at dksX4_heard_1 19 rfl rfl)
theorem dX4_heard_44 : decode cX4_heard 44 = .ok (.aload_n 0, 1) := dk_42 (dk_at dksX4_heard_1 20 rfl rfl)
theorem dX4_heard_45 : decode cX4_heard 45 = .ok (.getfield 27, 3) := dk_180 0 27 (dk_at dksX4_heard_1 21 rfl rfl)
theorem dX4_heard_48 : decode cX4_heard 48 = .ok (.iload_n 1, 1) := dk_27 (dk_at dksX4_heard_2 0 rfl rfl)
theorem dX4_heard_49 : decode cX4_heard 49 = .ok (.iaload, 1) := dk_46 (dk_at dksX4_heard_2 1 rfl rfl)
theorem dX4_heard_50 : decode cX4_heard 50 = .ok (.iconst 1, 1) := dk_4 (dk_at dksX4_heard_2 2 rfl rfl)
theorem dX4_heard_51 : decode cX4_heard 51 = .ok (.isub, 1) := dk_100 (dk_at dksX4_heard_2 3 rfl rfl)
theorem dX4_heard_52 : decode cX4_heard 52 = .ok (.i2l, 1) := dk_133 (dk_at dksX4_heard_2 4 rfl rfl)
theorem dX4_heard_53 : decode cX4_heard 53 = .ok (.invokestatic 137, 3) := dk_184 0 137 (dk_at dksX4_heard_2 5 rfl rfl)
theorem dX4_heard_56 : decode cX4_heard 56 = .ok (.ifCond .eq 12, 3) := dk_153 0 12 (dk_at dksX4_heard_2 8 rfl rfl)
theorem dX4_heard_59 : decode cX4_heard 59 = .ok (.aload_n 0, 1) := dk_42 (dk_at dksX4_heard_2 11 rfl rfl)
theorem dX4_heard_60 : decode cX4_heard 60 = .ok (.iload_n 1, 1) := dk_27 (dk_at dksX4_heard_2 12 rfl rfl)
theorem dX4_heard_61 : decode cX4_heard 61 = .ok (.iload_n 2, 1) := dk_28 (dk_at dksX4_heard_2 13 rfl rfl)
theorem dX4_heard_62 : decode cX4_heard 62 = .ok (.invokevirtual 220, 3) := dk_182 0 220 (dk_at dksX4_heard_2 14 rfl rfl)
theorem dX4_heard_65 : decode cX4_heard 65 = .ok (.goto 6, 3) := dk_167 0 6 (dk_at dksX4_heard_2 17 rfl rfl)
theorem dX4_heard_68 : decode cX4_heard 68 = .ok (.sipush (-1000), 3) := dk_17 252 24 (dk_at dksX4_heard_2 20 rfl rfl)
theorem dX4_heard_71 : decode cX4_heard 71 = .ok (.ireturn, 1) := dk_172 (dk_at dksX4_heard_2 23 rfl rfl)
abbrev cX4_heardOf : ByteArray := prog_21_method_22_code
def yX4_heardOf : MethodName := ⟨RX4, "heardOf", "(II)I"⟩
def dkwX4_heardOf_1 : List UInt8 := [46, 182, 0, 174, 42, 27, 182, 0, 217, 96, 172]
abbrev dktX4_heardOf_1 : List UInt8 := dkwX4_heardOf_1 ++ []
def dkwX4_heardOf_0 : List UInt8 := [42, 42, 180, 0, 7, 42, 180, 0, 21, 27, 46, 6, 108, 46, 42, 180, 0, 30, 16, 6, 27, 104, 28, 96]
abbrev dktX4_heardOf_0 : List UInt8 := dkwX4_heardOf_0 ++ dktX4_heardOf_1
theorem dksX4_heardOf_0 : cX4_heardOf.data.toList.drop 0 = dktX4_heardOf_0 := by decide +kernel
theorem dksX4_heardOf_1 : cX4_heardOf.data.toList.drop 24 = dktX4_heardOf_1 := dk_seg dksX4_heardOf_0 24 rfl rfl
theorem dX4_heardOf_0 : decode cX4_heardOf 0 = .ok (.aload_n 0, 1) := dk_42 (dk_at dksX4_heardOf_0 0 rfl rfl)
theorem dX4_heardOf_1 : decode cX4_heardOf 1 = .ok (.aload_n 0, 1) := dk_42 (dk_at dksX4_heardOf_0 1 rfl rfl)
theorem dX4_heardOf_2 : decode cX4_heardOf 2 = .ok (.getfield 7, 3) := dk_180 0 7 (dk_at dksX4_heardOf_0 2 rfl rfl)
theorem dX4_heardOf_5 : decode cX4_heardOf 5 = .ok (.aload_n 0, 1) := dk_42 (dk_at dksX4_heardOf_0 5 rfl rfl)
theorem dX4_heardOf_6 : decode cX4_heardOf 6 = .ok (.getfield 21, 3) := dk_180 0 21 (dk_at dksX4_heardOf_0 6 rfl rfl)
theorem dX4_heardOf_9 : decode cX4_heardOf 9 = .ok (.iload_n 1, 1) := dk_27 (dk_at dksX4_heardOf_0 9 rfl rfl)
theorem dX4_heardOf_10 : decode cX4_heardOf 10 = .ok (.iaload, 1) := dk_46 (dk_at dksX4_heardOf_0 10 rfl rfl)
theorem dX4_heardOf_11 : decode cX4_heardOf 11 = .ok (.iconst 3, 1) := dk_6 (dk_at dksX4_heardOf_0 11 rfl rfl)
theorem dX4_heardOf_12 : decode cX4_heardOf 12 = .ok (.idiv, 1) := dk_108 (dk_at dksX4_heardOf_0 12 rfl rfl)
theorem dX4_heardOf_13 : decode cX4_heardOf 13 = .ok (.iaload, 1) := dk_46 (dk_at dksX4_heardOf_0 13 rfl rfl)
theorem dX4_heardOf_14 : decode cX4_heardOf 14 = .ok (.aload_n 0, 1) := dk_42 (dk_at dksX4_heardOf_0 14 rfl rfl)
theorem dX4_heardOf_15 : decode cX4_heardOf 15 = .ok (.getfield 30, 3) := dk_180 0 30 (dk_at dksX4_heardOf_0 15 rfl rfl)
theorem dX4_heardOf_18 : decode cX4_heardOf 18 = .ok (.bipush 6, 2) := dk_16 6 (dk_at dksX4_heardOf_0 18 rfl rfl)
theorem dX4_heardOf_20 : decode cX4_heardOf 20 = .ok (.iload_n 1, 1) := dk_27 (dk_at dksX4_heardOf_0 20 rfl rfl)
theorem dX4_heardOf_21 : decode cX4_heardOf 21 = .ok (.imul, 1) := dk_104 (dk_at dksX4_heardOf_0 21 rfl rfl)
theorem dX4_heardOf_22 : decode cX4_heardOf 22 = .ok (.iload_n 2, 1) := dk_28 (dk_at dksX4_heardOf_0 22 rfl rfl)
theorem dX4_heardOf_23 : decode cX4_heardOf 23 = .ok (.iadd, 1) := dk_96 (dk_at dksX4_heardOf_0 23 rfl rfl)
theorem dX4_heardOf_24 : decode cX4_heardOf 24 = .ok (.iaload, 1) := dk_46 (dk_at dksX4_heardOf_1 0 rfl rfl)
theorem dX4_heardOf_25 : decode cX4_heardOf 25 = .ok (.invokevirtual 174, 3) := dk_182 0 174 (dk_at dksX4_heardOf_1 1 rfl rfl)
theorem dX4_heardOf_28 : decode cX4_heardOf 28 = .ok (.aload_n 0, 1) := dk_42 (dk_at dksX4_heardOf_1 4 rfl rfl)
theorem dX4_heardOf_29 : decode cX4_heardOf 29 = .ok (.iload_n 1, 1) := dk_27 (dk_at dksX4_heardOf_1 5 rfl rfl)
theorem dX4_heardOf_30 : decode cX4_heardOf 30 = .ok (.invokevirtual 217, 3) := dk_182 0 217 (dk_at dksX4_heardOf_1 6 rfl rfl)
theorem dX4_heardOf_33 : decode cX4_heardOf 33 = .ok (.iadd, 1) := dk_96 (dk_at dksX4_heardOf_1 9 rfl rfl)
theorem dX4_heardOf_34 : decode cX4_heardOf 34 = .ok (.ireturn, 1) := dk_172 (dk_at dksX4_heardOf_1 10 rfl rfl)
abbrev cX4_liftOf : ByteArray := prog_21_method_21_code
def yX4_liftOf : MethodName := ⟨RX4, "liftOf", "(I)I"⟩
def dkwX4_liftOf_5 : List UInt8 := [46, 182, 0, 196, 163, 0, 8, 16, 12, 167, 0, 4, 3, 96, 61, 132, 4, 1, 167, 255, 131, 28, 172]
abbrev dktX4_liftOf_5 : List UInt8 := dkwX4_liftOf_5 ++ []
def dkwX4_liftOf_4 : List UInt8 := [28, 42, 42, 180, 0, 75, 21, 4, 46, 182, 0, 196, 29, 163, 0, 23, 29, 42, 42, 180, 0, 78, 21, 4]
abbrev dktX4_liftOf_4 : List UInt8 := dkwX4_liftOf_4 ++ dktX4_liftOf_5
def dkwX4_liftOf_3 : List UInt8 := [160, 0, 63, 42, 180, 0, 21, 42, 180, 0, 78, 21, 4, 46, 46, 42, 180, 0, 21, 27, 46, 160, 0, 42]
abbrev dktX4_liftOf_3 : List UInt8 := dkwX4_liftOf_3 ++ dktX4_liftOf_4
def dkwX4_liftOf_2 : List UInt8 := [2, 159, 0, 84, 42, 180, 0, 21, 42, 180, 0, 75, 21, 4, 46, 46, 42, 180, 0, 21, 27, 46]
abbrev dktX4_liftOf_2 : List UInt8 := dkwX4_liftOf_2 ++ dktX4_liftOf_3
def dkwX4_liftOf_1 : List UInt8 := [21, 4, 51, 153, 0, 106, 42, 180, 0, 72, 21, 4, 46, 5, 160, 0, 95, 42, 180, 0, 78, 21, 4, 46]
abbrev dktX4_liftOf_1 : List UInt8 := dkwX4_liftOf_1 ++ dktX4_liftOf_2
def dkwX4_liftOf_0 : List UInt8 := [3, 61, 42, 27, 182, 0, 196, 62, 3, 54, 4, 21, 4, 42, 180, 0, 205, 162, 0, 122, 42, 180, 0, 69]
abbrev dktX4_liftOf_0 : List UInt8 := dkwX4_liftOf_0 ++ dktX4_liftOf_1
theorem dksX4_liftOf_0 : cX4_liftOf.data.toList.drop 0 = dktX4_liftOf_0 := by decide +kernel
theorem dksX4_liftOf_1 : cX4_liftOf.data.toList.drop 24 = dktX4_liftOf_1 := dk_seg dksX4_liftOf_0 24 rfl rfl
theorem dksX4_liftOf_2 : cX4_liftOf.data.toList.drop 48 = dktX4_liftOf_2 := dk_seg dksX4_liftOf_1 24 rfl rfl
theorem dksX4_liftOf_3 : cX4_liftOf.data.toList.drop 70 = dktX4_liftOf_3 := dk_seg dksX4_liftOf_2 22 rfl rfl
theorem dksX4_liftOf_4 : cX4_liftOf.data.toList.drop 94 = dktX4_liftOf_4 := dk_seg dksX4_liftOf_3 24 rfl rfl
theorem dksX4_liftOf_5 : cX4_liftOf.data.toList.drop 118 = dktX4_liftOf_5 := dk_seg dksX4_liftOf_4 24 rfl rfl
theorem dX4_liftOf_0 : decode cX4_liftOf 0 = .ok (.iconst 0, 1) := dk_3 (dk_at dksX4_liftOf_0 0 rfl rfl)
theorem dX4_liftOf_1 : decode cX4_liftOf 1 = .ok (.istore_n 2, 1) := dk_61 (dk_at dksX4_liftOf_0 1 rfl rfl)
theorem dX4_liftOf_2 : decode cX4_liftOf 2 = .ok (.aload_n 0, 1) := dk_42 (dk_at dksX4_liftOf_0 2 rfl rfl)
theorem dX4_liftOf_3 : decode cX4_liftOf 3 = .ok (.iload_n 1, 1) := dk_27 (dk_at dksX4_liftOf_0 3 rfl rfl)
theorem dX4_liftOf_4 : decode cX4_liftOf 4 = .ok (.invokevirtual 196, 3) := dk_182 0 196 (dk_at dksX4_liftOf_0 4 rfl rfl)
theorem dX4_liftOf_7 : decode cX4_liftOf 7 = .ok (.istore_n 3, 1) := dk_62 (dk_at dksX4_liftOf_0 7 rfl rfl)
theorem dX4_liftOf_8 : decode cX4_liftOf 8 = .ok (.iconst 0, 1) := dk_3 (dk_at dksX4_liftOf_0 8 rfl rfl)
theorem dX4_liftOf_9 : decode cX4_liftOf 9 = .ok (.istore 4, 2) := dk_54 4 (dk_at dksX4_liftOf_0 9 rfl rfl)
theorem dX4_liftOf_11 : decode cX4_liftOf 11 = .ok (.iload 4, 2) := dk_21 4 (dk_at dksX4_liftOf_0 11 rfl rfl)
theorem dX4_liftOf_13 : decode cX4_liftOf 13 = .ok (.aload_n 0, 1) := dk_42 (dk_at dksX4_liftOf_0 13 rfl rfl)
theorem dX4_liftOf_14 : decode cX4_liftOf 14 = .ok (.getfield 205, 3) := dk_180 0 205 (dk_at dksX4_liftOf_0 14 rfl rfl)
theorem dX4_liftOf_17 : decode cX4_liftOf 17 = .ok (.if_icmp .ge 122, 3) := dk_162 0 122 (dk_at dksX4_liftOf_0 17 rfl rfl)
theorem dX4_liftOf_20 : decode cX4_liftOf 20 = .ok (.aload_n 0, 1) := dk_42 (dk_at dksX4_liftOf_0 20 rfl rfl)
theorem dX4_liftOf_21 : decode cX4_liftOf 21 = .ok (.getfield 69, 3) := dk_180 0 69 (dk_at dksX4_liftOf_0 21 rfl rfl)
theorem dX4_liftOf_24 : decode cX4_liftOf 24 = .ok (.iload 4, 2) := dk_21 4 (dk_at dksX4_liftOf_1 0 rfl rfl)
theorem dX4_liftOf_26 : decode cX4_liftOf 26 = .ok (.baload, 1) := dk_51 (dk_at dksX4_liftOf_1 2 rfl rfl)
theorem dX4_liftOf_27 : decode cX4_liftOf 27 = .ok (.ifCond .eq 106, 3) := dk_153 0 106 (dk_at dksX4_liftOf_1 3 rfl rfl)
theorem dX4_liftOf_30 : decode cX4_liftOf 30 = .ok (.aload_n 0, 1) := dk_42 (dk_at dksX4_liftOf_1 6 rfl rfl)
theorem dX4_liftOf_31 : decode cX4_liftOf 31 = .ok (.getfield 72, 3) := dk_180 0 72 (dk_at dksX4_liftOf_1 7 rfl rfl)
theorem dX4_liftOf_34 : decode cX4_liftOf 34 = .ok (.iload 4, 2) := dk_21 4 (dk_at dksX4_liftOf_1 10 rfl rfl)
theorem dX4_liftOf_36 : decode cX4_liftOf 36 = .ok (.iaload, 1) := dk_46 (dk_at dksX4_liftOf_1 12 rfl rfl)
theorem dX4_liftOf_37 : decode cX4_liftOf 37 = .ok (.iconst 2, 1) := dk_5 (dk_at dksX4_liftOf_1 13 rfl rfl)
theorem dX4_liftOf_38 : decode cX4_liftOf 38 = .ok (.if_icmp .ne 95, 3) := dk_160 0 95 (dk_at dksX4_liftOf_1 14 rfl rfl)
theorem dX4_liftOf_41 : decode cX4_liftOf 41 = .ok (.aload_n 0, 1) := dk_42 (dk_at dksX4_liftOf_1 17 rfl rfl)
theorem dX4_liftOf_42 : decode cX4_liftOf 42 = .ok (.getfield 78, 3) := dk_180 0 78 (dk_at dksX4_liftOf_1 18 rfl rfl)
theorem dX4_liftOf_45 : decode cX4_liftOf 45 = .ok (.iload 4, 2) := dk_21 4 (dk_at dksX4_liftOf_1 21 rfl rfl)
theorem dX4_liftOf_47 : decode cX4_liftOf 47 = .ok (.iaload, 1) := dk_46 (dk_at dksX4_liftOf_1 23 rfl rfl)
theorem dX4_liftOf_48 : decode cX4_liftOf 48 = .ok (.iconst (-1), 1) := dk_2 (dk_at dksX4_liftOf_2 0 rfl rfl)
theorem dX4_liftOf_49 : decode cX4_liftOf 49 = .ok (.if_icmp .eq 84, 3) := dk_159 0 84 (dk_at dksX4_liftOf_2 1 rfl rfl)
theorem dX4_liftOf_52 : decode cX4_liftOf 52 = .ok (.aload_n 0, 1) := dk_42 (dk_at dksX4_liftOf_2 4 rfl rfl)
theorem dX4_liftOf_53 : decode cX4_liftOf 53 = .ok (.getfield 21, 3) := dk_180 0 21 (dk_at dksX4_liftOf_2 5 rfl rfl)
theorem dX4_liftOf_56 : decode cX4_liftOf 56 = .ok (.aload_n 0, 1) := dk_42 (dk_at dksX4_liftOf_2 8 rfl rfl)
theorem dX4_liftOf_57 : decode cX4_liftOf 57 = .ok (.getfield 75, 3) := dk_180 0 75 (dk_at dksX4_liftOf_2 9 rfl rfl)
theorem dX4_liftOf_60 : decode cX4_liftOf 60 = .ok (.iload 4, 2) := dk_21 4 (dk_at dksX4_liftOf_2 12 rfl rfl)
theorem dX4_liftOf_62 : decode cX4_liftOf 62 = .ok (.iaload, 1) := dk_46 (dk_at dksX4_liftOf_2 14 rfl rfl)
theorem dX4_liftOf_63 : decode cX4_liftOf 63 = .ok (.iaload, 1) := dk_46 (dk_at dksX4_liftOf_2 15 rfl rfl)
theorem dX4_liftOf_64 : decode cX4_liftOf 64 = .ok (.aload_n 0, 1) := dk_42 (dk_at dksX4_liftOf_2 16 rfl rfl)
theorem dX4_liftOf_65 : decode cX4_liftOf 65 = .ok (.getfield 21, 3) := dk_180 0 21 (dk_at dksX4_liftOf_2 17 rfl rfl)
theorem dX4_liftOf_68 : decode cX4_liftOf 68 = .ok (.iload_n 1, 1) := dk_27 (dk_at dksX4_liftOf_2 20 rfl rfl)
theorem dX4_liftOf_69 : decode cX4_liftOf 69 = .ok (.iaload, 1) := dk_46 (dk_at dksX4_liftOf_2 21 rfl rfl)
theorem dX4_liftOf_70 : decode cX4_liftOf 70 = .ok (.if_icmp .ne 63, 3) := dk_160 0 63 (dk_at dksX4_liftOf_3 0 rfl rfl)
theorem dX4_liftOf_73 : decode cX4_liftOf 73 = .ok (.aload_n 0, 1) := dk_42 (dk_at dksX4_liftOf_3 3 rfl rfl)
theorem dX4_liftOf_74 : decode cX4_liftOf 74 = .ok (.getfield 21, 3) := dk_180 0 21 (dk_at dksX4_liftOf_3 4 rfl rfl)
theorem dX4_liftOf_77 : decode cX4_liftOf 77 = .ok (.aload_n 0, 1) := dk_42 (dk_at dksX4_liftOf_3 7 rfl rfl)
theorem dX4_liftOf_78 : decode cX4_liftOf 78 = .ok (.getfield 78, 3) := dk_180 0 78 (dk_at dksX4_liftOf_3 8 rfl rfl)
theorem dX4_liftOf_81 : decode cX4_liftOf 81 = .ok (.iload 4, 2) := dk_21 4 (dk_at dksX4_liftOf_3 11 rfl rfl)
theorem dX4_liftOf_83 : decode cX4_liftOf 83 = .ok (.iaload, 1) := dk_46 (dk_at dksX4_liftOf_3 13 rfl rfl)
theorem dX4_liftOf_84 : decode cX4_liftOf 84 = .ok (.iaload, 1) := dk_46 (dk_at dksX4_liftOf_3 14 rfl rfl)
theorem dX4_liftOf_85 : decode cX4_liftOf 85 = .ok (.aload_n 0, 1) := dk_42 (dk_at dksX4_liftOf_3 15 rfl rfl)
theorem dX4_liftOf_86 : decode cX4_liftOf 86 = .ok (.getfield 21, 3) := dk_180 0 21 (dk_at dksX4_liftOf_3 16 rfl rfl)
theorem dX4_liftOf_89 : decode cX4_liftOf 89 = .ok (.iload_n 1, 1) := dk_27 (dk_at dksX4_liftOf_3 19 rfl rfl)
theorem dX4_liftOf_90 : decode cX4_liftOf 90 = .ok (.iaload, 1) := dk_46 (dk_at dksX4_liftOf_3 20 rfl rfl)
theorem dX4_liftOf_91 : decode cX4_liftOf 91 = .ok (.if_icmp .ne 42, 3) := dk_160 0 42 (dk_at dksX4_liftOf_3 21 rfl rfl)
theorem dX4_liftOf_94 : decode cX4_liftOf 94 = .ok (.iload_n 2, 1) := dk_28 (dk_at dksX4_liftOf_4 0 rfl rfl)
theorem dX4_liftOf_95 : decode cX4_liftOf 95 = .ok (.aload_n 0, 1) := dk_42 (dk_at dksX4_liftOf_4 1 rfl rfl)
theorem dX4_liftOf_96 : decode cX4_liftOf 96 = .ok (.aload_n 0, 1) := dk_42 (dk_at dksX4_liftOf_4 2 rfl rfl)
theorem dX4_liftOf_97 : decode cX4_liftOf 97 = .ok (.getfield 75, 3) := dk_180 0 75 (dk_at dksX4_liftOf_4 3 rfl rfl)
theorem dX4_liftOf_100 : decode cX4_liftOf 100 = .ok (.iload 4, 2) := dk_21 4 (dk_at dksX4_liftOf_4 6 rfl rfl)
theorem dX4_liftOf_102 : decode cX4_liftOf 102 = .ok (.iaload, 1) := dk_46 (dk_at dksX4_liftOf_4 8 rfl rfl)
theorem dX4_liftOf_103 : decode cX4_liftOf 103 = .ok (.invokevirtual 196, 3) := dk_182 0 196 (dk_at dksX4_liftOf_4 9 rfl rfl)
theorem dX4_liftOf_106 : decode cX4_liftOf 106 = .ok (.iload_n 3, 1) := dk_29 (dk_at dksX4_liftOf_4 12 rfl rfl)
theorem dX4_liftOf_107 : decode cX4_liftOf 107 = .ok (.if_icmp .gt 23, 3) := dk_163 0 23 (dk_at dksX4_liftOf_4 13 rfl rfl)
theorem dX4_liftOf_110 : decode cX4_liftOf 110 = .ok (.iload_n 3, 1) := dk_29 (dk_at dksX4_liftOf_4 16 rfl rfl)
theorem dX4_liftOf_111 : decode cX4_liftOf 111 = .ok (.aload_n 0, 1) := dk_42 (dk_at dksX4_liftOf_4 17 rfl rfl)
theorem dX4_liftOf_112 : decode cX4_liftOf 112 = .ok (.aload_n 0, 1) := dk_42 (dk_at dksX4_liftOf_4 18 rfl rfl)
theorem dX4_liftOf_113 : decode cX4_liftOf 113 = .ok (.getfield 78, 3) := dk_180 0 78 (dk_at dksX4_liftOf_4 19 rfl rfl)
theorem dX4_liftOf_116 : decode cX4_liftOf 116 = .ok (.iload 4, 2) := dk_21 4 (dk_at dksX4_liftOf_4 22 rfl rfl)
theorem dX4_liftOf_118 : decode cX4_liftOf 118 = .ok (.iaload, 1) := dk_46 (dk_at dksX4_liftOf_5 0 rfl rfl)
theorem dX4_liftOf_119 : decode cX4_liftOf 119 = .ok (.invokevirtual 196, 3) := dk_182 0 196 (dk_at dksX4_liftOf_5 1 rfl rfl)
theorem dX4_liftOf_122 : decode cX4_liftOf 122 = .ok (.if_icmp .gt 8, 3) := dk_163 0 8 (dk_at dksX4_liftOf_5 4 rfl rfl)
theorem dX4_liftOf_125 : decode cX4_liftOf 125 = .ok (.bipush 12, 2) := dk_16 12 (dk_at dksX4_liftOf_5 7 rfl rfl)
theorem dX4_liftOf_127 : decode cX4_liftOf 127 = .ok (.goto 4, 3) := dk_167 0 4 (dk_at dksX4_liftOf_5 9 rfl rfl)
theorem dX4_liftOf_130 : decode cX4_liftOf 130 = .ok (.iconst 0, 1) := dk_3 (dk_at dksX4_liftOf_5 12 rfl rfl)
theorem dX4_liftOf_131 : decode cX4_liftOf 131 = .ok (.iadd, 1) := dk_96 (dk_at dksX4_liftOf_5 13 rfl rfl)
theorem dX4_liftOf_132 : decode cX4_liftOf 132 = .ok (.istore_n 2, 1) := dk_61 (dk_at dksX4_liftOf_5 14 rfl rfl)
theorem dX4_liftOf_133 : decode cX4_liftOf 133 = .ok (.iinc 4 1, 3) := dk_132 4 1 (dk_at dksX4_liftOf_5 15 rfl rfl)
theorem dX4_liftOf_136 : decode cX4_liftOf 136 = .ok (.goto (-125), 3) := dk_167 255 131 (dk_at dksX4_liftOf_5 18 rfl rfl)
theorem dX4_liftOf_139 : decode cX4_liftOf 139 = .ok (.iload_n 2, 1) := dk_28 (dk_at dksX4_liftOf_5 21 rfl rfl)
theorem dX4_liftOf_140 : decode cX4_liftOf 140 = .ok (.ireturn, 1) := dk_172 (dk_at dksX4_liftOf_5 22 rfl rfl)
abbrev cX4_shift : ByteArray := prog_21_method_26_code
def yX4_shift : MethodName := ⟨RX4, "shift", "(II)I"⟩
def dkwX4_shift_2 : List UInt8 := [182, 0, 211, 172, 42, 27, 28, 182, 0, 227, 42, 180, 0, 27, 27, 46, 172]
abbrev dktX4_shift_2 : List UInt8 := dkwX4_shift_2 ++ []
def dkwX4_shift_1 : List UInt8 := [154, 0, 10, 42, 16, 243, 182, 0, 211, 172, 42, 27, 28, 133, 182, 0, 223, 154, 0, 10, 42, 16, 244]
abbrev dktX4_shift_1 : List UInt8 := dkwX4_shift_1 ++ dktX4_shift_2
def dkwX4_shift_0 : List UInt8 := [42, 182, 0, 144, 42, 27, 182, 0, 193, 154, 0, 10, 42, 16, 254, 182, 0, 130, 172, 42, 27, 182, 0, 214]
abbrev dktX4_shift_0 : List UInt8 := dkwX4_shift_0 ++ dktX4_shift_1
theorem dksX4_shift_0 : cX4_shift.data.toList.drop 0 = dktX4_shift_0 := by decide +kernel
theorem dksX4_shift_1 : cX4_shift.data.toList.drop 24 = dktX4_shift_1 := dk_seg dksX4_shift_0 24 rfl rfl
theorem dksX4_shift_2 : cX4_shift.data.toList.drop 47 = dktX4_shift_2 := dk_seg dksX4_shift_1 23 rfl rfl
theorem dX4_shift_0 : decode cX4_shift 0 = .ok (.aload_n 0, 1) := dk_42 (dk_at dksX4_shift_0 0 rfl rfl)
theorem dX4_shift_1 : decode cX4_shift 1 = .ok (.invokevirtual 144, 3) := dk_182 0 144 (dk_at dksX4_shift_0 1 rfl rfl)
theorem dX4_shift_4 : decode cX4_shift 4 = .ok (.aload_n 0, 1) := dk_42 (dk_at dksX4_shift_0 4 rfl rfl)
theorem dX4_shift_5 : decode cX4_shift 5 = .ok (.iload_n 1, 1) := dk_27 (dk_at dksX4_shift_0 5 rfl rfl)
theorem dX4_shift_6 : decode cX4_shift 6 = .ok (.invokevirtual 193, 3) := dk_182 0 193 (dk_at dksX4_shift_0 6 rfl rfl)
theorem dX4_shift_9 : decode cX4_shift 9 = .ok (.ifCond .ne 10, 3) := dk_154 0 10 (dk_at dksX4_shift_0 9 rfl rfl)
theorem dX4_shift_12 : decode cX4_shift 12 = .ok (.aload_n 0, 1) := dk_42 (dk_at dksX4_shift_0 12 rfl rfl)
theorem dX4_shift_13 : decode cX4_shift 13 = .ok (.bipush (-2), 2) := dk_16 254 (dk_at dksX4_shift_0 13 rfl rfl)
theorem dX4_shift_15 : decode cX4_shift 15 = .ok (.invokevirtual 130, 3) := dk_182 0 130 (dk_at dksX4_shift_0 15 rfl rfl)
theorem dX4_shift_18 : decode cX4_shift 18 = .ok (.ireturn, 1) := dk_172 (dk_at dksX4_shift_0 18 rfl rfl)
theorem dX4_shift_19 : decode cX4_shift 19 = .ok (.aload_n 0, 1) := dk_42 (dk_at dksX4_shift_0 19 rfl rfl)
theorem dX4_shift_20 : decode cX4_shift 20 = .ok (.iload_n 1, 1) := dk_27 (dk_at dksX4_shift_0 20 rfl rfl)
theorem dX4_shift_21 : decode cX4_shift 21 = .ok (.invokevirtual 214, 3) := dk_182 0 214 (dk_at dksX4_shift_0 21 rfl rfl)
theorem dX4_shift_24 : decode cX4_shift 24 = .ok (.ifCond .ne 10, 3) := dk_154 0 10 (dk_at dksX4_shift_1 0 rfl rfl)
theorem dX4_shift_27 : decode cX4_shift 27 = .ok (.aload_n 0, 1) := dk_42 (dk_at dksX4_shift_1 3 rfl rfl)
theorem dX4_shift_28 : decode cX4_shift 28 = .ok (.bipush (-13), 2) := dk_16 243 (dk_at dksX4_shift_1 4 rfl rfl)
theorem dX4_shift_30 : decode cX4_shift 30 = .ok (.invokevirtual 211, 3) := dk_182 0 211 (dk_at dksX4_shift_1 6 rfl rfl)
theorem dX4_shift_33 : decode cX4_shift 33 = .ok (.ireturn, 1) := dk_172 (dk_at dksX4_shift_1 9 rfl rfl)
theorem dX4_shift_34 : decode cX4_shift 34 = .ok (.aload_n 0, 1) := dk_42 (dk_at dksX4_shift_1 10 rfl rfl)
theorem dX4_shift_35 : decode cX4_shift 35 = .ok (.iload_n 1, 1) := dk_27 (dk_at dksX4_shift_1 11 rfl rfl)
theorem dX4_shift_36 : decode cX4_shift 36 = .ok (.iload_n 2, 1) := dk_28 (dk_at dksX4_shift_1 12 rfl rfl)
theorem dX4_shift_37 : decode cX4_shift 37 = .ok (.i2l, 1) := dk_133 (dk_at dksX4_shift_1 13 rfl rfl)
theorem dX4_shift_38 : decode cX4_shift 38 = .ok (.invokevirtual 223, 3) := dk_182 0 223 (dk_at dksX4_shift_1 14 rfl rfl)
theorem dX4_shift_41 : decode cX4_shift 41 = .ok (.ifCond .ne 10, 3) := dk_154 0 10 (dk_at dksX4_shift_1 17 rfl rfl)
theorem dX4_shift_44 : decode cX4_shift 44 = .ok (.aload_n 0, 1) := dk_42 (dk_at dksX4_shift_1 20 rfl rfl)
theorem dX4_shift_45 : decode cX4_shift 45 = .ok (.bipush (-12), 2) := dk_16 244 (dk_at dksX4_shift_1 21 rfl rfl)
theorem dX4_shift_47 : decode cX4_shift 47 = .ok (.invokevirtual 211, 3) := dk_182 0 211 (dk_at dksX4_shift_2 0 rfl rfl)
theorem dX4_shift_50 : decode cX4_shift 50 = .ok (.ireturn, 1) := dk_172 (dk_at dksX4_shift_2 3 rfl rfl)
theorem dX4_shift_51 : decode cX4_shift 51 = .ok (.aload_n 0, 1) := dk_42 (dk_at dksX4_shift_2 4 rfl rfl)
theorem dX4_shift_52 : decode cX4_shift 52 = .ok (.iload_n 1, 1) := dk_27 (dk_at dksX4_shift_2 5 rfl rfl)
theorem dX4_shift_53 : decode cX4_shift 53 = .ok (.iload_n 2, 1) := dk_28 (dk_at dksX4_shift_2 6 rfl rfl)
theorem dX4_shift_54 : decode cX4_shift 54 = .ok (.invokevirtual 227, 3) := dk_182 0 227 (dk_at dksX4_shift_2 7 rfl rfl)
theorem dX4_shift_57 : decode cX4_shift 57 = .ok (.aload_n 0, 1) := dk_42 (dk_at dksX4_shift_2 10 rfl rfl)
theorem dX4_shift_58 : decode cX4_shift 58 = .ok (.getfield 27, 3) := dk_180 0 27 (dk_at dksX4_shift_2 11 rfl rfl)
theorem dX4_shift_61 : decode cX4_shift 61 = .ok (.iload_n 1, 1) := dk_27 (dk_at dksX4_shift_2 14 rfl rfl)
theorem dX4_shift_62 : decode cX4_shift 62 = .ok (.iaload, 1) := dk_46 (dk_at dksX4_shift_2 15 rfl rfl)
theorem dX4_shift_63 : decode cX4_shift 63 = .ok (.ireturn, 1) := dk_172 (dk_at dksX4_shift_2 16 rfl rfl)
abbrev cX4_mayShift : ByteArray := prog_21_method_24_code
def yX4_mayShift : MethodName := ⟨RX4, "mayShift", "(IJ)Z"⟩
def dkwX4_mayShift_2 : List UInt8 := [167, 0, 4, 3, 172]
abbrev dktX4_mayShift_2 : List UInt8 := dkwX4_mayShift_2 ++ []
def dkwX4_mayShift_1 : List UInt8 := [104, 42, 180, 0, 27, 27, 46, 96, 4, 100, 46, 133, 32, 97, 20, 0, 188, 148, 157, 0, 7, 4]
abbrev dktX4_mayShift_1 : List UInt8 := dkwX4_mayShift_1 ++ dktX4_mayShift_2
def dkwX4_mayShift_0 : List UInt8 := [42, 180, 0, 30, 16, 6, 27, 104, 46, 133, 32, 97, 9, 148, 155, 0, 35, 42, 180, 0, 30, 16, 6, 27]
abbrev dktX4_mayShift_0 : List UInt8 := dkwX4_mayShift_0 ++ dktX4_mayShift_1
theorem dksX4_mayShift_0 : cX4_mayShift.data.toList.drop 0 = dktX4_mayShift_0 := by decide +kernel
theorem dksX4_mayShift_1 : cX4_mayShift.data.toList.drop 24 = dktX4_mayShift_1 := dk_seg dksX4_mayShift_0 24 rfl rfl
theorem dksX4_mayShift_2 : cX4_mayShift.data.toList.drop 46 = dktX4_mayShift_2 := dk_seg dksX4_mayShift_1 22 rfl rfl
theorem dX4_mayShift_0 : decode cX4_mayShift 0 = .ok (.aload_n 0, 1) := dk_42 (dk_at dksX4_mayShift_0 0 rfl rfl)
theorem dX4_mayShift_1 : decode cX4_mayShift 1 = .ok (.getfield 30, 3) := dk_180 0 30 (dk_at dksX4_mayShift_0 1 rfl rfl)
theorem dX4_mayShift_4 : decode cX4_mayShift 4 = .ok (.bipush 6, 2) := dk_16 6 (dk_at dksX4_mayShift_0 4 rfl rfl)
theorem dX4_mayShift_6 : decode cX4_mayShift 6 = .ok (.iload_n 1, 1) := dk_27 (dk_at dksX4_mayShift_0 6 rfl rfl)
theorem dX4_mayShift_7 : decode cX4_mayShift 7 = .ok (.imul, 1) := dk_104 (dk_at dksX4_mayShift_0 7 rfl rfl)
theorem dX4_mayShift_8 : decode cX4_mayShift 8 = .ok (.iaload, 1) := dk_46 (dk_at dksX4_mayShift_0 8 rfl rfl)
theorem dX4_mayShift_9 : decode cX4_mayShift 9 = .ok (.i2l, 1) := dk_133 (dk_at dksX4_mayShift_0 9 rfl rfl)
theorem dX4_mayShift_10 : decode cX4_mayShift 10 = .ok (.lload_n 2, 1) := dk_32 (dk_at dksX4_mayShift_0 10 rfl rfl)
theorem dX4_mayShift_11 : decode cX4_mayShift 11 = .ok (.ladd, 1) := dk_97 (dk_at dksX4_mayShift_0 11 rfl rfl)
theorem dX4_mayShift_12 : decode cX4_mayShift 12 = .ok (.lconst 0, 1) := dk_9 (dk_at dksX4_mayShift_0 12 rfl rfl)
theorem dX4_mayShift_13 : decode cX4_mayShift 13 = .ok (.lcmp, 1) := dk_148 (dk_at dksX4_mayShift_0 13 rfl rfl)
theorem dX4_mayShift_14 : decode cX4_mayShift 14 = .ok (.ifCond .lt 35, 3) := dk_155 0 35 (dk_at dksX4_mayShift_0 14 rfl rfl)
theorem dX4_mayShift_17 : decode cX4_mayShift 17 = .ok (.aload_n 0, 1) := dk_42 (dk_at dksX4_mayShift_0 17 rfl rfl)
theorem dX4_mayShift_18 : decode cX4_mayShift 18 = .ok (.getfield 30, 3) := dk_180 0 30 (dk_at dksX4_mayShift_0 18 rfl rfl)
theorem dX4_mayShift_21 : decode cX4_mayShift 21 = .ok (.bipush 6, 2) := dk_16 6 (dk_at dksX4_mayShift_0 21 rfl rfl)
theorem dX4_mayShift_23 : decode cX4_mayShift 23 = .ok (.iload_n 1, 1) := dk_27 (dk_at dksX4_mayShift_0 23 rfl rfl)
theorem dX4_mayShift_24 : decode cX4_mayShift 24 = .ok (.imul, 1) := dk_104 (dk_at dksX4_mayShift_1 0 rfl rfl)
theorem dX4_mayShift_25 : decode cX4_mayShift 25 = .ok (.aload_n 0, 1) := dk_42 (dk_at dksX4_mayShift_1 1 rfl rfl)
theorem dX4_mayShift_26 : decode cX4_mayShift 26 = .ok (.getfield 27, 3) := dk_180 0 27 (dk_at dksX4_mayShift_1 2 rfl rfl)
theorem dX4_mayShift_29 : decode cX4_mayShift 29 = .ok (.iload_n 1, 1) := dk_27 (dk_at dksX4_mayShift_1 5 rfl rfl)
theorem dX4_mayShift_30 : decode cX4_mayShift 30 = .ok (.iaload, 1) := dk_46 (dk_at dksX4_mayShift_1 6 rfl rfl)
theorem dX4_mayShift_31 : decode cX4_mayShift 31 = .ok (.iadd, 1) := dk_96 (dk_at dksX4_mayShift_1 7 rfl rfl)
theorem dX4_mayShift_32 : decode cX4_mayShift 32 = .ok (.iconst 1, 1) := dk_4 (dk_at dksX4_mayShift_1 8 rfl rfl)
theorem dX4_mayShift_33 : decode cX4_mayShift 33 = .ok (.isub, 1) := dk_100 (dk_at dksX4_mayShift_1 9 rfl rfl)
theorem dX4_mayShift_34 : decode cX4_mayShift 34 = .ok (.iaload, 1) := dk_46 (dk_at dksX4_mayShift_1 10 rfl rfl)
theorem dX4_mayShift_35 : decode cX4_mayShift 35 = .ok (.i2l, 1) := dk_133 (dk_at dksX4_mayShift_1 11 rfl rfl)
theorem dX4_mayShift_36 : decode cX4_mayShift 36 = .ok (.lload_n 2, 1) := dk_32 (dk_at dksX4_mayShift_1 12 rfl rfl)
theorem dX4_mayShift_37 : decode cX4_mayShift 37 = .ok (.ladd, 1) := dk_97 (dk_at dksX4_mayShift_1 13 rfl rfl)
theorem dX4_mayShift_38 : decode cX4_mayShift 38 = .ok (.ldc2_w 188, 3) := dk_20 0 188 (dk_at dksX4_mayShift_1 14 rfl rfl)
theorem dX4_mayShift_41 : decode cX4_mayShift 41 = .ok (.lcmp, 1) := dk_148 (dk_at dksX4_mayShift_1 17 rfl rfl)
theorem dX4_mayShift_42 : decode cX4_mayShift 42 = .ok (.ifCond .gt 7, 3) := dk_157 0 7 (dk_at dksX4_mayShift_1 18 rfl rfl)
theorem dX4_mayShift_45 : decode cX4_mayShift 45 = .ok (.iconst 1, 1) := dk_4 (dk_at dksX4_mayShift_1 21 rfl rfl)
theorem dX4_mayShift_46 : decode cX4_mayShift 46 = .ok (.goto 4, 3) := dk_167 0 4 (dk_at dksX4_mayShift_2 0 rfl rfl)
theorem dX4_mayShift_49 : decode cX4_mayShift 49 = .ok (.iconst 0, 1) := dk_3 (dk_at dksX4_mayShift_2 3 rfl rfl)
theorem dX4_mayShift_50 : decode cX4_mayShift 50 = .ok (.ireturn, 1) := dk_172 (dk_at dksX4_mayShift_2 4 rfl rfl)
abbrev cX4_shifts : ByteArray := prog_21_method_25_code
def yX4_shifts : MethodName := ⟨RX4, "shifts", "(II)V"⟩
def dkwX4_shifts_1 : List UInt8 := [28, 96, 79, 132, 3, 1, 167, 255, 228, 177]
abbrev dktX4_shifts_1 : List UInt8 := dkwX4_shifts_1 ++ []
def dkwX4_shifts_0 : List UInt8 := [3, 62, 29, 42, 180, 0, 27, 27, 46, 162, 0, 24, 42, 180, 0, 30, 16, 6, 27, 104, 29, 96, 92, 46]
abbrev dktX4_shifts_0 : List UInt8 := dkwX4_shifts_0 ++ dktX4_shifts_1
theorem dksX4_shifts_0 : cX4_shifts.data.toList.drop 0 = dktX4_shifts_0 := by decide +kernel
theorem dksX4_shifts_1 : cX4_shifts.data.toList.drop 24 = dktX4_shifts_1 := dk_seg dksX4_shifts_0 24 rfl rfl
theorem dX4_shifts_0 : decode cX4_shifts 0 = .ok (.iconst 0, 1) := dk_3 (dk_at dksX4_shifts_0 0 rfl rfl)
theorem dX4_shifts_1 : decode cX4_shifts 1 = .ok (.istore_n 3, 1) := dk_62 (dk_at dksX4_shifts_0 1 rfl rfl)
theorem dX4_shifts_2 : decode cX4_shifts 2 = .ok (.iload_n 3, 1) := dk_29 (dk_at dksX4_shifts_0 2 rfl rfl)
theorem dX4_shifts_3 : decode cX4_shifts 3 = .ok (.aload_n 0, 1) := dk_42 (dk_at dksX4_shifts_0 3 rfl rfl)
theorem dX4_shifts_4 : decode cX4_shifts 4 = .ok (.getfield 27, 3) := dk_180 0 27 (dk_at dksX4_shifts_0 4 rfl rfl)
theorem dX4_shifts_7 : decode cX4_shifts 7 = .ok (.iload_n 1, 1) := dk_27 (dk_at dksX4_shifts_0 7 rfl rfl)
theorem dX4_shifts_8 : decode cX4_shifts 8 = .ok (.iaload, 1) := dk_46 (dk_at dksX4_shifts_0 8 rfl rfl)
theorem dX4_shifts_9 : decode cX4_shifts 9 = .ok (.if_icmp .ge 24, 3) := dk_162 0 24 (dk_at dksX4_shifts_0 9 rfl rfl)
theorem dX4_shifts_12 : decode cX4_shifts 12 = .ok (.aload_n 0, 1) := dk_42 (dk_at dksX4_shifts_0 12 rfl rfl)
theorem dX4_shifts_13 : decode cX4_shifts 13 = .ok (.getfield 30, 3) := dk_180 0 30 (dk_at dksX4_shifts_0 13 rfl rfl)
theorem dX4_shifts_16 : decode cX4_shifts 16 = .ok (.bipush 6, 2) := dk_16 6 (dk_at dksX4_shifts_0 16 rfl rfl)
theorem dX4_shifts_18 : decode cX4_shifts 18 = .ok (.iload_n 1, 1) := dk_27 (dk_at dksX4_shifts_0 18 rfl rfl)
theorem dX4_shifts_19 : decode cX4_shifts 19 = .ok (.imul, 1) := dk_104 (dk_at dksX4_shifts_0 19 rfl rfl)
theorem dX4_shifts_20 : decode cX4_shifts 20 = .ok (.iload_n 3, 1) := dk_29 (dk_at dksX4_shifts_0 20 rfl rfl)
theorem dX4_shifts_21 : decode cX4_shifts 21 = .ok (.iadd, 1) := dk_96 (dk_at dksX4_shifts_0 21 rfl rfl)
theorem dX4_shifts_22 : decode cX4_shifts 22 = .ok (.dup2, 1) := dk_92 (dk_at dksX4_shifts_0 22 rfl rfl)
theorem dX4_shifts_23 : decode cX4_shifts 23 = .ok (.iaload, 1) := dk_46 (dk_at dksX4_shifts_0 23 rfl rfl)
theorem dX4_shifts_24 : decode cX4_shifts 24 = .ok (.iload_n 2, 1) := dk_28 (dk_at dksX4_shifts_1 0 rfl rfl)
theorem dX4_shifts_25 : decode cX4_shifts 25 = .ok (.iadd, 1) := dk_96 (dk_at dksX4_shifts_1 1 rfl rfl)
theorem dX4_shifts_26 : decode cX4_shifts 26 = .ok (.iastore, 1) := dk_79 (dk_at dksX4_shifts_1 2 rfl rfl)
theorem dX4_shifts_27 : decode cX4_shifts 27 = .ok (.iinc 3 1, 3) := dk_132 3 1 (dk_at dksX4_shifts_1 3 rfl rfl)
theorem dX4_shifts_30 : decode cX4_shifts 30 = .ok (.goto (-28), 3) := dk_167 255 228 (dk_at dksX4_shifts_1 6 rfl rfl)
theorem dX4_shifts_33 : decode cX4_shifts 33 = .ok (.return_, 1) := dk_177 (dk_at dksX4_shifts_1 9 rfl rfl)
abbrev cX4_transpose : ByteArray := prog_21_method_27_code
def yX4_transpose : MethodName := ⟨RX4, "transpose", "(II)I"⟩
def dkwX4_transpose_4 : List UInt8 := [167, 255, 188, 29, 172]
abbrev dktX4_transpose_4 : List UInt8 := dkwX4_transpose_4 ++ []
def dkwX4_transpose_3 : List UInt8 := [16, 244, 182, 0, 211, 54, 6, 29, 172, 42, 21, 5, 28, 182, 0, 227, 132, 3, 1, 132, 4, 1]
abbrev dktX4_transpose_3 : List UInt8 := dkwX4_transpose_3 ++ dktX4_transpose_4
def dkwX4_transpose_2 : List UInt8 := [54, 5, 42, 21, 5, 182, 0, 214, 153, 0, 34, 42, 21, 5, 28, 133, 182, 0, 223, 154, 0, 13, 42]
abbrev dktX4_transpose_2 : List UInt8 := dkwX4_transpose_2 ++ dktX4_transpose_3
def dkwX4_transpose_1 : List UInt8 := [21, 4, 42, 180, 0, 45, 27, 46, 162, 0, 63, 42, 180, 0, 42, 16, 40, 27, 104, 21, 4, 96, 46]
abbrev dktX4_transpose_1 : List UInt8 := dkwX4_transpose_1 ++ dktX4_transpose_2
def dkwX4_transpose_0 : List UInt8 := [42, 182, 0, 144, 42, 27, 182, 0, 184, 154, 0, 10, 42, 16, 254, 182, 0, 130, 172, 3, 62, 3, 54, 4]
abbrev dktX4_transpose_0 : List UInt8 := dkwX4_transpose_0 ++ dktX4_transpose_1
theorem dksX4_transpose_0 : cX4_transpose.data.toList.drop 0 = dktX4_transpose_0 := by decide +kernel
theorem dksX4_transpose_1 : cX4_transpose.data.toList.drop 24 = dktX4_transpose_1 := dk_seg dksX4_transpose_0 24 rfl rfl
theorem dksX4_transpose_2 : cX4_transpose.data.toList.drop 47 = dktX4_transpose_2 := dk_seg dksX4_transpose_1 23 rfl rfl
theorem dksX4_transpose_3 : cX4_transpose.data.toList.drop 70 = dktX4_transpose_3 := dk_seg dksX4_transpose_2 23 rfl rfl
theorem dksX4_transpose_4 : cX4_transpose.data.toList.drop 92 = dktX4_transpose_4 := dk_seg dksX4_transpose_3 22 rfl rfl
theorem dX4_transpose_0 : decode cX4_transpose 0 = .ok (.aload_n 0, 1) := dk_42 (dk_at dksX4_transpose_0 0 rfl rfl)
theorem dX4_transpose_1 : decode cX4_transpose 1 = .ok (.invokevirtual 144, 3) := dk_182 0 144 (dk_at dksX4_transpose_0 1 rfl rfl)
theorem dX4_transpose_4 : decode cX4_transpose 4 = .ok (.aload_n 0, 1) := dk_42 (dk_at dksX4_transpose_0 4 rfl rfl)
theorem dX4_transpose_5 : decode cX4_transpose 5 = .ok (.iload_n 1, 1) := dk_27 (dk_at dksX4_transpose_0 5 rfl rfl)
theorem dX4_transpose_6 : decode cX4_transpose 6 = .ok (.invokevirtual 184, 3) := dk_182 0 184 (dk_at dksX4_transpose_0 6 rfl rfl)
theorem dX4_transpose_9 : decode cX4_transpose 9 = .ok (.ifCond .ne 10, 3) := dk_154 0 10 (dk_at dksX4_transpose_0 9 rfl rfl)
theorem dX4_transpose_12 : decode cX4_transpose 12 = .ok (.aload_n 0, 1) := dk_42 (dk_at dksX4_transpose_0 12 rfl rfl)
theorem dX4_transpose_13 : decode cX4_transpose 13 = .ok (.bipush (-2), 2) := dk_16 254 (dk_at dksX4_transpose_0 13 rfl rfl)
theorem dX4_transpose_15 : decode cX4_transpose 15 = .ok (.invokevirtual 130, 3) := dk_182 0 130 (dk_at dksX4_transpose_0 15 rfl rfl)
theorem dX4_transpose_18 : decode cX4_transpose 18 = .ok (.ireturn, 1) := dk_172 (dk_at dksX4_transpose_0 18 rfl rfl)
theorem dX4_transpose_19 : decode cX4_transpose 19 = .ok (.iconst 0, 1) := dk_3 (dk_at dksX4_transpose_0 19 rfl rfl)
theorem dX4_transpose_20 : decode cX4_transpose 20 = .ok (.istore_n 3, 1) := dk_62 (dk_at dksX4_transpose_0 20 rfl rfl)
theorem dX4_transpose_21 : decode cX4_transpose 21 = .ok (.iconst 0, 1) := dk_3 (dk_at dksX4_transpose_0 21 rfl rfl)
theorem dX4_transpose_22 : decode cX4_transpose 22 = .ok (.istore 4, 2) := dk_54 4 (dk_at dksX4_transpose_0 22 rfl rfl)
theorem dX4_transpose_24 : decode cX4_transpose 24 = .ok (.iload 4, 2) := dk_21 4 (dk_at dksX4_transpose_1 0 rfl rfl)
theorem dX4_transpose_26 : decode cX4_transpose 26 = .ok (.aload_n 0, 1) := dk_42 (dk_at dksX4_transpose_1 2 rfl rfl)
theorem dX4_transpose_27 : decode cX4_transpose 27 = .ok (.getfield 45, 3) := dk_180 0 45 (dk_at dksX4_transpose_1 3 rfl rfl)
theorem dX4_transpose_30 : decode cX4_transpose 30 = .ok (.iload_n 1, 1) := dk_27 (dk_at dksX4_transpose_1 6 rfl rfl)
theorem dX4_transpose_31 : decode cX4_transpose 31 = .ok (.iaload, 1) := dk_46 (dk_at dksX4_transpose_1 7 rfl rfl)
theorem dX4_transpose_32 : decode cX4_transpose 32 = .ok (.if_icmp .ge 63, 3) := dk_162 0 63 (dk_at dksX4_transpose_1 8 rfl rfl)
theorem dX4_transpose_35 : decode cX4_transpose 35 = .ok (.aload_n 0, 1) := dk_42 (dk_at dksX4_transpose_1 11 rfl rfl)
theorem dX4_transpose_36 : decode cX4_transpose 36 = .ok (.getfield 42, 3) := dk_180 0 42 (dk_at dksX4_transpose_1 12 rfl rfl)
theorem dX4_transpose_39 : decode cX4_transpose 39 = .ok (.bipush 40, 2) := dk_16 40 (dk_at dksX4_transpose_1 15 rfl rfl)
theorem dX4_transpose_41 : decode cX4_transpose 41 = .ok (.iload_n 1, 1) := dk_27 (dk_at dksX4_transpose_1 17 rfl rfl)
theorem dX4_transpose_42 : decode cX4_transpose 42 = .ok (.imul, 1) := dk_104 (dk_at dksX4_transpose_1 18 rfl rfl)
theorem dX4_transpose_43 : decode cX4_transpose 43 = .ok (.iload 4, 2) := dk_21 4 (dk_at dksX4_transpose_1 19 rfl rfl)
theorem dX4_transpose_45 : decode cX4_transpose 45 = .ok (.iadd, 1) := dk_96 (dk_at dksX4_transpose_1 21 rfl rfl)
theorem dX4_transpose_46 : decode cX4_transpose 46 = .ok (.iaload, 1) := dk_46 (dk_at dksX4_transpose_1 22 rfl rfl)
theorem dX4_transpose_47 : decode cX4_transpose 47 = .ok (.istore 5, 2) := dk_54 5 (dk_at dksX4_transpose_2 0 rfl rfl)
theorem dX4_transpose_49 : decode cX4_transpose 49 = .ok (.aload_n 0, 1) := dk_42 (dk_at dksX4_transpose_2 2 rfl rfl)
theorem dX4_transpose_50 : decode cX4_transpose 50 = .ok (.iload 5, 2) := dk_21 5 (dk_at dksX4_transpose_2 3 rfl rfl)
theorem dX4_transpose_52 : decode cX4_transpose 52 = .ok (.invokevirtual 214, 3) := dk_182 0 214 (dk_at dksX4_transpose_2 5 rfl rfl)
theorem dX4_transpose_55 : decode cX4_transpose 55 = .ok (.ifCond .eq 34, 3) := dk_153 0 34 (dk_at dksX4_transpose_2 8 rfl rfl)
theorem dX4_transpose_58 : decode cX4_transpose 58 = .ok (.aload_n 0, 1) := dk_42 (dk_at dksX4_transpose_2 11 rfl rfl)
theorem dX4_transpose_59 : decode cX4_transpose 59 = .ok (.iload 5, 2) := dk_21 5 (dk_at dksX4_transpose_2 12 rfl rfl)
theorem dX4_transpose_61 : decode cX4_transpose 61 = .ok (.iload_n 2, 1) := dk_28 (dk_at dksX4_transpose_2 14 rfl rfl)
theorem dX4_transpose_62 : decode cX4_transpose 62 = .ok (.i2l, 1) := dk_133 (dk_at dksX4_transpose_2 15 rfl rfl)
theorem dX4_transpose_63 : decode cX4_transpose 63 = .ok (.invokevirtual 223, 3) := dk_182 0 223 (dk_at dksX4_transpose_2 16 rfl rfl)
theorem dX4_transpose_66 : decode cX4_transpose 66 = .ok (.ifCond .ne 13, 3) := dk_154 0 13 (dk_at dksX4_transpose_2 19 rfl rfl)
theorem dX4_transpose_69 : decode cX4_transpose 69 = .ok (.aload_n 0, 1) := dk_42 (dk_at dksX4_transpose_2 22 rfl rfl)
theorem dX4_transpose_70 : decode cX4_transpose 70 = .ok (.bipush (-12), 2) := dk_16 244 (dk_at dksX4_transpose_3 0 rfl rfl)
theorem dX4_transpose_72 : decode cX4_transpose 72 = .ok (.invokevirtual 211, 3) := dk_182 0 211 (dk_at dksX4_transpose_3 2 rfl rfl)
theorem dX4_transpose_75 : decode cX4_transpose 75 = .ok (.istore 6, 2) := dk_54 6 (dk_at dksX4_transpose_3 5 rfl rfl)
theorem dX4_transpose_77 : decode cX4_transpose 77 = .ok (.iload_n 3, 1) := dk_29 (dk_at dksX4_transpose_3 7 rfl rfl)
theorem dX4_transpose_78 : decode cX4_transpose 78 = .ok (.ireturn, 1) := dk_172 (dk_at dksX4_transpose_3 8 rfl rfl)
theorem dX4_transpose_79 : decode cX4_transpose 79 = .ok (.aload_n 0, 1) := dk_42 (dk_at dksX4_transpose_3 9 rfl rfl)
theorem dX4_transpose_80 : decode cX4_transpose 80 = .ok (.iload 5, 2) := dk_21 5 (dk_at dksX4_transpose_3 10 rfl rfl)
theorem dX4_transpose_82 : decode cX4_transpose 82 = .ok (.iload_n 2, 1) := dk_28 (dk_at dksX4_transpose_3 12 rfl rfl)
theorem dX4_transpose_83 : decode cX4_transpose 83 = .ok (.invokevirtual 227, 3) := dk_182 0 227 (dk_at dksX4_transpose_3 13 rfl rfl)
theorem dX4_transpose_86 : decode cX4_transpose 86 = .ok (.iinc 3 1, 3) := dk_132 3 1 (dk_at dksX4_transpose_3 16 rfl rfl)
theorem dX4_transpose_89 : decode cX4_transpose 89 = .ok (.iinc 4 1, 3) := dk_132 4 1 (dk_at dksX4_transpose_3 19 rfl rfl)
theorem dX4_transpose_92 : decode cX4_transpose 92 = .ok (.goto (-68), 3) := dk_167 255 188 (dk_at dksX4_transpose_4 0 rfl rfl)
theorem dX4_transpose_95 : decode cX4_transpose 95 = .ok (.iload_n 3, 1) := dk_29 (dk_at dksX4_transpose_4 3 rfl rfl)
theorem dX4_transpose_96 : decode cX4_transpose 96 = .ok (.ireturn, 1) := dk_172 (dk_at dksX4_transpose_4 4 rfl rfl)
abbrev cX4_tie : ByteArray := prog_21_method_28_code
def yX4_tie : MethodName := ⟨RX4, "tie", "(IZ)I"⟩
def dkwX4_tie_2 : List UInt8 := [62, 42, 180, 0, 39, 27, 28, 84, 29, 172]
abbrev dktX4_tie_2 : List UInt8 := dkwX4_tie_2 ++ []
def dkwX4_tie_1 : List UInt8 := [154, 0, 10, 42, 16, 243, 182, 0, 211, 172, 42, 180, 0, 39, 27, 51, 153, 0, 7, 4, 167, 0, 4, 3]
abbrev dktX4_tie_1 : List UInt8 := dkwX4_tie_1 ++ dktX4_tie_2
def dkwX4_tie_0 : List UInt8 := [42, 182, 0, 144, 42, 27, 182, 0, 193, 154, 0, 10, 42, 16, 254, 182, 0, 130, 172, 42, 27, 182, 0, 214]
abbrev dktX4_tie_0 : List UInt8 := dkwX4_tie_0 ++ dktX4_tie_1
theorem dksX4_tie_0 : cX4_tie.data.toList.drop 0 = dktX4_tie_0 := by decide +kernel
theorem dksX4_tie_1 : cX4_tie.data.toList.drop 24 = dktX4_tie_1 := dk_seg dksX4_tie_0 24 rfl rfl
theorem dksX4_tie_2 : cX4_tie.data.toList.drop 48 = dktX4_tie_2 := dk_seg dksX4_tie_1 24 rfl rfl
theorem dX4_tie_0 : decode cX4_tie 0 = .ok (.aload_n 0, 1) := dk_42 (dk_at dksX4_tie_0 0 rfl rfl)
theorem dX4_tie_1 : decode cX4_tie 1 = .ok (.invokevirtual 144, 3) := dk_182 0 144 (dk_at dksX4_tie_0 1 rfl rfl)
theorem dX4_tie_4 : decode cX4_tie 4 = .ok (.aload_n 0, 1) := dk_42 (dk_at dksX4_tie_0 4 rfl rfl)
theorem dX4_tie_5 : decode cX4_tie 5 = .ok (.iload_n 1, 1) := dk_27 (dk_at dksX4_tie_0 5 rfl rfl)
theorem dX4_tie_6 : decode cX4_tie 6 = .ok (.invokevirtual 193, 3) := dk_182 0 193 (dk_at dksX4_tie_0 6 rfl rfl)
theorem dX4_tie_9 : decode cX4_tie 9 = .ok (.ifCond .ne 10, 3) := dk_154 0 10 (dk_at dksX4_tie_0 9 rfl rfl)
theorem dX4_tie_12 : decode cX4_tie 12 = .ok (.aload_n 0, 1) := dk_42 (dk_at dksX4_tie_0 12 rfl rfl)
theorem dX4_tie_13 : decode cX4_tie 13 = .ok (.bipush (-2), 2) := dk_16 254 (dk_at dksX4_tie_0 13 rfl rfl)
theorem dX4_tie_15 : decode cX4_tie 15 = .ok (.invokevirtual 130, 3) := dk_182 0 130 (dk_at dksX4_tie_0 15 rfl rfl)
theorem dX4_tie_18 : decode cX4_tie 18 = .ok (.ireturn, 1) := dk_172 (dk_at dksX4_tie_0 18 rfl rfl)
theorem dX4_tie_19 : decode cX4_tie 19 = .ok (.aload_n 0, 1) := dk_42 (dk_at dksX4_tie_0 19 rfl rfl)
theorem dX4_tie_20 : decode cX4_tie 20 = .ok (.iload_n 1, 1) := dk_27 (dk_at dksX4_tie_0 20 rfl rfl)
theorem dX4_tie_21 : decode cX4_tie 21 = .ok (.invokevirtual 214, 3) := dk_182 0 214 (dk_at dksX4_tie_0 21 rfl rfl)
theorem dX4_tie_24 : decode cX4_tie 24 = .ok (.ifCond .ne 10, 3) := dk_154 0 10 (dk_at dksX4_tie_1 0 rfl rfl)
theorem dX4_tie_27 : decode cX4_tie 27 = .ok (.aload_n 0, 1) := dk_42 (dk_at dksX4_tie_1 3 rfl rfl)
theorem dX4_tie_28 : decode cX4_tie 28 = .ok (.bipush (-13), 2) := dk_16 243 (dk_at dksX4_tie_1 4 rfl rfl)
theorem dX4_tie_30 : decode cX4_tie 30 = .ok (.invokevirtual 211, 3) := dk_182 0 211 (dk_at dksX4_tie_1 6 rfl rfl)
theorem dX4_tie_33 : decode cX4_tie 33 = .ok (.ireturn, 1) := dk_172 (dk_at dksX4_tie_1 9 rfl rfl)
theorem dX4_tie_34 : decode cX4_tie 34 = .ok (.aload_n 0, 1) := dk_42 (dk_at dksX4_tie_1 10 rfl rfl)
theorem dX4_tie_35 : decode cX4_tie 35 = .ok (.getfield 39, 3) := dk_180 0 39 (dk_at dksX4_tie_1 11 rfl rfl)
theorem dX4_tie_38 : decode cX4_tie 38 = .ok (.iload_n 1, 1) := dk_27 (dk_at dksX4_tie_1 14 rfl rfl)
theorem dX4_tie_39 : decode cX4_tie 39 = .ok (.baload, 1) := dk_51 (dk_at dksX4_tie_1 15 rfl rfl)
theorem dX4_tie_40 : decode cX4_tie 40 = .ok (.ifCond .eq 7, 3) := dk_153 0 7 (dk_at dksX4_tie_1 16 rfl rfl)
theorem dX4_tie_43 : decode cX4_tie 43 = .ok (.iconst 1, 1) := dk_4 (dk_at dksX4_tie_1 19 rfl rfl)
theorem dX4_tie_44 : decode cX4_tie 44 = .ok (.goto 4, 3) := dk_167 0 4 (dk_at dksX4_tie_1 20 rfl rfl)
theorem dX4_tie_47 : decode cX4_tie 47 = .ok (.iconst 0, 1) := dk_3 (dk_at dksX4_tie_1 23 rfl rfl)
theorem dX4_tie_48 : decode cX4_tie 48 = .ok (.istore_n 3, 1) := dk_62 (dk_at dksX4_tie_2 0 rfl rfl)
theorem dX4_tie_49 : decode cX4_tie 49 = .ok (.aload_n 0, 1) := dk_42 (dk_at dksX4_tie_2 1 rfl rfl)
theorem dX4_tie_50 : decode cX4_tie 50 = .ok (.getfield 39, 3) := dk_180 0 39 (dk_at dksX4_tie_2 2 rfl rfl)
theorem dX4_tie_53 : decode cX4_tie 53 = .ok (.iload_n 1, 1) := dk_27 (dk_at dksX4_tie_2 5 rfl rfl)
theorem dX4_tie_54 : decode cX4_tie 54 = .ok (.iload_n 2, 1) := dk_28 (dk_at dksX4_tie_2 6 rfl rfl)
theorem dX4_tie_55 : decode cX4_tie 55 = .ok (.bastore, 1) := dk_84 (dk_at dksX4_tie_2 7 rfl rfl)
theorem dX4_tie_56 : decode cX4_tie 56 = .ok (.iload_n 3, 1) := dk_29 (dk_at dksX4_tie_2 8 rfl rfl)
theorem dX4_tie_57 : decode cX4_tie 57 = .ok (.ireturn, 1) := dk_172 (dk_at dksX4_tie_2 9 rfl rfl)
abbrev cX4_value : ByteArray := prog_21_method_29_code
def yX4_value : MethodName := ⟨RX4, "value", "(III)I"⟩
def dkwX4_value_2 : List UInt8 := [28, 79, 42, 180, 0, 36, 27, 29, 79, 4, 172]
abbrev dktX4_value_2 : List UInt8 := dkwX4_value_2 ++ []
def dkwX4_value_1 : List UInt8 := [29, 133, 9, 20, 0, 170, 184, 0, 137, 154, 0, 10, 42, 16, 254, 182, 0, 130, 172, 42, 180, 0, 33, 27]
abbrev dktX4_value_1 : List UInt8 := dkwX4_value_1 ++ dktX4_value_2
def dkwX4_value_0 : List UInt8 := [42, 182, 0, 144, 42, 27, 182, 0, 193, 153, 0, 27, 28, 133, 9, 20, 0, 147, 184, 0, 137, 153, 0, 15]
abbrev dktX4_value_0 : List UInt8 := dkwX4_value_0 ++ dktX4_value_1
theorem dksX4_value_0 : cX4_value.data.toList.drop 0 = dktX4_value_0 := by decide +kernel
theorem dksX4_value_1 : cX4_value.data.toList.drop 24 = dktX4_value_1 := dk_seg dksX4_value_0 24 rfl rfl
theorem dksX4_value_2 : cX4_value.data.toList.drop 48 = dktX4_value_2 := dk_seg dksX4_value_1 24 rfl rfl
theorem dX4_value_0 : decode cX4_value 0 = .ok (.aload_n 0, 1) := dk_42 (dk_at dksX4_value_0 0 rfl rfl)
theorem dX4_value_1 : decode cX4_value 1 = .ok (.invokevirtual 144, 3) := dk_182 0 144 (dk_at dksX4_value_0 1 rfl rfl)
theorem dX4_value_4 : decode cX4_value 4 = .ok (.aload_n 0, 1) := dk_42 (dk_at dksX4_value_0 4 rfl rfl)
theorem dX4_value_5 : decode cX4_value 5 = .ok (.iload_n 1, 1) := dk_27 (dk_at dksX4_value_0 5 rfl rfl)
theorem dX4_value_6 : decode cX4_value 6 = .ok (.invokevirtual 193, 3) := dk_182 0 193 (dk_at dksX4_value_0 6 rfl rfl)
theorem dX4_value_9 : decode cX4_value 9 = .ok (.ifCond .eq 27, 3) := dk_153 0 27 (dk_at dksX4_value_0 9 rfl rfl)
theorem dX4_value_12 : decode cX4_value 12 = .ok (.iload_n 2, 1) := dk_28 (dk_at dksX4_value_0 12 rfl rfl)
theorem dX4_value_13 : decode cX4_value 13 = .ok (.i2l, 1) := dk_133 (dk_at dksX4_value_0 13 rfl rfl)
theorem dX4_value_14 : decode cX4_value 14 = .ok (.lconst 0, 1) := dk_9 (dk_at dksX4_value_0 14 rfl rfl)
theorem dX4_value_15 : decode cX4_value 15 = .ok (.ldc2_w 147, 3) := dk_20 0 147 (dk_at dksX4_value_0 15 rfl rfl)
theorem dX4_value_18 : decode cX4_value 18 = .ok (.invokestatic 137, 3) := dk_184 0 137 (dk_at dksX4_value_0 18 rfl rfl)
theorem dX4_value_21 : decode cX4_value 21 = .ok (.ifCond .eq 15, 3) := dk_153 0 15 (dk_at dksX4_value_0 21 rfl rfl)
theorem dX4_value_24 : decode cX4_value 24 = .ok (.iload_n 3, 1) := dk_29 (dk_at dksX4_value_1 0 rfl rfl)
theorem dX4_value_25 : decode cX4_value 25 = .ok (.i2l, 1) := dk_133 (dk_at dksX4_value_1 1 rfl rfl)
theorem dX4_value_26 : decode cX4_value 26 = .ok (.lconst 0, 1) := dk_9 (dk_at dksX4_value_1 2 rfl rfl)
theorem dX4_value_27 : decode cX4_value 27 = .ok (.ldc2_w 170, 3) := dk_20 0 170 (dk_at dksX4_value_1 3 rfl rfl)
theorem dX4_value_30 : decode cX4_value 30 = .ok (.invokestatic 137, 3) := dk_184 0 137 (dk_at dksX4_value_1 6 rfl rfl)
theorem dX4_value_33 : decode cX4_value 33 = .ok (.ifCond .ne 10, 3) := dk_154 0 10 (dk_at dksX4_value_1 9 rfl rfl)
theorem dX4_value_36 : decode cX4_value 36 = .ok (.aload_n 0, 1) := dk_42 (dk_at dksX4_value_1 12 rfl rfl)
theorem dX4_value_37 : decode cX4_value 37 = .ok (.bipush (-2), 2) := dk_16 254 (dk_at dksX4_value_1 13 rfl rfl)
theorem dX4_value_39 : decode cX4_value 39 = .ok (.invokevirtual 130, 3) := dk_182 0 130 (dk_at dksX4_value_1 15 rfl rfl)
theorem dX4_value_42 : decode cX4_value 42 = .ok (.ireturn, 1) := dk_172 (dk_at dksX4_value_1 18 rfl rfl)
theorem dX4_value_43 : decode cX4_value 43 = .ok (.aload_n 0, 1) := dk_42 (dk_at dksX4_value_1 19 rfl rfl)
theorem dX4_value_44 : decode cX4_value 44 = .ok (.getfield 33, 3) := dk_180 0 33 (dk_at dksX4_value_1 20 rfl rfl)
theorem dX4_value_47 : decode cX4_value 47 = .ok (.iload_n 1, 1) := dk_27 (dk_at dksX4_value_1 23 rfl rfl)
theorem dX4_value_48 : decode cX4_value 48 = .ok (.iload_n 2, 1) := dk_28 (dk_at dksX4_value_2 0 rfl rfl)
theorem dX4_value_49 : decode cX4_value 49 = .ok (.iastore, 1) := dk_79 (dk_at dksX4_value_2 1 rfl rfl)
theorem dX4_value_50 : decode cX4_value 50 = .ok (.aload_n 0, 1) := dk_42 (dk_at dksX4_value_2 2 rfl rfl)
theorem dX4_value_51 : decode cX4_value 51 = .ok (.getfield 36, 3) := dk_180 0 36 (dk_at dksX4_value_2 3 rfl rfl)
theorem dX4_value_54 : decode cX4_value 54 = .ok (.iload_n 1, 1) := dk_27 (dk_at dksX4_value_2 6 rfl rfl)
theorem dX4_value_55 : decode cX4_value 55 = .ok (.iload_n 3, 1) := dk_29 (dk_at dksX4_value_2 7 rfl rfl)
theorem dX4_value_56 : decode cX4_value 56 = .ok (.iastore, 1) := dk_79 (dk_at dksX4_value_2 8 rfl rfl)
theorem dX4_value_57 : decode cX4_value 57 = .ok (.iconst 1, 1) := dk_4 (dk_at dksX4_value_2 9 rfl rfl)
theorem dX4_value_58 : decode cX4_value 58 = .ok (.ireturn, 1) := dk_172 (dk_at dksX4_value_2 10 rfl rfl)
abbrev cX4_at : ByteArray := prog_21_method_39_code
def yX4_at : MethodName := ⟨RX4, "at", "(II)I"⟩
def dkwX4_at_5 : List UInt8 := [42, 42, 27, 182, 1, 2, 182, 1, 5, 172, 42, 180, 0, 33, 27, 46, 172, 42, 180, 0, 36, 27, 46, 172]
abbrev dktX4_at_5 : List UInt8 := dkwX4_at_5 ++ []
def dkwX4_at_4 : List UInt8 := [27, 46, 172, 42, 180, 0, 39, 27, 51, 153, 0, 7, 4, 167, 0, 4, 3, 172, 42, 27, 182, 0, 255, 172]
abbrev dktX4_at_4 : List UInt8 := dkwX4_at_4 ++ dktX4_at_5
def dkwX4_at_3 : List UInt8 := [42, 180, 0, 21, 27, 46, 172, 42, 27, 182, 0, 196, 172, 42, 180, 0, 24, 27, 46, 172, 42, 180, 0, 27]
abbrev dktX4_at_3 : List UInt8 := dkwX4_at_3 ++ dktX4_at_4
def dkwX4_at_2 : List UInt8 := [170, 0, 0, 0, 0, 0, 0, 113, 0, 0, 0, 0, 0, 0, 0, 7, 0, 0, 0, 48, 0, 0, 0, 55, 0, 0, 0, 61, 0, 0, 0, 68, 0, 0, 0, 75, 0, 0, 0, 90, 0, 0, 0, 96, 0, 0, 0, 106]
abbrev dktX4_at_2 : List UInt8 := dkwX4_at_2 ++ dktX4_at_3
def dkwX4_at_1 : List UInt8 := [42, 16, 254, 182, 0, 130, 172, 28]
abbrev dktX4_at_1 : List UInt8 := dkwX4_at_1 ++ dktX4_at_2
def dkwX4_at_0 : List UInt8 := [42, 182, 0, 144, 42, 27, 182, 0, 193, 153, 0, 15, 28, 133, 9, 20, 0, 253, 184, 0, 137, 154, 0, 10]
abbrev dktX4_at_0 : List UInt8 := dkwX4_at_0 ++ dktX4_at_1
theorem dksX4_at_0 : cX4_at.data.toList.drop 0 = dktX4_at_0 := by decide +kernel
theorem dksX4_at_1 : cX4_at.data.toList.drop 24 = dktX4_at_1 := dk_seg dksX4_at_0 24 rfl rfl
theorem dksX4_at_2 : cX4_at.data.toList.drop 32 = dktX4_at_2 := dk_seg dksX4_at_1 8 rfl rfl
theorem dksX4_at_3 : cX4_at.data.toList.drop 80 = dktX4_at_3 := dk_seg dksX4_at_2 48 rfl rfl
theorem dksX4_at_4 : cX4_at.data.toList.drop 104 = dktX4_at_4 := dk_seg dksX4_at_3 24 rfl rfl
theorem dksX4_at_5 : cX4_at.data.toList.drop 128 = dktX4_at_5 := dk_seg dksX4_at_4 24 rfl rfl
theorem dX4_at_0 : decode cX4_at 0 = .ok (.aload_n 0, 1) := dk_42 (dk_at dksX4_at_0 0 rfl rfl)
theorem dX4_at_1 : decode cX4_at 1 = .ok (.invokevirtual 144, 3) := dk_182 0 144 (dk_at dksX4_at_0 1 rfl rfl)
theorem dX4_at_4 : decode cX4_at 4 = .ok (.aload_n 0, 1) := dk_42 (dk_at dksX4_at_0 4 rfl rfl)
theorem dX4_at_5 : decode cX4_at 5 = .ok (.iload_n 1, 1) := dk_27 (dk_at dksX4_at_0 5 rfl rfl)
theorem dX4_at_6 : decode cX4_at 6 = .ok (.invokevirtual 193, 3) := dk_182 0 193 (dk_at dksX4_at_0 6 rfl rfl)
theorem dX4_at_9 : decode cX4_at 9 = .ok (.ifCond .eq 15, 3) := dk_153 0 15 (dk_at dksX4_at_0 9 rfl rfl)
theorem dX4_at_12 : decode cX4_at 12 = .ok (.iload_n 2, 1) := dk_28 (dk_at dksX4_at_0 12 rfl rfl)
theorem dX4_at_13 : decode cX4_at 13 = .ok (.i2l, 1) := dk_133 (dk_at dksX4_at_0 13 rfl rfl)
theorem dX4_at_14 : decode cX4_at 14 = .ok (.lconst 0, 1) := dk_9 (dk_at dksX4_at_0 14 rfl rfl)
theorem dX4_at_15 : decode cX4_at 15 = .ok (.ldc2_w 253, 3) := dk_20 0 253 (dk_at dksX4_at_0 15 rfl rfl)
theorem dX4_at_18 : decode cX4_at 18 = .ok (.invokestatic 137, 3) := dk_184 0 137 (dk_at dksX4_at_0 18 rfl rfl)
theorem dX4_at_21 : decode cX4_at 21 = .ok (.ifCond .ne 10, 3) := dk_154 0 10 (dk_at dksX4_at_0 21 rfl rfl)
theorem dX4_at_24 : decode cX4_at 24 = .ok (.aload_n 0, 1) := dk_42 (dk_at dksX4_at_1 0 rfl rfl)
theorem dX4_at_25 : decode cX4_at 25 = .ok (.bipush (-2), 2) := dk_16 254 (dk_at dksX4_at_1 1 rfl rfl)
theorem dX4_at_27 : decode cX4_at 27 = .ok (.invokevirtual 130, 3) := dk_182 0 130 (dk_at dksX4_at_1 3 rfl rfl)
theorem dX4_at_30 : decode cX4_at 30 = .ok (.ireturn, 1) := dk_172 (dk_at dksX4_at_1 6 rfl rfl)
theorem dX4_at_31 : decode cX4_at 31 = .ok (.iload_n 2, 1) := dk_28 (dk_at dksX4_at_1 7 rfl rfl)
theorem dX4_at_32 : decode cX4_at 32 = .ok (.tableswitch 113 0 7 #[48, 55, 61, 68, 75, 90, 96, 106], 48) := by decide +kernel
theorem dX4_at_80 : decode cX4_at 80 = .ok (.aload_n 0, 1) := dk_42 (dk_at dksX4_at_3 0 rfl rfl)
theorem dX4_at_81 : decode cX4_at 81 = .ok (.getfield 21, 3) := dk_180 0 21 (dk_at dksX4_at_3 1 rfl rfl)
theorem dX4_at_84 : decode cX4_at 84 = .ok (.iload_n 1, 1) := dk_27 (dk_at dksX4_at_3 4 rfl rfl)
theorem dX4_at_85 : decode cX4_at 85 = .ok (.iaload, 1) := dk_46 (dk_at dksX4_at_3 5 rfl rfl)
theorem dX4_at_86 : decode cX4_at 86 = .ok (.ireturn, 1) := dk_172 (dk_at dksX4_at_3 6 rfl rfl)
theorem dX4_at_87 : decode cX4_at 87 = .ok (.aload_n 0, 1) := dk_42 (dk_at dksX4_at_3 7 rfl rfl)
theorem dX4_at_88 : decode cX4_at 88 = .ok (.iload_n 1, 1) := dk_27 (dk_at dksX4_at_3 8 rfl rfl)
theorem dX4_at_89 : decode cX4_at 89 = .ok (.invokevirtual 196, 3) := dk_182 0 196 (dk_at dksX4_at_3 9 rfl rfl)
theorem dX4_at_92 : decode cX4_at 92 = .ok (.ireturn, 1) := dk_172 (dk_at dksX4_at_3 12 rfl rfl)
theorem dX4_at_93 : decode cX4_at 93 = .ok (.aload_n 0, 1) := dk_42 (dk_at dksX4_at_3 13 rfl rfl)
theorem dX4_at_94 : decode cX4_at 94 = .ok (.getfield 24, 3) := dk_180 0 24 (dk_at dksX4_at_3 14 rfl rfl)
theorem dX4_at_97 : decode cX4_at 97 = .ok (.iload_n 1, 1) := dk_27 (dk_at dksX4_at_3 17 rfl rfl)
theorem dX4_at_98 : decode cX4_at 98 = .ok (.iaload, 1) := dk_46 (dk_at dksX4_at_3 18 rfl rfl)
theorem dX4_at_99 : decode cX4_at 99 = .ok (.ireturn, 1) := dk_172 (dk_at dksX4_at_3 19 rfl rfl)
theorem dX4_at_100 : decode cX4_at 100 = .ok (.aload_n 0, 1) := dk_42 (dk_at dksX4_at_3 20 rfl rfl)
theorem dX4_at_101 : decode cX4_at 101 = .ok (.getfield 27, 3) := dk_180 0 27 (dk_at dksX4_at_3 21 rfl rfl)
theorem dX4_at_104 : decode cX4_at 104 = .ok (.iload_n 1, 1) := dk_27 (dk_at dksX4_at_4 0 rfl rfl)
theorem dX4_at_105 : decode cX4_at 105 = .ok (.iaload, 1) := dk_46 (dk_at dksX4_at_4 1 rfl rfl)
theorem dX4_at_106 : decode cX4_at 106 = .ok (.ireturn, 1) := dk_172 (dk_at dksX4_at_4 2 rfl rfl)
theorem dX4_at_107 : decode cX4_at 107 = .ok (.aload_n 0, 1) := dk_42 (dk_at dksX4_at_4 3 rfl rfl)
theorem dX4_at_108 : decode cX4_at 108 = .ok (.getfield 39, 3) := dk_180 0 39 (dk_at dksX4_at_4 4 rfl rfl)
theorem dX4_at_111 : decode cX4_at 111 = .ok (.iload_n 1, 1) := dk_27 (dk_at dksX4_at_4 7 rfl rfl)
theorem dX4_at_112 : decode cX4_at 112 = .ok (.baload, 1) := dk_51 (dk_at dksX4_at_4 8 rfl rfl)
theorem dX4_at_113 : decode cX4_at 113 = .ok (.ifCond .eq 7, 3) := dk_153 0 7 (dk_at dksX4_at_4 9 rfl rfl)
theorem dX4_at_116 : decode cX4_at 116 = .ok (.iconst 1, 1) := dk_4 (dk_at dksX4_at_4 12 rfl rfl)
theorem dX4_at_117 : decode cX4_at 117 = .ok (.goto 4, 3) := dk_167 0 4 (dk_at dksX4_at_4 13 rfl rfl)
theorem dX4_at_120 : decode cX4_at 120 = .ok (.iconst 0, 1) := dk_3 (dk_at dksX4_at_4 16 rfl rfl)
theorem dX4_at_121 : decode cX4_at 121 = .ok (.ireturn, 1) := dk_172 (dk_at dksX4_at_4 17 rfl rfl)
theorem dX4_at_122 : decode cX4_at 122 = .ok (.aload_n 0, 1) := dk_42 (dk_at dksX4_at_4 18 rfl rfl)
theorem dX4_at_123 : decode cX4_at 123 = .ok (.iload_n 1, 1) := dk_27 (dk_at dksX4_at_4 19 rfl rfl)
theorem dX4_at_124 : decode cX4_at 124 = .ok (.invokevirtual 255, 3) := dk_182 0 255 (dk_at dksX4_at_4 20 rfl rfl)
theorem dX4_at_127 : decode cX4_at 127 = .ok (.ireturn, 1) := dk_172 (dk_at dksX4_at_4 23 rfl rfl)
theorem dX4_at_128 : decode cX4_at 128 = .ok (.aload_n 0, 1) := dk_42 (dk_at dksX4_at_5 0 rfl rfl)
theorem dX4_at_129 : decode cX4_at 129 = .ok (.aload_n 0, 1) := dk_42 (dk_at dksX4_at_5 1 rfl rfl)
theorem dX4_at_130 : decode cX4_at 130 = .ok (.iload_n 1, 1) := dk_27 (dk_at dksX4_at_5 2 rfl rfl)
theorem dX4_at_131 : decode cX4_at 131 = .ok (.invokevirtual 258, 3) := dk_182 1 2 (dk_at dksX4_at_5 3 rfl rfl)
theorem dX4_at_134 : decode cX4_at 134 = .ok (.invokevirtual 261, 3) := dk_182 1 5 (dk_at dksX4_at_5 6 rfl rfl)
theorem dX4_at_137 : decode cX4_at 137 = .ok (.ireturn, 1) := dk_172 (dk_at dksX4_at_5 9 rfl rfl)
theorem dX4_at_138 : decode cX4_at 138 = .ok (.aload_n 0, 1) := dk_42 (dk_at dksX4_at_5 10 rfl rfl)
theorem dX4_at_139 : decode cX4_at 139 = .ok (.getfield 33, 3) := dk_180 0 33 (dk_at dksX4_at_5 11 rfl rfl)
theorem dX4_at_142 : decode cX4_at 142 = .ok (.iload_n 1, 1) := dk_27 (dk_at dksX4_at_5 14 rfl rfl)
theorem dX4_at_143 : decode cX4_at 143 = .ok (.iaload, 1) := dk_46 (dk_at dksX4_at_5 15 rfl rfl)
theorem dX4_at_144 : decode cX4_at 144 = .ok (.ireturn, 1) := dk_172 (dk_at dksX4_at_5 16 rfl rfl)
theorem dX4_at_145 : decode cX4_at 145 = .ok (.aload_n 0, 1) := dk_42 (dk_at dksX4_at_5 17 rfl rfl)
theorem dX4_at_146 : decode cX4_at 146 = .ok (.getfield 36, 3) := dk_180 0 36 (dk_at dksX4_at_5 18 rfl rfl)
theorem dX4_at_149 : decode cX4_at 149 = .ok (.iload_n 1, 1) := dk_27 (dk_at dksX4_at_5 21 rfl rfl)
theorem dX4_at_150 : decode cX4_at 150 = .ok (.iaload, 1) := dk_46 (dk_at dksX4_at_5 22 rfl rfl)
theorem dX4_at_151 : decode cX4_at 151 = .ok (.ireturn, 1) := dk_172 (dk_at dksX4_at_5 23 rfl rfl)
abbrev cX4_tupletsOf : ByteArray := prog_21_method_40_code
def yX4_tupletsOf : MethodName := ⟨RX4, "tupletsOf", "(I)I"⟩
def dkwX4_tupletsOf_1 : List UInt8 := [167, 0, 4, 3, 96, 61, 132, 3, 1, 167, 255, 228, 28, 172]
abbrev dktX4_tupletsOf_1 : List UInt8 := dkwX4_tupletsOf_1 ++ []
def dkwX4_tupletsOf_0 : List UInt8 := [3, 61, 3, 62, 29, 42, 180, 0, 199, 162, 0, 26, 28, 42, 27, 29, 182, 0, 239, 153, 0, 7, 4]
abbrev dktX4_tupletsOf_0 : List UInt8 := dkwX4_tupletsOf_0 ++ dktX4_tupletsOf_1
theorem dksX4_tupletsOf_0 : cX4_tupletsOf.data.toList.drop 0 = dktX4_tupletsOf_0 := by decide +kernel
theorem dksX4_tupletsOf_1 : cX4_tupletsOf.data.toList.drop 23 = dktX4_tupletsOf_1 := dk_seg dksX4_tupletsOf_0 23 rfl rfl
theorem dX4_tupletsOf_0 : decode cX4_tupletsOf 0 = .ok (.iconst 0, 1) := dk_3 (dk_at dksX4_tupletsOf_0 0 rfl rfl)
theorem dX4_tupletsOf_1 : decode cX4_tupletsOf 1 = .ok (.istore_n 2, 1) := dk_61 (dk_at dksX4_tupletsOf_0 1 rfl rfl)
theorem dX4_tupletsOf_2 : decode cX4_tupletsOf 2 = .ok (.iconst 0, 1) := dk_3 (dk_at dksX4_tupletsOf_0 2 rfl rfl)
theorem dX4_tupletsOf_3 : decode cX4_tupletsOf 3 = .ok (.istore_n 3, 1) := dk_62 (dk_at dksX4_tupletsOf_0 3 rfl rfl)
theorem dX4_tupletsOf_4 : decode cX4_tupletsOf 4 = .ok (.iload_n 3, 1) := dk_29 (dk_at dksX4_tupletsOf_0 4 rfl rfl)
theorem dX4_tupletsOf_5 : decode cX4_tupletsOf 5 = .ok (.aload_n 0, 1) := dk_42 (dk_at dksX4_tupletsOf_0 5 rfl rfl)
theorem dX4_tupletsOf_6 : decode cX4_tupletsOf 6 = .ok (.getfield 199, 3) := dk_180 0 199 (dk_at dksX4_tupletsOf_0 6 rfl rfl)
theorem dX4_tupletsOf_9 : decode cX4_tupletsOf 9 = .ok (.if_icmp .ge 26, 3) := dk_162 0 26 (dk_at dksX4_tupletsOf_0 9 rfl rfl)
theorem dX4_tupletsOf_12 : decode cX4_tupletsOf 12 = .ok (.iload_n 2, 1) := dk_28 (dk_at dksX4_tupletsOf_0 12 rfl rfl)
theorem dX4_tupletsOf_13 : decode cX4_tupletsOf 13 = .ok (.aload_n 0, 1) := dk_42 (dk_at dksX4_tupletsOf_0 13 rfl rfl)
theorem dX4_tupletsOf_14 : decode cX4_tupletsOf 14 = .ok (.iload_n 1, 1) := dk_27 (dk_at dksX4_tupletsOf_0 14 rfl rfl)
theorem dX4_tupletsOf_15 : decode cX4_tupletsOf 15 = .ok (.iload_n 3, 1) := dk_29 (dk_at dksX4_tupletsOf_0 15 rfl rfl)
theorem dX4_tupletsOf_16 : decode cX4_tupletsOf 16 = .ok (.invokevirtual 239, 3) := dk_182 0 239 (dk_at dksX4_tupletsOf_0 16 rfl rfl)
theorem dX4_tupletsOf_19 : decode cX4_tupletsOf 19 = .ok (.ifCond .eq 7, 3) := dk_153 0 7 (dk_at dksX4_tupletsOf_0 19 rfl rfl)
theorem dX4_tupletsOf_22 : decode cX4_tupletsOf 22 = .ok (.iconst 1, 1) := dk_4 (dk_at dksX4_tupletsOf_0 22 rfl rfl)
theorem dX4_tupletsOf_23 : decode cX4_tupletsOf 23 = .ok (.goto 4, 3) := dk_167 0 4 (dk_at dksX4_tupletsOf_1 0 rfl rfl)
theorem dX4_tupletsOf_26 : decode cX4_tupletsOf 26 = .ok (.iconst 0, 1) := dk_3 (dk_at dksX4_tupletsOf_1 3 rfl rfl)
theorem dX4_tupletsOf_27 : decode cX4_tupletsOf 27 = .ok (.iadd, 1) := dk_96 (dk_at dksX4_tupletsOf_1 4 rfl rfl)
theorem dX4_tupletsOf_28 : decode cX4_tupletsOf 28 = .ok (.istore_n 2, 1) := dk_61 (dk_at dksX4_tupletsOf_1 5 rfl rfl)
theorem dX4_tupletsOf_29 : decode cX4_tupletsOf 29 = .ok (.iinc 3 1, 3) := dk_132 3 1 (dk_at dksX4_tupletsOf_1 6 rfl rfl)
theorem dX4_tupletsOf_32 : decode cX4_tupletsOf 32 = .ok (.goto (-28), 3) := dk_167 255 228 (dk_at dksX4_tupletsOf_1 9 rfl rfl)
theorem dX4_tupletsOf_35 : decode cX4_tupletsOf 35 = .ok (.iload_n 2, 1) := dk_28 (dk_at dksX4_tupletsOf_1 12 rfl rfl)
theorem dX4_tupletsOf_36 : decode cX4_tupletsOf 36 = .ok (.ireturn, 1) := dk_172 (dk_at dksX4_tupletsOf_1 13 rfl rfl)
abbrev cX4_liesIn : ByteArray := prog_21_method_31_code
def yX4_liesIn : MethodName := ⟨RX4, "liesIn", "(II)Z"⟩
def dkwX4_liesIn_2 : List UInt8 := [42, 180, 0, 57, 28, 46, 182, 0, 196, 163, 0, 7, 4, 167, 0, 4, 3, 172]
abbrev dktX4_liesIn_2 : List UInt8 := dkwX4_liesIn_2 ++ []
def dkwX4_liesIn_1 : List UInt8 := [3, 172, 42, 27, 182, 0, 196, 62, 42, 42, 180, 0, 54, 28, 46, 182, 0, 196, 29, 163, 0, 21, 29, 42]
abbrev dktX4_liesIn_1 : List UInt8 := dkwX4_liesIn_1 ++ dktX4_liesIn_2
def dkwX4_liesIn_0 : List UInt8 := [42, 180, 0, 48, 28, 51, 153, 0, 18, 42, 180, 0, 51, 28, 46, 42, 180, 0, 21, 27, 46, 159, 0, 5]
abbrev dktX4_liesIn_0 : List UInt8 := dkwX4_liesIn_0 ++ dktX4_liesIn_1
theorem dksX4_liesIn_0 : cX4_liesIn.data.toList.drop 0 = dktX4_liesIn_0 := by decide +kernel
theorem dksX4_liesIn_1 : cX4_liesIn.data.toList.drop 24 = dktX4_liesIn_1 := dk_seg dksX4_liesIn_0 24 rfl rfl
theorem dksX4_liesIn_2 : cX4_liesIn.data.toList.drop 48 = dktX4_liesIn_2 := dk_seg dksX4_liesIn_1 24 rfl rfl
theorem dX4_liesIn_0 : decode cX4_liesIn 0 = .ok (.aload_n 0, 1) := dk_42 (dk_at dksX4_liesIn_0 0 rfl rfl)
theorem dX4_liesIn_1 : decode cX4_liesIn 1 = .ok (.getfield 48, 3) := dk_180 0 48 (dk_at dksX4_liesIn_0 1 rfl rfl)
theorem dX4_liesIn_4 : decode cX4_liesIn 4 = .ok (.iload_n 2, 1) := dk_28 (dk_at dksX4_liesIn_0 4 rfl rfl)
theorem dX4_liesIn_5 : decode cX4_liesIn 5 = .ok (.baload, 1) := dk_51 (dk_at dksX4_liesIn_0 5 rfl rfl)
theorem dX4_liesIn_6 : decode cX4_liesIn 6 = .ok (.ifCond .eq 18, 3) := dk_153 0 18 (dk_at dksX4_liesIn_0 6 rfl rfl)
theorem dX4_liesIn_9 : decode cX4_liesIn 9 = .ok (.aload_n 0, 1) := dk_42 (dk_at dksX4_liesIn_0 9 rfl rfl)
theorem dX4_liesIn_10 : decode cX4_liesIn 10 = .ok (.getfield 51, 3) := dk_180 0 51 (dk_at dksX4_liesIn_0 10 rfl rfl)
theorem dX4_liesIn_13 : decode cX4_liesIn 13 = .ok (.iload_n 2, 1) := dk_28 (dk_at dksX4_liesIn_0 13 rfl rfl)
theorem dX4_liesIn_14 : decode cX4_liesIn 14 = .ok (.iaload, 1) := dk_46 (dk_at dksX4_liesIn_0 14 rfl rfl)
theorem dX4_liesIn_15 : decode cX4_liesIn 15 = .ok (.aload_n 0, 1) := dk_42 (dk_at dksX4_liesIn_0 15 rfl rfl)
theorem dX4_liesIn_16 : decode cX4_liesIn 16 = .ok (.getfield 21, 3) := dk_180 0 21 (dk_at dksX4_liesIn_0 16 rfl rfl)
theorem dX4_liesIn_19 : decode cX4_liesIn 19 = .ok (.iload_n 1, 1) := dk_27 (dk_at dksX4_liesIn_0 19 rfl rfl)
theorem dX4_liesIn_20 : decode cX4_liesIn 20 = .ok (.iaload, 1) := dk_46 (dk_at dksX4_liesIn_0 20 rfl rfl)
theorem dX4_liesIn_21 : decode cX4_liesIn 21 = .ok (.if_icmp .eq 5, 3) := dk_159 0 5 (dk_at dksX4_liesIn_0 21 rfl rfl)
theorem dX4_liesIn_24 : decode cX4_liesIn 24 = .ok (.iconst 0, 1) := dk_3 (dk_at dksX4_liesIn_1 0 rfl rfl)
theorem dX4_liesIn_25 : decode cX4_liesIn 25 = .ok (.ireturn, 1) := dk_172 (dk_at dksX4_liesIn_1 1 rfl rfl)
theorem dX4_liesIn_26 : decode cX4_liesIn 26 = .ok (.aload_n 0, 1) := dk_42 (dk_at dksX4_liesIn_1 2 rfl rfl)
theorem dX4_liesIn_27 : decode cX4_liesIn 27 = .ok (.iload_n 1, 1) := dk_27 (dk_at dksX4_liesIn_1 3 rfl rfl)
theorem dX4_liesIn_28 : decode cX4_liesIn 28 = .ok (.invokevirtual 196, 3) := dk_182 0 196 (dk_at dksX4_liesIn_1 4 rfl rfl)
theorem dX4_liesIn_31 : decode cX4_liesIn 31 = .ok (.istore_n 3, 1) := dk_62 (dk_at dksX4_liesIn_1 7 rfl rfl)
theorem dX4_liesIn_32 : decode cX4_liesIn 32 = .ok (.aload_n 0, 1) := dk_42 (dk_at dksX4_liesIn_1 8 rfl rfl)
theorem dX4_liesIn_33 : decode cX4_liesIn 33 = .ok (.aload_n 0, 1) := dk_42 (dk_at dksX4_liesIn_1 9 rfl rfl)
theorem dX4_liesIn_34 : decode cX4_liesIn 34 = .ok (.getfield 54, 3) := dk_180 0 54 (dk_at dksX4_liesIn_1 10 rfl rfl)
theorem dX4_liesIn_37 : decode cX4_liesIn 37 = .ok (.iload_n 2, 1) := dk_28 (dk_at dksX4_liesIn_1 13 rfl rfl)
theorem dX4_liesIn_38 : decode cX4_liesIn 38 = .ok (.iaload, 1) := dk_46 (dk_at dksX4_liesIn_1 14 rfl rfl)
theorem dX4_liesIn_39 : decode cX4_liesIn 39 = .ok (.invokevirtual 196, 3) := dk_182 0 196 (dk_at dksX4_liesIn_1 15 rfl rfl)
theorem dX4_liesIn_42 : decode cX4_liesIn 42 = .ok (.iload_n 3, 1) := dk_29 (dk_at dksX4_liesIn_1 18 rfl rfl)
theorem dX4_liesIn_43 : decode cX4_liesIn 43 = .ok (.if_icmp .gt 21, 3) := dk_163 0 21 (dk_at dksX4_liesIn_1 19 rfl rfl)
theorem dX4_liesIn_46 : decode cX4_liesIn 46 = .ok (.iload_n 3, 1) := dk_29 (dk_at dksX4_liesIn_1 22 rfl rfl)
theorem dX4_liesIn_47 : decode cX4_liesIn 47 = .ok (.aload_n 0, 1) := dk_42 (dk_at dksX4_liesIn_1 23 rfl rfl)
theorem dX4_liesIn_48 : decode cX4_liesIn 48 = .ok (.aload_n 0, 1) := dk_42 (dk_at dksX4_liesIn_2 0 rfl rfl)
theorem dX4_liesIn_49 : decode cX4_liesIn 49 = .ok (.getfield 57, 3) := dk_180 0 57 (dk_at dksX4_liesIn_2 1 rfl rfl)
theorem dX4_liesIn_52 : decode cX4_liesIn 52 = .ok (.iload_n 2, 1) := dk_28 (dk_at dksX4_liesIn_2 4 rfl rfl)
theorem dX4_liesIn_53 : decode cX4_liesIn 53 = .ok (.iaload, 1) := dk_46 (dk_at dksX4_liesIn_2 5 rfl rfl)
theorem dX4_liesIn_54 : decode cX4_liesIn 54 = .ok (.invokevirtual 196, 3) := dk_182 0 196 (dk_at dksX4_liesIn_2 6 rfl rfl)
theorem dX4_liesIn_57 : decode cX4_liesIn 57 = .ok (.if_icmp .gt 7, 3) := dk_163 0 7 (dk_at dksX4_liesIn_2 9 rfl rfl)
theorem dX4_liesIn_60 : decode cX4_liesIn 60 = .ok (.iconst 1, 1) := dk_4 (dk_at dksX4_liesIn_2 12 rfl rfl)
theorem dX4_liesIn_61 : decode cX4_liesIn 61 = .ok (.goto 4, 3) := dk_167 0 4 (dk_at dksX4_liesIn_2 13 rfl rfl)
theorem dX4_liesIn_64 : decode cX4_liesIn 64 = .ok (.iconst 0, 1) := dk_3 (dk_at dksX4_liesIn_2 16 rfl rfl)
theorem dX4_liesIn_65 : decode cX4_liesIn 65 = .ok (.ireturn, 1) := dk_172 (dk_at dksX4_liesIn_2 17 rfl rfl)
abbrev cX4_beginOf : ByteArray := prog_21_method_33_code
def yX4_beginOf : MethodName := ⟨RX4, "beginOf", "(I)J"⟩
def dkwX4_beginOf_2 : List UInt8 := [97, 65, 132, 5, 1, 167, 255, 216, 32, 173]
abbrev dktX4_beginOf_2 : List UInt8 := dkwX4_beginOf_2 ++ []
def dkwX4_beginOf_1 : List UInt8 := [96, 46, 27, 159, 0, 29, 32, 42, 42, 180, 0, 42, 16, 40, 21, 4, 104, 21, 5, 96, 46, 182, 0, 243]
abbrev dktX4_beginOf_1 : List UInt8 := dkwX4_beginOf_1 ++ dktX4_beginOf_2
def dkwX4_beginOf_0 : List UInt8 := [9, 65, 42, 180, 0, 21, 27, 46, 54, 4, 3, 54, 5, 42, 180, 0, 42, 16, 40, 21, 4, 104, 21, 5]
abbrev dktX4_beginOf_0 : List UInt8 := dkwX4_beginOf_0 ++ dktX4_beginOf_1
theorem dksX4_beginOf_0 : cX4_beginOf.data.toList.drop 0 = dktX4_beginOf_0 := by decide +kernel
theorem dksX4_beginOf_1 : cX4_beginOf.data.toList.drop 24 = dktX4_beginOf_1 := dk_seg dksX4_beginOf_0 24 rfl rfl
theorem dksX4_beginOf_2 : cX4_beginOf.data.toList.drop 48 = dktX4_beginOf_2 := dk_seg dksX4_beginOf_1 24 rfl rfl
theorem dX4_beginOf_0 : decode cX4_beginOf 0 = .ok (.lconst 0, 1) := dk_9 (dk_at dksX4_beginOf_0 0 rfl rfl)
theorem dX4_beginOf_1 : decode cX4_beginOf 1 = .ok (.lstore_n 2, 1) := dk_65 (dk_at dksX4_beginOf_0 1 rfl rfl)
theorem dX4_beginOf_2 : decode cX4_beginOf 2 = .ok (.aload_n 0, 1) := dk_42 (dk_at dksX4_beginOf_0 2 rfl rfl)
theorem dX4_beginOf_3 : decode cX4_beginOf 3 = .ok (.getfield 21, 3) := dk_180 0 21 (dk_at dksX4_beginOf_0 3 rfl rfl)
theorem dX4_beginOf_6 : decode cX4_beginOf 6 = .ok (.iload_n 1, 1) := dk_27 (dk_at dksX4_beginOf_0 6 rfl rfl)
theorem dX4_beginOf_7 : decode cX4_beginOf 7 = .ok (.iaload, 1) := dk_46 (dk_at dksX4_beginOf_0 7 rfl rfl)
theorem dX4_beginOf_8 : decode cX4_beginOf 8 = .ok (.istore 4, 2) := dk_54 4 (dk_at dksX4_beginOf_0 8 rfl rfl)
theorem dX4_beginOf_10 : decode cX4_beginOf 10 = .ok (.iconst 0, 1) := dk_3 (dk_at dksX4_beginOf_0 10 rfl rfl)
theorem dX4_beginOf_11 : decode cX4_beginOf 11 = .ok (.istore 5, 2) := dk_54 5 (dk_at dksX4_beginOf_0 11 rfl rfl)
theorem dX4_beginOf_13 : decode cX4_beginOf 13 = .ok (.aload_n 0, 1) := dk_42 (dk_at dksX4_beginOf_0 13 rfl rfl)
theorem dX4_beginOf_14 : decode cX4_beginOf 14 = .ok (.getfield 42, 3) := dk_180 0 42 (dk_at dksX4_beginOf_0 14 rfl rfl)
theorem dX4_beginOf_17 : decode cX4_beginOf 17 = .ok (.bipush 40, 2) := dk_16 40 (dk_at dksX4_beginOf_0 17 rfl rfl)
theorem dX4_beginOf_19 : decode cX4_beginOf 19 = .ok (.iload 4, 2) := dk_21 4 (dk_at dksX4_beginOf_0 19 rfl rfl)
theorem dX4_beginOf_21 : decode cX4_beginOf 21 = .ok (.imul, 1) := dk_104 (dk_at dksX4_beginOf_0 21 rfl rfl)
theorem dX4_beginOf_22 : decode cX4_beginOf 22 = .ok (.iload 5, 2) := dk_21 5 (dk_at dksX4_beginOf_0 22 rfl rfl)
theorem dX4_beginOf_24 : decode cX4_beginOf 24 = .ok (.iadd, 1) := dk_96 (dk_at dksX4_beginOf_1 0 rfl rfl)
theorem dX4_beginOf_25 : decode cX4_beginOf 25 = .ok (.iaload, 1) := dk_46 (dk_at dksX4_beginOf_1 1 rfl rfl)
theorem dX4_beginOf_26 : decode cX4_beginOf 26 = .ok (.iload_n 1, 1) := dk_27 (dk_at dksX4_beginOf_1 2 rfl rfl)
theorem dX4_beginOf_27 : decode cX4_beginOf 27 = .ok (.if_icmp .eq 29, 3) := dk_159 0 29 (dk_at dksX4_beginOf_1 3 rfl rfl)
theorem dX4_beginOf_30 : decode cX4_beginOf 30 = .ok (.lload_n 2, 1) := dk_32 (dk_at dksX4_beginOf_1 6 rfl rfl)
theorem dX4_beginOf_31 : decode cX4_beginOf 31 = .ok (.aload_n 0, 1) := dk_42 (dk_at dksX4_beginOf_1 7 rfl rfl)
theorem dX4_beginOf_32 : decode cX4_beginOf 32 = .ok (.aload_n 0, 1) := dk_42 (dk_at dksX4_beginOf_1 8 rfl rfl)
theorem dX4_beginOf_33 : decode cX4_beginOf 33 = .ok (.getfield 42, 3) := dk_180 0 42 (dk_at dksX4_beginOf_1 9 rfl rfl)
theorem dX4_beginOf_36 : decode cX4_beginOf 36 = .ok (.bipush 40, 2) := dk_16 40 (dk_at dksX4_beginOf_1 12 rfl rfl)
theorem dX4_beginOf_38 : decode cX4_beginOf 38 = .ok (.iload 4, 2) := dk_21 4 (dk_at dksX4_beginOf_1 14 rfl rfl)
theorem dX4_beginOf_40 : decode cX4_beginOf 40 = .ok (.imul, 1) := dk_104 (dk_at dksX4_beginOf_1 16 rfl rfl)
theorem dX4_beginOf_41 : decode cX4_beginOf 41 = .ok (.iload 5, 2) := dk_21 5 (dk_at dksX4_beginOf_1 17 rfl rfl)
theorem dX4_beginOf_43 : decode cX4_beginOf 43 = .ok (.iadd, 1) := dk_96 (dk_at dksX4_beginOf_1 19 rfl rfl)
theorem dX4_beginOf_44 : decode cX4_beginOf 44 = .ok (.iaload, 1) := dk_46 (dk_at dksX4_beginOf_1 20 rfl rfl)
theorem dX4_beginOf_45 : decode cX4_beginOf 45 = .ok (.invokevirtual 243, 3) := dk_182 0 243 (dk_at dksX4_beginOf_1 21 rfl rfl)
theorem dX4_beginOf_48 : decode cX4_beginOf 48 = .ok (.ladd, 1) := dk_97 (dk_at dksX4_beginOf_2 0 rfl rfl)
theorem dX4_beginOf_49 : decode cX4_beginOf 49 = .ok (.lstore_n 2, 1) := dk_65 (dk_at dksX4_beginOf_2 1 rfl rfl)
theorem dX4_beginOf_50 : decode cX4_beginOf 50 = .ok (.iinc 5 1, 3) := dk_132 5 1 (dk_at dksX4_beginOf_2 2 rfl rfl)
theorem dX4_beginOf_53 : decode cX4_beginOf 53 = .ok (.goto (-40), 3) := dk_167 255 216 (dk_at dksX4_beginOf_2 5 rfl rfl)
theorem dX4_beginOf_56 : decode cX4_beginOf 56 = .ok (.lload_n 2, 1) := dk_32 (dk_at dksX4_beginOf_2 8 rfl rfl)
theorem dX4_beginOf_57 : decode cX4_beginOf 57 = .ok (.lreturn, 1) := dk_173 (dk_at dksX4_beginOf_2 9 rfl rfl)
abbrev cX4_timeOf : ByteArray := prog_21_method_32_code
def yX4_timeOf : MethodName := ⟨RX4, "timeOf", "(I)J"⟩
def dkwX4_timeOf_2 : List UInt8 := [105, 167, 0, 4, 32, 65, 132, 4, 1, 167, 255, 210, 32, 173]
abbrev dktX4_timeOf_2 : List UInt8 := dkwX4_timeOf_2 ++ []
def dkwX4_timeOf_1 : List UInt8 := [182, 0, 239, 153, 0, 25, 32, 42, 180, 0, 60, 21, 4, 46, 133, 109, 42, 180, 0, 63, 21, 4, 46, 133]
abbrev dktX4_timeOf_1 : List UInt8 := dkwX4_timeOf_1 ++ dktX4_timeOf_2
def dkwX4_timeOf_0 : List UInt8 := [42, 27, 182, 0, 235, 65, 3, 54, 4, 21, 4, 42, 180, 0, 199, 162, 0, 43, 42, 27, 21, 4]
abbrev dktX4_timeOf_0 : List UInt8 := dkwX4_timeOf_0 ++ dktX4_timeOf_1
theorem dksX4_timeOf_0 : cX4_timeOf.data.toList.drop 0 = dktX4_timeOf_0 := by decide +kernel
theorem dksX4_timeOf_1 : cX4_timeOf.data.toList.drop 22 = dktX4_timeOf_1 := dk_seg dksX4_timeOf_0 22 rfl rfl
theorem dksX4_timeOf_2 : cX4_timeOf.data.toList.drop 46 = dktX4_timeOf_2 := dk_seg dksX4_timeOf_1 24 rfl rfl
theorem dX4_timeOf_0 : decode cX4_timeOf 0 = .ok (.aload_n 0, 1) := dk_42 (dk_at dksX4_timeOf_0 0 rfl rfl)
theorem dX4_timeOf_1 : decode cX4_timeOf 1 = .ok (.iload_n 1, 1) := dk_27 (dk_at dksX4_timeOf_0 1 rfl rfl)
theorem dX4_timeOf_2 : decode cX4_timeOf 2 = .ok (.invokevirtual 235, 3) := dk_182 0 235 (dk_at dksX4_timeOf_0 2 rfl rfl)
theorem dX4_timeOf_5 : decode cX4_timeOf 5 = .ok (.lstore_n 2, 1) := dk_65 (dk_at dksX4_timeOf_0 5 rfl rfl)
theorem dX4_timeOf_6 : decode cX4_timeOf 6 = .ok (.iconst 0, 1) := dk_3 (dk_at dksX4_timeOf_0 6 rfl rfl)
theorem dX4_timeOf_7 : decode cX4_timeOf 7 = .ok (.istore 4, 2) := dk_54 4 (dk_at dksX4_timeOf_0 7 rfl rfl)
theorem dX4_timeOf_9 : decode cX4_timeOf 9 = .ok (.iload 4, 2) := dk_21 4 (dk_at dksX4_timeOf_0 9 rfl rfl)
theorem dX4_timeOf_11 : decode cX4_timeOf 11 = .ok (.aload_n 0, 1) := dk_42 (dk_at dksX4_timeOf_0 11 rfl rfl)
theorem dX4_timeOf_12 : decode cX4_timeOf 12 = .ok (.getfield 199, 3) := dk_180 0 199 (dk_at dksX4_timeOf_0 12 rfl rfl)
theorem dX4_timeOf_15 : decode cX4_timeOf 15 = .ok (.if_icmp .ge 43, 3) := dk_162 0 43 (dk_at dksX4_timeOf_0 15 rfl rfl)
theorem dX4_timeOf_18 : decode cX4_timeOf 18 = .ok (.aload_n 0, 1) := dk_42 (dk_at dksX4_timeOf_0 18 rfl rfl)
theorem dX4_timeOf_19 : decode cX4_timeOf 19 = .ok (.iload_n 1, 1) := dk_27 (dk_at dksX4_timeOf_0 19 rfl rfl)
theorem dX4_timeOf_20 : decode cX4_timeOf 20 = .ok (.iload 4, 2) := dk_21 4 (dk_at dksX4_timeOf_0 20 rfl rfl)
theorem dX4_timeOf_22 : decode cX4_timeOf 22 = .ok (.invokevirtual 239, 3) := dk_182 0 239 (dk_at dksX4_timeOf_1 0 rfl rfl)
theorem dX4_timeOf_25 : decode cX4_timeOf 25 = .ok (.ifCond .eq 25, 3) := dk_153 0 25 (dk_at dksX4_timeOf_1 3 rfl rfl)
theorem dX4_timeOf_28 : decode cX4_timeOf 28 = .ok (.lload_n 2, 1) := dk_32 (dk_at dksX4_timeOf_1 6 rfl rfl)
theorem dX4_timeOf_29 : decode cX4_timeOf 29 = .ok (.aload_n 0, 1) := dk_42 (dk_at dksX4_timeOf_1 7 rfl rfl)
theorem dX4_timeOf_30 : decode cX4_timeOf 30 = .ok (.getfield 60, 3) := dk_180 0 60 (dk_at dksX4_timeOf_1 8 rfl rfl)
theorem dX4_timeOf_33 : decode cX4_timeOf 33 = .ok (.iload 4, 2) := dk_21 4 (dk_at dksX4_timeOf_1 11 rfl rfl)
theorem dX4_timeOf_35 : decode cX4_timeOf 35 = .ok (.iaload, 1) := dk_46 (dk_at dksX4_timeOf_1 13 rfl rfl)
theorem dX4_timeOf_36 : decode cX4_timeOf 36 = .ok (.i2l, 1) := dk_133 (dk_at dksX4_timeOf_1 14 rfl rfl)
theorem dX4_timeOf_37 : decode cX4_timeOf 37 = .ok (.ldiv, 1) := dk_109 (dk_at dksX4_timeOf_1 15 rfl rfl)
theorem dX4_timeOf_38 : decode cX4_timeOf 38 = .ok (.aload_n 0, 1) := dk_42 (dk_at dksX4_timeOf_1 16 rfl rfl)
theorem dX4_timeOf_39 : decode cX4_timeOf 39 = .ok (.getfield 63, 3) := dk_180 0 63 (dk_at dksX4_timeOf_1 17 rfl rfl)
theorem dX4_timeOf_42 : decode cX4_timeOf 42 = .ok (.iload 4, 2) := dk_21 4 (dk_at dksX4_timeOf_1 20 rfl rfl)
theorem dX4_timeOf_44 : decode cX4_timeOf 44 = .ok (.iaload, 1) := dk_46 (dk_at dksX4_timeOf_1 22 rfl rfl)
theorem dX4_timeOf_45 : decode cX4_timeOf 45 = .ok (.i2l, 1) := dk_133 (dk_at dksX4_timeOf_1 23 rfl rfl)
theorem dX4_timeOf_46 : decode cX4_timeOf 46 = .ok (.lmul, 1) := dk_105 (dk_at dksX4_timeOf_2 0 rfl rfl)
theorem dX4_timeOf_47 : decode cX4_timeOf 47 = .ok (.goto 4, 3) := dk_167 0 4 (dk_at dksX4_timeOf_2 1 rfl rfl)
theorem dX4_timeOf_50 : decode cX4_timeOf 50 = .ok (.lload_n 2, 1) := dk_32 (dk_at dksX4_timeOf_2 4 rfl rfl)
theorem dX4_timeOf_51 : decode cX4_timeOf 51 = .ok (.lstore_n 2, 1) := dk_65 (dk_at dksX4_timeOf_2 5 rfl rfl)
theorem dX4_timeOf_52 : decode cX4_timeOf 52 = .ok (.iinc 4 1, 3) := dk_132 4 1 (dk_at dksX4_timeOf_2 6 rfl rfl)
theorem dX4_timeOf_55 : decode cX4_timeOf 55 = .ok (.goto (-46), 3) := dk_167 255 210 (dk_at dksX4_timeOf_2 9 rfl rfl)
theorem dX4_timeOf_58 : decode cX4_timeOf 58 = .ok (.lload_n 2, 1) := dk_32 (dk_at dksX4_timeOf_2 12 rfl rfl)
theorem dX4_timeOf_59 : decode cX4_timeOf 59 = .ok (.lreturn, 1) := dk_173 (dk_at dksX4_timeOf_2 13 rfl rfl)
abbrev cX4_writtenOf : ByteArray := prog_21_method_30_code
def yX4_writtenOf : MethodName := ⟨RX4, "writtenOf", "(I)J"⟩
def dkwX4_writtenOf_3 : List UInt8 := [20, 0, 172, 109, 20, 0, 233, 105, 173]
abbrev dktX4_writtenOf_3 : List UInt8 := dkwX4_writtenOf_3 ++ []
def dkwX4_writtenOf_2 : List UInt8 := [42, 180, 0, 36, 27, 46, 4, 160, 0, 15, 32, 20, 0, 170, 109, 20, 0, 231, 105, 167, 0, 12, 32]
abbrev dktX4_writtenOf_2 : List UInt8 := dkwX4_writtenOf_2 ++ dktX4_writtenOf_3
def dkwX4_writtenOf_1 : List UInt8 := [20, 0, 154, 42, 180, 0, 33, 27, 46, 123, 65, 42, 180, 0, 36, 27, 46, 154, 0, 7, 32, 167, 0, 34]
abbrev dktX4_writtenOf_1 : List UInt8 := dkwX4_writtenOf_1 ++ dktX4_writtenOf_2
def dkwX4_writtenOf_0 : List UInt8 := [42, 180, 0, 24, 27, 46, 5, 159, 0, 13, 42, 180, 0, 24, 27, 46, 7, 160, 0, 5, 9, 173]
abbrev dktX4_writtenOf_0 : List UInt8 := dkwX4_writtenOf_0 ++ dktX4_writtenOf_1
theorem dksX4_writtenOf_0 : cX4_writtenOf.data.toList.drop 0 = dktX4_writtenOf_0 := by decide +kernel
theorem dksX4_writtenOf_1 : cX4_writtenOf.data.toList.drop 22 = dktX4_writtenOf_1 := dk_seg dksX4_writtenOf_0 22 rfl rfl
theorem dksX4_writtenOf_2 : cX4_writtenOf.data.toList.drop 46 = dktX4_writtenOf_2 := dk_seg dksX4_writtenOf_1 24 rfl rfl
theorem dksX4_writtenOf_3 : cX4_writtenOf.data.toList.drop 69 = dktX4_writtenOf_3 := dk_seg dksX4_writtenOf_2 23 rfl rfl
theorem dX4_writtenOf_0 : decode cX4_writtenOf 0 = .ok (.aload_n 0, 1) := dk_42 (dk_at dksX4_writtenOf_0 0 rfl rfl)
theorem dX4_writtenOf_1 : decode cX4_writtenOf 1 = .ok (.getfield 24, 3) := dk_180 0 24 (dk_at dksX4_writtenOf_0 1 rfl rfl)
theorem dX4_writtenOf_4 : decode cX4_writtenOf 4 = .ok (.iload_n 1, 1) := dk_27 (dk_at dksX4_writtenOf_0 4 rfl rfl)
theorem dX4_writtenOf_5 : decode cX4_writtenOf 5 = .ok (.iaload, 1) := dk_46 (dk_at dksX4_writtenOf_0 5 rfl rfl)
theorem dX4_writtenOf_6 : decode cX4_writtenOf 6 = .ok (.iconst 2, 1) := dk_5 (dk_at dksX4_writtenOf_0 6 rfl rfl)
theorem dX4_writtenOf_7 : decode cX4_writtenOf 7 = .ok (.if_icmp .eq 13, 3) := dk_159 0 13 (dk_at dksX4_writtenOf_0 7 rfl rfl)
theorem dX4_writtenOf_10 : decode cX4_writtenOf 10 = .ok (.aload_n 0, 1) := dk_42 (dk_at dksX4_writtenOf_0 10 rfl rfl)
theorem dX4_writtenOf_11 : decode cX4_writtenOf 11 = .ok (.getfield 24, 3) := dk_180 0 24 (dk_at dksX4_writtenOf_0 11 rfl rfl)
theorem dX4_writtenOf_14 : decode cX4_writtenOf 14 = .ok (.iload_n 1, 1) := dk_27 (dk_at dksX4_writtenOf_0 14 rfl rfl)
theorem dX4_writtenOf_15 : decode cX4_writtenOf 15 = .ok (.iaload, 1) := dk_46 (dk_at dksX4_writtenOf_0 15 rfl rfl)
theorem dX4_writtenOf_16 : decode cX4_writtenOf 16 = .ok (.iconst 4, 1) := dk_7 (dk_at dksX4_writtenOf_0 16 rfl rfl)
theorem dX4_writtenOf_17 : decode cX4_writtenOf 17 = .ok (.if_icmp .ne 5, 3) := dk_160 0 5 (dk_at dksX4_writtenOf_0 17 rfl rfl)
theorem dX4_writtenOf_20 : decode cX4_writtenOf 20 = .ok (.lconst 0, 1) := dk_9 (dk_at dksX4_writtenOf_0 20 rfl rfl)
theorem dX4_writtenOf_21 : decode cX4_writtenOf 21 = .ok (.lreturn, 1) := dk_173 (dk_at dksX4_writtenOf_0 21 rfl rfl)
theorem dX4_writtenOf_22 : decode cX4_writtenOf 22 = .ok (.ldc2_w 154, 3) := dk_20 0 154 (dk_at dksX4_writtenOf_1 0 rfl rfl)
theorem dX4_writtenOf_25 : decode cX4_writtenOf 25 = .ok (.aload_n 0, 1) := dk_42 (dk_at dksX4_writtenOf_1 3 rfl rfl)
theorem dX4_writtenOf_26 : decode cX4_writtenOf 26 = .ok (.getfield 33, 3) := dk_180 0 33 (dk_at dksX4_writtenOf_1 4 rfl rfl)
theorem dX4_writtenOf_29 : decode cX4_writtenOf 29 = .ok (.iload_n 1, 1) := dk_27 (dk_at dksX4_writtenOf_1 7 rfl rfl)
theorem dX4_writtenOf_30 : decode cX4_writtenOf 30 = .ok (.iaload, 1) := dk_46 (dk_at dksX4_writtenOf_1 8 rfl rfl)
theorem dX4_writtenOf_31 : decode cX4_writtenOf 31 = .ok (.lshr, 1) := dk_123 (dk_at dksX4_writtenOf_1 9 rfl rfl)
theorem dX4_writtenOf_32 : decode cX4_writtenOf 32 = .ok (.lstore_n 2, 1) := dk_65 (dk_at dksX4_writtenOf_1 10 rfl rfl)
theorem dX4_writtenOf_33 : decode cX4_writtenOf 33 = .ok (.aload_n 0, 1) := dk_42 (dk_at dksX4_writtenOf_1 11 rfl rfl)
theorem dX4_writtenOf_34 : decode cX4_writtenOf 34 = .ok (.getfield 36, 3) := dk_180 0 36 (dk_at dksX4_writtenOf_1 12 rfl rfl)
theorem dX4_writtenOf_37 : decode cX4_writtenOf 37 = .ok (.iload_n 1, 1) := dk_27 (dk_at dksX4_writtenOf_1 15 rfl rfl)
theorem dX4_writtenOf_38 : decode cX4_writtenOf 38 = .ok (.iaload, 1) := dk_46 (dk_at dksX4_writtenOf_1 16 rfl rfl)
theorem dX4_writtenOf_39 : decode cX4_writtenOf 39 = .ok (.ifCond .ne 7, 3) := dk_154 0 7 (dk_at dksX4_writtenOf_1 17 rfl rfl)
theorem dX4_writtenOf_42 : decode cX4_writtenOf 42 = .ok (.lload_n 2, 1) := dk_32 (dk_at dksX4_writtenOf_1 20 rfl rfl)
theorem dX4_writtenOf_43 : decode cX4_writtenOf 43 = .ok (.goto 34, 3) := dk_167 0 34 (dk_at dksX4_writtenOf_1 21 rfl rfl)
theorem dX4_writtenOf_46 : decode cX4_writtenOf 46 = .ok (.aload_n 0, 1) := dk_42 (dk_at dksX4_writtenOf_2 0 rfl rfl)
theorem dX4_writtenOf_47 : decode cX4_writtenOf 47 = .ok (.getfield 36, 3) := dk_180 0 36 (dk_at dksX4_writtenOf_2 1 rfl rfl)
theorem dX4_writtenOf_50 : decode cX4_writtenOf 50 = .ok (.iload_n 1, 1) := dk_27 (dk_at dksX4_writtenOf_2 4 rfl rfl)
theorem dX4_writtenOf_51 : decode cX4_writtenOf 51 = .ok (.iaload, 1) := dk_46 (dk_at dksX4_writtenOf_2 5 rfl rfl)
theorem dX4_writtenOf_52 : decode cX4_writtenOf 52 = .ok (.iconst 1, 1) := dk_4 (dk_at dksX4_writtenOf_2 6 rfl rfl)
theorem dX4_writtenOf_53 : decode cX4_writtenOf 53 = .ok (.if_icmp .ne 15, 3) := dk_160 0 15 (dk_at dksX4_writtenOf_2 7 rfl rfl)
theorem dX4_writtenOf_56 : decode cX4_writtenOf 56 = .ok (.lload_n 2, 1) := dk_32 (dk_at dksX4_writtenOf_2 10 rfl rfl)
theorem dX4_writtenOf_57 : decode cX4_writtenOf 57 = .ok (.ldc2_w 170, 3) := dk_20 0 170 (dk_at dksX4_writtenOf_2 11 rfl rfl)
theorem dX4_writtenOf_60 : decode cX4_writtenOf 60 = .ok (.ldiv, 1) := dk_109 (dk_at dksX4_writtenOf_2 14 rfl rfl)
theorem dX4_writtenOf_61 : decode cX4_writtenOf 61 = .ok (.ldc2_w 231, 3) := dk_20 0 231 (dk_at dksX4_writtenOf_2 15 rfl rfl)
theorem dX4_writtenOf_64 : decode cX4_writtenOf 64 = .ok (.lmul, 1) := dk_105 (dk_at dksX4_writtenOf_2 18 rfl rfl)
theorem dX4_writtenOf_65 : decode cX4_writtenOf 65 = .ok (.goto 12, 3) := dk_167 0 12 (dk_at dksX4_writtenOf_2 19 rfl rfl)
theorem dX4_writtenOf_68 : decode cX4_writtenOf 68 = .ok (.lload_n 2, 1) := dk_32 (dk_at dksX4_writtenOf_2 22 rfl rfl)
theorem dX4_writtenOf_69 : decode cX4_writtenOf 69 = .ok (.ldc2_w 172, 3) := dk_20 0 172 (dk_at dksX4_writtenOf_3 0 rfl rfl)
theorem dX4_writtenOf_72 : decode cX4_writtenOf 72 = .ok (.ldiv, 1) := dk_109 (dk_at dksX4_writtenOf_3 3 rfl rfl)
theorem dX4_writtenOf_73 : decode cX4_writtenOf 73 = .ok (.ldc2_w 233, 3) := dk_20 0 233 (dk_at dksX4_writtenOf_3 4 rfl rfl)
theorem dX4_writtenOf_76 : decode cX4_writtenOf 76 = .ok (.lmul, 1) := dk_105 (dk_at dksX4_writtenOf_3 7 rfl rfl)
theorem dX4_writtenOf_77 : decode cX4_writtenOf 77 = .ok (.lreturn, 1) := dk_173 (dk_at dksX4_writtenOf_3 8 rfl rfl)
abbrev cX4_barOf : ByteArray := prog_21_method_36_code
def yX4_barOf : MethodName := ⟨RX4, "barOf", "(J)I"⟩
def dkwX4_barOf_1 : List UInt8 := [132, 3, 1, 167, 255, 233, 29, 42, 180, 0, 151, 162, 0, 7, 29, 167, 0, 4, 2, 172]
abbrev dktX4_barOf_1 : List UInt8 := dkwX4_barOf_1 ++ []
def dkwX4_barOf_0 : List UInt8 := [3, 62, 29, 42, 180, 0, 151, 162, 0, 21, 31, 42, 29, 4, 96, 182, 0, 246, 148, 155, 0, 9]
abbrev dktX4_barOf_0 : List UInt8 := dkwX4_barOf_0 ++ dktX4_barOf_1
theorem dksX4_barOf_0 : cX4_barOf.data.toList.drop 0 = dktX4_barOf_0 := by decide +kernel
theorem dksX4_barOf_1 : cX4_barOf.data.toList.drop 22 = dktX4_barOf_1 := dk_seg dksX4_barOf_0 22 rfl rfl
theorem dX4_barOf_0 : decode cX4_barOf 0 = .ok (.iconst 0, 1) := dk_3 (dk_at dksX4_barOf_0 0 rfl rfl)
theorem dX4_barOf_1 : decode cX4_barOf 1 = .ok (.istore_n 3, 1) := dk_62 (dk_at dksX4_barOf_0 1 rfl rfl)
theorem dX4_barOf_2 : decode cX4_barOf 2 = .ok (.iload_n 3, 1) := dk_29 (dk_at dksX4_barOf_0 2 rfl rfl)
theorem dX4_barOf_3 : decode cX4_barOf 3 = .ok (.aload_n 0, 1) := dk_42 (dk_at dksX4_barOf_0 3 rfl rfl)
theorem dX4_barOf_4 : decode cX4_barOf 4 = .ok (.getfield 151, 3) := dk_180 0 151 (dk_at dksX4_barOf_0 4 rfl rfl)
theorem dX4_barOf_7 : decode cX4_barOf 7 = .ok (.if_icmp .ge 21, 3) := dk_162 0 21 (dk_at dksX4_barOf_0 7 rfl rfl)
theorem dX4_barOf_10 : decode cX4_barOf 10 = .ok (.lload_n 1, 1) := dk_31 (dk_at dksX4_barOf_0 10 rfl rfl)
theorem dX4_barOf_11 : decode cX4_barOf 11 = .ok (.aload_n 0, 1) := dk_42 (dk_at dksX4_barOf_0 11 rfl rfl)
theorem dX4_barOf_12 : decode cX4_barOf 12 = .ok (.iload_n 3, 1) := dk_29 (dk_at dksX4_barOf_0 12 rfl rfl)
theorem dX4_barOf_13 : decode cX4_barOf 13 = .ok (.iconst 1, 1) := dk_4 (dk_at dksX4_barOf_0 13 rfl rfl)
theorem dX4_barOf_14 : decode cX4_barOf 14 = .ok (.iadd, 1) := dk_96 (dk_at dksX4_barOf_0 14 rfl rfl)
theorem dX4_barOf_15 : decode cX4_barOf 15 = .ok (.invokevirtual 246, 3) := dk_182 0 246 (dk_at dksX4_barOf_0 15 rfl rfl)
theorem dX4_barOf_18 : decode cX4_barOf 18 = .ok (.lcmp, 1) := dk_148 (dk_at dksX4_barOf_0 18 rfl rfl)
theorem dX4_barOf_19 : decode cX4_barOf 19 = .ok (.ifCond .lt 9, 3) := dk_155 0 9 (dk_at dksX4_barOf_0 19 rfl rfl)
theorem dX4_barOf_22 : decode cX4_barOf 22 = .ok (.iinc 3 1, 3) := dk_132 3 1 (dk_at dksX4_barOf_1 0 rfl rfl)
theorem dX4_barOf_25 : decode cX4_barOf 25 = .ok (.goto (-23), 3) := dk_167 255 233 (dk_at dksX4_barOf_1 3 rfl rfl)
theorem dX4_barOf_28 : decode cX4_barOf 28 = .ok (.iload_n 3, 1) := dk_29 (dk_at dksX4_barOf_1 6 rfl rfl)
theorem dX4_barOf_29 : decode cX4_barOf 29 = .ok (.aload_n 0, 1) := dk_42 (dk_at dksX4_barOf_1 7 rfl rfl)
theorem dX4_barOf_30 : decode cX4_barOf 30 = .ok (.getfield 151, 3) := dk_180 0 151 (dk_at dksX4_barOf_1 8 rfl rfl)
theorem dX4_barOf_33 : decode cX4_barOf 33 = .ok (.if_icmp .ge 7, 3) := dk_162 0 7 (dk_at dksX4_barOf_1 11 rfl rfl)
theorem dX4_barOf_36 : decode cX4_barOf 36 = .ok (.iload_n 3, 1) := dk_29 (dk_at dksX4_barOf_1 14 rfl rfl)
theorem dX4_barOf_37 : decode cX4_barOf 37 = .ok (.goto 4, 3) := dk_167 0 4 (dk_at dksX4_barOf_1 15 rfl rfl)
theorem dX4_barOf_40 : decode cX4_barOf 40 = .ok (.iconst (-1), 1) := dk_2 (dk_at dksX4_barOf_1 18 rfl rfl)
theorem dX4_barOf_41 : decode cX4_barOf 41 = .ok (.ireturn, 1) := dk_172 (dk_at dksX4_barOf_1 19 rfl rfl)
abbrev cX4_barAt : ByteArray := prog_21_method_35_code
def yX4_barAt : MethodName := ⟨RX4, "barAt", "(I)J"⟩
def dkwX4_barAt_1 : List UInt8 := [167, 255, 237, 32, 173]
abbrev dktX4_barAt_1 : List UInt8 := dkwX4_barAt_1 ++ []
def dkwX4_barAt_0 : List UInt8 := [9, 65, 3, 54, 4, 21, 4, 27, 162, 0, 19, 32, 42, 180, 0, 13, 21, 4, 47, 97, 65, 132, 4, 1]
abbrev dktX4_barAt_0 : List UInt8 := dkwX4_barAt_0 ++ dktX4_barAt_1
theorem dksX4_barAt_0 : cX4_barAt.data.toList.drop 0 = dktX4_barAt_0 := by decide +kernel
theorem dksX4_barAt_1 : cX4_barAt.data.toList.drop 24 = dktX4_barAt_1 := dk_seg dksX4_barAt_0 24 rfl rfl
theorem dX4_barAt_0 : decode cX4_barAt 0 = .ok (.lconst 0, 1) := dk_9 (dk_at dksX4_barAt_0 0 rfl rfl)
theorem dX4_barAt_1 : decode cX4_barAt 1 = .ok (.lstore_n 2, 1) := dk_65 (dk_at dksX4_barAt_0 1 rfl rfl)
theorem dX4_barAt_2 : decode cX4_barAt 2 = .ok (.iconst 0, 1) := dk_3 (dk_at dksX4_barAt_0 2 rfl rfl)
theorem dX4_barAt_3 : decode cX4_barAt 3 = .ok (.istore 4, 2) := dk_54 4 (dk_at dksX4_barAt_0 3 rfl rfl)
theorem dX4_barAt_5 : decode cX4_barAt 5 = .ok (.iload 4, 2) := dk_21 4 (dk_at dksX4_barAt_0 5 rfl rfl)
theorem dX4_barAt_7 : decode cX4_barAt 7 = .ok (.iload_n 1, 1) := dk_27 (dk_at dksX4_barAt_0 7 rfl rfl)
theorem dX4_barAt_8 : decode cX4_barAt 8 = .ok (.if_icmp .ge 19, 3) := dk_162 0 19 (dk_at dksX4_barAt_0 8 rfl rfl)
theorem dX4_barAt_11 : decode cX4_barAt 11 = .ok (.lload_n 2, 1) := dk_32 (dk_at dksX4_barAt_0 11 rfl rfl)
theorem dX4_barAt_12 : decode cX4_barAt 12 = .ok (.aload_n 0, 1) := dk_42 (dk_at dksX4_barAt_0 12 rfl rfl)
theorem dX4_barAt_13 : decode cX4_barAt 13 = .ok (.getfield 13, 3) := dk_180 0 13 (dk_at dksX4_barAt_0 13 rfl rfl)
theorem dX4_barAt_16 : decode cX4_barAt 16 = .ok (.iload 4, 2) := dk_21 4 (dk_at dksX4_barAt_0 16 rfl rfl)
theorem dX4_barAt_18 : decode cX4_barAt 18 = .ok (.laload, 1) := dk_47 (dk_at dksX4_barAt_0 18 rfl rfl)
theorem dX4_barAt_19 : decode cX4_barAt 19 = .ok (.ladd, 1) := dk_97 (dk_at dksX4_barAt_0 19 rfl rfl)
theorem dX4_barAt_20 : decode cX4_barAt 20 = .ok (.lstore_n 2, 1) := dk_65 (dk_at dksX4_barAt_0 20 rfl rfl)
theorem dX4_barAt_21 : decode cX4_barAt 21 = .ok (.iinc 4 1, 3) := dk_132 4 1 (dk_at dksX4_barAt_0 21 rfl rfl)
theorem dX4_barAt_24 : decode cX4_barAt 24 = .ok (.goto (-19), 3) := dk_167 255 237 (dk_at dksX4_barAt_1 0 rfl rfl)
theorem dX4_barAt_27 : decode cX4_barAt 27 = .ok (.lload_n 2, 1) := dk_32 (dk_at dksX4_barAt_1 3 rfl rfl)
theorem dX4_barAt_28 : decode cX4_barAt 28 = .ok (.lreturn, 1) := dk_173 (dk_at dksX4_barAt_1 4 rfl rfl)
abbrev cX4_time : ByteArray := prog_21_method_41_code
def yX4_time : MethodName := ⟨RX4, "time", "(II)J"⟩
def dkwX4_time_4 : List UInt8 := [160, 0, 7, 4, 167, 0, 4, 3, 184, 1, 9, 173]
abbrev dktX4_time_4 : List UInt8 := dkwX4_time_4 ++ []
def dkwX4_time_3 : List UInt8 := [160, 0, 7, 9, 167, 0, 11, 33, 42, 21, 5, 182, 0, 246, 101, 55, 6, 22, 6, 28, 5, 112, 4]
abbrev dktX4_time_3 : List UInt8 := dkwX4_time_3 ++ dktX4_time_4
def dkwX4_time_2 : List UInt8 := [162, 0, 7, 33, 167, 0, 34, 28, 7, 162, 0, 11, 42, 27, 182, 0, 243, 167, 0, 21, 21, 5, 2]
abbrev dktX4_time_2 : List UInt8 := dkwX4_time_2 ++ dktX4_time_3
def dkwX4_time_1 : List UInt8 := [42, 16, 254, 182, 0, 130, 133, 173, 42, 27, 182, 1, 2, 66, 42, 33, 182, 1, 5, 54, 5, 28, 5]
abbrev dktX4_time_1 : List UInt8 := dkwX4_time_1 ++ dktX4_time_2
def dkwX4_time_0 : List UInt8 := [42, 182, 0, 144, 42, 27, 182, 0, 193, 153, 0, 15, 28, 133, 9, 20, 0, 147, 184, 0, 137, 154, 0, 11]
abbrev dktX4_time_0 : List UInt8 := dkwX4_time_0 ++ dktX4_time_1
theorem dksX4_time_0 : cX4_time.data.toList.drop 0 = dktX4_time_0 := by decide +kernel
theorem dksX4_time_1 : cX4_time.data.toList.drop 24 = dktX4_time_1 := dk_seg dksX4_time_0 24 rfl rfl
theorem dksX4_time_2 : cX4_time.data.toList.drop 47 = dktX4_time_2 := dk_seg dksX4_time_1 23 rfl rfl
theorem dksX4_time_3 : cX4_time.data.toList.drop 70 = dktX4_time_3 := dk_seg dksX4_time_2 23 rfl rfl
theorem dksX4_time_4 : cX4_time.data.toList.drop 93 = dktX4_time_4 := dk_seg dksX4_time_3 23 rfl rfl
theorem dX4_time_0 : decode cX4_time 0 = .ok (.aload_n 0, 1) := dk_42 (dk_at dksX4_time_0 0 rfl rfl)
theorem dX4_time_1 : decode cX4_time 1 = .ok (.invokevirtual 144, 3) := dk_182 0 144 (dk_at dksX4_time_0 1 rfl rfl)
theorem dX4_time_4 : decode cX4_time 4 = .ok (.aload_n 0, 1) := dk_42 (dk_at dksX4_time_0 4 rfl rfl)
theorem dX4_time_5 : decode cX4_time 5 = .ok (.iload_n 1, 1) := dk_27 (dk_at dksX4_time_0 5 rfl rfl)
theorem dX4_time_6 : decode cX4_time 6 = .ok (.invokevirtual 193, 3) := dk_182 0 193 (dk_at dksX4_time_0 6 rfl rfl)
theorem dX4_time_9 : decode cX4_time 9 = .ok (.ifCond .eq 15, 3) := dk_153 0 15 (dk_at dksX4_time_0 9 rfl rfl)
theorem dX4_time_12 : decode cX4_time 12 = .ok (.iload_n 2, 1) := dk_28 (dk_at dksX4_time_0 12 rfl rfl)
theorem dX4_time_13 : decode cX4_time 13 = .ok (.i2l, 1) := dk_133 (dk_at dksX4_time_0 13 rfl rfl)
theorem dX4_time_14 : decode cX4_time 14 = .ok (.lconst 0, 1) := dk_9 (dk_at dksX4_time_0 14 rfl rfl)
theorem dX4_time_15 : decode cX4_time 15 = .ok (.ldc2_w 147, 3) := dk_20 0 147 (dk_at dksX4_time_0 15 rfl rfl)
theorem dX4_time_18 : decode cX4_time 18 = .ok (.invokestatic 137, 3) := dk_184 0 137 (dk_at dksX4_time_0 18 rfl rfl)
theorem dX4_time_21 : decode cX4_time 21 = .ok (.ifCond .ne 11, 3) := dk_154 0 11 (dk_at dksX4_time_0 21 rfl rfl)
theorem dX4_time_24 : decode cX4_time 24 = .ok (.aload_n 0, 1) := dk_42 (dk_at dksX4_time_1 0 rfl rfl)
theorem dX4_time_25 : decode cX4_time 25 = .ok (.bipush (-2), 2) := dk_16 254 (dk_at dksX4_time_1 1 rfl rfl)
theorem dX4_time_27 : decode cX4_time 27 = .ok (.invokevirtual 130, 3) := dk_182 0 130 (dk_at dksX4_time_1 3 rfl rfl)
theorem dX4_time_30 : decode cX4_time 30 = .ok (.i2l, 1) := dk_133 (dk_at dksX4_time_1 6 rfl rfl)
theorem dX4_time_31 : decode cX4_time 31 = .ok (.lreturn, 1) := dk_173 (dk_at dksX4_time_1 7 rfl rfl)
theorem dX4_time_32 : decode cX4_time 32 = .ok (.aload_n 0, 1) := dk_42 (dk_at dksX4_time_1 8 rfl rfl)
theorem dX4_time_33 : decode cX4_time 33 = .ok (.iload_n 1, 1) := dk_27 (dk_at dksX4_time_1 9 rfl rfl)
theorem dX4_time_34 : decode cX4_time 34 = .ok (.invokevirtual 258, 3) := dk_182 1 2 (dk_at dksX4_time_1 10 rfl rfl)
theorem dX4_time_37 : decode cX4_time 37 = .ok (.lstore_n 3, 1) := dk_66 (dk_at dksX4_time_1 13 rfl rfl)
theorem dX4_time_38 : decode cX4_time 38 = .ok (.aload_n 0, 1) := dk_42 (dk_at dksX4_time_1 14 rfl rfl)
theorem dX4_time_39 : decode cX4_time 39 = .ok (.lload_n 3, 1) := dk_33 (dk_at dksX4_time_1 15 rfl rfl)
theorem dX4_time_40 : decode cX4_time 40 = .ok (.invokevirtual 261, 3) := dk_182 1 5 (dk_at dksX4_time_1 16 rfl rfl)
theorem dX4_time_43 : decode cX4_time 43 = .ok (.istore 5, 2) := dk_54 5 (dk_at dksX4_time_1 19 rfl rfl)
theorem dX4_time_45 : decode cX4_time 45 = .ok (.iload_n 2, 1) := dk_28 (dk_at dksX4_time_1 21 rfl rfl)
theorem dX4_time_46 : decode cX4_time 46 = .ok (.iconst 2, 1) := dk_5 (dk_at dksX4_time_1 22 rfl rfl)
theorem dX4_time_47 : decode cX4_time 47 = .ok (.if_icmp .ge 7, 3) := dk_162 0 7 (dk_at dksX4_time_2 0 rfl rfl)
theorem dX4_time_50 : decode cX4_time 50 = .ok (.lload_n 3, 1) := dk_33 (dk_at dksX4_time_2 3 rfl rfl)
theorem dX4_time_51 : decode cX4_time 51 = .ok (.goto 34, 3) := dk_167 0 34 (dk_at dksX4_time_2 4 rfl rfl)
theorem dX4_time_54 : decode cX4_time 54 = .ok (.iload_n 2, 1) := dk_28 (dk_at dksX4_time_2 7 rfl rfl)
theorem dX4_time_55 : decode cX4_time 55 = .ok (.iconst 4, 1) := dk_7 (dk_at dksX4_time_2 8 rfl rfl)
theorem dX4_time_56 : decode cX4_time 56 = .ok (.if_icmp .ge 11, 3) := dk_162 0 11 (dk_at dksX4_time_2 9 rfl rfl)
theorem dX4_time_59 : decode cX4_time 59 = .ok (.aload_n 0, 1) := dk_42 (dk_at dksX4_time_2 12 rfl rfl)
theorem dX4_time_60 : decode cX4_time 60 = .ok (.iload_n 1, 1) := dk_27 (dk_at dksX4_time_2 13 rfl rfl)
theorem dX4_time_61 : decode cX4_time 61 = .ok (.invokevirtual 243, 3) := dk_182 0 243 (dk_at dksX4_time_2 14 rfl rfl)
theorem dX4_time_64 : decode cX4_time 64 = .ok (.goto 21, 3) := dk_167 0 21 (dk_at dksX4_time_2 17 rfl rfl)
theorem dX4_time_67 : decode cX4_time 67 = .ok (.iload 5, 2) := dk_21 5 (dk_at dksX4_time_2 20 rfl rfl)
theorem dX4_time_69 : decode cX4_time 69 = .ok (.iconst (-1), 1) := dk_2 (dk_at dksX4_time_2 22 rfl rfl)
theorem dX4_time_70 : decode cX4_time 70 = .ok (.if_icmp .ne 7, 3) := dk_160 0 7 (dk_at dksX4_time_3 0 rfl rfl)
theorem dX4_time_73 : decode cX4_time 73 = .ok (.lconst 0, 1) := dk_9 (dk_at dksX4_time_3 3 rfl rfl)
theorem dX4_time_74 : decode cX4_time 74 = .ok (.goto 11, 3) := dk_167 0 11 (dk_at dksX4_time_3 4 rfl rfl)
theorem dX4_time_77 : decode cX4_time 77 = .ok (.lload_n 3, 1) := dk_33 (dk_at dksX4_time_3 7 rfl rfl)
theorem dX4_time_78 : decode cX4_time 78 = .ok (.aload_n 0, 1) := dk_42 (dk_at dksX4_time_3 8 rfl rfl)
theorem dX4_time_79 : decode cX4_time 79 = .ok (.iload 5, 2) := dk_21 5 (dk_at dksX4_time_3 9 rfl rfl)
theorem dX4_time_81 : decode cX4_time 81 = .ok (.invokevirtual 246, 3) := dk_182 0 246 (dk_at dksX4_time_3 11 rfl rfl)
theorem dX4_time_84 : decode cX4_time 84 = .ok (.lsub, 1) := dk_101 (dk_at dksX4_time_3 14 rfl rfl)
theorem dX4_time_85 : decode cX4_time 85 = .ok (.lstore 6, 2) := dk_55 6 (dk_at dksX4_time_3 15 rfl rfl)
theorem dX4_time_87 : decode cX4_time 87 = .ok (.lload 6, 2) := dk_22 6 (dk_at dksX4_time_3 17 rfl rfl)
theorem dX4_time_89 : decode cX4_time 89 = .ok (.iload_n 2, 1) := dk_28 (dk_at dksX4_time_3 19 rfl rfl)
theorem dX4_time_90 : decode cX4_time 90 = .ok (.iconst 2, 1) := dk_5 (dk_at dksX4_time_3 20 rfl rfl)
theorem dX4_time_91 : decode cX4_time 91 = .ok (.irem, 1) := dk_112 (dk_at dksX4_time_3 21 rfl rfl)
theorem dX4_time_92 : decode cX4_time 92 = .ok (.iconst 1, 1) := dk_4 (dk_at dksX4_time_3 22 rfl rfl)
theorem dX4_time_93 : decode cX4_time 93 = .ok (.if_icmp .ne 7, 3) := dk_160 0 7 (dk_at dksX4_time_4 0 rfl rfl)
theorem dX4_time_96 : decode cX4_time 96 = .ok (.iconst 1, 1) := dk_4 (dk_at dksX4_time_4 3 rfl rfl)
theorem dX4_time_97 : decode cX4_time 97 = .ok (.goto 4, 3) := dk_167 0 4 (dk_at dksX4_time_4 4 rfl rfl)
theorem dX4_time_100 : decode cX4_time 100 = .ok (.iconst 0, 1) := dk_3 (dk_at dksX4_time_4 7 rfl rfl)
theorem dX4_time_101 : decode cX4_time 101 = .ok (.invokestatic 265, 3) := dk_184 1 9 (dk_at dksX4_time_4 8 rfl rfl)
theorem dX4_time_104 : decode cX4_time 104 = .ok (.lreturn, 1) := dk_173 (dk_at dksX4_time_4 11 rfl rfl)
abbrev cX4_fraction : ByteArray := prog_21_method_38_code
def yX4_fraction : MethodName := ⟨RX4, "fraction", "(JZ)J"⟩
def dkwX4_fraction_0 : List UInt8 := [20, 0, 154, 30, 184, 0, 249, 66, 28, 153, 0, 11, 20, 0, 154, 33, 109, 167, 0, 6, 30, 33, 109, 173]
abbrev dktX4_fraction_0 : List UInt8 := dkwX4_fraction_0 ++ []
theorem dksX4_fraction_0 : cX4_fraction.data.toList.drop 0 = dktX4_fraction_0 := by decide +kernel
theorem dX4_fraction_0 : decode cX4_fraction 0 = .ok (.ldc2_w 154, 3) := dk_20 0 154 (dk_at dksX4_fraction_0 0 rfl rfl)
theorem dX4_fraction_3 : decode cX4_fraction 3 = .ok (.lload_n 0, 1) := dk_30 (dk_at dksX4_fraction_0 3 rfl rfl)
theorem dX4_fraction_4 : decode cX4_fraction 4 = .ok (.invokestatic 249, 3) := dk_184 0 249 (dk_at dksX4_fraction_0 4 rfl rfl)
theorem dX4_fraction_7 : decode cX4_fraction 7 = .ok (.lstore_n 3, 1) := dk_66 (dk_at dksX4_fraction_0 7 rfl rfl)
theorem dX4_fraction_8 : decode cX4_fraction 8 = .ok (.iload_n 2, 1) := dk_28 (dk_at dksX4_fraction_0 8 rfl rfl)
theorem dX4_fraction_9 : decode cX4_fraction 9 = .ok (.ifCond .eq 11, 3) := dk_153 0 11 (dk_at dksX4_fraction_0 9 rfl rfl)
theorem dX4_fraction_12 : decode cX4_fraction 12 = .ok (.ldc2_w 154, 3) := dk_20 0 154 (dk_at dksX4_fraction_0 12 rfl rfl)
theorem dX4_fraction_15 : decode cX4_fraction 15 = .ok (.lload_n 3, 1) := dk_33 (dk_at dksX4_fraction_0 15 rfl rfl)
theorem dX4_fraction_16 : decode cX4_fraction 16 = .ok (.ldiv, 1) := dk_109 (dk_at dksX4_fraction_0 16 rfl rfl)
theorem dX4_fraction_17 : decode cX4_fraction 17 = .ok (.goto 6, 3) := dk_167 0 6 (dk_at dksX4_fraction_0 17 rfl rfl)
theorem dX4_fraction_20 : decode cX4_fraction 20 = .ok (.lload_n 0, 1) := dk_30 (dk_at dksX4_fraction_0 20 rfl rfl)
theorem dX4_fraction_21 : decode cX4_fraction 21 = .ok (.lload_n 3, 1) := dk_33 (dk_at dksX4_fraction_0 21 rfl rfl)
theorem dX4_fraction_22 : decode cX4_fraction 22 = .ok (.ldiv, 1) := dk_109 (dk_at dksX4_fraction_0 22 rfl rfl)
theorem dX4_fraction_23 : decode cX4_fraction 23 = .ok (.lreturn, 1) := dk_173 (dk_at dksX4_fraction_0 23 rfl rfl)
abbrev cX4_divisor : ByteArray := prog_21_method_37_code
def yX4_divisor : MethodName := ⟨RX4, "divisor", "(JJ)J"⟩
def dkwX4_divisor_1 : List UInt8 := [22, 8, 55, 6, 167, 255, 234, 22, 4, 173]
abbrev dktX4_divisor_1 : List UInt8 := dkwX4_divisor_1 ++ []
def dkwX4_divisor_0 : List UInt8 := [30, 55, 4, 32, 55, 6, 22, 6, 9, 148, 153, 0, 21, 22, 4, 22, 6, 113, 55, 8, 22, 6, 55, 4]
abbrev dktX4_divisor_0 : List UInt8 := dkwX4_divisor_0 ++ dktX4_divisor_1
theorem dksX4_divisor_0 : cX4_divisor.data.toList.drop 0 = dktX4_divisor_0 := by decide +kernel
theorem dksX4_divisor_1 : cX4_divisor.data.toList.drop 24 = dktX4_divisor_1 := dk_seg dksX4_divisor_0 24 rfl rfl
theorem dX4_divisor_0 : decode cX4_divisor 0 = .ok (.lload_n 0, 1) := dk_30 (dk_at dksX4_divisor_0 0 rfl rfl)
theorem dX4_divisor_1 : decode cX4_divisor 1 = .ok (.lstore 4, 2) := dk_55 4 (dk_at dksX4_divisor_0 1 rfl rfl)
theorem dX4_divisor_3 : decode cX4_divisor 3 = .ok (.lload_n 2, 1) := dk_32 (dk_at dksX4_divisor_0 3 rfl rfl)
theorem dX4_divisor_4 : decode cX4_divisor 4 = .ok (.lstore 6, 2) := dk_55 6 (dk_at dksX4_divisor_0 4 rfl rfl)
theorem dX4_divisor_6 : decode cX4_divisor 6 = .ok (.lload 6, 2) := dk_22 6 (dk_at dksX4_divisor_0 6 rfl rfl)
theorem dX4_divisor_8 : decode cX4_divisor 8 = .ok (.lconst 0, 1) := dk_9 (dk_at dksX4_divisor_0 8 rfl rfl)
theorem dX4_divisor_9 : decode cX4_divisor 9 = .ok (.lcmp, 1) := dk_148 (dk_at dksX4_divisor_0 9 rfl rfl)
theorem dX4_divisor_10 : decode cX4_divisor 10 = .ok (.ifCond .eq 21, 3) := dk_153 0 21 (dk_at dksX4_divisor_0 10 rfl rfl)
theorem dX4_divisor_13 : decode cX4_divisor 13 = .ok (.lload 4, 2) := dk_22 4 (dk_at dksX4_divisor_0 13 rfl rfl)
theorem dX4_divisor_15 : decode cX4_divisor 15 = .ok (.lload 6, 2) := dk_22 6 (dk_at dksX4_divisor_0 15 rfl rfl)
theorem dX4_divisor_17 : decode cX4_divisor 17 = .ok (.lrem, 1) := dk_113 (dk_at dksX4_divisor_0 17 rfl rfl)
theorem dX4_divisor_18 : decode cX4_divisor 18 = .ok (.lstore 8, 2) := dk_55 8 (dk_at dksX4_divisor_0 18 rfl rfl)
theorem dX4_divisor_20 : decode cX4_divisor 20 = .ok (.lload 6, 2) := dk_22 6 (dk_at dksX4_divisor_0 20 rfl rfl)
theorem dX4_divisor_22 : decode cX4_divisor 22 = .ok (.lstore 4, 2) := dk_55 4 (dk_at dksX4_divisor_0 22 rfl rfl)
theorem dX4_divisor_24 : decode cX4_divisor 24 = .ok (.lload 8, 2) := dk_22 8 (dk_at dksX4_divisor_1 0 rfl rfl)
theorem dX4_divisor_26 : decode cX4_divisor 26 = .ok (.lstore 6, 2) := dk_55 6 (dk_at dksX4_divisor_1 2 rfl rfl)
theorem dX4_divisor_28 : decode cX4_divisor 28 = .ok (.goto (-22), 3) := dk_167 255 234 (dk_at dksX4_divisor_1 4 rfl rfl)
theorem dX4_divisor_31 : decode cX4_divisor 31 = .ok (.lload 4, 2) := dk_22 4 (dk_at dksX4_divisor_1 7 rfl rfl)
theorem dX4_divisor_33 : decode cX4_divisor 33 = .ok (.lreturn, 1) := dk_173 (dk_at dksX4_divisor_1 9 rfl rfl)
abbrev cX4_length : ByteArray := prog_21_method_42_code
def yX4_length : MethodName := ⟨RX4, "length", "(II)J"⟩
def dkwX4_length_2 : List UInt8 := [184, 1, 9, 173]
abbrev dktX4_length_2 : List UInt8 := dkwX4_length_2 ++ []
def dkwX4_length_1 : List UInt8 := [16, 254, 182, 0, 130, 133, 173, 42, 27, 182, 1, 13, 28, 4, 160, 0, 7, 4, 167, 0, 4, 3]
abbrev dktX4_length_1 : List UInt8 := dkwX4_length_1 ++ dktX4_length_2
def dkwX4_length_0 : List UInt8 := [42, 182, 0, 144, 42, 27, 182, 0, 184, 153, 0, 13, 28, 133, 9, 10, 184, 0, 137, 154, 0, 11, 42]
abbrev dktX4_length_0 : List UInt8 := dkwX4_length_0 ++ dktX4_length_1
theorem dksX4_length_0 : cX4_length.data.toList.drop 0 = dktX4_length_0 := by decide +kernel
theorem dksX4_length_1 : cX4_length.data.toList.drop 23 = dktX4_length_1 := dk_seg dksX4_length_0 23 rfl rfl
theorem dksX4_length_2 : cX4_length.data.toList.drop 45 = dktX4_length_2 := dk_seg dksX4_length_1 22 rfl rfl
theorem dX4_length_0 : decode cX4_length 0 = .ok (.aload_n 0, 1) := dk_42 (dk_at dksX4_length_0 0 rfl rfl)
theorem dX4_length_1 : decode cX4_length 1 = .ok (.invokevirtual 144, 3) := dk_182 0 144 (dk_at dksX4_length_0 1 rfl rfl)
theorem dX4_length_4 : decode cX4_length 4 = .ok (.aload_n 0, 1) := dk_42 (dk_at dksX4_length_0 4 rfl rfl)
theorem dX4_length_5 : decode cX4_length 5 = .ok (.iload_n 1, 1) := dk_27 (dk_at dksX4_length_0 5 rfl rfl)
theorem dX4_length_6 : decode cX4_length 6 = .ok (.invokevirtual 184, 3) := dk_182 0 184 (dk_at dksX4_length_0 6 rfl rfl)
theorem dX4_length_9 : decode cX4_length 9 = .ok (.ifCond .eq 13, 3) := dk_153 0 13 (dk_at dksX4_length_0 9 rfl rfl)
theorem dX4_length_12 : decode cX4_length 12 = .ok (.iload_n 2, 1) := dk_28 (dk_at dksX4_length_0 12 rfl rfl)
theorem dX4_length_13 : decode cX4_length 13 = .ok (.i2l, 1) := dk_133 (dk_at dksX4_length_0 13 rfl rfl)
theorem dX4_length_14 : decode cX4_length 14 = .ok (.lconst 0, 1) := dk_9 (dk_at dksX4_length_0 14 rfl rfl)
theorem dX4_length_15 : decode cX4_length 15 = .ok (.lconst 1, 1) := dk_10 (dk_at dksX4_length_0 15 rfl rfl)
theorem dX4_length_16 : decode cX4_length 16 = .ok (.invokestatic 137, 3) := dk_184 0 137 (dk_at dksX4_length_0 16 rfl rfl)
theorem dX4_length_19 : decode cX4_length 19 = .ok (.ifCond .ne 11, 3) := dk_154 0 11 (dk_at dksX4_length_0 19 rfl rfl)
theorem dX4_length_22 : decode cX4_length 22 = .ok (.aload_n 0, 1) := dk_42 (dk_at dksX4_length_0 22 rfl rfl)
theorem dX4_length_23 : decode cX4_length 23 = .ok (.bipush (-2), 2) := dk_16 254 (dk_at dksX4_length_1 0 rfl rfl)
theorem dX4_length_25 : decode cX4_length 25 = .ok (.invokevirtual 130, 3) := dk_182 0 130 (dk_at dksX4_length_1 2 rfl rfl)
theorem dX4_length_28 : decode cX4_length 28 = .ok (.i2l, 1) := dk_133 (dk_at dksX4_length_1 5 rfl rfl)
theorem dX4_length_29 : decode cX4_length 29 = .ok (.lreturn, 1) := dk_173 (dk_at dksX4_length_1 6 rfl rfl)
theorem dX4_length_30 : decode cX4_length 30 = .ok (.aload_n 0, 1) := dk_42 (dk_at dksX4_length_1 7 rfl rfl)
theorem dX4_length_31 : decode cX4_length 31 = .ok (.iload_n 1, 1) := dk_27 (dk_at dksX4_length_1 8 rfl rfl)
theorem dX4_length_32 : decode cX4_length 32 = .ok (.invokevirtual 269, 3) := dk_182 1 13 (dk_at dksX4_length_1 9 rfl rfl)
theorem dX4_length_35 : decode cX4_length 35 = .ok (.iload_n 2, 1) := dk_28 (dk_at dksX4_length_1 12 rfl rfl)
theorem dX4_length_36 : decode cX4_length 36 = .ok (.iconst 1, 1) := dk_4 (dk_at dksX4_length_1 13 rfl rfl)
theorem dX4_length_37 : decode cX4_length 37 = .ok (.if_icmp .ne 7, 3) := dk_160 0 7 (dk_at dksX4_length_1 14 rfl rfl)
theorem dX4_length_40 : decode cX4_length 40 = .ok (.iconst 1, 1) := dk_4 (dk_at dksX4_length_1 17 rfl rfl)
theorem dX4_length_41 : decode cX4_length 41 = .ok (.goto 4, 3) := dk_167 0 4 (dk_at dksX4_length_1 18 rfl rfl)
theorem dX4_length_44 : decode cX4_length 44 = .ok (.iconst 0, 1) := dk_3 (dk_at dksX4_length_1 21 rfl rfl)
theorem dX4_length_45 : decode cX4_length 45 = .ok (.invokestatic 265, 3) := dk_184 1 9 (dk_at dksX4_length_2 0 rfl rfl)
theorem dX4_length_48 : decode cX4_length 48 = .ok (.lreturn, 1) := dk_173 (dk_at dksX4_length_2 3 rfl rfl)
abbrev cX4_lengthOf : ByteArray := prog_21_method_34_code
def yX4_lengthOf : MethodName := ⟨RX4, "lengthOf", "(I)J"⟩
def dkwX4_lengthOf_1 : List UInt8 := [27, 104, 21, 4, 96, 46, 182, 0, 243, 97, 65, 132, 4, 1, 167, 255, 223, 32, 173]
abbrev dktX4_lengthOf_1 : List UInt8 := dkwX4_lengthOf_1 ++ []
def dkwX4_lengthOf_0 : List UInt8 := [9, 65, 3, 54, 4, 21, 4, 42, 180, 0, 45, 27, 46, 162, 0, 28, 32, 42, 42, 180, 0, 42, 16, 40]
abbrev dktX4_lengthOf_0 : List UInt8 := dkwX4_lengthOf_0 ++ dktX4_lengthOf_1
theorem dksX4_lengthOf_0 : cX4_lengthOf.data.toList.drop 0 = dktX4_lengthOf_0 := by decide +kernel
theorem dksX4_lengthOf_1 : cX4_lengthOf.data.toList.drop 24 = dktX4_lengthOf_1 := dk_seg dksX4_lengthOf_0 24 rfl rfl
theorem dX4_lengthOf_0 : decode cX4_lengthOf 0 = .ok (.lconst 0, 1) := dk_9 (dk_at dksX4_lengthOf_0 0 rfl rfl)
theorem dX4_lengthOf_1 : decode cX4_lengthOf 1 = .ok (.lstore_n 2, 1) := dk_65 (dk_at dksX4_lengthOf_0 1 rfl rfl)
theorem dX4_lengthOf_2 : decode cX4_lengthOf 2 = .ok (.iconst 0, 1) := dk_3 (dk_at dksX4_lengthOf_0 2 rfl rfl)
theorem dX4_lengthOf_3 : decode cX4_lengthOf 3 = .ok (.istore 4, 2) := dk_54 4 (dk_at dksX4_lengthOf_0 3 rfl rfl)
theorem dX4_lengthOf_5 : decode cX4_lengthOf 5 = .ok (.iload 4, 2) := dk_21 4 (dk_at dksX4_lengthOf_0 5 rfl rfl)
theorem dX4_lengthOf_7 : decode cX4_lengthOf 7 = .ok (.aload_n 0, 1) := dk_42 (dk_at dksX4_lengthOf_0 7 rfl rfl)
theorem dX4_lengthOf_8 : decode cX4_lengthOf 8 = .ok (.getfield 45, 3) := dk_180 0 45 (dk_at dksX4_lengthOf_0 8 rfl rfl)
theorem dX4_lengthOf_11 : decode cX4_lengthOf 11 = .ok (.iload_n 1, 1) := dk_27 (dk_at dksX4_lengthOf_0 11 rfl rfl)
theorem dX4_lengthOf_12 : decode cX4_lengthOf 12 = .ok (.iaload, 1) := dk_46 (dk_at dksX4_lengthOf_0 12 rfl rfl)
theorem dX4_lengthOf_13 : decode cX4_lengthOf 13 = .ok (.if_icmp .ge 28, 3) := dk_162 0 28 (dk_at dksX4_lengthOf_0 13 rfl rfl)
theorem dX4_lengthOf_16 : decode cX4_lengthOf 16 = .ok (.lload_n 2, 1) := dk_32 (dk_at dksX4_lengthOf_0 16 rfl rfl)
theorem dX4_lengthOf_17 : decode cX4_lengthOf 17 = .ok (.aload_n 0, 1) := dk_42 (dk_at dksX4_lengthOf_0 17 rfl rfl)
theorem dX4_lengthOf_18 : decode cX4_lengthOf 18 = .ok (.aload_n 0, 1) := dk_42 (dk_at dksX4_lengthOf_0 18 rfl rfl)
theorem dX4_lengthOf_19 : decode cX4_lengthOf 19 = .ok (.getfield 42, 3) := dk_180 0 42 (dk_at dksX4_lengthOf_0 19 rfl rfl)
theorem dX4_lengthOf_22 : decode cX4_lengthOf 22 = .ok (.bipush 40, 2) := dk_16 40 (dk_at dksX4_lengthOf_0 22 rfl rfl)
theorem dX4_lengthOf_24 : decode cX4_lengthOf 24 = .ok (.iload_n 1, 1) := dk_27 (dk_at dksX4_lengthOf_1 0 rfl rfl)
theorem dX4_lengthOf_25 : decode cX4_lengthOf 25 = .ok (.imul, 1) := dk_104 (dk_at dksX4_lengthOf_1 1 rfl rfl)
theorem dX4_lengthOf_26 : decode cX4_lengthOf 26 = .ok (.iload 4, 2) := dk_21 4 (dk_at dksX4_lengthOf_1 2 rfl rfl)
theorem dX4_lengthOf_28 : decode cX4_lengthOf 28 = .ok (.iadd, 1) := dk_96 (dk_at dksX4_lengthOf_1 4 rfl rfl)
theorem dX4_lengthOf_29 : decode cX4_lengthOf 29 = .ok (.iaload, 1) := dk_46 (dk_at dksX4_lengthOf_1 5 rfl rfl)
theorem dX4_lengthOf_30 : decode cX4_lengthOf 30 = .ok (.invokevirtual 243, 3) := dk_182 0 243 (dk_at dksX4_lengthOf_1 6 rfl rfl)
theorem dX4_lengthOf_33 : decode cX4_lengthOf 33 = .ok (.ladd, 1) := dk_97 (dk_at dksX4_lengthOf_1 9 rfl rfl)
theorem dX4_lengthOf_34 : decode cX4_lengthOf 34 = .ok (.lstore_n 2, 1) := dk_65 (dk_at dksX4_lengthOf_1 10 rfl rfl)
theorem dX4_lengthOf_35 : decode cX4_lengthOf 35 = .ok (.iinc 4 1, 3) := dk_132 4 1 (dk_at dksX4_lengthOf_1 11 rfl rfl)
theorem dX4_lengthOf_38 : decode cX4_lengthOf 38 = .ok (.goto (-33), 3) := dk_167 255 223 (dk_at dksX4_lengthOf_1 14 rfl rfl)
theorem dX4_lengthOf_41 : decode cX4_lengthOf 41 = .ok (.lload_n 2, 1) := dk_32 (dk_at dksX4_lengthOf_1 17 rfl rfl)
theorem dX4_lengthOf_42 : decode cX4_lengthOf 42 = .ok (.lreturn, 1) := dk_173 (dk_at dksX4_lengthOf_1 18 rfl rfl)
abbrev cX4_event : ByteArray := prog_21_method_43_code
def yX4_event : MethodName := ⟨RX4, "event", "(II)I"⟩
def dkwX4_event_2 : List UInt8 := [46, 167, 0, 4, 2, 172]
abbrev dktX4_event_2 : List UInt8 := dkwX4_event_2 ++ []
def dkwX4_event_1 : List UInt8 := [180, 0, 45, 27, 46, 4, 100, 133, 184, 0, 137, 153, 0, 17, 42, 180, 0, 42, 16, 40, 27, 104, 28, 96]
abbrev dktX4_event_1 : List UInt8 := dkwX4_event_1 ++ dktX4_event_2
def dkwX4_event_0 : List UInt8 := [42, 182, 0, 144, 42, 27, 182, 0, 184, 154, 0, 10, 42, 16, 254, 182, 0, 130, 172, 28, 133, 9, 42]
abbrev dktX4_event_0 : List UInt8 := dkwX4_event_0 ++ dktX4_event_1
theorem dksX4_event_0 : cX4_event.data.toList.drop 0 = dktX4_event_0 := by decide +kernel
theorem dksX4_event_1 : cX4_event.data.toList.drop 23 = dktX4_event_1 := dk_seg dksX4_event_0 23 rfl rfl
theorem dksX4_event_2 : cX4_event.data.toList.drop 47 = dktX4_event_2 := dk_seg dksX4_event_1 24 rfl rfl
theorem dX4_event_0 : decode cX4_event 0 = .ok (.aload_n 0, 1) := dk_42 (dk_at dksX4_event_0 0 rfl rfl)
theorem dX4_event_1 : decode cX4_event 1 = .ok (.invokevirtual 144, 3) := dk_182 0 144 (dk_at dksX4_event_0 1 rfl rfl)
theorem dX4_event_4 : decode cX4_event 4 = .ok (.aload_n 0, 1) := dk_42 (dk_at dksX4_event_0 4 rfl rfl)
theorem dX4_event_5 : decode cX4_event 5 = .ok (.iload_n 1, 1) := dk_27 (dk_at dksX4_event_0 5 rfl rfl)
theorem dX4_event_6 : decode cX4_event 6 = .ok (.invokevirtual 184, 3) := dk_182 0 184 (dk_at dksX4_event_0 6 rfl rfl)
theorem dX4_event_9 : decode cX4_event 9 = .ok (.ifCond .ne 10, 3) := dk_154 0 10 (dk_at dksX4_event_0 9 rfl rfl)
theorem dX4_event_12 : decode cX4_event 12 = .ok (.aload_n 0, 1) := dk_42 (dk_at dksX4_event_0 12 rfl rfl)
theorem dX4_event_13 : decode cX4_event 13 = .ok (.bipush (-2), 2) := dk_16 254 (dk_at dksX4_event_0 13 rfl rfl)
theorem dX4_event_15 : decode cX4_event 15 = .ok (.invokevirtual 130, 3) := dk_182 0 130 (dk_at dksX4_event_0 15 rfl rfl)
theorem dX4_event_18 : decode cX4_event 18 = .ok (.ireturn, 1) := dk_172 (dk_at dksX4_event_0 18 rfl rfl)
theorem dX4_event_19 : decode cX4_event 19 = .ok (.iload_n 2, 1) := dk_28 (dk_at dksX4_event_0 19 rfl rfl)
theorem dX4_event_20 : decode cX4_event 20 = .ok (.i2l, 1) := dk_133 (dk_at dksX4_event_0 20 rfl rfl)
theorem dX4_event_21 : decode cX4_event 21 = .ok (.lconst 0, 1) := dk_9 (dk_at dksX4_event_0 21 rfl rfl)
theorem dX4_event_22 : decode cX4_event 22 = .ok (.aload_n 0, 1) := dk_42 (dk_at dksX4_event_0 22 rfl rfl)
theorem dX4_event_23 : decode cX4_event 23 = .ok (.getfield 45, 3) := dk_180 0 45 (dk_at dksX4_event_1 0 rfl rfl)
theorem dX4_event_26 : decode cX4_event 26 = .ok (.iload_n 1, 1) := dk_27 (dk_at dksX4_event_1 3 rfl rfl)
theorem dX4_event_27 : decode cX4_event 27 = .ok (.iaload, 1) := dk_46 (dk_at dksX4_event_1 4 rfl rfl)
theorem dX4_event_28 : decode cX4_event 28 = .ok (.iconst 1, 1) := dk_4 (dk_at dksX4_event_1 5 rfl rfl)
theorem dX4_event_29 : decode cX4_event 29 = .ok (.isub, 1) := dk_100 (dk_at dksX4_event_1 6 rfl rfl)
theorem dX4_event_30 : decode cX4_event 30 = .ok (.i2l, 1) := dk_133 (dk_at dksX4_event_1 7 rfl rfl)
theorem dX4_event_31 : decode cX4_event 31 = .ok (.invokestatic 137, 3) := dk_184 0 137 (dk_at dksX4_event_1 8 rfl rfl)
theorem dX4_event_34 : decode cX4_event 34 = .ok (.ifCond .eq 17, 3) := dk_153 0 17 (dk_at dksX4_event_1 11 rfl rfl)
theorem dX4_event_37 : decode cX4_event 37 = .ok (.aload_n 0, 1) := dk_42 (dk_at dksX4_event_1 14 rfl rfl)
theorem dX4_event_38 : decode cX4_event 38 = .ok (.getfield 42, 3) := dk_180 0 42 (dk_at dksX4_event_1 15 rfl rfl)
theorem dX4_event_41 : decode cX4_event 41 = .ok (.bipush 40, 2) := dk_16 40 (dk_at dksX4_event_1 18 rfl rfl)
theorem dX4_event_43 : decode cX4_event 43 = .ok (.iload_n 1, 1) := dk_27 (dk_at dksX4_event_1 20 rfl rfl)
theorem dX4_event_44 : decode cX4_event 44 = .ok (.imul, 1) := dk_104 (dk_at dksX4_event_1 21 rfl rfl)
theorem dX4_event_45 : decode cX4_event 45 = .ok (.iload_n 2, 1) := dk_28 (dk_at dksX4_event_1 22 rfl rfl)
theorem dX4_event_46 : decode cX4_event 46 = .ok (.iadd, 1) := dk_96 (dk_at dksX4_event_1 23 rfl rfl)
theorem dX4_event_47 : decode cX4_event 47 = .ok (.iaload, 1) := dk_46 (dk_at dksX4_event_2 0 rfl rfl)
theorem dX4_event_48 : decode cX4_event 48 = .ok (.goto 4, 3) := dk_167 0 4 (dk_at dksX4_event_2 1 rfl rfl)
theorem dX4_event_51 : decode cX4_event 51 = .ok (.iconst (-1), 1) := dk_2 (dk_at dksX4_event_2 4 rfl rfl)
theorem dX4_event_52 : decode cX4_event 52 = .ok (.ireturn, 1) := dk_172 (dk_at dksX4_event_2 5 rfl rfl)
abbrev cX4_tuplet : ByteArray := prog_21_method_44_code
def yX4_tuplet : MethodName := ⟨RX4, "tuplet", "(IIIIII)I"⟩
def dkwX4_tuplet_17 : List UInt8 := [42, 180, 0, 66, 21, 9, 21, 6, 79, 21, 9, 172]
abbrev dktX4_tuplet_17 : List UInt8 := dkwX4_tuplet_17 ++ []
def dkwX4_tuplet_16 : List UInt8 := [104, 21, 8, 96, 46, 79, 42, 180, 0, 60, 21, 9, 21, 4, 79, 42, 180, 0, 63, 21, 9, 21, 5, 79]
abbrev dktX4_tuplet_16 : List UInt8 := dkwX4_tuplet_16 ++ dktX4_tuplet_17
def dkwX4_tuplet_15 : List UInt8 := [180, 0, 42, 16, 40, 27, 104, 28, 96, 46, 79, 42, 180, 0, 57, 21, 9, 42, 180, 0, 42, 16, 40, 27]
abbrev dktX4_tuplet_15 : List UInt8 := dkwX4_tuplet_15 ++ dktX4_tuplet_16
def dkwX4_tuplet_14 : List UInt8 := [180, 0, 48, 21, 9, 4, 84, 42, 180, 0, 51, 21, 9, 27, 79, 42, 180, 0, 54, 21, 9, 42]
abbrev dktX4_tuplet_14 : List UInt8 := dkwX4_tuplet_14 ++ dktX4_tuplet_15
def dkwX4_tuplet_13 : List UInt8 := [54, 9, 42, 89, 180, 0, 199, 4, 96, 181, 0, 199, 42, 89, 180, 0, 202, 4, 96, 181, 0, 202, 42]
abbrev dktX4_tuplet_13 : List UInt8 := dkwX4_tuplet_13 ++ dktX4_tuplet_14
def dkwX4_tuplet_12 : List UInt8 := [167, 255, 219, 42, 180, 0, 199, 16, 20, 160, 0, 10, 42, 16, 252, 182, 0, 130, 172, 42, 180, 0, 199]
abbrev dktX4_tuplet_12 : List UInt8 := dkwX4_tuplet_12 ++ dktX4_tuplet_13
def dkwX4_tuplet_11 : List UInt8 := [27, 104, 21, 9, 96, 46, 182, 0, 255, 4, 164, 0, 10, 42, 16, 253, 182, 0, 130, 172, 132, 9, 1]
abbrev dktX4_tuplet_11 : List UInt8 := dkwX4_tuplet_11 ++ dktX4_tuplet_12
def dkwX4_tuplet_10 : List UInt8 := [172, 132, 9, 1, 167, 255, 139, 28, 54, 9, 21, 9, 21, 8, 163, 0, 36, 42, 42, 180, 0, 42, 16, 40]
abbrev dktX4_tuplet_10 : List UInt8 := dkwX4_tuplet_10 ++ dktX4_tuplet_11
def dkwX4_tuplet_9 : List UInt8 := [21, 11, 164, 0, 23, 28, 21, 10, 163, 0, 10, 21, 11, 21, 8, 164, 0, 10, 42, 16, 253, 182, 0, 130]
abbrev dktX4_tuplet_9 : List UInt8 := dkwX4_tuplet_9 ++ dktX4_tuplet_10
def dkwX4_tuplet_8 : List UInt8 := [164, 0, 7, 4, 167, 0, 4, 3, 54, 12, 21, 12, 154, 0, 36, 21, 10, 28, 163, 0, 10, 21, 8]
abbrev dktX4_tuplet_8 : List UInt8 := dkwX4_tuplet_8 ++ dktX4_tuplet_9
def dkwX4_tuplet_7 : List UInt8 := [42, 180, 0, 57, 21, 9, 46, 182, 0, 196, 54, 11, 21, 11, 28, 161, 0, 10, 21, 10, 21, 8]
abbrev dktX4_tuplet_7 : List UInt8 := dkwX4_tuplet_7 ++ dktX4_tuplet_8
def dkwX4_tuplet_6 : List UInt8 := [180, 0, 51, 21, 9, 46, 27, 160, 0, 87, 42, 42, 180, 0, 54, 21, 9, 46, 182, 0, 196, 54, 10, 42]
abbrev dktX4_tuplet_6 : List UInt8 := dkwX4_tuplet_6 ++ dktX4_tuplet_7
def dkwX4_tuplet_5 : List UInt8 := [54, 9, 21, 9, 42, 180, 0, 199, 162, 0, 114, 42, 180, 0, 48, 21, 9, 51, 153, 0, 98, 42]
abbrev dktX4_tuplet_5 : List UInt8 := dkwX4_tuplet_5 ++ dktX4_tuplet_6
def dkwX4_tuplet_4 : List UInt8 := [20, 0, 147, 184, 0, 137, 154, 0, 10, 42, 16, 254, 182, 0, 130, 172, 28, 29, 96, 4, 100, 54, 8, 3]
abbrev dktX4_tuplet_4 : List UInt8 := dkwX4_tuplet_4 ++ dktX4_tuplet_5
def dkwX4_tuplet_3 : List UInt8 := [21, 7, 153, 0, 29, 21, 5, 133, 10, 20, 0, 253, 184, 0, 137, 153, 0, 16, 21, 6, 133, 9]
abbrev dktX4_tuplet_3 : List UInt8 := dkwX4_tuplet_3 ++ dktX4_tuplet_4
def dkwX4_tuplet_2 : List UInt8 := [155, 0, 55, 29, 4, 161, 0, 50, 28, 133, 29, 133, 97, 42, 180, 0, 45, 27, 46, 133, 148, 157, 0, 34]
abbrev dktX4_tuplet_2 : List UInt8 := dkwX4_tuplet_2 ++ dktX4_tuplet_3
def dkwX4_tuplet_1 : List UInt8 := [21, 4, 16, 7, 160, 0, 7, 4, 167, 0, 4, 3, 54, 7, 42, 27, 182, 0, 184, 153, 0, 59, 28]
abbrev dktX4_tuplet_1 : List UInt8 := dkwX4_tuplet_1 ++ dktX4_tuplet_2
def dkwX4_tuplet_0 : List UInt8 := [42, 182, 0, 144, 21, 4, 6, 159, 0, 23, 21, 4, 8, 159, 0, 17, 21, 4, 16, 6, 159, 0, 10]
abbrev dktX4_tuplet_0 : List UInt8 := dkwX4_tuplet_0 ++ dktX4_tuplet_1
theorem dksX4_tuplet_0 : cX4_tuplet.data.toList.drop 0 = dktX4_tuplet_0 := by decide +kernel
theorem dksX4_tuplet_1 : cX4_tuplet.data.toList.drop 23 = dktX4_tuplet_1 := dk_seg dksX4_tuplet_0 23 rfl rfl
theorem dksX4_tuplet_2 : cX4_tuplet.data.toList.drop 46 = dktX4_tuplet_2 := dk_seg dksX4_tuplet_1 23 rfl rfl
theorem dksX4_tuplet_3 : cX4_tuplet.data.toList.drop 70 = dktX4_tuplet_3 := dk_seg dksX4_tuplet_2 24 rfl rfl
theorem dksX4_tuplet_4 : cX4_tuplet.data.toList.drop 92 = dktX4_tuplet_4 := dk_seg dksX4_tuplet_3 22 rfl rfl
theorem dksX4_tuplet_5 : cX4_tuplet.data.toList.drop 116 = dktX4_tuplet_5 := dk_seg dksX4_tuplet_4 24 rfl rfl
theorem dksX4_tuplet_6 : cX4_tuplet.data.toList.drop 138 = dktX4_tuplet_6 := dk_seg dksX4_tuplet_5 22 rfl rfl
theorem dksX4_tuplet_7 : cX4_tuplet.data.toList.drop 162 = dktX4_tuplet_7 := dk_seg dksX4_tuplet_6 24 rfl rfl
theorem dksX4_tuplet_8 : cX4_tuplet.data.toList.drop 184 = dktX4_tuplet_8 := dk_seg dksX4_tuplet_7 22 rfl rfl
theorem dksX4_tuplet_9 : cX4_tuplet.data.toList.drop 207 = dktX4_tuplet_9 := dk_seg dksX4_tuplet_8 23 rfl rfl
theorem dksX4_tuplet_10 : cX4_tuplet.data.toList.drop 231 = dktX4_tuplet_10 := dk_seg dksX4_tuplet_9 24 rfl rfl
theorem dksX4_tuplet_11 : cX4_tuplet.data.toList.drop 255 = dktX4_tuplet_11 := dk_seg dksX4_tuplet_10 24 rfl rfl
theorem dksX4_tuplet_12 : cX4_tuplet.data.toList.drop 278 = dktX4_tuplet_12 := dk_seg dksX4_tuplet_11 23 rfl rfl
theorem dksX4_tuplet_13 : cX4_tuplet.data.toList.drop 301 = dktX4_tuplet_13 := dk_seg dksX4_tuplet_12 23 rfl rfl
theorem dksX4_tuplet_14 : cX4_tuplet.data.toList.drop 324 = dktX4_tuplet_14 := dk_seg dksX4_tuplet_13 23 rfl rfl
theorem dksX4_tuplet_15 : cX4_tuplet.data.toList.drop 346 = dktX4_tuplet_15 := dk_seg dksX4_tuplet_14 22 rfl rfl
theorem dksX4_tuplet_16 : cX4_tuplet.data.toList.drop 370 = dktX4_tuplet_16 := dk_seg dksX4_tuplet_15 24 rfl rfl
theorem dksX4_tuplet_17 : cX4_tuplet.data.toList.drop 394 = dktX4_tuplet_17 := dk_seg dksX4_tuplet_16 24 rfl rfl
theorem dX4_tuplet_0 : decode cX4_tuplet 0 = .ok (.aload_n 0, 1) := dk_42 (dk_at dksX4_tuplet_0 0 rfl rfl)
theorem dX4_tuplet_1 : decode cX4_tuplet 1 = .ok (.invokevirtual 144, 3) := dk_182 0 144 (dk_at dksX4_tuplet_0 1 rfl rfl)
theorem dX4_tuplet_4 : decode cX4_tuplet 4 = .ok (.iload 4, 2) := dk_21 4 (dk_at dksX4_tuplet_0 4 rfl rfl)
theorem dX4_tuplet_6 : decode cX4_tuplet 6 = .ok (.iconst 3, 1) := dk_6 (dk_at dksX4_tuplet_0 6 rfl rfl)
theorem dX4_tuplet_7 : decode cX4_tuplet 7 = .ok (.if_icmp .eq 23, 3) := dk_159 0 23 (dk_at dksX4_tuplet_0 7 rfl rfl)
theorem dX4_tuplet_10 : decode cX4_tuplet 10 = .ok (.iload 4, 2) := dk_21 4 (dk_at dksX4_tuplet_0 10 rfl rfl)
theorem dX4_tuplet_12 : decode cX4_tuplet 12 = .ok (.iconst 5, 1) := dk_8 (dk_at dksX4_tuplet_0 12 rfl rfl)
theorem dX4_tuplet_13 : decode cX4_tuplet 13 = .ok (.if_icmp .eq 17, 3) := dk_159 0 17 (dk_at dksX4_tuplet_0 13 rfl rfl)
theorem dX4_tuplet_16 : decode cX4_tuplet 16 = .ok (.iload 4, 2) := dk_21 4 (dk_at dksX4_tuplet_0 16 rfl rfl)
theorem dX4_tuplet_18 : decode cX4_tuplet 18 = .ok (.bipush 6, 2) := dk_16 6 (dk_at dksX4_tuplet_0 18 rfl rfl)
theorem dX4_tuplet_20 : decode cX4_tuplet 20 = .ok (.if_icmp .eq 10, 3) := dk_159 0 10 (dk_at dksX4_tuplet_0 20 rfl rfl)
theorem dX4_tuplet_23 : decode cX4_tuplet 23 = .ok (.iload 4, 2) := dk_21 4 (dk_at dksX4_tuplet_1 0 rfl rfl)
theorem dX4_tuplet_25 : decode cX4_tuplet 25 = .ok (.bipush 7, 2) := dk_16 7 (dk_at dksX4_tuplet_1 2 rfl rfl)
theorem dX4_tuplet_27 : decode cX4_tuplet 27 = .ok (.if_icmp .ne 7, 3) := dk_160 0 7 (dk_at dksX4_tuplet_1 4 rfl rfl)
theorem dX4_tuplet_30 : decode cX4_tuplet 30 = .ok (.iconst 1, 1) := dk_4 (dk_at dksX4_tuplet_1 7 rfl rfl)
theorem dX4_tuplet_31 : decode cX4_tuplet 31 = .ok (.goto 4, 3) := dk_167 0 4 (dk_at dksX4_tuplet_1 8 rfl rfl)
theorem dX4_tuplet_34 : decode cX4_tuplet 34 = .ok (.iconst 0, 1) := dk_3 (dk_at dksX4_tuplet_1 11 rfl rfl)
theorem dX4_tuplet_35 : decode cX4_tuplet 35 = .ok (.istore 7, 2) := dk_54 7 (dk_at dksX4_tuplet_1 12 rfl rfl)
theorem dX4_tuplet_37 : decode cX4_tuplet 37 = .ok (.aload_n 0, 1) := dk_42 (dk_at dksX4_tuplet_1 14 rfl rfl)
theorem dX4_tuplet_38 : decode cX4_tuplet 38 = .ok (.iload_n 1, 1) := dk_27 (dk_at dksX4_tuplet_1 15 rfl rfl)
theorem dX4_tuplet_39 : decode cX4_tuplet 39 = .ok (.invokevirtual 184, 3) := dk_182 0 184 (dk_at dksX4_tuplet_1 16 rfl rfl)
theorem dX4_tuplet_42 : decode cX4_tuplet 42 = .ok (.ifCond .eq 59, 3) := dk_153 0 59 (dk_at dksX4_tuplet_1 19 rfl rfl)
theorem dX4_tuplet_45 : decode cX4_tuplet 45 = .ok (.iload_n 2, 1) := dk_28 (dk_at dksX4_tuplet_1 22 rfl rfl)
theorem dX4_tuplet_46 : decode cX4_tuplet 46 = .ok (.ifCond .lt 55, 3) := dk_155 0 55 (dk_at dksX4_tuplet_2 0 rfl rfl)
theorem dX4_tuplet_49 : decode cX4_tuplet 49 = .ok (.iload_n 3, 1) := dk_29 (dk_at dksX4_tuplet_2 3 rfl rfl)
theorem dX4_tuplet_50 : decode cX4_tuplet 50 = .ok (.iconst 1, 1) := dk_4 (dk_at dksX4_tuplet_2 4 rfl rfl)
theorem dX4_tuplet_51 : decode cX4_tuplet 51 = .ok (.if_icmp .lt 50, 3) := dk_161 0 50 (dk_at dksX4_tuplet_2 5 rfl rfl)
theorem dX4_tuplet_54 : decode cX4_tuplet 54 = .ok (.iload_n 2, 1) := dk_28 (dk_at dksX4_tuplet_2 8 rfl rfl)
theorem dX4_tuplet_55 : decode cX4_tuplet 55 = .ok (.i2l, 1) := dk_133 (dk_at dksX4_tuplet_2 9 rfl rfl)
theorem dX4_tuplet_56 : decode cX4_tuplet 56 = .ok (.iload_n 3, 1) := dk_29 (dk_at dksX4_tuplet_2 10 rfl rfl)
theorem dX4_tuplet_57 : decode cX4_tuplet 57 = .ok (.i2l, 1) := dk_133 (dk_at dksX4_tuplet_2 11 rfl rfl)
theorem dX4_tuplet_58 : decode cX4_tuplet 58 = .ok (.ladd, 1) := dk_97 (dk_at dksX4_tuplet_2 12 rfl rfl)
theorem dX4_tuplet_59 : decode cX4_tuplet 59 = .ok (.aload_n 0, 1) := dk_42 (dk_at dksX4_tuplet_2 13 rfl rfl)
theorem dX4_tuplet_60 : decode cX4_tuplet 60 = .ok (.getfield 45, 3) := dk_180 0 45 (dk_at dksX4_tuplet_2 14 rfl rfl)
theorem dX4_tuplet_63 : decode cX4_tuplet 63 = .ok (.iload_n 1, 1) := dk_27 (dk_at dksX4_tuplet_2 17 rfl rfl)
theorem dX4_tuplet_64 : decode cX4_tuplet 64 = .ok (.iaload, 1) := dk_46 (dk_at dksX4_tuplet_2 18 rfl rfl)
theorem dX4_tuplet_65 : decode cX4_tuplet 65 = .ok (.i2l, 1) := dk_133 (dk_at dksX4_tuplet_2 19 rfl rfl)
theorem dX4_tuplet_66 : decode cX4_tuplet 66 = .ok (.lcmp, 1) := dk_148 (dk_at dksX4_tuplet_2 20 rfl rfl)
theorem dX4_tuplet_67 : decode cX4_tuplet 67 = .ok (.ifCond .gt 34, 3) := dk_157 0 34 (dk_at dksX4_tuplet_2 21 rfl rfl)
theorem dX4_tuplet_70 : decode cX4_tuplet 70 = .ok (.iload 7, 2) := dk_21 7 (dk_at dksX4_tuplet_3 0 rfl rfl)
theorem dX4_tuplet_72 : decode cX4_tuplet 72 = .ok (.ifCond .eq 29, 3) := dk_153 0 29 (dk_at dksX4_tuplet_3 2 rfl rfl)
theorem dX4_tuplet_75 : decode cX4_tuplet 75 = .ok (.iload 5, 2) := dk_21 5 (dk_at dksX4_tuplet_3 5 rfl rfl)
theorem dX4_tuplet_77 : decode cX4_tuplet 77 = .ok (.i2l, 1) := dk_133 (dk_at dksX4_tuplet_3 7 rfl rfl)
theorem dX4_tuplet_78 : decode cX4_tuplet 78 = .ok (.lconst 1, 1) := dk_10 (dk_at dksX4_tuplet_3 8 rfl rfl)
theorem dX4_tuplet_79 : decode cX4_tuplet 79 = .ok (.ldc2_w 253, 3) := dk_20 0 253 (dk_at dksX4_tuplet_3 9 rfl rfl)
theorem dX4_tuplet_82 : decode cX4_tuplet 82 = .ok (.invokestatic 137, 3) := dk_184 0 137 (dk_at dksX4_tuplet_3 12 rfl rfl)
theorem dX4_tuplet_85 : decode cX4_tuplet 85 = .ok (.ifCond .eq 16, 3) := dk_153 0 16 (dk_at dksX4_tuplet_3 15 rfl rfl)
theorem dX4_tuplet_88 : decode cX4_tuplet 88 = .ok (.iload 6, 2) := dk_21 6 (dk_at dksX4_tuplet_3 18 rfl rfl)
theorem dX4_tuplet_90 : decode cX4_tuplet 90 = .ok (.i2l, 1) := dk_133 (dk_at dksX4_tuplet_3 20 rfl rfl)
theorem dX4_tuplet_91 : decode cX4_tuplet 91 = .ok (.lconst 0, 1) := dk_9 (dk_at dksX4_tuplet_3 21 rfl rfl)
theorem dX4_tuplet_92 : decode cX4_tuplet 92 = .ok (.ldc2_w 147, 3) := dk_20 0 147 (dk_at dksX4_tuplet_4 0 rfl rfl)
theorem dX4_tuplet_95 : decode cX4_tuplet 95 = .ok (.invokestatic 137, 3) := dk_184 0 137 (dk_at dksX4_tuplet_4 3 rfl rfl)
theorem dX4_tuplet_98 : decode cX4_tuplet 98 = .ok (.ifCond .ne 10, 3) := dk_154 0 10 (dk_at dksX4_tuplet_4 6 rfl rfl)
theorem dX4_tuplet_101 : decode cX4_tuplet 101 = .ok (.aload_n 0, 1) := dk_42 (dk_at dksX4_tuplet_4 9 rfl rfl)
theorem dX4_tuplet_102 : decode cX4_tuplet 102 = .ok (.bipush (-2), 2) := dk_16 254 (dk_at dksX4_tuplet_4 10 rfl rfl)
theorem dX4_tuplet_104 : decode cX4_tuplet 104 = .ok (.invokevirtual 130, 3) := dk_182 0 130 (dk_at dksX4_tuplet_4 12 rfl rfl)
theorem dX4_tuplet_107 : decode cX4_tuplet 107 = .ok (.ireturn, 1) := dk_172 (dk_at dksX4_tuplet_4 15 rfl rfl)
theorem dX4_tuplet_108 : decode cX4_tuplet 108 = .ok (.iload_n 2, 1) := dk_28 (dk_at dksX4_tuplet_4 16 rfl rfl)
theorem dX4_tuplet_109 : decode cX4_tuplet 109 = .ok (.iload_n 3, 1) := dk_29 (dk_at dksX4_tuplet_4 17 rfl rfl)
theorem dX4_tuplet_110 : decode cX4_tuplet 110 = .ok (.iadd, 1) := dk_96 (dk_at dksX4_tuplet_4 18 rfl rfl)
theorem dX4_tuplet_111 : decode cX4_tuplet 111 = .ok (.iconst 1, 1) := dk_4 (dk_at dksX4_tuplet_4 19 rfl rfl)
theorem dX4_tuplet_112 : decode cX4_tuplet 112 = .ok (.isub, 1) := dk_100 (dk_at dksX4_tuplet_4 20 rfl rfl)
theorem dX4_tuplet_113 : decode cX4_tuplet 113 = .ok (.istore 8, 2) := dk_54 8 (dk_at dksX4_tuplet_4 21 rfl rfl)
theorem dX4_tuplet_115 : decode cX4_tuplet 115 = .ok (.iconst 0, 1) := dk_3 (dk_at dksX4_tuplet_4 23 rfl rfl)
theorem dX4_tuplet_116 : decode cX4_tuplet 116 = .ok (.istore 9, 2) := dk_54 9 (dk_at dksX4_tuplet_5 0 rfl rfl)
theorem dX4_tuplet_118 : decode cX4_tuplet 118 = .ok (.iload 9, 2) := dk_21 9 (dk_at dksX4_tuplet_5 2 rfl rfl)
theorem dX4_tuplet_120 : decode cX4_tuplet 120 = .ok (.aload_n 0, 1) := dk_42 (dk_at dksX4_tuplet_5 4 rfl rfl)
theorem dX4_tuplet_121 : decode cX4_tuplet 121 = .ok (.getfield 199, 3) := dk_180 0 199 (dk_at dksX4_tuplet_5 5 rfl rfl)
theorem dX4_tuplet_124 : decode cX4_tuplet 124 = .ok (.if_icmp .ge 114, 3) := dk_162 0 114 (dk_at dksX4_tuplet_5 8 rfl rfl)
theorem dX4_tuplet_127 : decode cX4_tuplet 127 = .ok (.aload_n 0, 1) := dk_42 (dk_at dksX4_tuplet_5 11 rfl rfl)
theorem dX4_tuplet_128 : decode cX4_tuplet 128 = .ok (.getfield 48, 3) := dk_180 0 48 (dk_at dksX4_tuplet_5 12 rfl rfl)
theorem dX4_tuplet_131 : decode cX4_tuplet 131 = .ok (.iload 9, 2) := dk_21 9 (dk_at dksX4_tuplet_5 15 rfl rfl)
theorem dX4_tuplet_133 : decode cX4_tuplet 133 = .ok (.baload, 1) := dk_51 (dk_at dksX4_tuplet_5 17 rfl rfl)
theorem dX4_tuplet_134 : decode cX4_tuplet 134 = .ok (.ifCond .eq 98, 3) := dk_153 0 98 (dk_at dksX4_tuplet_5 18 rfl rfl)
theorem dX4_tuplet_137 : decode cX4_tuplet 137 = .ok (.aload_n 0, 1) := dk_42 (dk_at dksX4_tuplet_5 21 rfl rfl)
theorem dX4_tuplet_138 : decode cX4_tuplet 138 = .ok (.getfield 51, 3) := dk_180 0 51 (dk_at dksX4_tuplet_6 0 rfl rfl)
theorem dX4_tuplet_141 : decode cX4_tuplet 141 = .ok (.iload 9, 2) := dk_21 9 (dk_at dksX4_tuplet_6 3 rfl rfl)
theorem dX4_tuplet_143 : decode cX4_tuplet 143 = .ok (.iaload, 1) := dk_46 (dk_at dksX4_tuplet_6 5 rfl rfl)
theorem dX4_tuplet_144 : decode cX4_tuplet 144 = .ok (.iload_n 1, 1) := dk_27 (dk_at dksX4_tuplet_6 6 rfl rfl)
theorem dX4_tuplet_145 : decode cX4_tuplet 145 = .ok (.if_icmp .ne 87, 3) := dk_160 0 87 (dk_at dksX4_tuplet_6 7 rfl rfl)
theorem dX4_tuplet_148 : decode cX4_tuplet 148 = .ok (.aload_n 0, 1) := dk_42 (dk_at dksX4_tuplet_6 10 rfl rfl)
theorem dX4_tuplet_149 : decode cX4_tuplet 149 = .ok (.aload_n 0, 1) := dk_42 (dk_at dksX4_tuplet_6 11 rfl rfl)
theorem dX4_tuplet_150 : decode cX4_tuplet 150 = .ok (.getfield 54, 3) := dk_180 0 54 (dk_at dksX4_tuplet_6 12 rfl rfl)
theorem dX4_tuplet_153 : decode cX4_tuplet 153 = .ok (.iload 9, 2) := dk_21 9 (dk_at dksX4_tuplet_6 15 rfl rfl)
theorem dX4_tuplet_155 : decode cX4_tuplet 155 = .ok (.iaload, 1) := dk_46 (dk_at dksX4_tuplet_6 17 rfl rfl)
theorem dX4_tuplet_156 : decode cX4_tuplet 156 = .ok (.invokevirtual 196, 3) := dk_182 0 196 (dk_at dksX4_tuplet_6 18 rfl rfl)
theorem dX4_tuplet_159 : decode cX4_tuplet 159 = .ok (.istore 10, 2) := dk_54 10 (dk_at dksX4_tuplet_6 21 rfl rfl)
theorem dX4_tuplet_161 : decode cX4_tuplet 161 = .ok (.aload_n 0, 1) := dk_42 (dk_at dksX4_tuplet_6 23 rfl rfl)
theorem dX4_tuplet_162 : decode cX4_tuplet 162 = .ok (.aload_n 0, 1) := dk_42 (dk_at dksX4_tuplet_7 0 rfl rfl)
theorem dX4_tuplet_163 : decode cX4_tuplet 163 = .ok (.getfield 57, 3) := dk_180 0 57 (dk_at dksX4_tuplet_7 1 rfl rfl)
theorem dX4_tuplet_166 : decode cX4_tuplet 166 = .ok (.iload 9, 2) := dk_21 9 (dk_at dksX4_tuplet_7 4 rfl rfl)
theorem dX4_tuplet_168 : decode cX4_tuplet 168 = .ok (.iaload, 1) := dk_46 (dk_at dksX4_tuplet_7 6 rfl rfl)
theorem dX4_tuplet_169 : decode cX4_tuplet 169 = .ok (.invokevirtual 196, 3) := dk_182 0 196 (dk_at dksX4_tuplet_7 7 rfl rfl)
theorem dX4_tuplet_172 : decode cX4_tuplet 172 = .ok (.istore 11, 2) := dk_54 11 (dk_at dksX4_tuplet_7 10 rfl rfl)
theorem dX4_tuplet_174 : decode cX4_tuplet 174 = .ok (.iload 11, 2) := dk_21 11 (dk_at dksX4_tuplet_7 12 rfl rfl)
theorem dX4_tuplet_176 : decode cX4_tuplet 176 = .ok (.iload_n 2, 1) := dk_28 (dk_at dksX4_tuplet_7 14 rfl rfl)
theorem dX4_tuplet_177 : decode cX4_tuplet 177 = .ok (.if_icmp .lt 10, 3) := dk_161 0 10 (dk_at dksX4_tuplet_7 15 rfl rfl)
theorem dX4_tuplet_180 : decode cX4_tuplet 180 = .ok (.iload 10, 2) := dk_21 10 (dk_at dksX4_tuplet_7 18 rfl rfl)
theorem dX4_tuplet_182 : decode cX4_tuplet 182 = .ok (.iload 8, 2) := dk_21 8 (dk_at dksX4_tuplet_7 20 rfl rfl)
theorem dX4_tuplet_184 : decode cX4_tuplet 184 = .ok (.if_icmp .le 7, 3) := dk_164 0 7 (dk_at dksX4_tuplet_8 0 rfl rfl)
theorem dX4_tuplet_187 : decode cX4_tuplet 187 = .ok (.iconst 1, 1) := dk_4 (dk_at dksX4_tuplet_8 3 rfl rfl)
theorem dX4_tuplet_188 : decode cX4_tuplet 188 = .ok (.goto 4, 3) := dk_167 0 4 (dk_at dksX4_tuplet_8 4 rfl rfl)
theorem dX4_tuplet_191 : decode cX4_tuplet 191 = .ok (.iconst 0, 1) := dk_3 (dk_at dksX4_tuplet_8 7 rfl rfl)
theorem dX4_tuplet_192 : decode cX4_tuplet 192 = .ok (.istore 12, 2) := dk_54 12 (dk_at dksX4_tuplet_8 8 rfl rfl)
theorem dX4_tuplet_194 : decode cX4_tuplet 194 = .ok (.iload 12, 2) := dk_21 12 (dk_at dksX4_tuplet_8 10 rfl rfl)
theorem dX4_tuplet_196 : decode cX4_tuplet 196 = .ok (.ifCond .ne 36, 3) := dk_154 0 36 (dk_at dksX4_tuplet_8 12 rfl rfl)
theorem dX4_tuplet_199 : decode cX4_tuplet 199 = .ok (.iload 10, 2) := dk_21 10 (dk_at dksX4_tuplet_8 15 rfl rfl)
theorem dX4_tuplet_201 : decode cX4_tuplet 201 = .ok (.iload_n 2, 1) := dk_28 (dk_at dksX4_tuplet_8 17 rfl rfl)
theorem dX4_tuplet_202 : decode cX4_tuplet 202 = .ok (.if_icmp .gt 10, 3) := dk_163 0 10 (dk_at dksX4_tuplet_8 18 rfl rfl)
theorem dX4_tuplet_205 : decode cX4_tuplet 205 = .ok (.iload 8, 2) := dk_21 8 (dk_at dksX4_tuplet_8 21 rfl rfl)
theorem dX4_tuplet_207 : decode cX4_tuplet 207 = .ok (.iload 11, 2) := dk_21 11 (dk_at dksX4_tuplet_9 0 rfl rfl)
theorem dX4_tuplet_209 : decode cX4_tuplet 209 = .ok (.if_icmp .le 23, 3) := dk_164 0 23 (dk_at dksX4_tuplet_9 2 rfl rfl)
theorem dX4_tuplet_212 : decode cX4_tuplet 212 = .ok (.iload_n 2, 1) := dk_28 (dk_at dksX4_tuplet_9 5 rfl rfl)
theorem dX4_tuplet_213 : decode cX4_tuplet 213 = .ok (.iload 10, 2) := dk_21 10 (dk_at dksX4_tuplet_9 6 rfl rfl)
theorem dX4_tuplet_215 : decode cX4_tuplet 215 = .ok (.if_icmp .gt 10, 3) := dk_163 0 10 (dk_at dksX4_tuplet_9 8 rfl rfl)
theorem dX4_tuplet_218 : decode cX4_tuplet 218 = .ok (.iload 11, 2) := dk_21 11 (dk_at dksX4_tuplet_9 11 rfl rfl)
theorem dX4_tuplet_220 : decode cX4_tuplet 220 = .ok (.iload 8, 2) := dk_21 8 (dk_at dksX4_tuplet_9 13 rfl rfl)
theorem dX4_tuplet_222 : decode cX4_tuplet 222 = .ok (.if_icmp .le 10, 3) := dk_164 0 10 (dk_at dksX4_tuplet_9 15 rfl rfl)
theorem dX4_tuplet_225 : decode cX4_tuplet 225 = .ok (.aload_n 0, 1) := dk_42 (dk_at dksX4_tuplet_9 18 rfl rfl)
theorem dX4_tuplet_226 : decode cX4_tuplet 226 = .ok (.bipush (-3), 2) := dk_16 253 (dk_at dksX4_tuplet_9 19 rfl rfl)
theorem dX4_tuplet_228 : decode cX4_tuplet 228 = .ok (.invokevirtual 130, 3) := dk_182 0 130 (dk_at dksX4_tuplet_9 21 rfl rfl)
theorem dX4_tuplet_231 : decode cX4_tuplet 231 = .ok (.ireturn, 1) := dk_172 (dk_at dksX4_tuplet_10 0 rfl rfl)
theorem dX4_tuplet_232 : decode cX4_tuplet 232 = .ok (.iinc 9 1, 3) := dk_132 9 1 (dk_at dksX4_tuplet_10 1 rfl rfl)
theorem dX4_tuplet_235 : decode cX4_tuplet 235 = .ok (.goto (-117), 3) := dk_167 255 139 (dk_at dksX4_tuplet_10 4 rfl rfl)
theorem dX4_tuplet_238 : decode cX4_tuplet 238 = .ok (.iload_n 2, 1) := dk_28 (dk_at dksX4_tuplet_10 7 rfl rfl)
theorem dX4_tuplet_239 : decode cX4_tuplet 239 = .ok (.istore 9, 2) := dk_54 9 (dk_at dksX4_tuplet_10 8 rfl rfl)
theorem dX4_tuplet_241 : decode cX4_tuplet 241 = .ok (.iload 9, 2) := dk_21 9 (dk_at dksX4_tuplet_10 10 rfl rfl)
theorem dX4_tuplet_243 : decode cX4_tuplet 243 = .ok (.iload 8, 2) := dk_21 8 (dk_at dksX4_tuplet_10 12 rfl rfl)
theorem dX4_tuplet_245 : decode cX4_tuplet 245 = .ok (.if_icmp .gt 36, 3) := dk_163 0 36 (dk_at dksX4_tuplet_10 14 rfl rfl)
theorem dX4_tuplet_248 : decode cX4_tuplet 248 = .ok (.aload_n 0, 1) := dk_42 (dk_at dksX4_tuplet_10 17 rfl rfl)
theorem dX4_tuplet_249 : decode cX4_tuplet 249 = .ok (.aload_n 0, 1) := dk_42 (dk_at dksX4_tuplet_10 18 rfl rfl)
theorem dX4_tuplet_250 : decode cX4_tuplet 250 = .ok (.getfield 42, 3) := dk_180 0 42 (dk_at dksX4_tuplet_10 19 rfl rfl)
theorem dX4_tuplet_253 : decode cX4_tuplet 253 = .ok (.bipush 40, 2) := dk_16 40 (dk_at dksX4_tuplet_10 22 rfl rfl)
theorem dX4_tuplet_255 : decode cX4_tuplet 255 = .ok (.iload_n 1, 1) := dk_27 (dk_at dksX4_tuplet_11 0 rfl rfl)
theorem dX4_tuplet_256 : decode cX4_tuplet 256 = .ok (.imul, 1) := dk_104 (dk_at dksX4_tuplet_11 1 rfl rfl)
theorem dX4_tuplet_257 : decode cX4_tuplet 257 = .ok (.iload 9, 2) := dk_21 9 (dk_at dksX4_tuplet_11 2 rfl rfl)
theorem dX4_tuplet_259 : decode cX4_tuplet 259 = .ok (.iadd, 1) := dk_96 (dk_at dksX4_tuplet_11 4 rfl rfl)
theorem dX4_tuplet_260 : decode cX4_tuplet 260 = .ok (.iaload, 1) := dk_46 (dk_at dksX4_tuplet_11 5 rfl rfl)
theorem dX4_tuplet_261 : decode cX4_tuplet 261 = .ok (.invokevirtual 255, 3) := dk_182 0 255 (dk_at dksX4_tuplet_11 6 rfl rfl)
theorem dX4_tuplet_264 : decode cX4_tuplet 264 = .ok (.iconst 1, 1) := dk_4 (dk_at dksX4_tuplet_11 9 rfl rfl)
theorem dX4_tuplet_265 : decode cX4_tuplet 265 = .ok (.if_icmp .le 10, 3) := dk_164 0 10 (dk_at dksX4_tuplet_11 10 rfl rfl)
theorem dX4_tuplet_268 : decode cX4_tuplet 268 = .ok (.aload_n 0, 1) := dk_42 (dk_at dksX4_tuplet_11 13 rfl rfl)
theorem dX4_tuplet_269 : decode cX4_tuplet 269 = .ok (.bipush (-3), 2) := dk_16 253 (dk_at dksX4_tuplet_11 14 rfl rfl)
theorem dX4_tuplet_271 : decode cX4_tuplet 271 = .ok (.invokevirtual 130, 3) := dk_182 0 130 (dk_at dksX4_tuplet_11 16 rfl rfl)
theorem dX4_tuplet_274 : decode cX4_tuplet 274 = .ok (.ireturn, 1) := dk_172 (dk_at dksX4_tuplet_11 19 rfl rfl)
theorem dX4_tuplet_275 : decode cX4_tuplet 275 = .ok (.iinc 9 1, 3) := dk_132 9 1 (dk_at dksX4_tuplet_11 20 rfl rfl)
theorem dX4_tuplet_278 : decode cX4_tuplet 278 = .ok (.goto (-37), 3) := dk_167 255 219 (dk_at dksX4_tuplet_12 0 rfl rfl)
theorem dX4_tuplet_281 : decode cX4_tuplet 281 = .ok (.aload_n 0, 1) := dk_42 (dk_at dksX4_tuplet_12 3 rfl rfl)
theorem dX4_tuplet_282 : decode cX4_tuplet 282 = .ok (.getfield 199, 3) := dk_180 0 199 (dk_at dksX4_tuplet_12 4 rfl rfl)
theorem dX4_tuplet_285 : decode cX4_tuplet 285 = .ok (.bipush 20, 2) := dk_16 20 (dk_at dksX4_tuplet_12 7 rfl rfl)
theorem dX4_tuplet_287 : decode cX4_tuplet 287 = .ok (.if_icmp .ne 10, 3) := dk_160 0 10 (dk_at dksX4_tuplet_12 9 rfl rfl)
theorem dX4_tuplet_290 : decode cX4_tuplet 290 = .ok (.aload_n 0, 1) := dk_42 (dk_at dksX4_tuplet_12 12 rfl rfl)
theorem dX4_tuplet_291 : decode cX4_tuplet 291 = .ok (.bipush (-4), 2) := dk_16 252 (dk_at dksX4_tuplet_12 13 rfl rfl)
theorem dX4_tuplet_293 : decode cX4_tuplet 293 = .ok (.invokevirtual 130, 3) := dk_182 0 130 (dk_at dksX4_tuplet_12 15 rfl rfl)
theorem dX4_tuplet_296 : decode cX4_tuplet 296 = .ok (.ireturn, 1) := dk_172 (dk_at dksX4_tuplet_12 18 rfl rfl)
theorem dX4_tuplet_297 : decode cX4_tuplet 297 = .ok (.aload_n 0, 1) := dk_42 (dk_at dksX4_tuplet_12 19 rfl rfl)
theorem dX4_tuplet_298 : decode cX4_tuplet 298 = .ok (.getfield 199, 3) := dk_180 0 199 (dk_at dksX4_tuplet_12 20 rfl rfl)
theorem dX4_tuplet_301 : decode cX4_tuplet 301 = .ok (.istore 9, 2) := dk_54 9 (dk_at dksX4_tuplet_13 0 rfl rfl)
theorem dX4_tuplet_303 : decode cX4_tuplet 303 = .ok (.aload_n 0, 1) := dk_42 (dk_at dksX4_tuplet_13 2 rfl rfl)
theorem dX4_tuplet_304 : decode cX4_tuplet 304 = .ok (.dup, 1) := dk_89 (dk_at dksX4_tuplet_13 3 rfl rfl)
theorem dX4_tuplet_305 : decode cX4_tuplet 305 = .ok (.getfield 199, 3) := dk_180 0 199 (dk_at dksX4_tuplet_13 4 rfl rfl)
theorem dX4_tuplet_308 : decode cX4_tuplet 308 = .ok (.iconst 1, 1) := dk_4 (dk_at dksX4_tuplet_13 7 rfl rfl)
theorem dX4_tuplet_309 : decode cX4_tuplet 309 = .ok (.iadd, 1) := dk_96 (dk_at dksX4_tuplet_13 8 rfl rfl)
theorem dX4_tuplet_310 : decode cX4_tuplet 310 = .ok (.putfield 199, 3) := dk_181 0 199 (dk_at dksX4_tuplet_13 9 rfl rfl)
theorem dX4_tuplet_313 : decode cX4_tuplet 313 = .ok (.aload_n 0, 1) := dk_42 (dk_at dksX4_tuplet_13 12 rfl rfl)
theorem dX4_tuplet_314 : decode cX4_tuplet 314 = .ok (.dup, 1) := dk_89 (dk_at dksX4_tuplet_13 13 rfl rfl)
theorem dX4_tuplet_315 : decode cX4_tuplet 315 = .ok (.getfield 202, 3) := dk_180 0 202 (dk_at dksX4_tuplet_13 14 rfl rfl)
theorem dX4_tuplet_318 : decode cX4_tuplet 318 = .ok (.iconst 1, 1) := dk_4 (dk_at dksX4_tuplet_13 17 rfl rfl)
theorem dX4_tuplet_319 : decode cX4_tuplet 319 = .ok (.iadd, 1) := dk_96 (dk_at dksX4_tuplet_13 18 rfl rfl)
theorem dX4_tuplet_320 : decode cX4_tuplet 320 = .ok (.putfield 202, 3) := dk_181 0 202 (dk_at dksX4_tuplet_13 19 rfl rfl)
theorem dX4_tuplet_323 : decode cX4_tuplet 323 = .ok (.aload_n 0, 1) := dk_42 (dk_at dksX4_tuplet_13 22 rfl rfl)
theorem dX4_tuplet_324 : decode cX4_tuplet 324 = .ok (.getfield 48, 3) := dk_180 0 48 (dk_at dksX4_tuplet_14 0 rfl rfl)
theorem dX4_tuplet_327 : decode cX4_tuplet 327 = .ok (.iload 9, 2) := dk_21 9 (dk_at dksX4_tuplet_14 3 rfl rfl)
theorem dX4_tuplet_329 : decode cX4_tuplet 329 = .ok (.iconst 1, 1) := dk_4 (dk_at dksX4_tuplet_14 5 rfl rfl)
theorem dX4_tuplet_330 : decode cX4_tuplet 330 = .ok (.bastore, 1) := dk_84 (dk_at dksX4_tuplet_14 6 rfl rfl)
theorem dX4_tuplet_331 : decode cX4_tuplet 331 = .ok (.aload_n 0, 1) := dk_42 (dk_at dksX4_tuplet_14 7 rfl rfl)
theorem dX4_tuplet_332 : decode cX4_tuplet 332 = .ok (.getfield 51, 3) := dk_180 0 51 (dk_at dksX4_tuplet_14 8 rfl rfl)
theorem dX4_tuplet_335 : decode cX4_tuplet 335 = .ok (.iload 9, 2) := dk_21 9 (dk_at dksX4_tuplet_14 11 rfl rfl)
theorem dX4_tuplet_337 : decode cX4_tuplet 337 = .ok (.iload_n 1, 1) := dk_27 (dk_at dksX4_tuplet_14 13 rfl rfl)
theorem dX4_tuplet_338 : decode cX4_tuplet 338 = .ok (.iastore, 1) := dk_79 (dk_at dksX4_tuplet_14 14 rfl rfl)
theorem dX4_tuplet_339 : decode cX4_tuplet 339 = .ok (.aload_n 0, 1) := dk_42 (dk_at dksX4_tuplet_14 15 rfl rfl)
theorem dX4_tuplet_340 : decode cX4_tuplet 340 = .ok (.getfield 54, 3) := dk_180 0 54 (dk_at dksX4_tuplet_14 16 rfl rfl)
theorem dX4_tuplet_343 : decode cX4_tuplet 343 = .ok (.iload 9, 2) := dk_21 9 (dk_at dksX4_tuplet_14 19 rfl rfl)
theorem dX4_tuplet_345 : decode cX4_tuplet 345 = .ok (.aload_n 0, 1) := dk_42 (dk_at dksX4_tuplet_14 21 rfl rfl)
theorem dX4_tuplet_346 : decode cX4_tuplet 346 = .ok (.getfield 42, 3) := dk_180 0 42 (dk_at dksX4_tuplet_15 0 rfl rfl)
theorem dX4_tuplet_349 : decode cX4_tuplet 349 = .ok (.bipush 40, 2) := dk_16 40 (dk_at dksX4_tuplet_15 3 rfl rfl)
theorem dX4_tuplet_351 : decode cX4_tuplet 351 = .ok (.iload_n 1, 1) := dk_27 (dk_at dksX4_tuplet_15 5 rfl rfl)
theorem dX4_tuplet_352 : decode cX4_tuplet 352 = .ok (.imul, 1) := dk_104 (dk_at dksX4_tuplet_15 6 rfl rfl)
theorem dX4_tuplet_353 : decode cX4_tuplet 353 = .ok (.iload_n 2, 1) := dk_28 (dk_at dksX4_tuplet_15 7 rfl rfl)
theorem dX4_tuplet_354 : decode cX4_tuplet 354 = .ok (.iadd, 1) := dk_96 (dk_at dksX4_tuplet_15 8 rfl rfl)
theorem dX4_tuplet_355 : decode cX4_tuplet 355 = .ok (.iaload, 1) := dk_46 (dk_at dksX4_tuplet_15 9 rfl rfl)
theorem dX4_tuplet_356 : decode cX4_tuplet 356 = .ok (.iastore, 1) := dk_79 (dk_at dksX4_tuplet_15 10 rfl rfl)
theorem dX4_tuplet_357 : decode cX4_tuplet 357 = .ok (.aload_n 0, 1) := dk_42 (dk_at dksX4_tuplet_15 11 rfl rfl)
theorem dX4_tuplet_358 : decode cX4_tuplet 358 = .ok (.getfield 57, 3) := dk_180 0 57 (dk_at dksX4_tuplet_15 12 rfl rfl)
theorem dX4_tuplet_361 : decode cX4_tuplet 361 = .ok (.iload 9, 2) := dk_21 9 (dk_at dksX4_tuplet_15 15 rfl rfl)
theorem dX4_tuplet_363 : decode cX4_tuplet 363 = .ok (.aload_n 0, 1) := dk_42 (dk_at dksX4_tuplet_15 17 rfl rfl)
theorem dX4_tuplet_364 : decode cX4_tuplet 364 = .ok (.getfield 42, 3) := dk_180 0 42 (dk_at dksX4_tuplet_15 18 rfl rfl)
theorem dX4_tuplet_367 : decode cX4_tuplet 367 = .ok (.bipush 40, 2) := dk_16 40 (dk_at dksX4_tuplet_15 21 rfl rfl)
theorem dX4_tuplet_369 : decode cX4_tuplet 369 = .ok (.iload_n 1, 1) := dk_27 (dk_at dksX4_tuplet_15 23 rfl rfl)
theorem dX4_tuplet_370 : decode cX4_tuplet 370 = .ok (.imul, 1) := dk_104 (dk_at dksX4_tuplet_16 0 rfl rfl)
theorem dX4_tuplet_371 : decode cX4_tuplet 371 = .ok (.iload 8, 2) := dk_21 8 (dk_at dksX4_tuplet_16 1 rfl rfl)
theorem dX4_tuplet_373 : decode cX4_tuplet 373 = .ok (.iadd, 1) := dk_96 (dk_at dksX4_tuplet_16 3 rfl rfl)
theorem dX4_tuplet_374 : decode cX4_tuplet 374 = .ok (.iaload, 1) := dk_46 (dk_at dksX4_tuplet_16 4 rfl rfl)
theorem dX4_tuplet_375 : decode cX4_tuplet 375 = .ok (.iastore, 1) := dk_79 (dk_at dksX4_tuplet_16 5 rfl rfl)
theorem dX4_tuplet_376 : decode cX4_tuplet 376 = .ok (.aload_n 0, 1) := dk_42 (dk_at dksX4_tuplet_16 6 rfl rfl)
theorem dX4_tuplet_377 : decode cX4_tuplet 377 = .ok (.getfield 60, 3) := dk_180 0 60 (dk_at dksX4_tuplet_16 7 rfl rfl)
theorem dX4_tuplet_380 : decode cX4_tuplet 380 = .ok (.iload 9, 2) := dk_21 9 (dk_at dksX4_tuplet_16 10 rfl rfl)
theorem dX4_tuplet_382 : decode cX4_tuplet 382 = .ok (.iload 4, 2) := dk_21 4 (dk_at dksX4_tuplet_16 12 rfl rfl)
theorem dX4_tuplet_384 : decode cX4_tuplet 384 = .ok (.iastore, 1) := dk_79 (dk_at dksX4_tuplet_16 14 rfl rfl)
theorem dX4_tuplet_385 : decode cX4_tuplet 385 = .ok (.aload_n 0, 1) := dk_42 (dk_at dksX4_tuplet_16 15 rfl rfl)
theorem dX4_tuplet_386 : decode cX4_tuplet 386 = .ok (.getfield 63, 3) := dk_180 0 63 (dk_at dksX4_tuplet_16 16 rfl rfl)
theorem dX4_tuplet_389 : decode cX4_tuplet 389 = .ok (.iload 9, 2) := dk_21 9 (dk_at dksX4_tuplet_16 19 rfl rfl)
theorem dX4_tuplet_391 : decode cX4_tuplet 391 = .ok (.iload 5, 2) := dk_21 5 (dk_at dksX4_tuplet_16 21 rfl rfl)
theorem dX4_tuplet_393 : decode cX4_tuplet 393 = .ok (.iastore, 1) := dk_79 (dk_at dksX4_tuplet_16 23 rfl rfl)
theorem dX4_tuplet_394 : decode cX4_tuplet 394 = .ok (.aload_n 0, 1) := dk_42 (dk_at dksX4_tuplet_17 0 rfl rfl)
theorem dX4_tuplet_395 : decode cX4_tuplet 395 = .ok (.getfield 66, 3) := dk_180 0 66 (dk_at dksX4_tuplet_17 1 rfl rfl)
theorem dX4_tuplet_398 : decode cX4_tuplet 398 = .ok (.iload 9, 2) := dk_21 9 (dk_at dksX4_tuplet_17 4 rfl rfl)
theorem dX4_tuplet_400 : decode cX4_tuplet 400 = .ok (.iload 6, 2) := dk_21 6 (dk_at dksX4_tuplet_17 6 rfl rfl)
theorem dX4_tuplet_402 : decode cX4_tuplet 402 = .ok (.iastore, 1) := dk_79 (dk_at dksX4_tuplet_17 8 rfl rfl)
theorem dX4_tuplet_403 : decode cX4_tuplet 403 = .ok (.iload 9, 2) := dk_21 9 (dk_at dksX4_tuplet_17 9 rfl rfl)
theorem dX4_tuplet_405 : decode cX4_tuplet 405 = .ok (.ireturn, 1) := dk_172 (dk_at dksX4_tuplet_17 11 rfl rfl)
abbrev cX4_untuplet : ByteArray := prog_21_method_47_code
def yX4_untuplet : MethodName := ⟨RX4, "untuplet", "(I)I"⟩
def dkwX4_untuplet_1 : List UInt8 := [61, 42, 180, 0, 48, 27, 3, 84, 42, 89, 180, 0, 202, 4, 100, 181, 0, 202, 28, 172]
abbrev dktX4_untuplet_1 : List UInt8 := dkwX4_untuplet_1 ++ []
def dkwX4_untuplet_0 : List UInt8 := [42, 182, 0, 144, 42, 27, 182, 1, 16, 154, 0, 10, 42, 16, 254, 182, 0, 130, 172, 42, 27, 182, 1, 19]
abbrev dktX4_untuplet_0 : List UInt8 := dkwX4_untuplet_0 ++ dktX4_untuplet_1
theorem dksX4_untuplet_0 : cX4_untuplet.data.toList.drop 0 = dktX4_untuplet_0 := by decide +kernel
theorem dksX4_untuplet_1 : cX4_untuplet.data.toList.drop 24 = dktX4_untuplet_1 := dk_seg dksX4_untuplet_0 24 rfl rfl
theorem dX4_untuplet_0 : decode cX4_untuplet 0 = .ok (.aload_n 0, 1) := dk_42 (dk_at dksX4_untuplet_0 0 rfl rfl)
theorem dX4_untuplet_1 : decode cX4_untuplet 1 = .ok (.invokevirtual 144, 3) := dk_182 0 144 (dk_at dksX4_untuplet_0 1 rfl rfl)
theorem dX4_untuplet_4 : decode cX4_untuplet 4 = .ok (.aload_n 0, 1) := dk_42 (dk_at dksX4_untuplet_0 4 rfl rfl)
theorem dX4_untuplet_5 : decode cX4_untuplet 5 = .ok (.iload_n 1, 1) := dk_27 (dk_at dksX4_untuplet_0 5 rfl rfl)
theorem dX4_untuplet_6 : decode cX4_untuplet 6 = .ok (.invokevirtual 272, 3) := dk_182 1 16 (dk_at dksX4_untuplet_0 6 rfl rfl)
theorem dX4_untuplet_9 : decode cX4_untuplet 9 = .ok (.ifCond .ne 10, 3) := dk_154 0 10 (dk_at dksX4_untuplet_0 9 rfl rfl)
theorem dX4_untuplet_12 : decode cX4_untuplet 12 = .ok (.aload_n 0, 1) := dk_42 (dk_at dksX4_untuplet_0 12 rfl rfl)
theorem dX4_untuplet_13 : decode cX4_untuplet 13 = .ok (.bipush (-2), 2) := dk_16 254 (dk_at dksX4_untuplet_0 13 rfl rfl)
theorem dX4_untuplet_15 : decode cX4_untuplet 15 = .ok (.invokevirtual 130, 3) := dk_182 0 130 (dk_at dksX4_untuplet_0 15 rfl rfl)
theorem dX4_untuplet_18 : decode cX4_untuplet 18 = .ok (.ireturn, 1) := dk_172 (dk_at dksX4_untuplet_0 18 rfl rfl)
theorem dX4_untuplet_19 : decode cX4_untuplet 19 = .ok (.aload_n 0, 1) := dk_42 (dk_at dksX4_untuplet_0 19 rfl rfl)
theorem dX4_untuplet_20 : decode cX4_untuplet 20 = .ok (.iload_n 1, 1) := dk_27 (dk_at dksX4_untuplet_0 20 rfl rfl)
theorem dX4_untuplet_21 : decode cX4_untuplet 21 = .ok (.invokevirtual 275, 3) := dk_182 1 19 (dk_at dksX4_untuplet_0 21 rfl rfl)
theorem dX4_untuplet_24 : decode cX4_untuplet 24 = .ok (.istore_n 2, 1) := dk_61 (dk_at dksX4_untuplet_1 0 rfl rfl)
theorem dX4_untuplet_25 : decode cX4_untuplet 25 = .ok (.aload_n 0, 1) := dk_42 (dk_at dksX4_untuplet_1 1 rfl rfl)
theorem dX4_untuplet_26 : decode cX4_untuplet 26 = .ok (.getfield 48, 3) := dk_180 0 48 (dk_at dksX4_untuplet_1 2 rfl rfl)
theorem dX4_untuplet_29 : decode cX4_untuplet 29 = .ok (.iload_n 1, 1) := dk_27 (dk_at dksX4_untuplet_1 5 rfl rfl)
theorem dX4_untuplet_30 : decode cX4_untuplet 30 = .ok (.iconst 0, 1) := dk_3 (dk_at dksX4_untuplet_1 6 rfl rfl)
theorem dX4_untuplet_31 : decode cX4_untuplet 31 = .ok (.bastore, 1) := dk_84 (dk_at dksX4_untuplet_1 7 rfl rfl)
theorem dX4_untuplet_32 : decode cX4_untuplet 32 = .ok (.aload_n 0, 1) := dk_42 (dk_at dksX4_untuplet_1 8 rfl rfl)
theorem dX4_untuplet_33 : decode cX4_untuplet 33 = .ok (.dup, 1) := dk_89 (dk_at dksX4_untuplet_1 9 rfl rfl)
theorem dX4_untuplet_34 : decode cX4_untuplet 34 = .ok (.getfield 202, 3) := dk_180 0 202 (dk_at dksX4_untuplet_1 10 rfl rfl)
theorem dX4_untuplet_37 : decode cX4_untuplet 37 = .ok (.iconst 1, 1) := dk_4 (dk_at dksX4_untuplet_1 13 rfl rfl)
theorem dX4_untuplet_38 : decode cX4_untuplet 38 = .ok (.isub, 1) := dk_100 (dk_at dksX4_untuplet_1 14 rfl rfl)
theorem dX4_untuplet_39 : decode cX4_untuplet 39 = .ok (.putfield 202, 3) := dk_181 0 202 (dk_at dksX4_untuplet_1 15 rfl rfl)
theorem dX4_untuplet_42 : decode cX4_untuplet 42 = .ok (.iload_n 2, 1) := dk_28 (dk_at dksX4_untuplet_1 18 rfl rfl)
theorem dX4_untuplet_43 : decode cX4_untuplet 43 = .ok (.ireturn, 1) := dk_172 (dk_at dksX4_untuplet_1 19 rfl rfl)
abbrev cX4_hasTuplet : ByteArray := prog_21_method_45_code
def yX4_hasTuplet : MethodName := ⟨RX4, "hasTuplet", "(I)Z"⟩
def dkwX4_hasTuplet_1 : List UInt8 := [153, 0, 7, 4, 167, 0, 4, 3, 172]
abbrev dktX4_hasTuplet_1 : List UInt8 := dkwX4_hasTuplet_1 ++ []
def dkwX4_hasTuplet_0 : List UInt8 := [27, 133, 9, 42, 180, 0, 199, 4, 100, 133, 184, 0, 137, 153, 0, 16, 42, 180, 0, 48, 27, 51]
abbrev dktX4_hasTuplet_0 : List UInt8 := dkwX4_hasTuplet_0 ++ dktX4_hasTuplet_1
theorem dksX4_hasTuplet_0 : cX4_hasTuplet.data.toList.drop 0 = dktX4_hasTuplet_0 := by decide +kernel
theorem dksX4_hasTuplet_1 : cX4_hasTuplet.data.toList.drop 22 = dktX4_hasTuplet_1 := dk_seg dksX4_hasTuplet_0 22 rfl rfl
theorem dX4_hasTuplet_0 : decode cX4_hasTuplet 0 = .ok (.iload_n 1, 1) := dk_27 (dk_at dksX4_hasTuplet_0 0 rfl rfl)
theorem dX4_hasTuplet_1 : decode cX4_hasTuplet 1 = .ok (.i2l, 1) := dk_133 (dk_at dksX4_hasTuplet_0 1 rfl rfl)
theorem dX4_hasTuplet_2 : decode cX4_hasTuplet 2 = .ok (.lconst 0, 1) := dk_9 (dk_at dksX4_hasTuplet_0 2 rfl rfl)
theorem dX4_hasTuplet_3 : decode cX4_hasTuplet 3 = .ok (.aload_n 0, 1) := dk_42 (dk_at dksX4_hasTuplet_0 3 rfl rfl)
theorem dX4_hasTuplet_4 : decode cX4_hasTuplet 4 = .ok (.getfield 199, 3) := dk_180 0 199 (dk_at dksX4_hasTuplet_0 4 rfl rfl)
theorem dX4_hasTuplet_7 : decode cX4_hasTuplet 7 = .ok (.iconst 1, 1) := dk_4 (dk_at dksX4_hasTuplet_0 7 rfl rfl)
theorem dX4_hasTuplet_8 : decode cX4_hasTuplet 8 = .ok (.isub, 1) := dk_100 (dk_at dksX4_hasTuplet_0 8 rfl rfl)
theorem dX4_hasTuplet_9 : decode cX4_hasTuplet 9 = .ok (.i2l, 1) := dk_133 (dk_at dksX4_hasTuplet_0 9 rfl rfl)
theorem dX4_hasTuplet_10 : decode cX4_hasTuplet 10 = .ok (.invokestatic 137, 3) := dk_184 0 137 (dk_at dksX4_hasTuplet_0 10 rfl rfl)
theorem dX4_hasTuplet_13 : decode cX4_hasTuplet 13 = .ok (.ifCond .eq 16, 3) := dk_153 0 16 (dk_at dksX4_hasTuplet_0 13 rfl rfl)
theorem dX4_hasTuplet_16 : decode cX4_hasTuplet 16 = .ok (.aload_n 0, 1) := dk_42 (dk_at dksX4_hasTuplet_0 16 rfl rfl)
theorem dX4_hasTuplet_17 : decode cX4_hasTuplet 17 = .ok (.getfield 48, 3) := dk_180 0 48 (dk_at dksX4_hasTuplet_0 17 rfl rfl)
theorem dX4_hasTuplet_20 : decode cX4_hasTuplet 20 = .ok (.iload_n 1, 1) := dk_27 (dk_at dksX4_hasTuplet_0 20 rfl rfl)
theorem dX4_hasTuplet_21 : decode cX4_hasTuplet 21 = .ok (.baload, 1) := dk_51 (dk_at dksX4_hasTuplet_0 21 rfl rfl)
theorem dX4_hasTuplet_22 : decode cX4_hasTuplet 22 = .ok (.ifCond .eq 7, 3) := dk_153 0 7 (dk_at dksX4_hasTuplet_1 0 rfl rfl)
theorem dX4_hasTuplet_25 : decode cX4_hasTuplet 25 = .ok (.iconst 1, 1) := dk_4 (dk_at dksX4_hasTuplet_1 3 rfl rfl)
theorem dX4_hasTuplet_26 : decode cX4_hasTuplet 26 = .ok (.goto 4, 3) := dk_167 0 4 (dk_at dksX4_hasTuplet_1 4 rfl rfl)
theorem dX4_hasTuplet_29 : decode cX4_hasTuplet 29 = .ok (.iconst 0, 1) := dk_3 (dk_at dksX4_hasTuplet_1 7 rfl rfl)
theorem dX4_hasTuplet_30 : decode cX4_hasTuplet 30 = .ok (.ireturn, 1) := dk_172 (dk_at dksX4_hasTuplet_1 8 rfl rfl)
abbrev cX4_sizeOf : ByteArray := prog_21_method_46_code
def yX4_sizeOf : MethodName := ⟨RX4, "sizeOf", "(I)I"⟩
def dkwX4_sizeOf_0 : List UInt8 := [42, 42, 180, 0, 57, 27, 46, 182, 0, 196, 42, 42, 180, 0, 54, 27, 46, 182, 0, 196, 100, 4, 96, 172]
abbrev dktX4_sizeOf_0 : List UInt8 := dkwX4_sizeOf_0 ++ []
theorem dksX4_sizeOf_0 : cX4_sizeOf.data.toList.drop 0 = dktX4_sizeOf_0 := by decide +kernel
theorem dX4_sizeOf_0 : decode cX4_sizeOf 0 = .ok (.aload_n 0, 1) := dk_42 (dk_at dksX4_sizeOf_0 0 rfl rfl)
theorem dX4_sizeOf_1 : decode cX4_sizeOf 1 = .ok (.aload_n 0, 1) := dk_42 (dk_at dksX4_sizeOf_0 1 rfl rfl)
theorem dX4_sizeOf_2 : decode cX4_sizeOf 2 = .ok (.getfield 57, 3) := dk_180 0 57 (dk_at dksX4_sizeOf_0 2 rfl rfl)
theorem dX4_sizeOf_5 : decode cX4_sizeOf 5 = .ok (.iload_n 1, 1) := dk_27 (dk_at dksX4_sizeOf_0 5 rfl rfl)
theorem dX4_sizeOf_6 : decode cX4_sizeOf 6 = .ok (.iaload, 1) := dk_46 (dk_at dksX4_sizeOf_0 6 rfl rfl)
theorem dX4_sizeOf_7 : decode cX4_sizeOf 7 = .ok (.invokevirtual 196, 3) := dk_182 0 196 (dk_at dksX4_sizeOf_0 7 rfl rfl)
theorem dX4_sizeOf_10 : decode cX4_sizeOf 10 = .ok (.aload_n 0, 1) := dk_42 (dk_at dksX4_sizeOf_0 10 rfl rfl)
theorem dX4_sizeOf_11 : decode cX4_sizeOf 11 = .ok (.aload_n 0, 1) := dk_42 (dk_at dksX4_sizeOf_0 11 rfl rfl)
theorem dX4_sizeOf_12 : decode cX4_sizeOf 12 = .ok (.getfield 54, 3) := dk_180 0 54 (dk_at dksX4_sizeOf_0 12 rfl rfl)
theorem dX4_sizeOf_15 : decode cX4_sizeOf 15 = .ok (.iload_n 1, 1) := dk_27 (dk_at dksX4_sizeOf_0 15 rfl rfl)
theorem dX4_sizeOf_16 : decode cX4_sizeOf 16 = .ok (.iaload, 1) := dk_46 (dk_at dksX4_sizeOf_0 16 rfl rfl)
theorem dX4_sizeOf_17 : decode cX4_sizeOf 17 = .ok (.invokevirtual 196, 3) := dk_182 0 196 (dk_at dksX4_sizeOf_0 17 rfl rfl)
theorem dX4_sizeOf_20 : decode cX4_sizeOf 20 = .ok (.isub, 1) := dk_100 (dk_at dksX4_sizeOf_0 20 rfl rfl)
theorem dX4_sizeOf_21 : decode cX4_sizeOf 21 = .ok (.iconst 1, 1) := dk_4 (dk_at dksX4_sizeOf_0 21 rfl rfl)
theorem dX4_sizeOf_22 : decode cX4_sizeOf 22 = .ok (.iadd, 1) := dk_96 (dk_at dksX4_sizeOf_0 22 rfl rfl)
theorem dX4_sizeOf_23 : decode cX4_sizeOf 23 = .ok (.ireturn, 1) := dk_172 (dk_at dksX4_sizeOf_0 23 rfl rfl)
abbrev cX4_tupletAt : ByteArray := prog_21_method_49_code
def yX4_tupletAt : MethodName := ⟨RX4, "tupletAt", "(II)I"⟩
def dkwX4_tupletAt_6 : List UInt8 := [167, 0, 4, 3, 96, 62, 132, 4, 1, 167, 255, 226, 29, 172]
abbrev dktX4_tupletAt_6 : List UInt8 := dkwX4_tupletAt_6 ++ []
def dkwX4_tupletAt_5 : List UInt8 := [54, 4, 21, 4, 42, 180, 0, 199, 162, 0, 27, 29, 42, 27, 21, 4, 182, 1, 24, 153, 0, 7, 4]
abbrev dktX4_tupletAt_5 : List UInt8 := dkwX4_tupletAt_5 ++ dktX4_tupletAt_6
def dkwX4_tupletAt_4 : List UInt8 := [42, 180, 0, 60, 27, 46, 172, 42, 180, 0, 63, 27, 46, 172, 42, 180, 0, 66, 27, 46, 172, 3, 62, 3]
abbrev dktX4_tupletAt_4 : List UInt8 := dkwX4_tupletAt_4 ++ dktX4_tupletAt_5
def dkwX4_tupletAt_3 : List UInt8 := [42, 180, 0, 51, 27, 46, 172, 42, 42, 180, 0, 54, 27, 46, 182, 0, 196, 172, 42, 27, 182, 1, 19, 172]
abbrev dktX4_tupletAt_3 : List UInt8 := dkwX4_tupletAt_3 ++ dktX4_tupletAt_4
def dkwX4_tupletAt_2 : List UInt8 := [170, 0, 0, 0, 0, 0, 0, 85, 0, 0, 0, 0, 0, 0, 0, 5, 0, 0, 0, 40, 0, 0, 0, 47, 0, 0, 0, 58, 0, 0, 0, 64, 0, 0, 0, 71, 0, 0, 0, 78]
abbrev dktX4_tupletAt_2 : List UInt8 := dkwX4_tupletAt_2 ++ dktX4_tupletAt_3
def dkwX4_tupletAt_1 : List UInt8 := [42, 16, 254, 182, 0, 130, 172, 28]
abbrev dktX4_tupletAt_1 : List UInt8 := dkwX4_tupletAt_1 ++ dktX4_tupletAt_2
def dkwX4_tupletAt_0 : List UInt8 := [42, 182, 0, 144, 42, 27, 182, 1, 16, 153, 0, 15, 28, 133, 9, 20, 1, 22, 184, 0, 137, 154, 0, 10]
abbrev dktX4_tupletAt_0 : List UInt8 := dkwX4_tupletAt_0 ++ dktX4_tupletAt_1
theorem dksX4_tupletAt_0 : cX4_tupletAt.data.toList.drop 0 = dktX4_tupletAt_0 := by decide +kernel
theorem dksX4_tupletAt_1 : cX4_tupletAt.data.toList.drop 24 = dktX4_tupletAt_1 := dk_seg dksX4_tupletAt_0 24 rfl rfl
theorem dksX4_tupletAt_2 : cX4_tupletAt.data.toList.drop 32 = dktX4_tupletAt_2 := dk_seg dksX4_tupletAt_1 8 rfl rfl
theorem dksX4_tupletAt_3 : cX4_tupletAt.data.toList.drop 72 = dktX4_tupletAt_3 := dk_seg dksX4_tupletAt_2 40 rfl rfl
theorem dksX4_tupletAt_4 : cX4_tupletAt.data.toList.drop 96 = dktX4_tupletAt_4 := dk_seg dksX4_tupletAt_3 24 rfl rfl
theorem dksX4_tupletAt_5 : cX4_tupletAt.data.toList.drop 120 = dktX4_tupletAt_5 := dk_seg dksX4_tupletAt_4 24 rfl rfl
theorem dksX4_tupletAt_6 : cX4_tupletAt.data.toList.drop 143 = dktX4_tupletAt_6 := dk_seg dksX4_tupletAt_5 23 rfl rfl
theorem dX4_tupletAt_0 : decode cX4_tupletAt 0 = .ok (.aload_n 0, 1) := dk_42 (dk_at dksX4_tupletAt_0 0 rfl rfl)
theorem dX4_tupletAt_1 : decode cX4_tupletAt 1 = .ok (.invokevirtual 144, 3) := dk_182 0 144 (dk_at dksX4_tupletAt_0 1 rfl rfl)
theorem dX4_tupletAt_4 : decode cX4_tupletAt 4 = .ok (.aload_n 0, 1) := dk_42 (dk_at dksX4_tupletAt_0 4 rfl rfl)
theorem dX4_tupletAt_5 : decode cX4_tupletAt 5 = .ok (.iload_n 1, 1) := dk_27 (dk_at dksX4_tupletAt_0 5 rfl rfl)
theorem dX4_tupletAt_6 : decode cX4_tupletAt 6 = .ok (.invokevirtual 272, 3) := dk_182 1 16 (dk_at dksX4_tupletAt_0 6 rfl rfl)
theorem dX4_tupletAt_9 : decode cX4_tupletAt 9 = .ok (.ifCond .eq 15, 3) := dk_153 0 15 (dk_at dksX4_tupletAt_0 9 rfl rfl)
theorem dX4_tupletAt_12 : decode cX4_tupletAt 12 = .ok (.iload_n 2, 1) := dk_28 (dk_at dksX4_tupletAt_0 12 rfl rfl)
theorem dX4_tupletAt_13 : decode cX4_tupletAt 13 = .ok (.i2l, 1) := dk_133 (dk_at dksX4_tupletAt_0 13 rfl rfl)
theorem dX4_tupletAt_14 : decode cX4_tupletAt 14 = .ok (.lconst 0, 1) := dk_9 (dk_at dksX4_tupletAt_0 14 rfl rfl)
theorem dX4_tupletAt_15 : decode cX4_tupletAt 15 = .ok (.ldc2_w 278, 3) := dk_20 1 22 (dk_at dksX4_tupletAt_0 15 rfl rfl)
theorem dX4_tupletAt_18 : decode cX4_tupletAt 18 = .ok (.invokestatic 137, 3) := dk_184 0 137 (dk_at dksX4_tupletAt_0 18 rfl rfl)
theorem dX4_tupletAt_21 : decode cX4_tupletAt 21 = .ok (.ifCond .ne 10, 3) := dk_154 0 10 (dk_at dksX4_tupletAt_0 21 rfl rfl)
theorem dX4_tupletAt_24 : decode cX4_tupletAt 24 = .ok (.aload_n 0, 1) := dk_42 (dk_at dksX4_tupletAt_1 0 rfl rfl)
theorem dX4_tupletAt_25 : decode cX4_tupletAt 25 = .ok (.bipush (-2), 2) := dk_16 254 (dk_at dksX4_tupletAt_1 1 rfl rfl)
theorem dX4_tupletAt_27 : decode cX4_tupletAt 27 = .ok (.invokevirtual 130, 3) := dk_182 0 130 (dk_at dksX4_tupletAt_1 3 rfl rfl)
theorem dX4_tupletAt_30 : decode cX4_tupletAt 30 = .ok (.ireturn, 1) := dk_172 (dk_at dksX4_tupletAt_1 6 rfl rfl)
theorem dX4_tupletAt_31 : decode cX4_tupletAt 31 = .ok (.iload_n 2, 1) := dk_28 (dk_at dksX4_tupletAt_1 7 rfl rfl)
theorem dX4_tupletAt_32 : decode cX4_tupletAt 32 = .ok (.tableswitch 85 0 5 #[40, 47, 58, 64, 71, 78], 40) := by decide +kernel
theorem dX4_tupletAt_72 : decode cX4_tupletAt 72 = .ok (.aload_n 0, 1) := dk_42 (dk_at dksX4_tupletAt_3 0 rfl rfl)
theorem dX4_tupletAt_73 : decode cX4_tupletAt 73 = .ok (.getfield 51, 3) := dk_180 0 51 (dk_at dksX4_tupletAt_3 1 rfl rfl)
theorem dX4_tupletAt_76 : decode cX4_tupletAt 76 = .ok (.iload_n 1, 1) := dk_27 (dk_at dksX4_tupletAt_3 4 rfl rfl)
theorem dX4_tupletAt_77 : decode cX4_tupletAt 77 = .ok (.iaload, 1) := dk_46 (dk_at dksX4_tupletAt_3 5 rfl rfl)
theorem dX4_tupletAt_78 : decode cX4_tupletAt 78 = .ok (.ireturn, 1) := dk_172 (dk_at dksX4_tupletAt_3 6 rfl rfl)
theorem dX4_tupletAt_79 : decode cX4_tupletAt 79 = .ok (.aload_n 0, 1) := dk_42 (dk_at dksX4_tupletAt_3 7 rfl rfl)
theorem dX4_tupletAt_80 : decode cX4_tupletAt 80 = .ok (.aload_n 0, 1) := dk_42 (dk_at dksX4_tupletAt_3 8 rfl rfl)
theorem dX4_tupletAt_81 : decode cX4_tupletAt 81 = .ok (.getfield 54, 3) := dk_180 0 54 (dk_at dksX4_tupletAt_3 9 rfl rfl)
theorem dX4_tupletAt_84 : decode cX4_tupletAt 84 = .ok (.iload_n 1, 1) := dk_27 (dk_at dksX4_tupletAt_3 12 rfl rfl)
theorem dX4_tupletAt_85 : decode cX4_tupletAt 85 = .ok (.iaload, 1) := dk_46 (dk_at dksX4_tupletAt_3 13 rfl rfl)
theorem dX4_tupletAt_86 : decode cX4_tupletAt 86 = .ok (.invokevirtual 196, 3) := dk_182 0 196 (dk_at dksX4_tupletAt_3 14 rfl rfl)
theorem dX4_tupletAt_89 : decode cX4_tupletAt 89 = .ok (.ireturn, 1) := dk_172 (dk_at dksX4_tupletAt_3 17 rfl rfl)
theorem dX4_tupletAt_90 : decode cX4_tupletAt 90 = .ok (.aload_n 0, 1) := dk_42 (dk_at dksX4_tupletAt_3 18 rfl rfl)
theorem dX4_tupletAt_91 : decode cX4_tupletAt 91 = .ok (.iload_n 1, 1) := dk_27 (dk_at dksX4_tupletAt_3 19 rfl rfl)
theorem dX4_tupletAt_92 : decode cX4_tupletAt 92 = .ok (.invokevirtual 275, 3) := dk_182 1 19 (dk_at dksX4_tupletAt_3 20 rfl rfl)
theorem dX4_tupletAt_95 : decode cX4_tupletAt 95 = .ok (.ireturn, 1) := dk_172 (dk_at dksX4_tupletAt_3 23 rfl rfl)
theorem dX4_tupletAt_96 : decode cX4_tupletAt 96 = .ok (.aload_n 0, 1) := dk_42 (dk_at dksX4_tupletAt_4 0 rfl rfl)
theorem dX4_tupletAt_97 : decode cX4_tupletAt 97 = .ok (.getfield 60, 3) := dk_180 0 60 (dk_at dksX4_tupletAt_4 1 rfl rfl)
theorem dX4_tupletAt_100 : decode cX4_tupletAt 100 = .ok (.iload_n 1, 1) := dk_27 (dk_at dksX4_tupletAt_4 4 rfl rfl)
theorem dX4_tupletAt_101 : decode cX4_tupletAt 101 = .ok (.iaload, 1) := dk_46 (dk_at dksX4_tupletAt_4 5 rfl rfl)
theorem dX4_tupletAt_102 : decode cX4_tupletAt 102 = .ok (.ireturn, 1) := dk_172 (dk_at dksX4_tupletAt_4 6 rfl rfl)
theorem dX4_tupletAt_103 : decode cX4_tupletAt 103 = .ok (.aload_n 0, 1) := dk_42 (dk_at dksX4_tupletAt_4 7 rfl rfl)
theorem dX4_tupletAt_104 : decode cX4_tupletAt 104 = .ok (.getfield 63, 3) := dk_180 0 63 (dk_at dksX4_tupletAt_4 8 rfl rfl)
theorem dX4_tupletAt_107 : decode cX4_tupletAt 107 = .ok (.iload_n 1, 1) := dk_27 (dk_at dksX4_tupletAt_4 11 rfl rfl)
theorem dX4_tupletAt_108 : decode cX4_tupletAt 108 = .ok (.iaload, 1) := dk_46 (dk_at dksX4_tupletAt_4 12 rfl rfl)
theorem dX4_tupletAt_109 : decode cX4_tupletAt 109 = .ok (.ireturn, 1) := dk_172 (dk_at dksX4_tupletAt_4 13 rfl rfl)
theorem dX4_tupletAt_110 : decode cX4_tupletAt 110 = .ok (.aload_n 0, 1) := dk_42 (dk_at dksX4_tupletAt_4 14 rfl rfl)
theorem dX4_tupletAt_111 : decode cX4_tupletAt 111 = .ok (.getfield 66, 3) := dk_180 0 66 (dk_at dksX4_tupletAt_4 15 rfl rfl)
theorem dX4_tupletAt_114 : decode cX4_tupletAt 114 = .ok (.iload_n 1, 1) := dk_27 (dk_at dksX4_tupletAt_4 18 rfl rfl)
theorem dX4_tupletAt_115 : decode cX4_tupletAt 115 = .ok (.iaload, 1) := dk_46 (dk_at dksX4_tupletAt_4 19 rfl rfl)
theorem dX4_tupletAt_116 : decode cX4_tupletAt 116 = .ok (.ireturn, 1) := dk_172 (dk_at dksX4_tupletAt_4 20 rfl rfl)
theorem dX4_tupletAt_117 : decode cX4_tupletAt 117 = .ok (.iconst 0, 1) := dk_3 (dk_at dksX4_tupletAt_4 21 rfl rfl)
theorem dX4_tupletAt_118 : decode cX4_tupletAt 118 = .ok (.istore_n 3, 1) := dk_62 (dk_at dksX4_tupletAt_4 22 rfl rfl)
theorem dX4_tupletAt_119 : decode cX4_tupletAt 119 = .ok (.iconst 0, 1) := dk_3 (dk_at dksX4_tupletAt_4 23 rfl rfl)
theorem dX4_tupletAt_120 : decode cX4_tupletAt 120 = .ok (.istore 4, 2) := dk_54 4 (dk_at dksX4_tupletAt_5 0 rfl rfl)
theorem dX4_tupletAt_122 : decode cX4_tupletAt 122 = .ok (.iload 4, 2) := dk_21 4 (dk_at dksX4_tupletAt_5 2 rfl rfl)
theorem dX4_tupletAt_124 : decode cX4_tupletAt 124 = .ok (.aload_n 0, 1) := dk_42 (dk_at dksX4_tupletAt_5 4 rfl rfl)
theorem dX4_tupletAt_125 : decode cX4_tupletAt 125 = .ok (.getfield 199, 3) := dk_180 0 199 (dk_at dksX4_tupletAt_5 5 rfl rfl)
theorem dX4_tupletAt_128 : decode cX4_tupletAt 128 = .ok (.if_icmp .ge 27, 3) := dk_162 0 27 (dk_at dksX4_tupletAt_5 8 rfl rfl)
theorem dX4_tupletAt_131 : decode cX4_tupletAt 131 = .ok (.iload_n 3, 1) := dk_29 (dk_at dksX4_tupletAt_5 11 rfl rfl)
theorem dX4_tupletAt_132 : decode cX4_tupletAt 132 = .ok (.aload_n 0, 1) := dk_42 (dk_at dksX4_tupletAt_5 12 rfl rfl)
theorem dX4_tupletAt_133 : decode cX4_tupletAt 133 = .ok (.iload_n 1, 1) := dk_27 (dk_at dksX4_tupletAt_5 13 rfl rfl)
theorem dX4_tupletAt_134 : decode cX4_tupletAt 134 = .ok (.iload 4, 2) := dk_21 4 (dk_at dksX4_tupletAt_5 14 rfl rfl)
theorem dX4_tupletAt_136 : decode cX4_tupletAt 136 = .ok (.invokevirtual 280, 3) := dk_182 1 24 (dk_at dksX4_tupletAt_5 16 rfl rfl)
theorem dX4_tupletAt_139 : decode cX4_tupletAt 139 = .ok (.ifCond .eq 7, 3) := dk_153 0 7 (dk_at dksX4_tupletAt_5 19 rfl rfl)
theorem dX4_tupletAt_142 : decode cX4_tupletAt 142 = .ok (.iconst 1, 1) := dk_4 (dk_at dksX4_tupletAt_5 22 rfl rfl)
theorem dX4_tupletAt_143 : decode cX4_tupletAt 143 = .ok (.goto 4, 3) := dk_167 0 4 (dk_at dksX4_tupletAt_6 0 rfl rfl)
theorem dX4_tupletAt_146 : decode cX4_tupletAt 146 = .ok (.iconst 0, 1) := dk_3 (dk_at dksX4_tupletAt_6 3 rfl rfl)
theorem dX4_tupletAt_147 : decode cX4_tupletAt 147 = .ok (.iadd, 1) := dk_96 (dk_at dksX4_tupletAt_6 4 rfl rfl)
theorem dX4_tupletAt_148 : decode cX4_tupletAt 148 = .ok (.istore_n 3, 1) := dk_62 (dk_at dksX4_tupletAt_6 5 rfl rfl)
theorem dX4_tupletAt_149 : decode cX4_tupletAt 149 = .ok (.iinc 4 1, 3) := dk_132 4 1 (dk_at dksX4_tupletAt_6 6 rfl rfl)
theorem dX4_tupletAt_152 : decode cX4_tupletAt 152 = .ok (.goto (-30), 3) := dk_167 255 226 (dk_at dksX4_tupletAt_6 9 rfl rfl)
theorem dX4_tupletAt_155 : decode cX4_tupletAt 155 = .ok (.iload_n 3, 1) := dk_29 (dk_at dksX4_tupletAt_6 12 rfl rfl)
theorem dX4_tupletAt_156 : decode cX4_tupletAt 156 = .ok (.ireturn, 1) := dk_172 (dk_at dksX4_tupletAt_6 13 rfl rfl)
abbrev cX4_isInner : ByteArray := prog_21_method_48_code
def yX4_isInner : MethodName := ⟨RX4, "isInner", "(II)Z"⟩
def dkwX4_isInner_5 : List UInt8 := [167, 0, 4, 3, 172]
abbrev dktX4_isInner_5 : List UInt8 := dkwX4_isInner_5 ++ []
def dkwX4_isInner_4 : List UInt8 := [153, 0, 25, 42, 27, 182, 1, 19, 42, 28, 182, 1, 19, 161, 0, 8, 27, 28, 164, 0, 7, 4]
abbrev dktX4_isInner_4 : List UInt8 := dkwX4_isInner_4 ++ dktX4_isInner_5
def dkwX4_isInner_3 : List UInt8 := [182, 0, 196, 42, 42, 180, 0, 57, 28, 46, 182, 0, 196, 163, 0, 7, 4, 167, 0, 4, 3, 62, 29]
abbrev dktX4_isInner_3 : List UInt8 := dkwX4_isInner_3 ++ dktX4_isInner_4
def dkwX4_isInner_2 : List UInt8 := [182, 0, 196, 42, 42, 180, 0, 54, 27, 46, 182, 0, 196, 163, 0, 30, 42, 42, 180, 0, 57, 27, 46]
abbrev dktX4_isInner_2 : List UInt8 := dkwX4_isInner_2 ++ dktX4_isInner_3
def dkwX4_isInner_1 : List UInt8 := [180, 0, 51, 27, 46, 42, 180, 0, 51, 28, 46, 159, 0, 5, 3, 172, 42, 42, 180, 0, 54, 28, 46]
abbrev dktX4_isInner_1 : List UInt8 := dkwX4_isInner_1 ++ dktX4_isInner_2
def dkwX4_isInner_0 : List UInt8 := [27, 28, 159, 0, 36, 42, 180, 0, 48, 27, 51, 153, 0, 27, 42, 180, 0, 48, 28, 51, 153, 0, 18, 42]
abbrev dktX4_isInner_0 : List UInt8 := dkwX4_isInner_0 ++ dktX4_isInner_1
theorem dksX4_isInner_0 : cX4_isInner.data.toList.drop 0 = dktX4_isInner_0 := by decide +kernel
theorem dksX4_isInner_1 : cX4_isInner.data.toList.drop 24 = dktX4_isInner_1 := dk_seg dksX4_isInner_0 24 rfl rfl
theorem dksX4_isInner_2 : cX4_isInner.data.toList.drop 47 = dktX4_isInner_2 := dk_seg dksX4_isInner_1 23 rfl rfl
theorem dksX4_isInner_3 : cX4_isInner.data.toList.drop 70 = dktX4_isInner_3 := dk_seg dksX4_isInner_2 23 rfl rfl
theorem dksX4_isInner_4 : cX4_isInner.data.toList.drop 93 = dktX4_isInner_4 := dk_seg dksX4_isInner_3 23 rfl rfl
theorem dksX4_isInner_5 : cX4_isInner.data.toList.drop 115 = dktX4_isInner_5 := dk_seg dksX4_isInner_4 22 rfl rfl
theorem dX4_isInner_0 : decode cX4_isInner 0 = .ok (.iload_n 1, 1) := dk_27 (dk_at dksX4_isInner_0 0 rfl rfl)
theorem dX4_isInner_1 : decode cX4_isInner 1 = .ok (.iload_n 2, 1) := dk_28 (dk_at dksX4_isInner_0 1 rfl rfl)
theorem dX4_isInner_2 : decode cX4_isInner 2 = .ok (.if_icmp .eq 36, 3) := dk_159 0 36 (dk_at dksX4_isInner_0 2 rfl rfl)
theorem dX4_isInner_5 : decode cX4_isInner 5 = .ok (.aload_n 0, 1) := dk_42 (dk_at dksX4_isInner_0 5 rfl rfl)
theorem dX4_isInner_6 : decode cX4_isInner 6 = .ok (.getfield 48, 3) := dk_180 0 48 (dk_at dksX4_isInner_0 6 rfl rfl)
theorem dX4_isInner_9 : decode cX4_isInner 9 = .ok (.iload_n 1, 1) := dk_27 (dk_at dksX4_isInner_0 9 rfl rfl)
theorem dX4_isInner_10 : decode cX4_isInner 10 = .ok (.baload, 1) := dk_51 (dk_at dksX4_isInner_0 10 rfl rfl)
theorem dX4_isInner_11 : decode cX4_isInner 11 = .ok (.ifCond .eq 27, 3) := dk_153 0 27 (dk_at dksX4_isInner_0 11 rfl rfl)
theorem dX4_isInner_14 : decode cX4_isInner 14 = .ok (.aload_n 0, 1) := dk_42 (dk_at dksX4_isInner_0 14 rfl rfl)
theorem dX4_isInner_15 : decode cX4_isInner 15 = .ok (.getfield 48, 3) := dk_180 0 48 (dk_at dksX4_isInner_0 15 rfl rfl)
theorem dX4_isInner_18 : decode cX4_isInner 18 = .ok (.iload_n 2, 1) := dk_28 (dk_at dksX4_isInner_0 18 rfl rfl)
theorem dX4_isInner_19 : decode cX4_isInner 19 = .ok (.baload, 1) := dk_51 (dk_at dksX4_isInner_0 19 rfl rfl)
theorem dX4_isInner_20 : decode cX4_isInner 20 = .ok (.ifCond .eq 18, 3) := dk_153 0 18 (dk_at dksX4_isInner_0 20 rfl rfl)
theorem dX4_isInner_23 : decode cX4_isInner 23 = .ok (.aload_n 0, 1) := dk_42 (dk_at dksX4_isInner_0 23 rfl rfl)
theorem dX4_isInner_24 : decode cX4_isInner 24 = .ok (.getfield 51, 3) := dk_180 0 51 (dk_at dksX4_isInner_1 0 rfl rfl)
theorem dX4_isInner_27 : decode cX4_isInner 27 = .ok (.iload_n 1, 1) := dk_27 (dk_at dksX4_isInner_1 3 rfl rfl)
theorem dX4_isInner_28 : decode cX4_isInner 28 = .ok (.iaload, 1) := dk_46 (dk_at dksX4_isInner_1 4 rfl rfl)
theorem dX4_isInner_29 : decode cX4_isInner 29 = .ok (.aload_n 0, 1) := dk_42 (dk_at dksX4_isInner_1 5 rfl rfl)
theorem dX4_isInner_30 : decode cX4_isInner 30 = .ok (.getfield 51, 3) := dk_180 0 51 (dk_at dksX4_isInner_1 6 rfl rfl)
theorem dX4_isInner_33 : decode cX4_isInner 33 = .ok (.iload_n 2, 1) := dk_28 (dk_at dksX4_isInner_1 9 rfl rfl)
theorem dX4_isInner_34 : decode cX4_isInner 34 = .ok (.iaload, 1) := dk_46 (dk_at dksX4_isInner_1 10 rfl rfl)
theorem dX4_isInner_35 : decode cX4_isInner 35 = .ok (.if_icmp .eq 5, 3) := dk_159 0 5 (dk_at dksX4_isInner_1 11 rfl rfl)
theorem dX4_isInner_38 : decode cX4_isInner 38 = .ok (.iconst 0, 1) := dk_3 (dk_at dksX4_isInner_1 14 rfl rfl)
theorem dX4_isInner_39 : decode cX4_isInner 39 = .ok (.ireturn, 1) := dk_172 (dk_at dksX4_isInner_1 15 rfl rfl)
theorem dX4_isInner_40 : decode cX4_isInner 40 = .ok (.aload_n 0, 1) := dk_42 (dk_at dksX4_isInner_1 16 rfl rfl)
theorem dX4_isInner_41 : decode cX4_isInner 41 = .ok (.aload_n 0, 1) := dk_42 (dk_at dksX4_isInner_1 17 rfl rfl)
theorem dX4_isInner_42 : decode cX4_isInner 42 = .ok (.getfield 54, 3) := dk_180 0 54 (dk_at dksX4_isInner_1 18 rfl rfl)
theorem dX4_isInner_45 : decode cX4_isInner 45 = .ok (.iload_n 2, 1) := dk_28 (dk_at dksX4_isInner_1 21 rfl rfl)
theorem dX4_isInner_46 : decode cX4_isInner 46 = .ok (.iaload, 1) := dk_46 (dk_at dksX4_isInner_1 22 rfl rfl)
theorem dX4_isInner_47 : decode cX4_isInner 47 = .ok (.invokevirtual 196, 3) := dk_182 0 196 (dk_at dksX4_isInner_2 0 rfl rfl)
theorem dX4_isInner_50 : decode cX4_isInner 50 = .ok (.aload_n 0, 1) := dk_42 (dk_at dksX4_isInner_2 3 rfl rfl)
theorem dX4_isInner_51 : decode cX4_isInner 51 = .ok (.aload_n 0, 1) := dk_42 (dk_at dksX4_isInner_2 4 rfl rfl)
theorem dX4_isInner_52 : decode cX4_isInner 52 = .ok (.getfield 54, 3) := dk_180 0 54 (dk_at dksX4_isInner_2 5 rfl rfl)
theorem dX4_isInner_55 : decode cX4_isInner 55 = .ok (.iload_n 1, 1) := dk_27 (dk_at dksX4_isInner_2 8 rfl rfl)
theorem dX4_isInner_56 : decode cX4_isInner 56 = .ok (.iaload, 1) := dk_46 (dk_at dksX4_isInner_2 9 rfl rfl)
theorem dX4_isInner_57 : decode cX4_isInner 57 = .ok (.invokevirtual 196, 3) := dk_182 0 196 (dk_at dksX4_isInner_2 10 rfl rfl)
theorem dX4_isInner_60 : decode cX4_isInner 60 = .ok (.if_icmp .gt 30, 3) := dk_163 0 30 (dk_at dksX4_isInner_2 13 rfl rfl)
theorem dX4_isInner_63 : decode cX4_isInner 63 = .ok (.aload_n 0, 1) := dk_42 (dk_at dksX4_isInner_2 16 rfl rfl)
theorem dX4_isInner_64 : decode cX4_isInner 64 = .ok (.aload_n 0, 1) := dk_42 (dk_at dksX4_isInner_2 17 rfl rfl)
theorem dX4_isInner_65 : decode cX4_isInner 65 = .ok (.getfield 57, 3) := dk_180 0 57 (dk_at dksX4_isInner_2 18 rfl rfl)
theorem dX4_isInner_68 : decode cX4_isInner 68 = .ok (.iload_n 1, 1) := dk_27 (dk_at dksX4_isInner_2 21 rfl rfl)
theorem dX4_isInner_69 : decode cX4_isInner 69 = .ok (.iaload, 1) := dk_46 (dk_at dksX4_isInner_2 22 rfl rfl)
theorem dX4_isInner_70 : decode cX4_isInner 70 = .ok (.invokevirtual 196, 3) := dk_182 0 196 (dk_at dksX4_isInner_3 0 rfl rfl)
theorem dX4_isInner_73 : decode cX4_isInner 73 = .ok (.aload_n 0, 1) := dk_42 (dk_at dksX4_isInner_3 3 rfl rfl)
theorem dX4_isInner_74 : decode cX4_isInner 74 = .ok (.aload_n 0, 1) := dk_42 (dk_at dksX4_isInner_3 4 rfl rfl)
theorem dX4_isInner_75 : decode cX4_isInner 75 = .ok (.getfield 57, 3) := dk_180 0 57 (dk_at dksX4_isInner_3 5 rfl rfl)
theorem dX4_isInner_78 : decode cX4_isInner 78 = .ok (.iload_n 2, 1) := dk_28 (dk_at dksX4_isInner_3 8 rfl rfl)
theorem dX4_isInner_79 : decode cX4_isInner 79 = .ok (.iaload, 1) := dk_46 (dk_at dksX4_isInner_3 9 rfl rfl)
theorem dX4_isInner_80 : decode cX4_isInner 80 = .ok (.invokevirtual 196, 3) := dk_182 0 196 (dk_at dksX4_isInner_3 10 rfl rfl)
theorem dX4_isInner_83 : decode cX4_isInner 83 = .ok (.if_icmp .gt 7, 3) := dk_163 0 7 (dk_at dksX4_isInner_3 13 rfl rfl)
theorem dX4_isInner_86 : decode cX4_isInner 86 = .ok (.iconst 1, 1) := dk_4 (dk_at dksX4_isInner_3 16 rfl rfl)
theorem dX4_isInner_87 : decode cX4_isInner 87 = .ok (.goto 4, 3) := dk_167 0 4 (dk_at dksX4_isInner_3 17 rfl rfl)
theorem dX4_isInner_90 : decode cX4_isInner 90 = .ok (.iconst 0, 1) := dk_3 (dk_at dksX4_isInner_3 20 rfl rfl)
theorem dX4_isInner_91 : decode cX4_isInner 91 = .ok (.istore_n 3, 1) := dk_62 (dk_at dksX4_isInner_3 21 rfl rfl)
theorem dX4_isInner_92 : decode cX4_isInner 92 = .ok (.iload_n 3, 1) := dk_29 (dk_at dksX4_isInner_3 22 rfl rfl)
theorem dX4_isInner_93 : decode cX4_isInner 93 = .ok (.ifCond .eq 25, 3) := dk_153 0 25 (dk_at dksX4_isInner_4 0 rfl rfl)
theorem dX4_isInner_96 : decode cX4_isInner 96 = .ok (.aload_n 0, 1) := dk_42 (dk_at dksX4_isInner_4 3 rfl rfl)
theorem dX4_isInner_97 : decode cX4_isInner 97 = .ok (.iload_n 1, 1) := dk_27 (dk_at dksX4_isInner_4 4 rfl rfl)
theorem dX4_isInner_98 : decode cX4_isInner 98 = .ok (.invokevirtual 275, 3) := dk_182 1 19 (dk_at dksX4_isInner_4 5 rfl rfl)
theorem dX4_isInner_101 : decode cX4_isInner 101 = .ok (.aload_n 0, 1) := dk_42 (dk_at dksX4_isInner_4 8 rfl rfl)
theorem dX4_isInner_102 : decode cX4_isInner 102 = .ok (.iload_n 2, 1) := dk_28 (dk_at dksX4_isInner_4 9 rfl rfl)
theorem dX4_isInner_103 : decode cX4_isInner 103 = .ok (.invokevirtual 275, 3) := dk_182 1 19 (dk_at dksX4_isInner_4 10 rfl rfl)
theorem dX4_isInner_106 : decode cX4_isInner 106 = .ok (.if_icmp .lt 8, 3) := dk_161 0 8 (dk_at dksX4_isInner_4 13 rfl rfl)
theorem dX4_isInner_109 : decode cX4_isInner 109 = .ok (.iload_n 1, 1) := dk_27 (dk_at dksX4_isInner_4 16 rfl rfl)
theorem dX4_isInner_110 : decode cX4_isInner 110 = .ok (.iload_n 2, 1) := dk_28 (dk_at dksX4_isInner_4 17 rfl rfl)
theorem dX4_isInner_111 : decode cX4_isInner 111 = .ok (.if_icmp .le 7, 3) := dk_164 0 7 (dk_at dksX4_isInner_4 18 rfl rfl)
theorem dX4_isInner_114 : decode cX4_isInner 114 = .ok (.iconst 1, 1) := dk_4 (dk_at dksX4_isInner_4 21 rfl rfl)
theorem dX4_isInner_115 : decode cX4_isInner 115 = .ok (.goto 4, 3) := dk_167 0 4 (dk_at dksX4_isInner_5 0 rfl rfl)
theorem dX4_isInner_118 : decode cX4_isInner 118 = .ok (.iconst 0, 1) := dk_3 (dk_at dksX4_isInner_5 3 rfl rfl)
theorem dX4_isInner_119 : decode cX4_isInner 119 = .ok (.ireturn, 1) := dk_172 (dk_at dksX4_isInner_5 4 rfl rfl)
abbrev cX4_line : ByteArray := prog_21_method_51_code
def yX4_line : MethodName := ⟨RX4, "line", "(III)I"⟩
def dkwX4_line_5 : List UInt8 := [181, 0, 208, 42, 180, 0, 205, 4, 100, 172]
abbrev dktX4_line_5 : List UInt8 := dkwX4_line_5 ++ []
def dkwX4_line_4 : List UInt8 := [180, 0, 205, 29, 79, 42, 89, 180, 0, 205, 4, 96, 181, 0, 205, 42, 89, 180, 0, 208, 4, 96]
abbrev dktX4_line_4 : List UInt8 := dkwX4_line_4 ++ dktX4_line_5
def dkwX4_line_3 : List UInt8 := [180, 0, 72, 42, 180, 0, 205, 27, 79, 42, 180, 0, 75, 42, 180, 0, 205, 28, 79, 42, 180, 0, 78, 42]
abbrev dktX4_line_3 : List UInt8 := dkwX4_line_3 ++ dktX4_line_4
def dkwX4_line_2 : List UInt8 := [16, 30, 160, 0, 10, 42, 16, 252, 182, 0, 130, 172, 42, 180, 0, 69, 42, 180, 0, 205, 4, 84, 42]
abbrev dktX4_line_2 : List UInt8 := dkwX4_line_2 ++ dktX4_line_3
def dkwX4_line_1 : List UInt8 := [29, 2, 159, 0, 18, 42, 29, 182, 0, 193, 154, 0, 10, 42, 16, 254, 182, 0, 130, 172, 42, 180, 0, 205]
abbrev dktX4_line_1 : List UInt8 := dkwX4_line_1 ++ dktX4_line_2
def dkwX4_line_0 : List UInt8 := [42, 182, 0, 144, 27, 133, 9, 20, 0, 231, 184, 0, 137, 153, 0, 24, 42, 28, 182, 0, 193, 153, 0, 16]
abbrev dktX4_line_0 : List UInt8 := dkwX4_line_0 ++ dktX4_line_1
theorem dksX4_line_0 : cX4_line.data.toList.drop 0 = dktX4_line_0 := by decide +kernel
theorem dksX4_line_1 : cX4_line.data.toList.drop 24 = dktX4_line_1 := dk_seg dksX4_line_0 24 rfl rfl
theorem dksX4_line_2 : cX4_line.data.toList.drop 48 = dktX4_line_2 := dk_seg dksX4_line_1 24 rfl rfl
theorem dksX4_line_3 : cX4_line.data.toList.drop 71 = dktX4_line_3 := dk_seg dksX4_line_2 23 rfl rfl
theorem dksX4_line_4 : cX4_line.data.toList.drop 95 = dktX4_line_4 := dk_seg dksX4_line_3 24 rfl rfl
theorem dksX4_line_5 : cX4_line.data.toList.drop 117 = dktX4_line_5 := dk_seg dksX4_line_4 22 rfl rfl
theorem dX4_line_0 : decode cX4_line 0 = .ok (.aload_n 0, 1) := dk_42 (dk_at dksX4_line_0 0 rfl rfl)
theorem dX4_line_1 : decode cX4_line 1 = .ok (.invokevirtual 144, 3) := dk_182 0 144 (dk_at dksX4_line_0 1 rfl rfl)
theorem dX4_line_4 : decode cX4_line 4 = .ok (.iload_n 1, 1) := dk_27 (dk_at dksX4_line_0 4 rfl rfl)
theorem dX4_line_5 : decode cX4_line 5 = .ok (.i2l, 1) := dk_133 (dk_at dksX4_line_0 5 rfl rfl)
theorem dX4_line_6 : decode cX4_line 6 = .ok (.lconst 0, 1) := dk_9 (dk_at dksX4_line_0 6 rfl rfl)
theorem dX4_line_7 : decode cX4_line 7 = .ok (.ldc2_w 231, 3) := dk_20 0 231 (dk_at dksX4_line_0 7 rfl rfl)
theorem dX4_line_10 : decode cX4_line 10 = .ok (.invokestatic 137, 3) := dk_184 0 137 (dk_at dksX4_line_0 10 rfl rfl)
theorem dX4_line_13 : decode cX4_line 13 = .ok (.ifCond .eq 24, 3) := dk_153 0 24 (dk_at dksX4_line_0 13 rfl rfl)
theorem dX4_line_16 : decode cX4_line 16 = .ok (.aload_n 0, 1) := dk_42 (dk_at dksX4_line_0 16 rfl rfl)
theorem dX4_line_17 : decode cX4_line 17 = .ok (.iload_n 2, 1) := dk_28 (dk_at dksX4_line_0 17 rfl rfl)
theorem dX4_line_18 : decode cX4_line 18 = .ok (.invokevirtual 193, 3) := dk_182 0 193 (dk_at dksX4_line_0 18 rfl rfl)
theorem dX4_line_21 : decode cX4_line 21 = .ok (.ifCond .eq 16, 3) := dk_153 0 16 (dk_at dksX4_line_0 21 rfl rfl)
theorem dX4_line_24 : decode cX4_line 24 = .ok (.iload_n 3, 1) := dk_29 (dk_at dksX4_line_1 0 rfl rfl)
theorem dX4_line_25 : decode cX4_line 25 = .ok (.iconst (-1), 1) := dk_2 (dk_at dksX4_line_1 1 rfl rfl)
theorem dX4_line_26 : decode cX4_line 26 = .ok (.if_icmp .eq 18, 3) := dk_159 0 18 (dk_at dksX4_line_1 2 rfl rfl)
theorem dX4_line_29 : decode cX4_line 29 = .ok (.aload_n 0, 1) := dk_42 (dk_at dksX4_line_1 5 rfl rfl)
theorem dX4_line_30 : decode cX4_line 30 = .ok (.iload_n 3, 1) := dk_29 (dk_at dksX4_line_1 6 rfl rfl)
theorem dX4_line_31 : decode cX4_line 31 = .ok (.invokevirtual 193, 3) := dk_182 0 193 (dk_at dksX4_line_1 7 rfl rfl)
theorem dX4_line_34 : decode cX4_line 34 = .ok (.ifCond .ne 10, 3) := dk_154 0 10 (dk_at dksX4_line_1 10 rfl rfl)
theorem dX4_line_37 : decode cX4_line 37 = .ok (.aload_n 0, 1) := dk_42 (dk_at dksX4_line_1 13 rfl rfl)
theorem dX4_line_38 : decode cX4_line 38 = .ok (.bipush (-2), 2) := dk_16 254 (dk_at dksX4_line_1 14 rfl rfl)
theorem dX4_line_40 : decode cX4_line 40 = .ok (.invokevirtual 130, 3) := dk_182 0 130 (dk_at dksX4_line_1 16 rfl rfl)
theorem dX4_line_43 : decode cX4_line 43 = .ok (.ireturn, 1) := dk_172 (dk_at dksX4_line_1 19 rfl rfl)
theorem dX4_line_44 : decode cX4_line 44 = .ok (.aload_n 0, 1) := dk_42 (dk_at dksX4_line_1 20 rfl rfl)
theorem dX4_line_45 : decode cX4_line 45 = .ok (.getfield 205, 3) := dk_180 0 205 (dk_at dksX4_line_1 21 rfl rfl)
theorem dX4_line_48 : decode cX4_line 48 = .ok (.bipush 30, 2) := dk_16 30 (dk_at dksX4_line_2 0 rfl rfl)
theorem dX4_line_50 : decode cX4_line 50 = .ok (.if_icmp .ne 10, 3) := dk_160 0 10 (dk_at dksX4_line_2 2 rfl rfl)
theorem dX4_line_53 : decode cX4_line 53 = .ok (.aload_n 0, 1) := dk_42 (dk_at dksX4_line_2 5 rfl rfl)
theorem dX4_line_54 : decode cX4_line 54 = .ok (.bipush (-4), 2) := dk_16 252 (dk_at dksX4_line_2 6 rfl rfl)
theorem dX4_line_56 : decode cX4_line 56 = .ok (.invokevirtual 130, 3) := dk_182 0 130 (dk_at dksX4_line_2 8 rfl rfl)
theorem dX4_line_59 : decode cX4_line 59 = .ok (.ireturn, 1) := dk_172 (dk_at dksX4_line_2 11 rfl rfl)
theorem dX4_line_60 : decode cX4_line 60 = .ok (.aload_n 0, 1) := dk_42 (dk_at dksX4_line_2 12 rfl rfl)
theorem dX4_line_61 : decode cX4_line 61 = .ok (.getfield 69, 3) := dk_180 0 69 (dk_at dksX4_line_2 13 rfl rfl)
theorem dX4_line_64 : decode cX4_line 64 = .ok (.aload_n 0, 1) := dk_42 (dk_at dksX4_line_2 16 rfl rfl)
theorem dX4_line_65 : decode cX4_line 65 = .ok (.getfield 205, 3) := dk_180 0 205 (dk_at dksX4_line_2 17 rfl rfl)
theorem dX4_line_68 : decode cX4_line 68 = .ok (.iconst 1, 1) := dk_4 (dk_at dksX4_line_2 20 rfl rfl)
theorem dX4_line_69 : decode cX4_line 69 = .ok (.bastore, 1) := dk_84 (dk_at dksX4_line_2 21 rfl rfl)
theorem dX4_line_70 : decode cX4_line 70 = .ok (.aload_n 0, 1) := dk_42 (dk_at dksX4_line_2 22 rfl rfl)
theorem dX4_line_71 : decode cX4_line 71 = .ok (.getfield 72, 3) := dk_180 0 72 (dk_at dksX4_line_3 0 rfl rfl)
theorem dX4_line_74 : decode cX4_line 74 = .ok (.aload_n 0, 1) := dk_42 (dk_at dksX4_line_3 3 rfl rfl)
theorem dX4_line_75 : decode cX4_line 75 = .ok (.getfield 205, 3) := dk_180 0 205 (dk_at dksX4_line_3 4 rfl rfl)
theorem dX4_line_78 : decode cX4_line 78 = .ok (.iload_n 1, 1) := dk_27 (dk_at dksX4_line_3 7 rfl rfl)
theorem dX4_line_79 : decode cX4_line 79 = .ok (.iastore, 1) := dk_79 (dk_at dksX4_line_3 8 rfl rfl)
theorem dX4_line_80 : decode cX4_line 80 = .ok (.aload_n 0, 1) := dk_42 (dk_at dksX4_line_3 9 rfl rfl)
theorem dX4_line_81 : decode cX4_line 81 = .ok (.getfield 75, 3) := dk_180 0 75 (dk_at dksX4_line_3 10 rfl rfl)
theorem dX4_line_84 : decode cX4_line 84 = .ok (.aload_n 0, 1) := dk_42 (dk_at dksX4_line_3 13 rfl rfl)
theorem dX4_line_85 : decode cX4_line 85 = .ok (.getfield 205, 3) := dk_180 0 205 (dk_at dksX4_line_3 14 rfl rfl)
theorem dX4_line_88 : decode cX4_line 88 = .ok (.iload_n 2, 1) := dk_28 (dk_at dksX4_line_3 17 rfl rfl)
theorem dX4_line_89 : decode cX4_line 89 = .ok (.iastore, 1) := dk_79 (dk_at dksX4_line_3 18 rfl rfl)
theorem dX4_line_90 : decode cX4_line 90 = .ok (.aload_n 0, 1) := dk_42 (dk_at dksX4_line_3 19 rfl rfl)
theorem dX4_line_91 : decode cX4_line 91 = .ok (.getfield 78, 3) := dk_180 0 78 (dk_at dksX4_line_3 20 rfl rfl)
theorem dX4_line_94 : decode cX4_line 94 = .ok (.aload_n 0, 1) := dk_42 (dk_at dksX4_line_3 23 rfl rfl)
theorem dX4_line_95 : decode cX4_line 95 = .ok (.getfield 205, 3) := dk_180 0 205 (dk_at dksX4_line_4 0 rfl rfl)
theorem dX4_line_98 : decode cX4_line 98 = .ok (.iload_n 3, 1) := dk_29 (dk_at dksX4_line_4 3 rfl rfl)
theorem dX4_line_99 : decode cX4_line 99 = .ok (.iastore, 1) := dk_79 (dk_at dksX4_line_4 4 rfl rfl)
theorem dX4_line_100 : decode cX4_line 100 = .ok (.aload_n 0, 1) := dk_42 (dk_at dksX4_line_4 5 rfl rfl)
theorem dX4_line_101 : decode cX4_line 101 = .ok (.dup, 1) := dk_89 (dk_at dksX4_line_4 6 rfl rfl)
theorem dX4_line_102 : decode cX4_line 102 = .ok (.getfield 205, 3) := dk_180 0 205 (dk_at dksX4_line_4 7 rfl rfl)
theorem dX4_line_105 : decode cX4_line 105 = .ok (.iconst 1, 1) := dk_4 (dk_at dksX4_line_4 10 rfl rfl)
theorem dX4_line_106 : decode cX4_line 106 = .ok (.iadd, 1) := dk_96 (dk_at dksX4_line_4 11 rfl rfl)
theorem dX4_line_107 : decode cX4_line 107 = .ok (.putfield 205, 3) := dk_181 0 205 (dk_at dksX4_line_4 12 rfl rfl)
theorem dX4_line_110 : decode cX4_line 110 = .ok (.aload_n 0, 1) := dk_42 (dk_at dksX4_line_4 15 rfl rfl)
theorem dX4_line_111 : decode cX4_line 111 = .ok (.dup, 1) := dk_89 (dk_at dksX4_line_4 16 rfl rfl)
theorem dX4_line_112 : decode cX4_line 112 = .ok (.getfield 208, 3) := dk_180 0 208 (dk_at dksX4_line_4 17 rfl rfl)
theorem dX4_line_115 : decode cX4_line 115 = .ok (.iconst 1, 1) := dk_4 (dk_at dksX4_line_4 20 rfl rfl)
theorem dX4_line_116 : decode cX4_line 116 = .ok (.iadd, 1) := dk_96 (dk_at dksX4_line_4 21 rfl rfl)
theorem dX4_line_117 : decode cX4_line 117 = .ok (.putfield 208, 3) := dk_181 0 208 (dk_at dksX4_line_5 0 rfl rfl)
theorem dX4_line_120 : decode cX4_line 120 = .ok (.aload_n 0, 1) := dk_42 (dk_at dksX4_line_5 3 rfl rfl)
theorem dX4_line_121 : decode cX4_line 121 = .ok (.getfield 205, 3) := dk_180 0 205 (dk_at dksX4_line_5 4 rfl rfl)
theorem dX4_line_124 : decode cX4_line 124 = .ok (.iconst 1, 1) := dk_4 (dk_at dksX4_line_5 7 rfl rfl)
theorem dX4_line_125 : decode cX4_line 125 = .ok (.isub, 1) := dk_100 (dk_at dksX4_line_5 8 rfl rfl)
theorem dX4_line_126 : decode cX4_line 126 = .ok (.ireturn, 1) := dk_172 (dk_at dksX4_line_5 9 rfl rfl)
abbrev cX4_end : ByteArray := prog_21_method_52_code
def yX4_end : MethodName := ⟨RX4, "end", "(II)I"⟩
def dkwX4_end_1 : List UInt8 := [154, 0, 10, 42, 16, 254, 182, 0, 130, 172, 42, 180, 0, 78, 27, 28, 79, 4, 172]
abbrev dktX4_end_1 : List UInt8 := dkwX4_end_1 ++ []
def dkwX4_end_0 : List UInt8 := [42, 182, 0, 144, 42, 27, 182, 1, 27, 153, 0, 16, 28, 2, 159, 0, 18, 42, 28, 182, 0, 193]
abbrev dktX4_end_0 : List UInt8 := dkwX4_end_0 ++ dktX4_end_1
theorem dksX4_end_0 : cX4_end.data.toList.drop 0 = dktX4_end_0 := by decide +kernel
theorem dksX4_end_1 : cX4_end.data.toList.drop 22 = dktX4_end_1 := dk_seg dksX4_end_0 22 rfl rfl
theorem dX4_end_0 : decode cX4_end 0 = .ok (.aload_n 0, 1) := dk_42 (dk_at dksX4_end_0 0 rfl rfl)
theorem dX4_end_1 : decode cX4_end 1 = .ok (.invokevirtual 144, 3) := dk_182 0 144 (dk_at dksX4_end_0 1 rfl rfl)
theorem dX4_end_4 : decode cX4_end 4 = .ok (.aload_n 0, 1) := dk_42 (dk_at dksX4_end_0 4 rfl rfl)
theorem dX4_end_5 : decode cX4_end 5 = .ok (.iload_n 1, 1) := dk_27 (dk_at dksX4_end_0 5 rfl rfl)
theorem dX4_end_6 : decode cX4_end 6 = .ok (.invokevirtual 283, 3) := dk_182 1 27 (dk_at dksX4_end_0 6 rfl rfl)
theorem dX4_end_9 : decode cX4_end 9 = .ok (.ifCond .eq 16, 3) := dk_153 0 16 (dk_at dksX4_end_0 9 rfl rfl)
theorem dX4_end_12 : decode cX4_end 12 = .ok (.iload_n 2, 1) := dk_28 (dk_at dksX4_end_0 12 rfl rfl)
theorem dX4_end_13 : decode cX4_end 13 = .ok (.iconst (-1), 1) := dk_2 (dk_at dksX4_end_0 13 rfl rfl)
theorem dX4_end_14 : decode cX4_end 14 = .ok (.if_icmp .eq 18, 3) := dk_159 0 18 (dk_at dksX4_end_0 14 rfl rfl)
theorem dX4_end_17 : decode cX4_end 17 = .ok (.aload_n 0, 1) := dk_42 (dk_at dksX4_end_0 17 rfl rfl)
theorem dX4_end_18 : decode cX4_end 18 = .ok (.iload_n 2, 1) := dk_28 (dk_at dksX4_end_0 18 rfl rfl)
theorem dX4_end_19 : decode cX4_end 19 = .ok (.invokevirtual 193, 3) := dk_182 0 193 (dk_at dksX4_end_0 19 rfl rfl)
theorem dX4_end_22 : decode cX4_end 22 = .ok (.ifCond .ne 10, 3) := dk_154 0 10 (dk_at dksX4_end_1 0 rfl rfl)
theorem dX4_end_25 : decode cX4_end 25 = .ok (.aload_n 0, 1) := dk_42 (dk_at dksX4_end_1 3 rfl rfl)
theorem dX4_end_26 : decode cX4_end 26 = .ok (.bipush (-2), 2) := dk_16 254 (dk_at dksX4_end_1 4 rfl rfl)
theorem dX4_end_28 : decode cX4_end 28 = .ok (.invokevirtual 130, 3) := dk_182 0 130 (dk_at dksX4_end_1 6 rfl rfl)
theorem dX4_end_31 : decode cX4_end 31 = .ok (.ireturn, 1) := dk_172 (dk_at dksX4_end_1 9 rfl rfl)
theorem dX4_end_32 : decode cX4_end 32 = .ok (.aload_n 0, 1) := dk_42 (dk_at dksX4_end_1 10 rfl rfl)
theorem dX4_end_33 : decode cX4_end 33 = .ok (.getfield 78, 3) := dk_180 0 78 (dk_at dksX4_end_1 11 rfl rfl)
theorem dX4_end_36 : decode cX4_end 36 = .ok (.iload_n 1, 1) := dk_27 (dk_at dksX4_end_1 14 rfl rfl)
theorem dX4_end_37 : decode cX4_end 37 = .ok (.iload_n 2, 1) := dk_28 (dk_at dksX4_end_1 15 rfl rfl)
theorem dX4_end_38 : decode cX4_end 38 = .ok (.iastore, 1) := dk_79 (dk_at dksX4_end_1 16 rfl rfl)
theorem dX4_end_39 : decode cX4_end 39 = .ok (.iconst 1, 1) := dk_4 (dk_at dksX4_end_1 17 rfl rfl)
theorem dX4_end_40 : decode cX4_end 40 = .ok (.ireturn, 1) := dk_172 (dk_at dksX4_end_1 18 rfl rfl)
abbrev cX4_hasLine : ByteArray := prog_21_method_50_code
def yX4_hasLine : MethodName := ⟨RX4, "hasLine", "(I)Z"⟩
def dkwX4_hasLine_1 : List UInt8 := [153, 0, 7, 4, 167, 0, 4, 3, 172]
abbrev dktX4_hasLine_1 : List UInt8 := dkwX4_hasLine_1 ++ []
def dkwX4_hasLine_0 : List UInt8 := [27, 133, 9, 42, 180, 0, 205, 4, 100, 133, 184, 0, 137, 153, 0, 16, 42, 180, 0, 69, 27, 51]
abbrev dktX4_hasLine_0 : List UInt8 := dkwX4_hasLine_0 ++ dktX4_hasLine_1
theorem dksX4_hasLine_0 : cX4_hasLine.data.toList.drop 0 = dktX4_hasLine_0 := by decide +kernel
theorem dksX4_hasLine_1 : cX4_hasLine.data.toList.drop 22 = dktX4_hasLine_1 := dk_seg dksX4_hasLine_0 22 rfl rfl
theorem dX4_hasLine_0 : decode cX4_hasLine 0 = .ok (.iload_n 1, 1) := dk_27 (dk_at dksX4_hasLine_0 0 rfl rfl)
theorem dX4_hasLine_1 : decode cX4_hasLine 1 = .ok (.i2l, 1) := dk_133 (dk_at dksX4_hasLine_0 1 rfl rfl)
theorem dX4_hasLine_2 : decode cX4_hasLine 2 = .ok (.lconst 0, 1) := dk_9 (dk_at dksX4_hasLine_0 2 rfl rfl)
theorem dX4_hasLine_3 : decode cX4_hasLine 3 = .ok (.aload_n 0, 1) := dk_42 (dk_at dksX4_hasLine_0 3 rfl rfl)
theorem dX4_hasLine_4 : decode cX4_hasLine 4 = .ok (.getfield 205, 3) := dk_180 0 205 (dk_at dksX4_hasLine_0 4 rfl rfl)
theorem dX4_hasLine_7 : decode cX4_hasLine 7 = .ok (.iconst 1, 1) := dk_4 (dk_at dksX4_hasLine_0 7 rfl rfl)
theorem dX4_hasLine_8 : decode cX4_hasLine 8 = .ok (.isub, 1) := dk_100 (dk_at dksX4_hasLine_0 8 rfl rfl)
theorem dX4_hasLine_9 : decode cX4_hasLine 9 = .ok (.i2l, 1) := dk_133 (dk_at dksX4_hasLine_0 9 rfl rfl)
theorem dX4_hasLine_10 : decode cX4_hasLine 10 = .ok (.invokestatic 137, 3) := dk_184 0 137 (dk_at dksX4_hasLine_0 10 rfl rfl)
theorem dX4_hasLine_13 : decode cX4_hasLine 13 = .ok (.ifCond .eq 16, 3) := dk_153 0 16 (dk_at dksX4_hasLine_0 13 rfl rfl)
theorem dX4_hasLine_16 : decode cX4_hasLine 16 = .ok (.aload_n 0, 1) := dk_42 (dk_at dksX4_hasLine_0 16 rfl rfl)
theorem dX4_hasLine_17 : decode cX4_hasLine 17 = .ok (.getfield 69, 3) := dk_180 0 69 (dk_at dksX4_hasLine_0 17 rfl rfl)
theorem dX4_hasLine_20 : decode cX4_hasLine 20 = .ok (.iload_n 1, 1) := dk_27 (dk_at dksX4_hasLine_0 20 rfl rfl)
theorem dX4_hasLine_21 : decode cX4_hasLine 21 = .ok (.baload, 1) := dk_51 (dk_at dksX4_hasLine_0 21 rfl rfl)
theorem dX4_hasLine_22 : decode cX4_hasLine 22 = .ok (.ifCond .eq 7, 3) := dk_153 0 7 (dk_at dksX4_hasLine_1 0 rfl rfl)
theorem dX4_hasLine_25 : decode cX4_hasLine 25 = .ok (.iconst 1, 1) := dk_4 (dk_at dksX4_hasLine_1 3 rfl rfl)
theorem dX4_hasLine_26 : decode cX4_hasLine 26 = .ok (.goto 4, 3) := dk_167 0 4 (dk_at dksX4_hasLine_1 4 rfl rfl)
theorem dX4_hasLine_29 : decode cX4_hasLine 29 = .ok (.iconst 0, 1) := dk_3 (dk_at dksX4_hasLine_1 7 rfl rfl)
theorem dX4_hasLine_30 : decode cX4_hasLine 30 = .ok (.ireturn, 1) := dk_172 (dk_at dksX4_hasLine_1 8 rfl rfl)
abbrev cX4_lineAt : ByteArray := prog_21_method_53_code
def yX4_lineAt : MethodName := ⟨RX4, "lineAt", "(II)I"⟩
def dkwX4_lineAt_2 : List UInt8 := [160, 0, 12, 42, 180, 0, 75, 27, 46, 167, 0, 9, 42, 180, 0, 78, 27, 46, 172]
abbrev dktX4_lineAt_2 : List UInt8 := dkwX4_lineAt_2 ++ []
def dkwX4_lineAt_1 : List UInt8 := [42, 16, 254, 182, 0, 130, 172, 28, 154, 0, 12, 42, 180, 0, 72, 27, 46, 167, 0, 23, 28, 4]
abbrev dktX4_lineAt_1 : List UInt8 := dkwX4_lineAt_1 ++ dktX4_lineAt_2
def dkwX4_lineAt_0 : List UInt8 := [42, 182, 0, 144, 42, 27, 182, 1, 27, 153, 0, 15, 28, 133, 9, 20, 0, 170, 184, 0, 137, 154, 0, 10]
abbrev dktX4_lineAt_0 : List UInt8 := dkwX4_lineAt_0 ++ dktX4_lineAt_1
theorem dksX4_lineAt_0 : cX4_lineAt.data.toList.drop 0 = dktX4_lineAt_0 := by decide +kernel
theorem dksX4_lineAt_1 : cX4_lineAt.data.toList.drop 24 = dktX4_lineAt_1 := dk_seg dksX4_lineAt_0 24 rfl rfl
theorem dksX4_lineAt_2 : cX4_lineAt.data.toList.drop 46 = dktX4_lineAt_2 := dk_seg dksX4_lineAt_1 22 rfl rfl
theorem dX4_lineAt_0 : decode cX4_lineAt 0 = .ok (.aload_n 0, 1) := dk_42 (dk_at dksX4_lineAt_0 0 rfl rfl)
theorem dX4_lineAt_1 : decode cX4_lineAt 1 = .ok (.invokevirtual 144, 3) := dk_182 0 144 (dk_at dksX4_lineAt_0 1 rfl rfl)
theorem dX4_lineAt_4 : decode cX4_lineAt 4 = .ok (.aload_n 0, 1) := dk_42 (dk_at dksX4_lineAt_0 4 rfl rfl)
theorem dX4_lineAt_5 : decode cX4_lineAt 5 = .ok (.iload_n 1, 1) := dk_27 (dk_at dksX4_lineAt_0 5 rfl rfl)
theorem dX4_lineAt_6 : decode cX4_lineAt 6 = .ok (.invokevirtual 283, 3) := dk_182 1 27 (dk_at dksX4_lineAt_0 6 rfl rfl)
theorem dX4_lineAt_9 : decode cX4_lineAt 9 = .ok (.ifCond .eq 15, 3) := dk_153 0 15 (dk_at dksX4_lineAt_0 9 rfl rfl)
theorem dX4_lineAt_12 : decode cX4_lineAt 12 = .ok (.iload_n 2, 1) := dk_28 (dk_at dksX4_lineAt_0 12 rfl rfl)
theorem dX4_lineAt_13 : decode cX4_lineAt 13 = .ok (.i2l, 1) := dk_133 (dk_at dksX4_lineAt_0 13 rfl rfl)
theorem dX4_lineAt_14 : decode cX4_lineAt 14 = .ok (.lconst 0, 1) := dk_9 (dk_at dksX4_lineAt_0 14 rfl rfl)
theorem dX4_lineAt_15 : decode cX4_lineAt 15 = .ok (.ldc2_w 170, 3) := dk_20 0 170 (dk_at dksX4_lineAt_0 15 rfl rfl)
theorem dX4_lineAt_18 : decode cX4_lineAt 18 = .ok (.invokestatic 137, 3) := dk_184 0 137 (dk_at dksX4_lineAt_0 18 rfl rfl)
theorem dX4_lineAt_21 : decode cX4_lineAt 21 = .ok (.ifCond .ne 10, 3) := dk_154 0 10 (dk_at dksX4_lineAt_0 21 rfl rfl)
theorem dX4_lineAt_24 : decode cX4_lineAt 24 = .ok (.aload_n 0, 1) := dk_42 (dk_at dksX4_lineAt_1 0 rfl rfl)
theorem dX4_lineAt_25 : decode cX4_lineAt 25 = .ok (.bipush (-2), 2) := dk_16 254 (dk_at dksX4_lineAt_1 1 rfl rfl)
theorem dX4_lineAt_27 : decode cX4_lineAt 27 = .ok (.invokevirtual 130, 3) := dk_182 0 130 (dk_at dksX4_lineAt_1 3 rfl rfl)
theorem dX4_lineAt_30 : decode cX4_lineAt 30 = .ok (.ireturn, 1) := dk_172 (dk_at dksX4_lineAt_1 6 rfl rfl)
theorem dX4_lineAt_31 : decode cX4_lineAt 31 = .ok (.iload_n 2, 1) := dk_28 (dk_at dksX4_lineAt_1 7 rfl rfl)
theorem dX4_lineAt_32 : decode cX4_lineAt 32 = .ok (.ifCond .ne 12, 3) := dk_154 0 12 (dk_at dksX4_lineAt_1 8 rfl rfl)
theorem dX4_lineAt_35 : decode cX4_lineAt 35 = .ok (.aload_n 0, 1) := dk_42 (dk_at dksX4_lineAt_1 11 rfl rfl)
theorem dX4_lineAt_36 : decode cX4_lineAt 36 = .ok (.getfield 72, 3) := dk_180 0 72 (dk_at dksX4_lineAt_1 12 rfl rfl)
theorem dX4_lineAt_39 : decode cX4_lineAt 39 = .ok (.iload_n 1, 1) := dk_27 (dk_at dksX4_lineAt_1 15 rfl rfl)
theorem dX4_lineAt_40 : decode cX4_lineAt 40 = .ok (.iaload, 1) := dk_46 (dk_at dksX4_lineAt_1 16 rfl rfl)
theorem dX4_lineAt_41 : decode cX4_lineAt 41 = .ok (.goto 23, 3) := dk_167 0 23 (dk_at dksX4_lineAt_1 17 rfl rfl)
theorem dX4_lineAt_44 : decode cX4_lineAt 44 = .ok (.iload_n 2, 1) := dk_28 (dk_at dksX4_lineAt_1 20 rfl rfl)
theorem dX4_lineAt_45 : decode cX4_lineAt 45 = .ok (.iconst 1, 1) := dk_4 (dk_at dksX4_lineAt_1 21 rfl rfl)
theorem dX4_lineAt_46 : decode cX4_lineAt 46 = .ok (.if_icmp .ne 12, 3) := dk_160 0 12 (dk_at dksX4_lineAt_2 0 rfl rfl)
theorem dX4_lineAt_49 : decode cX4_lineAt 49 = .ok (.aload_n 0, 1) := dk_42 (dk_at dksX4_lineAt_2 3 rfl rfl)
theorem dX4_lineAt_50 : decode cX4_lineAt 50 = .ok (.getfield 75, 3) := dk_180 0 75 (dk_at dksX4_lineAt_2 4 rfl rfl)
theorem dX4_lineAt_53 : decode cX4_lineAt 53 = .ok (.iload_n 1, 1) := dk_27 (dk_at dksX4_lineAt_2 7 rfl rfl)
theorem dX4_lineAt_54 : decode cX4_lineAt 54 = .ok (.iaload, 1) := dk_46 (dk_at dksX4_lineAt_2 8 rfl rfl)
theorem dX4_lineAt_55 : decode cX4_lineAt 55 = .ok (.goto 9, 3) := dk_167 0 9 (dk_at dksX4_lineAt_2 9 rfl rfl)
theorem dX4_lineAt_58 : decode cX4_lineAt 58 = .ok (.aload_n 0, 1) := dk_42 (dk_at dksX4_lineAt_2 12 rfl rfl)
theorem dX4_lineAt_59 : decode cX4_lineAt 59 = .ok (.getfield 78, 3) := dk_180 0 78 (dk_at dksX4_lineAt_2 13 rfl rfl)
theorem dX4_lineAt_62 : decode cX4_lineAt 62 = .ok (.iload_n 1, 1) := dk_27 (dk_at dksX4_lineAt_2 16 rfl rfl)
theorem dX4_lineAt_63 : decode cX4_lineAt 63 = .ok (.iaload, 1) := dk_46 (dk_at dksX4_lineAt_2 17 rfl rfl)
theorem dX4_lineAt_64 : decode cX4_lineAt 64 = .ok (.ireturn, 1) := dk_172 (dk_at dksX4_lineAt_2 18 rfl rfl)
abbrev cX4_walk : ByteArray := prog_21_method_54_code
def yX4_walk : MethodName := ⟨RX4, "walk", "()I"⟩
def dkwX4_walk_6 : List UInt8 := [21, 5, 182, 0, 243, 97, 65, 132, 4, 1, 167, 255, 129, 132, 1, 1, 167, 255, 108, 42, 180, 1, 30, 172]
abbrev dktX4_walk_6 : List UInt8 := dkwX4_walk_6 ++ []
def dkwX4_walk_5 : List UInt8 := [32, 80, 42, 180, 0, 81, 21, 6, 21, 5, 79, 42, 89, 180, 1, 30, 4, 96, 181, 1, 30, 32, 42]
abbrev dktX4_walk_5 : List UInt8 := dkwX4_walk_5 ++ dktX4_walk_6
def dkwX4_walk_4 : List UInt8 := [21, 6, 42, 180, 0, 81, 21, 6, 4, 100, 46, 79, 132, 6, 255, 167, 255, 202, 42, 180, 0, 120, 21, 6]
abbrev dktX4_walk_4 : List UInt8 := dkwX4_walk_4 ++ dktX4_walk_5
def dkwX4_walk_3 : List UInt8 := [148, 158, 0, 41, 42, 180, 0, 120, 21, 6, 42, 180, 0, 120, 21, 6, 4, 100, 47, 80, 42, 180, 0, 81]
abbrev dktX4_walk_3 : List UInt8 := dkwX4_walk_3 ++ dktX4_walk_4
def dkwX4_walk_2 : List UInt8 := [46, 54, 5, 42, 180, 1, 30, 54, 6, 21, 6, 158, 0, 55, 42, 180, 0, 120, 21, 6, 4, 100, 47, 32]
abbrev dktX4_walk_2 : List UInt8 := dkwX4_walk_2 ++ dktX4_walk_3
def dkwX4_walk_1 : List UInt8 := [54, 4, 21, 4, 42, 180, 0, 45, 27, 46, 162, 0, 122, 42, 180, 0, 42, 16, 40, 27, 104, 21, 4, 96]
abbrev dktX4_walk_1 : List UInt8 := dkwX4_walk_1 ++ dktX4_walk_2
def dkwX4_walk_0 : List UInt8 := [42, 182, 0, 144, 42, 3, 181, 1, 30, 3, 60, 27, 6, 42, 180, 0, 134, 104, 162, 0, 144, 9, 65, 3]
abbrev dktX4_walk_0 : List UInt8 := dkwX4_walk_0 ++ dktX4_walk_1
theorem dksX4_walk_0 : cX4_walk.data.toList.drop 0 = dktX4_walk_0 := by decide +kernel
theorem dksX4_walk_1 : cX4_walk.data.toList.drop 24 = dktX4_walk_1 := dk_seg dksX4_walk_0 24 rfl rfl
theorem dksX4_walk_2 : cX4_walk.data.toList.drop 48 = dktX4_walk_2 := dk_seg dksX4_walk_1 24 rfl rfl
theorem dksX4_walk_3 : cX4_walk.data.toList.drop 72 = dktX4_walk_3 := dk_seg dksX4_walk_2 24 rfl rfl
theorem dksX4_walk_4 : cX4_walk.data.toList.drop 96 = dktX4_walk_4 := dk_seg dksX4_walk_3 24 rfl rfl
theorem dksX4_walk_5 : cX4_walk.data.toList.drop 120 = dktX4_walk_5 := dk_seg dksX4_walk_4 24 rfl rfl
theorem dksX4_walk_6 : cX4_walk.data.toList.drop 143 = dktX4_walk_6 := dk_seg dksX4_walk_5 23 rfl rfl
theorem dX4_walk_0 : decode cX4_walk 0 = .ok (.aload_n 0, 1) := dk_42 (dk_at dksX4_walk_0 0 rfl rfl)
theorem dX4_walk_1 : decode cX4_walk 1 = .ok (.invokevirtual 144, 3) := dk_182 0 144 (dk_at dksX4_walk_0 1 rfl rfl)
theorem dX4_walk_4 : decode cX4_walk 4 = .ok (.aload_n 0, 1) := dk_42 (dk_at dksX4_walk_0 4 rfl rfl)
theorem dX4_walk_5 : decode cX4_walk 5 = .ok (.iconst 0, 1) := dk_3 (dk_at dksX4_walk_0 5 rfl rfl)
theorem dX4_walk_6 : decode cX4_walk 6 = .ok (.putfield 286, 3) := dk_181 1 30 (dk_at dksX4_walk_0 6 rfl rfl)
theorem dX4_walk_9 : decode cX4_walk 9 = .ok (.iconst 0, 1) := dk_3 (dk_at dksX4_walk_0 9 rfl rfl)
theorem dX4_walk_10 : decode cX4_walk 10 = .ok (.istore_n 1, 1) := dk_60 (dk_at dksX4_walk_0 10 rfl rfl)
theorem dX4_walk_11 : decode cX4_walk 11 = .ok (.iload_n 1, 1) := dk_27 (dk_at dksX4_walk_0 11 rfl rfl)
theorem dX4_walk_12 : decode cX4_walk 12 = .ok (.iconst 3, 1) := dk_6 (dk_at dksX4_walk_0 12 rfl rfl)
theorem dX4_walk_13 : decode cX4_walk 13 = .ok (.aload_n 0, 1) := dk_42 (dk_at dksX4_walk_0 13 rfl rfl)
theorem dX4_walk_14 : decode cX4_walk 14 = .ok (.getfield 134, 3) := dk_180 0 134 (dk_at dksX4_walk_0 14 rfl rfl)
theorem dX4_walk_17 : decode cX4_walk 17 = .ok (.imul, 1) := dk_104 (dk_at dksX4_walk_0 17 rfl rfl)
theorem dX4_walk_18 : decode cX4_walk 18 = .ok (.if_icmp .ge 144, 3) := dk_162 0 144 (dk_at dksX4_walk_0 18 rfl rfl)
theorem dX4_walk_21 : decode cX4_walk 21 = .ok (.lconst 0, 1) := dk_9 (dk_at dksX4_walk_0 21 rfl rfl)
theorem dX4_walk_22 : decode cX4_walk 22 = .ok (.lstore_n 2, 1) := dk_65 (dk_at dksX4_walk_0 22 rfl rfl)
theorem dX4_walk_23 : decode cX4_walk 23 = .ok (.iconst 0, 1) := dk_3 (dk_at dksX4_walk_0 23 rfl rfl)
theorem dX4_walk_24 : decode cX4_walk 24 = .ok (.istore 4, 2) := dk_54 4 (dk_at dksX4_walk_1 0 rfl rfl)
theorem dX4_walk_26 : decode cX4_walk 26 = .ok (.iload 4, 2) := dk_21 4 (dk_at dksX4_walk_1 2 rfl rfl)
theorem dX4_walk_28 : decode cX4_walk 28 = .ok (.aload_n 0, 1) := dk_42 (dk_at dksX4_walk_1 4 rfl rfl)
theorem dX4_walk_29 : decode cX4_walk 29 = .ok (.getfield 45, 3) := dk_180 0 45 (dk_at dksX4_walk_1 5 rfl rfl)
theorem dX4_walk_32 : decode cX4_walk 32 = .ok (.iload_n 1, 1) := dk_27 (dk_at dksX4_walk_1 8 rfl rfl)
theorem dX4_walk_33 : decode cX4_walk 33 = .ok (.iaload, 1) := dk_46 (dk_at dksX4_walk_1 9 rfl rfl)
theorem dX4_walk_34 : decode cX4_walk 34 = .ok (.if_icmp .ge 122, 3) := dk_162 0 122 (dk_at dksX4_walk_1 10 rfl rfl)
theorem dX4_walk_37 : decode cX4_walk 37 = .ok (.aload_n 0, 1) := dk_42 (dk_at dksX4_walk_1 13 rfl rfl)
theorem dX4_walk_38 : decode cX4_walk 38 = .ok (.getfield 42, 3) := dk_180 0 42 (dk_at dksX4_walk_1 14 rfl rfl)
theorem dX4_walk_41 : decode cX4_walk 41 = .ok (.bipush 40, 2) := dk_16 40 (dk_at dksX4_walk_1 17 rfl rfl)
theorem dX4_walk_43 : decode cX4_walk 43 = .ok (.iload_n 1, 1) := dk_27 (dk_at dksX4_walk_1 19 rfl rfl)
theorem dX4_walk_44 : decode cX4_walk 44 = .ok (.imul, 1) := dk_104 (dk_at dksX4_walk_1 20 rfl rfl)
theorem dX4_walk_45 : decode cX4_walk 45 = .ok (.iload 4, 2) := dk_21 4 (dk_at dksX4_walk_1 21 rfl rfl)
theorem dX4_walk_47 : decode cX4_walk 47 = .ok (.iadd, 1) := dk_96 (dk_at dksX4_walk_1 23 rfl rfl)
theorem dX4_walk_48 : decode cX4_walk 48 = .ok (.iaload, 1) := dk_46 (dk_at dksX4_walk_2 0 rfl rfl)
theorem dX4_walk_49 : decode cX4_walk 49 = .ok (.istore 5, 2) := dk_54 5 (dk_at dksX4_walk_2 1 rfl rfl)
theorem dX4_walk_51 : decode cX4_walk 51 = .ok (.aload_n 0, 1) := dk_42 (dk_at dksX4_walk_2 3 rfl rfl)
theorem dX4_walk_52 : decode cX4_walk 52 = .ok (.getfield 286, 3) := dk_180 1 30 (dk_at dksX4_walk_2 4 rfl rfl)
theorem dX4_walk_55 : decode cX4_walk 55 = .ok (.istore 6, 2) := dk_54 6 (dk_at dksX4_walk_2 7 rfl rfl)
theorem dX4_walk_57 : decode cX4_walk 57 = .ok (.iload 6, 2) := dk_21 6 (dk_at dksX4_walk_2 9 rfl rfl)
theorem dX4_walk_59 : decode cX4_walk 59 = .ok (.ifCond .le 55, 3) := dk_158 0 55 (dk_at dksX4_walk_2 11 rfl rfl)
theorem dX4_walk_62 : decode cX4_walk 62 = .ok (.aload_n 0, 1) := dk_42 (dk_at dksX4_walk_2 14 rfl rfl)
theorem dX4_walk_63 : decode cX4_walk 63 = .ok (.getfield 120, 3) := dk_180 0 120 (dk_at dksX4_walk_2 15 rfl rfl)
theorem dX4_walk_66 : decode cX4_walk 66 = .ok (.iload 6, 2) := dk_21 6 (dk_at dksX4_walk_2 18 rfl rfl)
theorem dX4_walk_68 : decode cX4_walk 68 = .ok (.iconst 1, 1) := dk_4 (dk_at dksX4_walk_2 20 rfl rfl)
theorem dX4_walk_69 : decode cX4_walk 69 = .ok (.isub, 1) := dk_100 (dk_at dksX4_walk_2 21 rfl rfl)
theorem dX4_walk_70 : decode cX4_walk 70 = .ok (.laload, 1) := dk_47 (dk_at dksX4_walk_2 22 rfl rfl)
theorem dX4_walk_71 : decode cX4_walk 71 = .ok (.lload_n 2, 1) := dk_32 (dk_at dksX4_walk_2 23 rfl rfl)
theorem dX4_walk_72 : decode cX4_walk 72 = .ok (.lcmp, 1) := dk_148 (dk_at dksX4_walk_3 0 rfl rfl)
theorem dX4_walk_73 : decode cX4_walk 73 = .ok (.ifCond .le 41, 3) := dk_158 0 41 (dk_at dksX4_walk_3 1 rfl rfl)
theorem dX4_walk_76 : decode cX4_walk 76 = .ok (.aload_n 0, 1) := dk_42 (dk_at dksX4_walk_3 4 rfl rfl)
theorem dX4_walk_77 : decode cX4_walk 77 = .ok (.getfield 120, 3) := dk_180 0 120 (dk_at dksX4_walk_3 5 rfl rfl)
theorem dX4_walk_80 : decode cX4_walk 80 = .ok (.iload 6, 2) := dk_21 6 (dk_at dksX4_walk_3 8 rfl rfl)
theorem dX4_walk_82 : decode cX4_walk 82 = .ok (.aload_n 0, 1) := dk_42 (dk_at dksX4_walk_3 10 rfl rfl)
theorem dX4_walk_83 : decode cX4_walk 83 = .ok (.getfield 120, 3) := dk_180 0 120 (dk_at dksX4_walk_3 11 rfl rfl)
theorem dX4_walk_86 : decode cX4_walk 86 = .ok (.iload 6, 2) := dk_21 6 (dk_at dksX4_walk_3 14 rfl rfl)
theorem dX4_walk_88 : decode cX4_walk 88 = .ok (.iconst 1, 1) := dk_4 (dk_at dksX4_walk_3 16 rfl rfl)
theorem dX4_walk_89 : decode cX4_walk 89 = .ok (.isub, 1) := dk_100 (dk_at dksX4_walk_3 17 rfl rfl)
theorem dX4_walk_90 : decode cX4_walk 90 = .ok (.laload, 1) := dk_47 (dk_at dksX4_walk_3 18 rfl rfl)
theorem dX4_walk_91 : decode cX4_walk 91 = .ok (.lastore, 1) := dk_80 (dk_at dksX4_walk_3 19 rfl rfl)
theorem dX4_walk_92 : decode cX4_walk 92 = .ok (.aload_n 0, 1) := dk_42 (dk_at dksX4_walk_3 20 rfl rfl)
theorem dX4_walk_93 : decode cX4_walk 93 = .ok (.getfield 81, 3) := dk_180 0 81 (dk_at dksX4_walk_3 21 rfl rfl)
theorem dX4_walk_96 : decode cX4_walk 96 = .ok (.iload 6, 2) := dk_21 6 (dk_at dksX4_walk_4 0 rfl rfl)
theorem dX4_walk_98 : decode cX4_walk 98 = .ok (.aload_n 0, 1) := dk_42 (dk_at dksX4_walk_4 2 rfl rfl)
theorem dX4_walk_99 : decode cX4_walk 99 = .ok (.getfield 81, 3) := dk_180 0 81 (dk_at dksX4_walk_4 3 rfl rfl)
theorem dX4_walk_102 : decode cX4_walk 102 = .ok (.iload 6, 2) := dk_21 6 (dk_at dksX4_walk_4 6 rfl rfl)
theorem dX4_walk_104 : decode cX4_walk 104 = .ok (.iconst 1, 1) := dk_4 (dk_at dksX4_walk_4 8 rfl rfl)
theorem dX4_walk_105 : decode cX4_walk 105 = .ok (.isub, 1) := dk_100 (dk_at dksX4_walk_4 9 rfl rfl)
theorem dX4_walk_106 : decode cX4_walk 106 = .ok (.iaload, 1) := dk_46 (dk_at dksX4_walk_4 10 rfl rfl)
theorem dX4_walk_107 : decode cX4_walk 107 = .ok (.iastore, 1) := dk_79 (dk_at dksX4_walk_4 11 rfl rfl)
theorem dX4_walk_108 : decode cX4_walk 108 = .ok (.iinc 6 (-1), 3) := dk_132 6 255 (dk_at dksX4_walk_4 12 rfl rfl)
theorem dX4_walk_111 : decode cX4_walk 111 = .ok (.goto (-54), 3) := dk_167 255 202 (dk_at dksX4_walk_4 15 rfl rfl)
theorem dX4_walk_114 : decode cX4_walk 114 = .ok (.aload_n 0, 1) := dk_42 (dk_at dksX4_walk_4 18 rfl rfl)
theorem dX4_walk_115 : decode cX4_walk 115 = .ok (.getfield 120, 3) := dk_180 0 120 (dk_at dksX4_walk_4 19 rfl rfl)
theorem dX4_walk_118 : decode cX4_walk 118 = .ok (.iload 6, 2) := dk_21 6 (dk_at dksX4_walk_4 22 rfl rfl)
theorem dX4_walk_120 : decode cX4_walk 120 = .ok (.lload_n 2, 1) := dk_32 (dk_at dksX4_walk_5 0 rfl rfl)
theorem dX4_walk_121 : decode cX4_walk 121 = .ok (.lastore, 1) := dk_80 (dk_at dksX4_walk_5 1 rfl rfl)
theorem dX4_walk_122 : decode cX4_walk 122 = .ok (.aload_n 0, 1) := dk_42 (dk_at dksX4_walk_5 2 rfl rfl)
theorem dX4_walk_123 : decode cX4_walk 123 = .ok (.getfield 81, 3) := dk_180 0 81 (dk_at dksX4_walk_5 3 rfl rfl)
theorem dX4_walk_126 : decode cX4_walk 126 = .ok (.iload 6, 2) := dk_21 6 (dk_at dksX4_walk_5 6 rfl rfl)
theorem dX4_walk_128 : decode cX4_walk 128 = .ok (.iload 5, 2) := dk_21 5 (dk_at dksX4_walk_5 8 rfl rfl)
theorem dX4_walk_130 : decode cX4_walk 130 = .ok (.iastore, 1) := dk_79 (dk_at dksX4_walk_5 10 rfl rfl)
theorem dX4_walk_131 : decode cX4_walk 131 = .ok (.aload_n 0, 1) := dk_42 (dk_at dksX4_walk_5 11 rfl rfl)
theorem dX4_walk_132 : decode cX4_walk 132 = .ok (.dup, 1) := dk_89 (dk_at dksX4_walk_5 12 rfl rfl)
theorem dX4_walk_133 : decode cX4_walk 133 = .ok (.getfield 286, 3) := dk_180 1 30 (dk_at dksX4_walk_5 13 rfl rfl)
theorem dX4_walk_136 : decode cX4_walk 136 = .ok (.iconst 1, 1) := dk_4 (dk_at dksX4_walk_5 16 rfl rfl)
theorem dX4_walk_137 : decode cX4_walk 137 = .ok (.iadd, 1) := dk_96 (dk_at dksX4_walk_5 17 rfl rfl)
theorem dX4_walk_138 : decode cX4_walk 138 = .ok (.putfield 286, 3) := dk_181 1 30 (dk_at dksX4_walk_5 18 rfl rfl)
theorem dX4_walk_141 : decode cX4_walk 141 = .ok (.lload_n 2, 1) := dk_32 (dk_at dksX4_walk_5 21 rfl rfl)
theorem dX4_walk_142 : decode cX4_walk 142 = .ok (.aload_n 0, 1) := dk_42 (dk_at dksX4_walk_5 22 rfl rfl)
theorem dX4_walk_143 : decode cX4_walk 143 = .ok (.iload 5, 2) := dk_21 5 (dk_at dksX4_walk_6 0 rfl rfl)
theorem dX4_walk_145 : decode cX4_walk 145 = .ok (.invokevirtual 243, 3) := dk_182 0 243 (dk_at dksX4_walk_6 2 rfl rfl)
theorem dX4_walk_148 : decode cX4_walk 148 = .ok (.ladd, 1) := dk_97 (dk_at dksX4_walk_6 5 rfl rfl)
theorem dX4_walk_149 : decode cX4_walk 149 = .ok (.lstore_n 2, 1) := dk_65 (dk_at dksX4_walk_6 6 rfl rfl)
theorem dX4_walk_150 : decode cX4_walk 150 = .ok (.iinc 4 1, 3) := dk_132 4 1 (dk_at dksX4_walk_6 7 rfl rfl)
theorem dX4_walk_153 : decode cX4_walk 153 = .ok (.goto (-127), 3) := dk_167 255 129 (dk_at dksX4_walk_6 10 rfl rfl)
theorem dX4_walk_156 : decode cX4_walk 156 = .ok (.iinc 1 1, 3) := dk_132 1 1 (dk_at dksX4_walk_6 13 rfl rfl)
theorem dX4_walk_159 : decode cX4_walk 159 = .ok (.goto (-148), 3) := dk_167 255 108 (dk_at dksX4_walk_6 16 rfl rfl)
theorem dX4_walk_162 : decode cX4_walk 162 = .ok (.aload_n 0, 1) := dk_42 (dk_at dksX4_walk_6 19 rfl rfl)
theorem dX4_walk_163 : decode cX4_walk 163 = .ok (.getfield 286, 3) := dk_180 1 30 (dk_at dksX4_walk_6 20 rfl rfl)
theorem dX4_walk_166 : decode cX4_walk 166 = .ok (.ireturn, 1) := dk_172 (dk_at dksX4_walk_6 23 rfl rfl)
abbrev cX4_walked : ByteArray := prog_21_method_55_code
def yX4_walked : MethodName := ⟨RX4, "walked", "(I)I"⟩
def dkwX4_walked_1 : List UInt8 := [27, 46, 167, 0, 4, 2, 172]
abbrev dktX4_walked_1 : List UInt8 := dkwX4_walked_1 ++ []
def dkwX4_walked_0 : List UInt8 := [42, 182, 0, 144, 27, 133, 9, 42, 180, 1, 30, 4, 100, 133, 184, 0, 137, 153, 0, 12, 42, 180, 0, 81]
abbrev dktX4_walked_0 : List UInt8 := dkwX4_walked_0 ++ dktX4_walked_1
theorem dksX4_walked_0 : cX4_walked.data.toList.drop 0 = dktX4_walked_0 := by decide +kernel
theorem dksX4_walked_1 : cX4_walked.data.toList.drop 24 = dktX4_walked_1 := dk_seg dksX4_walked_0 24 rfl rfl
theorem dX4_walked_0 : decode cX4_walked 0 = .ok (.aload_n 0, 1) := dk_42 (dk_at dksX4_walked_0 0 rfl rfl)
theorem dX4_walked_1 : decode cX4_walked 1 = .ok (.invokevirtual 144, 3) := dk_182 0 144 (dk_at dksX4_walked_0 1 rfl rfl)
theorem dX4_walked_4 : decode cX4_walked 4 = .ok (.iload_n 1, 1) := dk_27 (dk_at dksX4_walked_0 4 rfl rfl)
theorem dX4_walked_5 : decode cX4_walked 5 = .ok (.i2l, 1) := dk_133 (dk_at dksX4_walked_0 5 rfl rfl)
theorem dX4_walked_6 : decode cX4_walked 6 = .ok (.lconst 0, 1) := dk_9 (dk_at dksX4_walked_0 6 rfl rfl)
theorem dX4_walked_7 : decode cX4_walked 7 = .ok (.aload_n 0, 1) := dk_42 (dk_at dksX4_walked_0 7 rfl rfl)
theorem dX4_walked_8 : decode cX4_walked 8 = .ok (.getfield 286, 3) := dk_180 1 30 (dk_at dksX4_walked_0 8 rfl rfl)
theorem dX4_walked_11 : decode cX4_walked 11 = .ok (.iconst 1, 1) := dk_4 (dk_at dksX4_walked_0 11 rfl rfl)
theorem dX4_walked_12 : decode cX4_walked 12 = .ok (.isub, 1) := dk_100 (dk_at dksX4_walked_0 12 rfl rfl)
theorem dX4_walked_13 : decode cX4_walked 13 = .ok (.i2l, 1) := dk_133 (dk_at dksX4_walked_0 13 rfl rfl)
theorem dX4_walked_14 : decode cX4_walked 14 = .ok (.invokestatic 137, 3) := dk_184 0 137 (dk_at dksX4_walked_0 14 rfl rfl)
theorem dX4_walked_17 : decode cX4_walked 17 = .ok (.ifCond .eq 12, 3) := dk_153 0 12 (dk_at dksX4_walked_0 17 rfl rfl)
theorem dX4_walked_20 : decode cX4_walked 20 = .ok (.aload_n 0, 1) := dk_42 (dk_at dksX4_walked_0 20 rfl rfl)
theorem dX4_walked_21 : decode cX4_walked 21 = .ok (.getfield 81, 3) := dk_180 0 81 (dk_at dksX4_walked_0 21 rfl rfl)
theorem dX4_walked_24 : decode cX4_walked 24 = .ok (.iload_n 1, 1) := dk_27 (dk_at dksX4_walked_1 0 rfl rfl)
theorem dX4_walked_25 : decode cX4_walked 25 = .ok (.iaload, 1) := dk_46 (dk_at dksX4_walked_1 1 rfl rfl)
theorem dX4_walked_26 : decode cX4_walked 26 = .ok (.goto 4, 3) := dk_167 0 4 (dk_at dksX4_walked_1 2 rfl rfl)
theorem dX4_walked_29 : decode cX4_walked 29 = .ok (.iconst (-1), 1) := dk_2 (dk_at dksX4_walked_1 5 rfl rfl)
theorem dX4_walked_30 : decode cX4_walked 30 = .ok (.ireturn, 1) := dk_172 (dk_at dksX4_walked_1 6 rfl rfl)
abbrev cX4_check : ByteArray := prog_21_method_62_code
def yX4_check : MethodName := ⟨RX4, "check", "()I"⟩
def dkwX4_check_7 : List UInt8 := [182, 1, 39, 132, 3, 1, 167, 255, 174, 42, 180, 1, 33, 172]
abbrev dktX4_check_7 : List UInt8 := dkwX4_check_7 ++ []
def dkwX4_check_6 : List UInt8 := [182, 1, 2, 42, 42, 180, 0, 75, 29, 46, 182, 1, 2, 148, 156, 0, 11, 42, 16, 7, 29, 2]
abbrev dktX4_check_6 : List UInt8 := dkwX4_check_6 ++ dktX4_check_7
def dkwX4_check_5 : List UInt8 := [182, 1, 39, 167, 0, 44, 42, 180, 0, 69, 29, 51, 153, 0, 35, 42, 42, 180, 0, 78, 29, 46]
abbrev dktX4_check_5 : List UInt8 := dkwX4_check_5 ++ dktX4_check_6
def dkwX4_check_4 : List UInt8 := [180, 0, 69, 29, 51, 153, 0, 24, 42, 180, 0, 78, 29, 46, 2, 160, 0, 14, 42, 16, 6, 29, 2]
abbrev dktX4_check_4 : List UInt8 := dkwX4_check_4 ++ dktX4_check_5
def dkwX4_check_3 : List UInt8 := [8, 29, 2, 182, 1, 39, 132, 3, 1, 167, 255, 221, 3, 62, 29, 42, 180, 0, 205, 162, 0, 80, 42]
abbrev dktX4_check_3 : List UInt8 := dkwX4_check_3 ++ dktX4_check_4
def dkwX4_check_2 : List UInt8 := [180, 0, 199, 162, 0, 33, 42, 180, 0, 48, 29, 51, 153, 0, 18, 42, 29, 182, 1, 53, 153, 0, 10, 42]
abbrev dktX4_check_2 : List UInt8 := dkwX4_check_2 ++ dktX4_check_3
def dkwX4_check_1 : List UInt8 := [180, 0, 134, 104, 162, 0, 15, 42, 29, 31, 182, 1, 49, 132, 3, 1, 167, 255, 237, 3, 62, 29, 42]
abbrev dktX4_check_1 : List UInt8 := dkwX4_check_1 ++ dktX4_check_2
def dkwX4_check_0 : List UInt8 := [42, 182, 0, 144, 42, 3, 181, 1, 33, 42, 42, 180, 0, 151, 182, 0, 246, 64, 3, 62, 29, 6, 42]
abbrev dktX4_check_0 : List UInt8 := dkwX4_check_0 ++ dktX4_check_1
theorem dksX4_check_0 : cX4_check.data.toList.drop 0 = dktX4_check_0 := by decide +kernel
theorem dksX4_check_1 : cX4_check.data.toList.drop 23 = dktX4_check_1 := dk_seg dksX4_check_0 23 rfl rfl
theorem dksX4_check_2 : cX4_check.data.toList.drop 46 = dktX4_check_2 := dk_seg dksX4_check_1 23 rfl rfl
theorem dksX4_check_3 : cX4_check.data.toList.drop 70 = dktX4_check_3 := dk_seg dksX4_check_2 24 rfl rfl
theorem dksX4_check_4 : cX4_check.data.toList.drop 93 = dktX4_check_4 := dk_seg dksX4_check_3 23 rfl rfl
theorem dksX4_check_5 : cX4_check.data.toList.drop 116 = dktX4_check_5 := dk_seg dksX4_check_4 23 rfl rfl
theorem dksX4_check_6 : cX4_check.data.toList.drop 138 = dktX4_check_6 := dk_seg dksX4_check_5 22 rfl rfl
theorem dksX4_check_7 : cX4_check.data.toList.drop 160 = dktX4_check_7 := dk_seg dksX4_check_6 22 rfl rfl
theorem dX4_check_0 : decode cX4_check 0 = .ok (.aload_n 0, 1) := dk_42 (dk_at dksX4_check_0 0 rfl rfl)
theorem dX4_check_1 : decode cX4_check 1 = .ok (.invokevirtual 144, 3) := dk_182 0 144 (dk_at dksX4_check_0 1 rfl rfl)
theorem dX4_check_4 : decode cX4_check 4 = .ok (.aload_n 0, 1) := dk_42 (dk_at dksX4_check_0 4 rfl rfl)
theorem dX4_check_5 : decode cX4_check 5 = .ok (.iconst 0, 1) := dk_3 (dk_at dksX4_check_0 5 rfl rfl)
theorem dX4_check_6 : decode cX4_check 6 = .ok (.putfield 289, 3) := dk_181 1 33 (dk_at dksX4_check_0 6 rfl rfl)
theorem dX4_check_9 : decode cX4_check 9 = .ok (.aload_n 0, 1) := dk_42 (dk_at dksX4_check_0 9 rfl rfl)
theorem dX4_check_10 : decode cX4_check 10 = .ok (.aload_n 0, 1) := dk_42 (dk_at dksX4_check_0 10 rfl rfl)
theorem dX4_check_11 : decode cX4_check 11 = .ok (.getfield 151, 3) := dk_180 0 151 (dk_at dksX4_check_0 11 rfl rfl)
theorem dX4_check_14 : decode cX4_check 14 = .ok (.invokevirtual 246, 3) := dk_182 0 246 (dk_at dksX4_check_0 14 rfl rfl)
theorem dX4_check_17 : decode cX4_check 17 = .ok (.lstore_n 1, 1) := dk_64 (dk_at dksX4_check_0 17 rfl rfl)
theorem dX4_check_18 : decode cX4_check 18 = .ok (.iconst 0, 1) := dk_3 (dk_at dksX4_check_0 18 rfl rfl)
theorem dX4_check_19 : decode cX4_check 19 = .ok (.istore_n 3, 1) := dk_62 (dk_at dksX4_check_0 19 rfl rfl)
theorem dX4_check_20 : decode cX4_check 20 = .ok (.iload_n 3, 1) := dk_29 (dk_at dksX4_check_0 20 rfl rfl)
theorem dX4_check_21 : decode cX4_check 21 = .ok (.iconst 3, 1) := dk_6 (dk_at dksX4_check_0 21 rfl rfl)
theorem dX4_check_22 : decode cX4_check 22 = .ok (.aload_n 0, 1) := dk_42 (dk_at dksX4_check_0 22 rfl rfl)
theorem dX4_check_23 : decode cX4_check 23 = .ok (.getfield 134, 3) := dk_180 0 134 (dk_at dksX4_check_1 0 rfl rfl)
theorem dX4_check_26 : decode cX4_check 26 = .ok (.imul, 1) := dk_104 (dk_at dksX4_check_1 3 rfl rfl)
theorem dX4_check_27 : decode cX4_check 27 = .ok (.if_icmp .ge 15, 3) := dk_162 0 15 (dk_at dksX4_check_1 4 rfl rfl)
theorem dX4_check_30 : decode cX4_check 30 = .ok (.aload_n 0, 1) := dk_42 (dk_at dksX4_check_1 7 rfl rfl)
theorem dX4_check_31 : decode cX4_check 31 = .ok (.iload_n 3, 1) := dk_29 (dk_at dksX4_check_1 8 rfl rfl)
theorem dX4_check_32 : decode cX4_check 32 = .ok (.lload_n 1, 1) := dk_31 (dk_at dksX4_check_1 9 rfl rfl)
theorem dX4_check_33 : decode cX4_check 33 = .ok (.invokevirtual 305, 3) := dk_182 1 49 (dk_at dksX4_check_1 10 rfl rfl)
theorem dX4_check_36 : decode cX4_check 36 = .ok (.iinc 3 1, 3) := dk_132 3 1 (dk_at dksX4_check_1 13 rfl rfl)
theorem dX4_check_39 : decode cX4_check 39 = .ok (.goto (-19), 3) := dk_167 255 237 (dk_at dksX4_check_1 16 rfl rfl)
theorem dX4_check_42 : decode cX4_check 42 = .ok (.iconst 0, 1) := dk_3 (dk_at dksX4_check_1 19 rfl rfl)
theorem dX4_check_43 : decode cX4_check 43 = .ok (.istore_n 3, 1) := dk_62 (dk_at dksX4_check_1 20 rfl rfl)
theorem dX4_check_44 : decode cX4_check 44 = .ok (.iload_n 3, 1) := dk_29 (dk_at dksX4_check_1 21 rfl rfl)
theorem dX4_check_45 : decode cX4_check 45 = .ok (.aload_n 0, 1) := dk_42 (dk_at dksX4_check_1 22 rfl rfl)
theorem dX4_check_46 : decode cX4_check 46 = .ok (.getfield 199, 3) := dk_180 0 199 (dk_at dksX4_check_2 0 rfl rfl)
theorem dX4_check_49 : decode cX4_check 49 = .ok (.if_icmp .ge 33, 3) := dk_162 0 33 (dk_at dksX4_check_2 3 rfl rfl)
theorem dX4_check_52 : decode cX4_check 52 = .ok (.aload_n 0, 1) := dk_42 (dk_at dksX4_check_2 6 rfl rfl)
theorem dX4_check_53 : decode cX4_check 53 = .ok (.getfield 48, 3) := dk_180 0 48 (dk_at dksX4_check_2 7 rfl rfl)
theorem dX4_check_56 : decode cX4_check 56 = .ok (.iload_n 3, 1) := dk_29 (dk_at dksX4_check_2 10 rfl rfl)
theorem dX4_check_57 : decode cX4_check 57 = .ok (.baload, 1) := dk_51 (dk_at dksX4_check_2 11 rfl rfl)
theorem dX4_check_58 : decode cX4_check 58 = .ok (.ifCond .eq 18, 3) := dk_153 0 18 (dk_at dksX4_check_2 12 rfl rfl)
theorem dX4_check_61 : decode cX4_check 61 = .ok (.aload_n 0, 1) := dk_42 (dk_at dksX4_check_2 15 rfl rfl)
theorem dX4_check_62 : decode cX4_check 62 = .ok (.iload_n 3, 1) := dk_29 (dk_at dksX4_check_2 16 rfl rfl)
theorem dX4_check_63 : decode cX4_check 63 = .ok (.invokevirtual 309, 3) := dk_182 1 53 (dk_at dksX4_check_2 17 rfl rfl)
theorem dX4_check_66 : decode cX4_check 66 = .ok (.ifCond .eq 10, 3) := dk_153 0 10 (dk_at dksX4_check_2 20 rfl rfl)
theorem dX4_check_69 : decode cX4_check 69 = .ok (.aload_n 0, 1) := dk_42 (dk_at dksX4_check_2 23 rfl rfl)
theorem dX4_check_70 : decode cX4_check 70 = .ok (.iconst 5, 1) := dk_8 (dk_at dksX4_check_3 0 rfl rfl)
theorem dX4_check_71 : decode cX4_check 71 = .ok (.iload_n 3, 1) := dk_29 (dk_at dksX4_check_3 1 rfl rfl)
theorem dX4_check_72 : decode cX4_check 72 = .ok (.iconst (-1), 1) := dk_2 (dk_at dksX4_check_3 2 rfl rfl)
theorem dX4_check_73 : decode cX4_check 73 = .ok (.invokevirtual 295, 3) := dk_182 1 39 (dk_at dksX4_check_3 3 rfl rfl)
theorem dX4_check_76 : decode cX4_check 76 = .ok (.iinc 3 1, 3) := dk_132 3 1 (dk_at dksX4_check_3 6 rfl rfl)
theorem dX4_check_79 : decode cX4_check 79 = .ok (.goto (-35), 3) := dk_167 255 221 (dk_at dksX4_check_3 9 rfl rfl)
theorem dX4_check_82 : decode cX4_check 82 = .ok (.iconst 0, 1) := dk_3 (dk_at dksX4_check_3 12 rfl rfl)
theorem dX4_check_83 : decode cX4_check 83 = .ok (.istore_n 3, 1) := dk_62 (dk_at dksX4_check_3 13 rfl rfl)
theorem dX4_check_84 : decode cX4_check 84 = .ok (.iload_n 3, 1) := dk_29 (dk_at dksX4_check_3 14 rfl rfl)
theorem dX4_check_85 : decode cX4_check 85 = .ok (.aload_n 0, 1) := dk_42 (dk_at dksX4_check_3 15 rfl rfl)
theorem dX4_check_86 : decode cX4_check 86 = .ok (.getfield 205, 3) := dk_180 0 205 (dk_at dksX4_check_3 16 rfl rfl)
theorem dX4_check_89 : decode cX4_check 89 = .ok (.if_icmp .ge 80, 3) := dk_162 0 80 (dk_at dksX4_check_3 19 rfl rfl)
theorem dX4_check_92 : decode cX4_check 92 = .ok (.aload_n 0, 1) := dk_42 (dk_at dksX4_check_3 22 rfl rfl)
theorem dX4_check_93 : decode cX4_check 93 = .ok (.getfield 69, 3) := dk_180 0 69 (dk_at dksX4_check_4 0 rfl rfl)
theorem dX4_check_96 : decode cX4_check 96 = .ok (.iload_n 3, 1) := dk_29 (dk_at dksX4_check_4 3 rfl rfl)
theorem dX4_check_97 : decode cX4_check 97 = .ok (.baload, 1) := dk_51 (dk_at dksX4_check_4 4 rfl rfl)
theorem dX4_check_98 : decode cX4_check 98 = .ok (.ifCond .eq 24, 3) := dk_153 0 24 (dk_at dksX4_check_4 5 rfl rfl)
theorem dX4_check_101 : decode cX4_check 101 = .ok (.aload_n 0, 1) := dk_42 (dk_at dksX4_check_4 8 rfl rfl)
theorem dX4_check_102 : decode cX4_check 102 = .ok (.getfield 78, 3) := dk_180 0 78 (dk_at dksX4_check_4 9 rfl rfl)
theorem dX4_check_105 : decode cX4_check 105 = .ok (.iload_n 3, 1) := dk_29 (dk_at dksX4_check_4 12 rfl rfl)
theorem dX4_check_106 : decode cX4_check 106 = .ok (.iaload, 1) := dk_46 (dk_at dksX4_check_4 13 rfl rfl)
theorem dX4_check_107 : decode cX4_check 107 = .ok (.iconst (-1), 1) := dk_2 (dk_at dksX4_check_4 14 rfl rfl)
theorem dX4_check_108 : decode cX4_check 108 = .ok (.if_icmp .ne 14, 3) := dk_160 0 14 (dk_at dksX4_check_4 15 rfl rfl)
theorem dX4_check_111 : decode cX4_check 111 = .ok (.aload_n 0, 1) := dk_42 (dk_at dksX4_check_4 18 rfl rfl)
theorem dX4_check_112 : decode cX4_check 112 = .ok (.bipush 6, 2) := dk_16 6 (dk_at dksX4_check_4 19 rfl rfl)
theorem dX4_check_114 : decode cX4_check 114 = .ok (.iload_n 3, 1) := dk_29 (dk_at dksX4_check_4 21 rfl rfl)
theorem dX4_check_115 : decode cX4_check 115 = .ok (.iconst (-1), 1) := dk_2 (dk_at dksX4_check_4 22 rfl rfl)
theorem dX4_check_116 : decode cX4_check 116 = .ok (.invokevirtual 295, 3) := dk_182 1 39 (dk_at dksX4_check_5 0 rfl rfl)
theorem dX4_check_119 : decode cX4_check 119 = .ok (.goto 44, 3) := dk_167 0 44 (dk_at dksX4_check_5 3 rfl rfl)
theorem dX4_check_122 : decode cX4_check 122 = .ok (.aload_n 0, 1) := dk_42 (dk_at dksX4_check_5 6 rfl rfl)
theorem dX4_check_123 : decode cX4_check 123 = .ok (.getfield 69, 3) := dk_180 0 69 (dk_at dksX4_check_5 7 rfl rfl)
theorem dX4_check_126 : decode cX4_check 126 = .ok (.iload_n 3, 1) := dk_29 (dk_at dksX4_check_5 10 rfl rfl)
theorem dX4_check_127 : decode cX4_check 127 = .ok (.baload, 1) := dk_51 (dk_at dksX4_check_5 11 rfl rfl)
theorem dX4_check_128 : decode cX4_check 128 = .ok (.ifCond .eq 35, 3) := dk_153 0 35 (dk_at dksX4_check_5 12 rfl rfl)
theorem dX4_check_131 : decode cX4_check 131 = .ok (.aload_n 0, 1) := dk_42 (dk_at dksX4_check_5 15 rfl rfl)
theorem dX4_check_132 : decode cX4_check 132 = .ok (.aload_n 0, 1) := dk_42 (dk_at dksX4_check_5 16 rfl rfl)
theorem dX4_check_133 : decode cX4_check 133 = .ok (.getfield 78, 3) := dk_180 0 78 (dk_at dksX4_check_5 17 rfl rfl)
theorem dX4_check_136 : decode cX4_check 136 = .ok (.iload_n 3, 1) := dk_29 (dk_at dksX4_check_5 20 rfl rfl)
theorem dX4_check_137 : decode cX4_check 137 = .ok (.iaload, 1) := dk_46 (dk_at dksX4_check_5 21 rfl rfl)
theorem dX4_check_138 : decode cX4_check 138 = .ok (.invokevirtual 258, 3) := dk_182 1 2 (dk_at dksX4_check_6 0 rfl rfl)
theorem dX4_check_141 : decode cX4_check 141 = .ok (.aload_n 0, 1) := dk_42 (dk_at dksX4_check_6 3 rfl rfl)
theorem dX4_check_142 : decode cX4_check 142 = .ok (.aload_n 0, 1) := dk_42 (dk_at dksX4_check_6 4 rfl rfl)
theorem dX4_check_143 : decode cX4_check 143 = .ok (.getfield 75, 3) := dk_180 0 75 (dk_at dksX4_check_6 5 rfl rfl)
theorem dX4_check_146 : decode cX4_check 146 = .ok (.iload_n 3, 1) := dk_29 (dk_at dksX4_check_6 8 rfl rfl)
theorem dX4_check_147 : decode cX4_check 147 = .ok (.iaload, 1) := dk_46 (dk_at dksX4_check_6 9 rfl rfl)
theorem dX4_check_148 : decode cX4_check 148 = .ok (.invokevirtual 258, 3) := dk_182 1 2 (dk_at dksX4_check_6 10 rfl rfl)
theorem dX4_check_151 : decode cX4_check 151 = .ok (.lcmp, 1) := dk_148 (dk_at dksX4_check_6 13 rfl rfl)
theorem dX4_check_152 : decode cX4_check 152 = .ok (.ifCond .ge 11, 3) := dk_156 0 11 (dk_at dksX4_check_6 14 rfl rfl)
theorem dX4_check_155 : decode cX4_check 155 = .ok (.aload_n 0, 1) := dk_42 (dk_at dksX4_check_6 17 rfl rfl)
theorem dX4_check_156 : decode cX4_check 156 = .ok (.bipush 7, 2) := dk_16 7 (dk_at dksX4_check_6 18 rfl rfl)
theorem dX4_check_158 : decode cX4_check 158 = .ok (.iload_n 3, 1) := dk_29 (dk_at dksX4_check_6 20 rfl rfl)
theorem dX4_check_159 : decode cX4_check 159 = .ok (.iconst (-1), 1) := dk_2 (dk_at dksX4_check_6 21 rfl rfl)
theorem dX4_check_160 : decode cX4_check 160 = .ok (.invokevirtual 295, 3) := dk_182 1 39 (dk_at dksX4_check_7 0 rfl rfl)
theorem dX4_check_163 : decode cX4_check 163 = .ok (.iinc 3 1, 3) := dk_132 3 1 (dk_at dksX4_check_7 3 rfl rfl)
theorem dX4_check_166 : decode cX4_check 166 = .ok (.goto (-82), 3) := dk_167 255 174 (dk_at dksX4_check_7 6 rfl rfl)
theorem dX4_check_169 : decode cX4_check 169 = .ok (.aload_n 0, 1) := dk_42 (dk_at dksX4_check_7 9 rfl rfl)
theorem dX4_check_170 : decode cX4_check 170 = .ok (.getfield 289, 3) := dk_180 1 33 (dk_at dksX4_check_7 10 rfl rfl)
theorem dX4_check_173 : decode cX4_check 173 = .ok (.ireturn, 1) := dk_172 (dk_at dksX4_check_7 13 rfl rfl)
abbrev cX4_checkVoice : ByteArray := prog_21_method_60_code
def yX4_checkVoice : MethodName := ⟨RX4, "checkVoice", "(IJ)V"⟩
def dkwX4_checkVoice_6 : List UInt8 := [156, 0, 7, 6, 167, 0, 4, 7, 27, 2, 182, 1, 39, 177]
abbrev dktX4_checkVoice_6 : List UInt8 := dkwX4_checkVoice_6 ++ []
def dkwX4_checkVoice_5 : List UInt8 := [167, 255, 145, 42, 180, 0, 45, 27, 46, 158, 0, 28, 22, 4, 32, 148, 153, 0, 21, 42, 22, 4, 32, 148]
abbrev dktX4_checkVoice_5 : List UInt8 := dkwX4_checkVoice_5 ++ dktX4_checkVoice_6
def dkwX4_checkVoice_4 : List UInt8 := [182, 1, 39, 42, 21, 7, 182, 1, 46, 153, 0, 11, 42, 5, 21, 7, 2, 182, 1, 39, 132, 6, 1]
abbrev dktX4_checkVoice_4 : List UInt8 := dkwX4_checkVoice_4 ++ dktX4_checkVoice_5
def dkwX4_checkVoice_3 : List UInt8 := [21, 7, 21, 8, 182, 1, 39, 42, 27, 21, 6, 182, 1, 43, 153, 0, 11, 42, 4, 21, 7, 2]
abbrev dktX4_checkVoice_3 : List UInt8 := dkwX4_checkVoice_3 ++ dktX4_checkVoice_4
def dkwX4_checkVoice_2 : List UInt8 := [55, 4, 21, 8, 2, 159, 0, 26, 22, 4, 42, 21, 8, 4, 96, 182, 0, 246, 148, 158, 0, 12, 42, 3]
abbrev dktX4_checkVoice_2 : List UInt8 := dkwX4_checkVoice_2 ++ dktX4_checkVoice_3
def dkwX4_checkVoice_1 : List UInt8 := [104, 21, 6, 96, 46, 54, 7, 42, 22, 4, 182, 1, 5, 54, 8, 22, 4, 42, 21, 7, 182, 0, 243, 97]
abbrev dktX4_checkVoice_1 : List UInt8 := dkwX4_checkVoice_1 ++ dktX4_checkVoice_2
def dkwX4_checkVoice_0 : List UInt8 := [9, 55, 4, 3, 54, 6, 21, 6, 42, 180, 0, 45, 27, 46, 162, 0, 106, 42, 180, 0, 42, 16, 40, 27]
abbrev dktX4_checkVoice_0 : List UInt8 := dkwX4_checkVoice_0 ++ dktX4_checkVoice_1
theorem dksX4_checkVoice_0 : cX4_checkVoice.data.toList.drop 0 = dktX4_checkVoice_0 := by decide +kernel
theorem dksX4_checkVoice_1 : cX4_checkVoice.data.toList.drop 24 = dktX4_checkVoice_1 := dk_seg dksX4_checkVoice_0 24 rfl rfl
theorem dksX4_checkVoice_2 : cX4_checkVoice.data.toList.drop 48 = dktX4_checkVoice_2 := dk_seg dksX4_checkVoice_1 24 rfl rfl
theorem dksX4_checkVoice_3 : cX4_checkVoice.data.toList.drop 72 = dktX4_checkVoice_3 := dk_seg dksX4_checkVoice_2 24 rfl rfl
theorem dksX4_checkVoice_4 : cX4_checkVoice.data.toList.drop 94 = dktX4_checkVoice_4 := dk_seg dksX4_checkVoice_3 22 rfl rfl
theorem dksX4_checkVoice_5 : cX4_checkVoice.data.toList.drop 117 = dktX4_checkVoice_5 := dk_seg dksX4_checkVoice_4 23 rfl rfl
theorem dksX4_checkVoice_6 : cX4_checkVoice.data.toList.drop 141 = dktX4_checkVoice_6 := dk_seg dksX4_checkVoice_5 24 rfl rfl
theorem dX4_checkVoice_0 : decode cX4_checkVoice 0 = .ok (.lconst 0, 1) := dk_9 (dk_at dksX4_checkVoice_0 0 rfl rfl)
theorem dX4_checkVoice_1 : decode cX4_checkVoice 1 = .ok (.lstore 4, 2) := dk_55 4 (dk_at dksX4_checkVoice_0 1 rfl rfl)
theorem dX4_checkVoice_3 : decode cX4_checkVoice 3 = .ok (.iconst 0, 1) := dk_3 (dk_at dksX4_checkVoice_0 3 rfl rfl)
theorem dX4_checkVoice_4 : decode cX4_checkVoice 4 = .ok (.istore 6, 2) := dk_54 6 (dk_at dksX4_checkVoice_0 4 rfl rfl)
theorem dX4_checkVoice_6 : decode cX4_checkVoice 6 = .ok (.iload 6, 2) := dk_21 6 (dk_at dksX4_checkVoice_0 6 rfl rfl)
theorem dX4_checkVoice_8 : decode cX4_checkVoice 8 = .ok (.aload_n 0, 1) := dk_42 (dk_at dksX4_checkVoice_0 8 rfl rfl)
theorem dX4_checkVoice_9 : decode cX4_checkVoice 9 = .ok (.getfield 45, 3) := dk_180 0 45 (dk_at dksX4_checkVoice_0 9 rfl rfl)
theorem dX4_checkVoice_12 : decode cX4_checkVoice 12 = .ok (.iload_n 1, 1) := dk_27 (dk_at dksX4_checkVoice_0 12 rfl rfl)
theorem dX4_checkVoice_13 : decode cX4_checkVoice 13 = .ok (.iaload, 1) := dk_46 (dk_at dksX4_checkVoice_0 13 rfl rfl)
theorem dX4_checkVoice_14 : decode cX4_checkVoice 14 = .ok (.if_icmp .ge 106, 3) := dk_162 0 106 (dk_at dksX4_checkVoice_0 14 rfl rfl)
theorem dX4_checkVoice_17 : decode cX4_checkVoice 17 = .ok (.aload_n 0, 1) := dk_42 (dk_at dksX4_checkVoice_0 17 rfl rfl)
theorem dX4_checkVoice_18 : decode cX4_checkVoice 18 = .ok (.getfield 42, 3) := dk_180 0 42 (dk_at dksX4_checkVoice_0 18 rfl rfl)
theorem dX4_checkVoice_21 : decode cX4_checkVoice 21 = .ok (.bipush 40, 2) := dk_16 40 (dk_at dksX4_checkVoice_0 21 rfl rfl)
theorem dX4_checkVoice_23 : decode cX4_checkVoice 23 = .ok (.iload_n 1, 1) := dk_27 (dk_at dksX4_checkVoice_0 23 rfl rfl)
theorem dX4_checkVoice_24 : decode cX4_checkVoice 24 = .ok (.imul, 1) := dk_104 (dk_at dksX4_checkVoice_1 0 rfl rfl)
theorem dX4_checkVoice_25 : decode cX4_checkVoice 25 = .ok (.iload 6, 2) := dk_21 6 (dk_at dksX4_checkVoice_1 1 rfl rfl)
theorem dX4_checkVoice_27 : decode cX4_checkVoice 27 = .ok (.iadd, 1) := dk_96 (dk_at dksX4_checkVoice_1 3 rfl rfl)
theorem dX4_checkVoice_28 : decode cX4_checkVoice 28 = .ok (.iaload, 1) := dk_46 (dk_at dksX4_checkVoice_1 4 rfl rfl)
theorem dX4_checkVoice_29 : decode cX4_checkVoice 29 = .ok (.istore 7, 2) := dk_54 7 (dk_at dksX4_checkVoice_1 5 rfl rfl)
theorem dX4_checkVoice_31 : decode cX4_checkVoice 31 = .ok (.aload_n 0, 1) := dk_42 (dk_at dksX4_checkVoice_1 7 rfl rfl)
theorem dX4_checkVoice_32 : decode cX4_checkVoice 32 = .ok (.lload 4, 2) := dk_22 4 (dk_at dksX4_checkVoice_1 8 rfl rfl)
theorem dX4_checkVoice_34 : decode cX4_checkVoice 34 = .ok (.invokevirtual 261, 3) := dk_182 1 5 (dk_at dksX4_checkVoice_1 10 rfl rfl)
theorem dX4_checkVoice_37 : decode cX4_checkVoice 37 = .ok (.istore 8, 2) := dk_54 8 (dk_at dksX4_checkVoice_1 13 rfl rfl)
theorem dX4_checkVoice_39 : decode cX4_checkVoice 39 = .ok (.lload 4, 2) := dk_22 4 (dk_at dksX4_checkVoice_1 15 rfl rfl)
theorem dX4_checkVoice_41 : decode cX4_checkVoice 41 = .ok (.aload_n 0, 1) := dk_42 (dk_at dksX4_checkVoice_1 17 rfl rfl)
theorem dX4_checkVoice_42 : decode cX4_checkVoice 42 = .ok (.iload 7, 2) := dk_21 7 (dk_at dksX4_checkVoice_1 18 rfl rfl)
theorem dX4_checkVoice_44 : decode cX4_checkVoice 44 = .ok (.invokevirtual 243, 3) := dk_182 0 243 (dk_at dksX4_checkVoice_1 20 rfl rfl)
theorem dX4_checkVoice_47 : decode cX4_checkVoice 47 = .ok (.ladd, 1) := dk_97 (dk_at dksX4_checkVoice_1 23 rfl rfl)
theorem dX4_checkVoice_48 : decode cX4_checkVoice 48 = .ok (.lstore 4, 2) := dk_55 4 (dk_at dksX4_checkVoice_2 0 rfl rfl)
theorem dX4_checkVoice_50 : decode cX4_checkVoice 50 = .ok (.iload 8, 2) := dk_21 8 (dk_at dksX4_checkVoice_2 2 rfl rfl)
theorem dX4_checkVoice_52 : decode cX4_checkVoice 52 = .ok (.iconst (-1), 1) := dk_2 (dk_at dksX4_checkVoice_2 4 rfl rfl)
theorem dX4_checkVoice_53 : decode cX4_checkVoice 53 = .ok (.if_icmp .eq 26, 3) := dk_159 0 26 (dk_at dksX4_checkVoice_2 5 rfl rfl)
theorem dX4_checkVoice_56 : decode cX4_checkVoice 56 = .ok (.lload 4, 2) := dk_22 4 (dk_at dksX4_checkVoice_2 8 rfl rfl)
theorem dX4_checkVoice_58 : decode cX4_checkVoice 58 = .ok (.aload_n 0, 1) := dk_42 (dk_at dksX4_checkVoice_2 10 rfl rfl)
theorem dX4_checkVoice_59 : decode cX4_checkVoice 59 = .ok (.iload 8, 2) := dk_21 8 (dk_at dksX4_checkVoice_2 11 rfl rfl)
theorem dX4_checkVoice_61 : decode cX4_checkVoice 61 = .ok (.iconst 1, 1) := dk_4 (dk_at dksX4_checkVoice_2 13 rfl rfl)
theorem dX4_checkVoice_62 : decode cX4_checkVoice 62 = .ok (.iadd, 1) := dk_96 (dk_at dksX4_checkVoice_2 14 rfl rfl)
theorem dX4_checkVoice_63 : decode cX4_checkVoice 63 = .ok (.invokevirtual 246, 3) := dk_182 0 246 (dk_at dksX4_checkVoice_2 15 rfl rfl)
theorem dX4_checkVoice_66 : decode cX4_checkVoice 66 = .ok (.lcmp, 1) := dk_148 (dk_at dksX4_checkVoice_2 18 rfl rfl)
theorem dX4_checkVoice_67 : decode cX4_checkVoice 67 = .ok (.ifCond .le 12, 3) := dk_158 0 12 (dk_at dksX4_checkVoice_2 19 rfl rfl)
theorem dX4_checkVoice_70 : decode cX4_checkVoice 70 = .ok (.aload_n 0, 1) := dk_42 (dk_at dksX4_checkVoice_2 22 rfl rfl)
theorem dX4_checkVoice_71 : decode cX4_checkVoice 71 = .ok (.iconst 0, 1) := dk_3 (dk_at dksX4_checkVoice_2 23 rfl rfl)
theorem dX4_checkVoice_72 : decode cX4_checkVoice 72 = .ok (.iload 7, 2) := dk_21 7 (dk_at dksX4_checkVoice_3 0 rfl rfl)
theorem dX4_checkVoice_74 : decode cX4_checkVoice 74 = .ok (.iload 8, 2) := dk_21 8 (dk_at dksX4_checkVoice_3 2 rfl rfl)
theorem dX4_checkVoice_76 : decode cX4_checkVoice 76 = .ok (.invokevirtual 295, 3) := dk_182 1 39 (dk_at dksX4_checkVoice_3 4 rfl rfl)
theorem dX4_checkVoice_79 : decode cX4_checkVoice 79 = .ok (.aload_n 0, 1) := dk_42 (dk_at dksX4_checkVoice_3 7 rfl rfl)
theorem dX4_checkVoice_80 : decode cX4_checkVoice 80 = .ok (.iload_n 1, 1) := dk_27 (dk_at dksX4_checkVoice_3 8 rfl rfl)
theorem dX4_checkVoice_81 : decode cX4_checkVoice 81 = .ok (.iload 6, 2) := dk_21 6 (dk_at dksX4_checkVoice_3 9 rfl rfl)
theorem dX4_checkVoice_83 : decode cX4_checkVoice 83 = .ok (.invokevirtual 299, 3) := dk_182 1 43 (dk_at dksX4_checkVoice_3 11 rfl rfl)
theorem dX4_checkVoice_86 : decode cX4_checkVoice 86 = .ok (.ifCond .eq 11, 3) := dk_153 0 11 (dk_at dksX4_checkVoice_3 14 rfl rfl)
theorem dX4_checkVoice_89 : decode cX4_checkVoice 89 = .ok (.aload_n 0, 1) := dk_42 (dk_at dksX4_checkVoice_3 17 rfl rfl)
theorem dX4_checkVoice_90 : decode cX4_checkVoice 90 = .ok (.iconst 1, 1) := dk_4 (dk_at dksX4_checkVoice_3 18 rfl rfl)
theorem dX4_checkVoice_91 : decode cX4_checkVoice 91 = .ok (.iload 7, 2) := dk_21 7 (dk_at dksX4_checkVoice_3 19 rfl rfl)
theorem dX4_checkVoice_93 : decode cX4_checkVoice 93 = .ok (.iconst (-1), 1) := dk_2 (dk_at dksX4_checkVoice_3 21 rfl rfl)
theorem dX4_checkVoice_94 : decode cX4_checkVoice 94 = .ok (.invokevirtual 295, 3) := dk_182 1 39 (dk_at dksX4_checkVoice_4 0 rfl rfl)
theorem dX4_checkVoice_97 : decode cX4_checkVoice 97 = .ok (.aload_n 0, 1) := dk_42 (dk_at dksX4_checkVoice_4 3 rfl rfl)
theorem dX4_checkVoice_98 : decode cX4_checkVoice 98 = .ok (.iload 7, 2) := dk_21 7 (dk_at dksX4_checkVoice_4 4 rfl rfl)
theorem dX4_checkVoice_100 : decode cX4_checkVoice 100 = .ok (.invokevirtual 302, 3) := dk_182 1 46 (dk_at dksX4_checkVoice_4 6 rfl rfl)
theorem dX4_checkVoice_103 : decode cX4_checkVoice 103 = .ok (.ifCond .eq 11, 3) := dk_153 0 11 (dk_at dksX4_checkVoice_4 9 rfl rfl)
theorem dX4_checkVoice_106 : decode cX4_checkVoice 106 = .ok (.aload_n 0, 1) := dk_42 (dk_at dksX4_checkVoice_4 12 rfl rfl)
theorem dX4_checkVoice_107 : decode cX4_checkVoice 107 = .ok (.iconst 2, 1) := dk_5 (dk_at dksX4_checkVoice_4 13 rfl rfl)
theorem dX4_checkVoice_108 : decode cX4_checkVoice 108 = .ok (.iload 7, 2) := dk_21 7 (dk_at dksX4_checkVoice_4 14 rfl rfl)
theorem dX4_checkVoice_110 : decode cX4_checkVoice 110 = .ok (.iconst (-1), 1) := dk_2 (dk_at dksX4_checkVoice_4 16 rfl rfl)
theorem dX4_checkVoice_111 : decode cX4_checkVoice 111 = .ok (.invokevirtual 295, 3) := dk_182 1 39 (dk_at dksX4_checkVoice_4 17 rfl rfl)
theorem dX4_checkVoice_114 : decode cX4_checkVoice 114 = .ok (.iinc 6 1, 3) := dk_132 6 1 (dk_at dksX4_checkVoice_4 20 rfl rfl)
theorem dX4_checkVoice_117 : decode cX4_checkVoice 117 = .ok (.goto (-111), 3) := dk_167 255 145 (dk_at dksX4_checkVoice_5 0 rfl rfl)
theorem dX4_checkVoice_120 : decode cX4_checkVoice 120 = .ok (.aload_n 0, 1) := dk_42 (dk_at dksX4_checkVoice_5 3 rfl rfl)
theorem dX4_checkVoice_121 : decode cX4_checkVoice 121 = .ok (.getfield 45, 3) := dk_180 0 45 (dk_at dksX4_checkVoice_5 4 rfl rfl)
theorem dX4_checkVoice_124 : decode cX4_checkVoice 124 = .ok (.iload_n 1, 1) := dk_27 (dk_at dksX4_checkVoice_5 7 rfl rfl)
theorem dX4_checkVoice_125 : decode cX4_checkVoice 125 = .ok (.iaload, 1) := dk_46 (dk_at dksX4_checkVoice_5 8 rfl rfl)
theorem dX4_checkVoice_126 : decode cX4_checkVoice 126 = .ok (.ifCond .le 28, 3) := dk_158 0 28 (dk_at dksX4_checkVoice_5 9 rfl rfl)
theorem dX4_checkVoice_129 : decode cX4_checkVoice 129 = .ok (.lload 4, 2) := dk_22 4 (dk_at dksX4_checkVoice_5 12 rfl rfl)
theorem dX4_checkVoice_131 : decode cX4_checkVoice 131 = .ok (.lload_n 2, 1) := dk_32 (dk_at dksX4_checkVoice_5 14 rfl rfl)
theorem dX4_checkVoice_132 : decode cX4_checkVoice 132 = .ok (.lcmp, 1) := dk_148 (dk_at dksX4_checkVoice_5 15 rfl rfl)
theorem dX4_checkVoice_133 : decode cX4_checkVoice 133 = .ok (.ifCond .eq 21, 3) := dk_153 0 21 (dk_at dksX4_checkVoice_5 16 rfl rfl)
theorem dX4_checkVoice_136 : decode cX4_checkVoice 136 = .ok (.aload_n 0, 1) := dk_42 (dk_at dksX4_checkVoice_5 19 rfl rfl)
theorem dX4_checkVoice_137 : decode cX4_checkVoice 137 = .ok (.lload 4, 2) := dk_22 4 (dk_at dksX4_checkVoice_5 20 rfl rfl)
theorem dX4_checkVoice_139 : decode cX4_checkVoice 139 = .ok (.lload_n 2, 1) := dk_32 (dk_at dksX4_checkVoice_5 22 rfl rfl)
theorem dX4_checkVoice_140 : decode cX4_checkVoice 140 = .ok (.lcmp, 1) := dk_148 (dk_at dksX4_checkVoice_5 23 rfl rfl)
theorem dX4_checkVoice_141 : decode cX4_checkVoice 141 = .ok (.ifCond .ge 7, 3) := dk_156 0 7 (dk_at dksX4_checkVoice_6 0 rfl rfl)
theorem dX4_checkVoice_144 : decode cX4_checkVoice 144 = .ok (.iconst 3, 1) := dk_6 (dk_at dksX4_checkVoice_6 3 rfl rfl)
theorem dX4_checkVoice_145 : decode cX4_checkVoice 145 = .ok (.goto 4, 3) := dk_167 0 4 (dk_at dksX4_checkVoice_6 4 rfl rfl)
theorem dX4_checkVoice_148 : decode cX4_checkVoice 148 = .ok (.iconst 4, 1) := dk_7 (dk_at dksX4_checkVoice_6 7 rfl rfl)
theorem dX4_checkVoice_149 : decode cX4_checkVoice 149 = .ok (.iload_n 1, 1) := dk_27 (dk_at dksX4_checkVoice_6 8 rfl rfl)
theorem dX4_checkVoice_150 : decode cX4_checkVoice 150 = .ok (.iconst (-1), 1) := dk_2 (dk_at dksX4_checkVoice_6 9 rfl rfl)
theorem dX4_checkVoice_151 : decode cX4_checkVoice 151 = .ok (.invokevirtual 295, 3) := dk_182 1 39 (dk_at dksX4_checkVoice_6 10 rfl rfl)
theorem dX4_checkVoice_154 : decode cX4_checkVoice 154 = .ok (.return_, 1) := dk_177 (dk_at dksX4_checkVoice_6 13 rfl rfl)
abbrev cX4_finds : ByteArray := prog_21_method_56_code
def yX4_finds : MethodName := ⟨RX4, "finds", "(III)V"⟩
def dkwX4_finds_2 : List UInt8 := [96, 29, 79, 42, 89, 180, 1, 33, 4, 96, 181, 1, 33, 177]
abbrev dktX4_finds_2 : List UInt8 := dkwX4_finds_2 ++ []
def dkwX4_finds_1 : List UInt8 := [180, 0, 84, 6, 42, 180, 1, 33, 104, 4, 96, 28, 79, 42, 180, 0, 84, 6, 42, 180, 1, 33, 104, 5]
abbrev dktX4_finds_1 : List UInt8 := dkwX4_finds_1 ++ dktX4_finds_2
def dkwX4_finds_0 : List UInt8 := [42, 180, 1, 33, 16, 100, 162, 0, 43, 42, 180, 0, 84, 6, 42, 180, 1, 33, 104, 27, 79, 42]
abbrev dktX4_finds_0 : List UInt8 := dkwX4_finds_0 ++ dktX4_finds_1
theorem dksX4_finds_0 : cX4_finds.data.toList.drop 0 = dktX4_finds_0 := by decide +kernel
theorem dksX4_finds_1 : cX4_finds.data.toList.drop 22 = dktX4_finds_1 := dk_seg dksX4_finds_0 22 rfl rfl
theorem dksX4_finds_2 : cX4_finds.data.toList.drop 46 = dktX4_finds_2 := dk_seg dksX4_finds_1 24 rfl rfl
theorem dX4_finds_0 : decode cX4_finds 0 = .ok (.aload_n 0, 1) := dk_42 (dk_at dksX4_finds_0 0 rfl rfl)
theorem dX4_finds_1 : decode cX4_finds 1 = .ok (.getfield 289, 3) := dk_180 1 33 (dk_at dksX4_finds_0 1 rfl rfl)
theorem dX4_finds_4 : decode cX4_finds 4 = .ok (.bipush 100, 2) := dk_16 100 (dk_at dksX4_finds_0 4 rfl rfl)
theorem dX4_finds_6 : decode cX4_finds 6 = .ok (.if_icmp .ge 43, 3) := dk_162 0 43 (dk_at dksX4_finds_0 6 rfl rfl)
theorem dX4_finds_9 : decode cX4_finds 9 = .ok (.aload_n 0, 1) := dk_42 (dk_at dksX4_finds_0 9 rfl rfl)
theorem dX4_finds_10 : decode cX4_finds 10 = .ok (.getfield 84, 3) := dk_180 0 84 (dk_at dksX4_finds_0 10 rfl rfl)
theorem dX4_finds_13 : decode cX4_finds 13 = .ok (.iconst 3, 1) := dk_6 (dk_at dksX4_finds_0 13 rfl rfl)
theorem dX4_finds_14 : decode cX4_finds 14 = .ok (.aload_n 0, 1) := dk_42 (dk_at dksX4_finds_0 14 rfl rfl)
theorem dX4_finds_15 : decode cX4_finds 15 = .ok (.getfield 289, 3) := dk_180 1 33 (dk_at dksX4_finds_0 15 rfl rfl)
theorem dX4_finds_18 : decode cX4_finds 18 = .ok (.imul, 1) := dk_104 (dk_at dksX4_finds_0 18 rfl rfl)
theorem dX4_finds_19 : decode cX4_finds 19 = .ok (.iload_n 1, 1) := dk_27 (dk_at dksX4_finds_0 19 rfl rfl)
theorem dX4_finds_20 : decode cX4_finds 20 = .ok (.iastore, 1) := dk_79 (dk_at dksX4_finds_0 20 rfl rfl)
theorem dX4_finds_21 : decode cX4_finds 21 = .ok (.aload_n 0, 1) := dk_42 (dk_at dksX4_finds_0 21 rfl rfl)
theorem dX4_finds_22 : decode cX4_finds 22 = .ok (.getfield 84, 3) := dk_180 0 84 (dk_at dksX4_finds_1 0 rfl rfl)
theorem dX4_finds_25 : decode cX4_finds 25 = .ok (.iconst 3, 1) := dk_6 (dk_at dksX4_finds_1 3 rfl rfl)
theorem dX4_finds_26 : decode cX4_finds 26 = .ok (.aload_n 0, 1) := dk_42 (dk_at dksX4_finds_1 4 rfl rfl)
theorem dX4_finds_27 : decode cX4_finds 27 = .ok (.getfield 289, 3) := dk_180 1 33 (dk_at dksX4_finds_1 5 rfl rfl)
theorem dX4_finds_30 : decode cX4_finds 30 = .ok (.imul, 1) := dk_104 (dk_at dksX4_finds_1 8 rfl rfl)
theorem dX4_finds_31 : decode cX4_finds 31 = .ok (.iconst 1, 1) := dk_4 (dk_at dksX4_finds_1 9 rfl rfl)
theorem dX4_finds_32 : decode cX4_finds 32 = .ok (.iadd, 1) := dk_96 (dk_at dksX4_finds_1 10 rfl rfl)
theorem dX4_finds_33 : decode cX4_finds 33 = .ok (.iload_n 2, 1) := dk_28 (dk_at dksX4_finds_1 11 rfl rfl)
theorem dX4_finds_34 : decode cX4_finds 34 = .ok (.iastore, 1) := dk_79 (dk_at dksX4_finds_1 12 rfl rfl)
theorem dX4_finds_35 : decode cX4_finds 35 = .ok (.aload_n 0, 1) := dk_42 (dk_at dksX4_finds_1 13 rfl rfl)
theorem dX4_finds_36 : decode cX4_finds 36 = .ok (.getfield 84, 3) := dk_180 0 84 (dk_at dksX4_finds_1 14 rfl rfl)
theorem dX4_finds_39 : decode cX4_finds 39 = .ok (.iconst 3, 1) := dk_6 (dk_at dksX4_finds_1 17 rfl rfl)
theorem dX4_finds_40 : decode cX4_finds 40 = .ok (.aload_n 0, 1) := dk_42 (dk_at dksX4_finds_1 18 rfl rfl)
theorem dX4_finds_41 : decode cX4_finds 41 = .ok (.getfield 289, 3) := dk_180 1 33 (dk_at dksX4_finds_1 19 rfl rfl)
theorem dX4_finds_44 : decode cX4_finds 44 = .ok (.imul, 1) := dk_104 (dk_at dksX4_finds_1 22 rfl rfl)
theorem dX4_finds_45 : decode cX4_finds 45 = .ok (.iconst 2, 1) := dk_5 (dk_at dksX4_finds_1 23 rfl rfl)
theorem dX4_finds_46 : decode cX4_finds 46 = .ok (.iadd, 1) := dk_96 (dk_at dksX4_finds_2 0 rfl rfl)
theorem dX4_finds_47 : decode cX4_finds 47 = .ok (.iload_n 3, 1) := dk_29 (dk_at dksX4_finds_2 1 rfl rfl)
theorem dX4_finds_48 : decode cX4_finds 48 = .ok (.iastore, 1) := dk_79 (dk_at dksX4_finds_2 2 rfl rfl)
theorem dX4_finds_49 : decode cX4_finds 49 = .ok (.aload_n 0, 1) := dk_42 (dk_at dksX4_finds_2 3 rfl rfl)
theorem dX4_finds_50 : decode cX4_finds 50 = .ok (.dup, 1) := dk_89 (dk_at dksX4_finds_2 4 rfl rfl)
theorem dX4_finds_51 : decode cX4_finds 51 = .ok (.getfield 289, 3) := dk_180 1 33 (dk_at dksX4_finds_2 5 rfl rfl)
theorem dX4_finds_54 : decode cX4_finds 54 = .ok (.iconst 1, 1) := dk_4 (dk_at dksX4_finds_2 8 rfl rfl)
theorem dX4_finds_55 : decode cX4_finds 55 = .ok (.iadd, 1) := dk_96 (dk_at dksX4_finds_2 9 rfl rfl)
theorem dX4_finds_56 : decode cX4_finds 56 = .ok (.putfield 289, 3) := dk_181 1 33 (dk_at dksX4_finds_2 10 rfl rfl)
theorem dX4_finds_59 : decode cX4_finds 59 = .ok (.return_, 1) := dk_177 (dk_at dksX4_finds_2 13 rfl rfl)
abbrev cX4_isTieWrong : ByteArray := prog_21_method_58_code
def yX4_isTieWrong : MethodName := ⟨RX4, "isTieWrong", "(II)Z"⟩
def dkwX4_isTieWrong_7 : List UInt8 := [54, 6, 132, 7, 1, 167, 255, 219, 21, 6, 154, 0, 7, 4, 167, 0, 4, 3, 172]
abbrev dktX4_isTieWrong_7 : List UInt8 := dkwX4_isTieWrong_7 ++ []
def dkwX4_isTieWrong_6 : List UInt8 := [162, 0, 32, 21, 6, 42, 21, 5, 42, 180, 0, 30, 16, 6, 29, 104, 21, 7, 96, 46, 182, 1, 36, 126]
abbrev dktX4_isTieWrong_6 : List UInt8 := dkwX4_isTieWrong_6 ++ dktX4_isTieWrong_7
def dkwX4_isTieWrong_5 : List UInt8 := [46, 54, 5, 42, 21, 5, 182, 0, 214, 54, 6, 3, 54, 7, 21, 7, 42, 180, 0, 27, 29, 46]
abbrev dktX4_isTieWrong_5 : List UInt8 := dkwX4_isTieWrong_5 ++ dktX4_isTieWrong_6
def dkwX4_isTieWrong_4 : List UInt8 := [21, 4, 42, 180, 0, 45, 27, 46, 160, 0, 5, 4, 172, 42, 180, 0, 42, 16, 40, 27, 104, 21, 4, 96]
abbrev dktX4_isTieWrong_4 : List UInt8 := dkwX4_isTieWrong_4 ++ dktX4_isTieWrong_5
def dkwX4_isTieWrong_3 : List UInt8 := [42, 180, 0, 42, 16, 40, 27, 104, 21, 4, 96, 46, 46, 7, 160, 0, 9, 132, 4, 1, 167, 255, 200]
abbrev dktX4_isTieWrong_3 : List UInt8 := dkwX4_isTieWrong_3 ++ dktX4_isTieWrong_4
def dkwX4_isTieWrong_2 : List UInt8 := [180, 0, 24, 42, 180, 0, 42, 16, 40, 27, 104, 21, 4, 96, 46, 46, 5, 159, 0, 24, 42, 180, 0, 24]
abbrev dktX4_isTieWrong_2 : List UInt8 := dkwX4_isTieWrong_2 ++ dktX4_isTieWrong_3
def dkwX4_isTieWrong_1 : List UInt8 := [29, 51, 154, 0, 5, 3, 172, 28, 4, 96, 54, 4, 21, 4, 42, 180, 0, 45, 27, 46, 162, 0, 51, 42]
abbrev dktX4_isTieWrong_1 : List UInt8 := dkwX4_isTieWrong_1 ++ dktX4_isTieWrong_2
def dkwX4_isTieWrong_0 : List UInt8 := [42, 180, 0, 42, 16, 40, 27, 104, 28, 96, 46, 62, 42, 29, 182, 0, 214, 153, 0, 12, 42, 180, 0, 39]
abbrev dktX4_isTieWrong_0 : List UInt8 := dkwX4_isTieWrong_0 ++ dktX4_isTieWrong_1
theorem dksX4_isTieWrong_0 : cX4_isTieWrong.data.toList.drop 0 = dktX4_isTieWrong_0 := by decide +kernel
theorem dksX4_isTieWrong_1 : cX4_isTieWrong.data.toList.drop 24 = dktX4_isTieWrong_1 := dk_seg dksX4_isTieWrong_0 24 rfl rfl
theorem dksX4_isTieWrong_2 : cX4_isTieWrong.data.toList.drop 48 = dktX4_isTieWrong_2 := dk_seg dksX4_isTieWrong_1 24 rfl rfl
theorem dksX4_isTieWrong_3 : cX4_isTieWrong.data.toList.drop 72 = dktX4_isTieWrong_3 := dk_seg dksX4_isTieWrong_2 24 rfl rfl
theorem dksX4_isTieWrong_4 : cX4_isTieWrong.data.toList.drop 95 = dktX4_isTieWrong_4 := dk_seg dksX4_isTieWrong_3 23 rfl rfl
theorem dksX4_isTieWrong_5 : cX4_isTieWrong.data.toList.drop 119 = dktX4_isTieWrong_5 := dk_seg dksX4_isTieWrong_4 24 rfl rfl
theorem dksX4_isTieWrong_6 : cX4_isTieWrong.data.toList.drop 141 = dktX4_isTieWrong_6 := dk_seg dksX4_isTieWrong_5 22 rfl rfl
theorem dksX4_isTieWrong_7 : cX4_isTieWrong.data.toList.drop 165 = dktX4_isTieWrong_7 := dk_seg dksX4_isTieWrong_6 24 rfl rfl
theorem dX4_isTieWrong_0 : decode cX4_isTieWrong 0 = .ok (.aload_n 0, 1) := dk_42 (dk_at dksX4_isTieWrong_0 0 rfl rfl)
theorem dX4_isTieWrong_1 : decode cX4_isTieWrong 1 = .ok (.getfield 42, 3) := dk_180 0 42 (dk_at dksX4_isTieWrong_0 1 rfl rfl)
theorem dX4_isTieWrong_4 : decode cX4_isTieWrong 4 = .ok (.bipush 40, 2) := dk_16 40 (dk_at dksX4_isTieWrong_0 4 rfl rfl)
theorem dX4_isTieWrong_6 : decode cX4_isTieWrong 6 = .ok (.iload_n 1, 1) := dk_27 (dk_at dksX4_isTieWrong_0 6 rfl rfl)
theorem dX4_isTieWrong_7 : decode cX4_isTieWrong 7 = .ok (.imul, 1) := dk_104 (dk_at dksX4_isTieWrong_0 7 rfl rfl)
theorem dX4_isTieWrong_8 : decode cX4_isTieWrong 8 = .ok (.iload_n 2, 1) := dk_28 (dk_at dksX4_isTieWrong_0 8 rfl rfl)
theorem dX4_isTieWrong_9 : decode cX4_isTieWrong 9 = .ok (.iadd, 1) := dk_96 (dk_at dksX4_isTieWrong_0 9 rfl rfl)
theorem dX4_isTieWrong_10 : decode cX4_isTieWrong 10 = .ok (.iaload, 1) := dk_46 (dk_at dksX4_isTieWrong_0 10 rfl rfl)
theorem dX4_isTieWrong_11 : decode cX4_isTieWrong 11 = .ok (.istore_n 3, 1) := dk_62 (dk_at dksX4_isTieWrong_0 11 rfl rfl)
theorem dX4_isTieWrong_12 : decode cX4_isTieWrong 12 = .ok (.aload_n 0, 1) := dk_42 (dk_at dksX4_isTieWrong_0 12 rfl rfl)
theorem dX4_isTieWrong_13 : decode cX4_isTieWrong 13 = .ok (.iload_n 3, 1) := dk_29 (dk_at dksX4_isTieWrong_0 13 rfl rfl)
theorem dX4_isTieWrong_14 : decode cX4_isTieWrong 14 = .ok (.invokevirtual 214, 3) := dk_182 0 214 (dk_at dksX4_isTieWrong_0 14 rfl rfl)
theorem dX4_isTieWrong_17 : decode cX4_isTieWrong 17 = .ok (.ifCond .eq 12, 3) := dk_153 0 12 (dk_at dksX4_isTieWrong_0 17 rfl rfl)
theorem dX4_isTieWrong_20 : decode cX4_isTieWrong 20 = .ok (.aload_n 0, 1) := dk_42 (dk_at dksX4_isTieWrong_0 20 rfl rfl)
theorem dX4_isTieWrong_21 : decode cX4_isTieWrong 21 = .ok (.getfield 39, 3) := dk_180 0 39 (dk_at dksX4_isTieWrong_0 21 rfl rfl)
theorem dX4_isTieWrong_24 : decode cX4_isTieWrong 24 = .ok (.iload_n 3, 1) := dk_29 (dk_at dksX4_isTieWrong_1 0 rfl rfl)
theorem dX4_isTieWrong_25 : decode cX4_isTieWrong 25 = .ok (.baload, 1) := dk_51 (dk_at dksX4_isTieWrong_1 1 rfl rfl)
theorem dX4_isTieWrong_26 : decode cX4_isTieWrong 26 = .ok (.ifCond .ne 5, 3) := dk_154 0 5 (dk_at dksX4_isTieWrong_1 2 rfl rfl)
theorem dX4_isTieWrong_29 : decode cX4_isTieWrong 29 = .ok (.iconst 0, 1) := dk_3 (dk_at dksX4_isTieWrong_1 5 rfl rfl)
theorem dX4_isTieWrong_30 : decode cX4_isTieWrong 30 = .ok (.ireturn, 1) := dk_172 (dk_at dksX4_isTieWrong_1 6 rfl rfl)
theorem dX4_isTieWrong_31 : decode cX4_isTieWrong 31 = .ok (.iload_n 2, 1) := dk_28 (dk_at dksX4_isTieWrong_1 7 rfl rfl)
theorem dX4_isTieWrong_32 : decode cX4_isTieWrong 32 = .ok (.iconst 1, 1) := dk_4 (dk_at dksX4_isTieWrong_1 8 rfl rfl)
theorem dX4_isTieWrong_33 : decode cX4_isTieWrong 33 = .ok (.iadd, 1) := dk_96 (dk_at dksX4_isTieWrong_1 9 rfl rfl)
theorem dX4_isTieWrong_34 : decode cX4_isTieWrong 34 = .ok (.istore 4, 2) := dk_54 4 (dk_at dksX4_isTieWrong_1 10 rfl rfl)
theorem dX4_isTieWrong_36 : decode cX4_isTieWrong 36 = .ok (.iload 4, 2) := dk_21 4 (dk_at dksX4_isTieWrong_1 12 rfl rfl)
theorem dX4_isTieWrong_38 : decode cX4_isTieWrong 38 = .ok (.aload_n 0, 1) := dk_42 (dk_at dksX4_isTieWrong_1 14 rfl rfl)
theorem dX4_isTieWrong_39 : decode cX4_isTieWrong 39 = .ok (.getfield 45, 3) := dk_180 0 45 (dk_at dksX4_isTieWrong_1 15 rfl rfl)
theorem dX4_isTieWrong_42 : decode cX4_isTieWrong 42 = .ok (.iload_n 1, 1) := dk_27 (dk_at dksX4_isTieWrong_1 18 rfl rfl)
theorem dX4_isTieWrong_43 : decode cX4_isTieWrong 43 = .ok (.iaload, 1) := dk_46 (dk_at dksX4_isTieWrong_1 19 rfl rfl)
theorem dX4_isTieWrong_44 : decode cX4_isTieWrong 44 = .ok (.if_icmp .ge 51, 3) := dk_162 0 51 (dk_at dksX4_isTieWrong_1 20 rfl rfl)
theorem dX4_isTieWrong_47 : decode cX4_isTieWrong 47 = .ok (.aload_n 0, 1) := dk_42 (dk_at dksX4_isTieWrong_1 23 rfl rfl)
theorem dX4_isTieWrong_48 : decode cX4_isTieWrong 48 = .ok (.getfield 24, 3) := dk_180 0 24 (dk_at dksX4_isTieWrong_2 0 rfl rfl)
theorem dX4_isTieWrong_51 : decode cX4_isTieWrong 51 = .ok (.aload_n 0, 1) := dk_42 (dk_at dksX4_isTieWrong_2 3 rfl rfl)
theorem dX4_isTieWrong_52 : decode cX4_isTieWrong 52 = .ok (.getfield 42, 3) := dk_180 0 42 (dk_at dksX4_isTieWrong_2 4 rfl rfl)
theorem dX4_isTieWrong_55 : decode cX4_isTieWrong 55 = .ok (.bipush 40, 2) := dk_16 40 (dk_at dksX4_isTieWrong_2 7 rfl rfl)
theorem dX4_isTieWrong_57 : decode cX4_isTieWrong 57 = .ok (.iload_n 1, 1) := dk_27 (dk_at dksX4_isTieWrong_2 9 rfl rfl)
theorem dX4_isTieWrong_58 : decode cX4_isTieWrong 58 = .ok (.imul, 1) := dk_104 (dk_at dksX4_isTieWrong_2 10 rfl rfl)
theorem dX4_isTieWrong_59 : decode cX4_isTieWrong 59 = .ok (.iload 4, 2) := dk_21 4 (dk_at dksX4_isTieWrong_2 11 rfl rfl)
theorem dX4_isTieWrong_61 : decode cX4_isTieWrong 61 = .ok (.iadd, 1) := dk_96 (dk_at dksX4_isTieWrong_2 13 rfl rfl)
theorem dX4_isTieWrong_62 : decode cX4_isTieWrong 62 = .ok (.iaload, 1) := dk_46 (dk_at dksX4_isTieWrong_2 14 rfl rfl)
theorem dX4_isTieWrong_63 : decode cX4_isTieWrong 63 = .ok (.iaload, 1) := dk_46 (dk_at dksX4_isTieWrong_2 15 rfl rfl)
theorem dX4_isTieWrong_64 : decode cX4_isTieWrong 64 = .ok (.iconst 2, 1) := dk_5 (dk_at dksX4_isTieWrong_2 16 rfl rfl)
theorem dX4_isTieWrong_65 : decode cX4_isTieWrong 65 = .ok (.if_icmp .eq 24, 3) := dk_159 0 24 (dk_at dksX4_isTieWrong_2 17 rfl rfl)
theorem dX4_isTieWrong_68 : decode cX4_isTieWrong 68 = .ok (.aload_n 0, 1) := dk_42 (dk_at dksX4_isTieWrong_2 20 rfl rfl)
theorem dX4_isTieWrong_69 : decode cX4_isTieWrong 69 = .ok (.getfield 24, 3) := dk_180 0 24 (dk_at dksX4_isTieWrong_2 21 rfl rfl)
theorem dX4_isTieWrong_72 : decode cX4_isTieWrong 72 = .ok (.aload_n 0, 1) := dk_42 (dk_at dksX4_isTieWrong_3 0 rfl rfl)
theorem dX4_isTieWrong_73 : decode cX4_isTieWrong 73 = .ok (.getfield 42, 3) := dk_180 0 42 (dk_at dksX4_isTieWrong_3 1 rfl rfl)
theorem dX4_isTieWrong_76 : decode cX4_isTieWrong 76 = .ok (.bipush 40, 2) := dk_16 40 (dk_at dksX4_isTieWrong_3 4 rfl rfl)
theorem dX4_isTieWrong_78 : decode cX4_isTieWrong 78 = .ok (.iload_n 1, 1) := dk_27 (dk_at dksX4_isTieWrong_3 6 rfl rfl)
theorem dX4_isTieWrong_79 : decode cX4_isTieWrong 79 = .ok (.imul, 1) := dk_104 (dk_at dksX4_isTieWrong_3 7 rfl rfl)
theorem dX4_isTieWrong_80 : decode cX4_isTieWrong 80 = .ok (.iload 4, 2) := dk_21 4 (dk_at dksX4_isTieWrong_3 8 rfl rfl)
theorem dX4_isTieWrong_82 : decode cX4_isTieWrong 82 = .ok (.iadd, 1) := dk_96 (dk_at dksX4_isTieWrong_3 10 rfl rfl)
theorem dX4_isTieWrong_83 : decode cX4_isTieWrong 83 = .ok (.iaload, 1) := dk_46 (dk_at dksX4_isTieWrong_3 11 rfl rfl)
theorem dX4_isTieWrong_84 : decode cX4_isTieWrong 84 = .ok (.iaload, 1) := dk_46 (dk_at dksX4_isTieWrong_3 12 rfl rfl)
theorem dX4_isTieWrong_85 : decode cX4_isTieWrong 85 = .ok (.iconst 4, 1) := dk_7 (dk_at dksX4_isTieWrong_3 13 rfl rfl)
theorem dX4_isTieWrong_86 : decode cX4_isTieWrong 86 = .ok (.if_icmp .ne 9, 3) := dk_160 0 9 (dk_at dksX4_isTieWrong_3 14 rfl rfl)
theorem dX4_isTieWrong_89 : decode cX4_isTieWrong 89 = .ok (.iinc 4 1, 3) := dk_132 4 1 (dk_at dksX4_isTieWrong_3 17 rfl rfl)
theorem dX4_isTieWrong_92 : decode cX4_isTieWrong 92 = .ok (.goto (-56), 3) := dk_167 255 200 (dk_at dksX4_isTieWrong_3 20 rfl rfl)
theorem dX4_isTieWrong_95 : decode cX4_isTieWrong 95 = .ok (.iload 4, 2) := dk_21 4 (dk_at dksX4_isTieWrong_4 0 rfl rfl)
theorem dX4_isTieWrong_97 : decode cX4_isTieWrong 97 = .ok (.aload_n 0, 1) := dk_42 (dk_at dksX4_isTieWrong_4 2 rfl rfl)
theorem dX4_isTieWrong_98 : decode cX4_isTieWrong 98 = .ok (.getfield 45, 3) := dk_180 0 45 (dk_at dksX4_isTieWrong_4 3 rfl rfl)
theorem dX4_isTieWrong_101 : decode cX4_isTieWrong 101 = .ok (.iload_n 1, 1) := dk_27 (dk_at dksX4_isTieWrong_4 6 rfl rfl)
theorem dX4_isTieWrong_102 : decode cX4_isTieWrong 102 = .ok (.iaload, 1) := dk_46 (dk_at dksX4_isTieWrong_4 7 rfl rfl)
theorem dX4_isTieWrong_103 : decode cX4_isTieWrong 103 = .ok (.if_icmp .ne 5, 3) := dk_160 0 5 (dk_at dksX4_isTieWrong_4 8 rfl rfl)
theorem dX4_isTieWrong_106 : decode cX4_isTieWrong 106 = .ok (.iconst 1, 1) := dk_4 (dk_at dksX4_isTieWrong_4 11 rfl rfl)
theorem dX4_isTieWrong_107 : decode cX4_isTieWrong 107 = .ok (.ireturn, 1) := dk_172 (dk_at dksX4_isTieWrong_4 12 rfl rfl)
theorem dX4_isTieWrong_108 : decode cX4_isTieWrong 108 = .ok (.aload_n 0, 1) := dk_42 (dk_at dksX4_isTieWrong_4 13 rfl rfl)
theorem dX4_isTieWrong_109 : decode cX4_isTieWrong 109 = .ok (.getfield 42, 3) := dk_180 0 42 (dk_at dksX4_isTieWrong_4 14 rfl rfl)
theorem dX4_isTieWrong_112 : decode cX4_isTieWrong 112 = .ok (.bipush 40, 2) := dk_16 40 (dk_at dksX4_isTieWrong_4 17 rfl rfl)
theorem dX4_isTieWrong_114 : decode cX4_isTieWrong 114 = .ok (.iload_n 1, 1) := dk_27 (dk_at dksX4_isTieWrong_4 19 rfl rfl)
theorem dX4_isTieWrong_115 : decode cX4_isTieWrong 115 = .ok (.imul, 1) := dk_104 (dk_at dksX4_isTieWrong_4 20 rfl rfl)
theorem dX4_isTieWrong_116 : decode cX4_isTieWrong 116 = .ok (.iload 4, 2) := dk_21 4 (dk_at dksX4_isTieWrong_4 21 rfl rfl)
theorem dX4_isTieWrong_118 : decode cX4_isTieWrong 118 = .ok (.iadd, 1) := dk_96 (dk_at dksX4_isTieWrong_4 23 rfl rfl)
theorem dX4_isTieWrong_119 : decode cX4_isTieWrong 119 = .ok (.iaload, 1) := dk_46 (dk_at dksX4_isTieWrong_5 0 rfl rfl)
theorem dX4_isTieWrong_120 : decode cX4_isTieWrong 120 = .ok (.istore 5, 2) := dk_54 5 (dk_at dksX4_isTieWrong_5 1 rfl rfl)
theorem dX4_isTieWrong_122 : decode cX4_isTieWrong 122 = .ok (.aload_n 0, 1) := dk_42 (dk_at dksX4_isTieWrong_5 3 rfl rfl)
theorem dX4_isTieWrong_123 : decode cX4_isTieWrong 123 = .ok (.iload 5, 2) := dk_21 5 (dk_at dksX4_isTieWrong_5 4 rfl rfl)
theorem dX4_isTieWrong_125 : decode cX4_isTieWrong 125 = .ok (.invokevirtual 214, 3) := dk_182 0 214 (dk_at dksX4_isTieWrong_5 6 rfl rfl)
theorem dX4_isTieWrong_128 : decode cX4_isTieWrong 128 = .ok (.istore 6, 2) := dk_54 6 (dk_at dksX4_isTieWrong_5 9 rfl rfl)
theorem dX4_isTieWrong_130 : decode cX4_isTieWrong 130 = .ok (.iconst 0, 1) := dk_3 (dk_at dksX4_isTieWrong_5 11 rfl rfl)
theorem dX4_isTieWrong_131 : decode cX4_isTieWrong 131 = .ok (.istore 7, 2) := dk_54 7 (dk_at dksX4_isTieWrong_5 12 rfl rfl)
theorem dX4_isTieWrong_133 : decode cX4_isTieWrong 133 = .ok (.iload 7, 2) := dk_21 7 (dk_at dksX4_isTieWrong_5 14 rfl rfl)
theorem dX4_isTieWrong_135 : decode cX4_isTieWrong 135 = .ok (.aload_n 0, 1) := dk_42 (dk_at dksX4_isTieWrong_5 16 rfl rfl)
theorem dX4_isTieWrong_136 : decode cX4_isTieWrong 136 = .ok (.getfield 27, 3) := dk_180 0 27 (dk_at dksX4_isTieWrong_5 17 rfl rfl)
theorem dX4_isTieWrong_139 : decode cX4_isTieWrong 139 = .ok (.iload_n 3, 1) := dk_29 (dk_at dksX4_isTieWrong_5 20 rfl rfl)
theorem dX4_isTieWrong_140 : decode cX4_isTieWrong 140 = .ok (.iaload, 1) := dk_46 (dk_at dksX4_isTieWrong_5 21 rfl rfl)
theorem dX4_isTieWrong_141 : decode cX4_isTieWrong 141 = .ok (.if_icmp .ge 32, 3) := dk_162 0 32 (dk_at dksX4_isTieWrong_6 0 rfl rfl)
theorem dX4_isTieWrong_144 : decode cX4_isTieWrong 144 = .ok (.iload 6, 2) := dk_21 6 (dk_at dksX4_isTieWrong_6 3 rfl rfl)
theorem dX4_isTieWrong_146 : decode cX4_isTieWrong 146 = .ok (.aload_n 0, 1) := dk_42 (dk_at dksX4_isTieWrong_6 5 rfl rfl)
theorem dX4_isTieWrong_147 : decode cX4_isTieWrong 147 = .ok (.iload 5, 2) := dk_21 5 (dk_at dksX4_isTieWrong_6 6 rfl rfl)
theorem dX4_isTieWrong_149 : decode cX4_isTieWrong 149 = .ok (.aload_n 0, 1) := dk_42 (dk_at dksX4_isTieWrong_6 8 rfl rfl)
theorem dX4_isTieWrong_150 : decode cX4_isTieWrong 150 = .ok (.getfield 30, 3) := dk_180 0 30 (dk_at dksX4_isTieWrong_6 9 rfl rfl)
theorem dX4_isTieWrong_153 : decode cX4_isTieWrong 153 = .ok (.bipush 6, 2) := dk_16 6 (dk_at dksX4_isTieWrong_6 12 rfl rfl)
theorem dX4_isTieWrong_155 : decode cX4_isTieWrong 155 = .ok (.iload_n 3, 1) := dk_29 (dk_at dksX4_isTieWrong_6 14 rfl rfl)
theorem dX4_isTieWrong_156 : decode cX4_isTieWrong 156 = .ok (.imul, 1) := dk_104 (dk_at dksX4_isTieWrong_6 15 rfl rfl)
theorem dX4_isTieWrong_157 : decode cX4_isTieWrong 157 = .ok (.iload 7, 2) := dk_21 7 (dk_at dksX4_isTieWrong_6 16 rfl rfl)
theorem dX4_isTieWrong_159 : decode cX4_isTieWrong 159 = .ok (.iadd, 1) := dk_96 (dk_at dksX4_isTieWrong_6 18 rfl rfl)
theorem dX4_isTieWrong_160 : decode cX4_isTieWrong 160 = .ok (.iaload, 1) := dk_46 (dk_at dksX4_isTieWrong_6 19 rfl rfl)
theorem dX4_isTieWrong_161 : decode cX4_isTieWrong 161 = .ok (.invokevirtual 292, 3) := dk_182 1 36 (dk_at dksX4_isTieWrong_6 20 rfl rfl)
theorem dX4_isTieWrong_164 : decode cX4_isTieWrong 164 = .ok (.iand, 1) := dk_126 (dk_at dksX4_isTieWrong_6 23 rfl rfl)
theorem dX4_isTieWrong_165 : decode cX4_isTieWrong 165 = .ok (.istore 6, 2) := dk_54 6 (dk_at dksX4_isTieWrong_7 0 rfl rfl)
theorem dX4_isTieWrong_167 : decode cX4_isTieWrong 167 = .ok (.iinc 7 1, 3) := dk_132 7 1 (dk_at dksX4_isTieWrong_7 2 rfl rfl)
theorem dX4_isTieWrong_170 : decode cX4_isTieWrong 170 = .ok (.goto (-37), 3) := dk_167 255 219 (dk_at dksX4_isTieWrong_7 5 rfl rfl)
theorem dX4_isTieWrong_173 : decode cX4_isTieWrong 173 = .ok (.iload 6, 2) := dk_21 6 (dk_at dksX4_isTieWrong_7 8 rfl rfl)
theorem dX4_isTieWrong_175 : decode cX4_isTieWrong 175 = .ok (.ifCond .ne 7, 3) := dk_154 0 7 (dk_at dksX4_isTieWrong_7 10 rfl rfl)
theorem dX4_isTieWrong_178 : decode cX4_isTieWrong 178 = .ok (.iconst 1, 1) := dk_4 (dk_at dksX4_isTieWrong_7 13 rfl rfl)
theorem dX4_isTieWrong_179 : decode cX4_isTieWrong 179 = .ok (.goto 4, 3) := dk_167 0 4 (dk_at dksX4_isTieWrong_7 14 rfl rfl)
theorem dX4_isTieWrong_182 : decode cX4_isTieWrong 182 = .ok (.iconst 0, 1) := dk_3 (dk_at dksX4_isTieWrong_7 17 rfl rfl)
theorem dX4_isTieWrong_183 : decode cX4_isTieWrong 183 = .ok (.ireturn, 1) := dk_172 (dk_at dksX4_isTieWrong_7 18 rfl rfl)
abbrev cX4_hasPitch : ByteArray := prog_21_method_57_code
def yX4_hasPitch : MethodName := ⟨RX4, "hasPitch", "(II)Z"⟩
def dkwX4_hasPitch_1 : List UInt8 := [104, 21, 4, 96, 46, 28, 160, 0, 7, 4, 167, 0, 4, 3, 128, 62, 132, 4, 1, 167, 255, 218, 29, 172]
abbrev dktX4_hasPitch_1 : List UInt8 := dkwX4_hasPitch_1 ++ []
def dkwX4_hasPitch_0 : List UInt8 := [3, 62, 3, 54, 4, 21, 4, 42, 180, 0, 27, 27, 46, 162, 0, 33, 29, 42, 180, 0, 30, 16, 6, 27]
abbrev dktX4_hasPitch_0 : List UInt8 := dkwX4_hasPitch_0 ++ dktX4_hasPitch_1
theorem dksX4_hasPitch_0 : cX4_hasPitch.data.toList.drop 0 = dktX4_hasPitch_0 := by decide +kernel
theorem dksX4_hasPitch_1 : cX4_hasPitch.data.toList.drop 24 = dktX4_hasPitch_1 := dk_seg dksX4_hasPitch_0 24 rfl rfl
theorem dX4_hasPitch_0 : decode cX4_hasPitch 0 = .ok (.iconst 0, 1) := dk_3 (dk_at dksX4_hasPitch_0 0 rfl rfl)
theorem dX4_hasPitch_1 : decode cX4_hasPitch 1 = .ok (.istore_n 3, 1) := dk_62 (dk_at dksX4_hasPitch_0 1 rfl rfl)
theorem dX4_hasPitch_2 : decode cX4_hasPitch 2 = .ok (.iconst 0, 1) := dk_3 (dk_at dksX4_hasPitch_0 2 rfl rfl)
theorem dX4_hasPitch_3 : decode cX4_hasPitch 3 = .ok (.istore 4, 2) := dk_54 4 (dk_at dksX4_hasPitch_0 3 rfl rfl)
theorem dX4_hasPitch_5 : decode cX4_hasPitch 5 = .ok (.iload 4, 2) := dk_21 4 (dk_at dksX4_hasPitch_0 5 rfl rfl)
theorem dX4_hasPitch_7 : decode cX4_hasPitch 7 = .ok (.aload_n 0, 1) := dk_42 (dk_at dksX4_hasPitch_0 7 rfl rfl)
theorem dX4_hasPitch_8 : decode cX4_hasPitch 8 = .ok (.getfield 27, 3) := dk_180 0 27 (dk_at dksX4_hasPitch_0 8 rfl rfl)
theorem dX4_hasPitch_11 : decode cX4_hasPitch 11 = .ok (.iload_n 1, 1) := dk_27 (dk_at dksX4_hasPitch_0 11 rfl rfl)
theorem dX4_hasPitch_12 : decode cX4_hasPitch 12 = .ok (.iaload, 1) := dk_46 (dk_at dksX4_hasPitch_0 12 rfl rfl)
theorem dX4_hasPitch_13 : decode cX4_hasPitch 13 = .ok (.if_icmp .ge 33, 3) := dk_162 0 33 (dk_at dksX4_hasPitch_0 13 rfl rfl)
theorem dX4_hasPitch_16 : decode cX4_hasPitch 16 = .ok (.iload_n 3, 1) := dk_29 (dk_at dksX4_hasPitch_0 16 rfl rfl)
theorem dX4_hasPitch_17 : decode cX4_hasPitch 17 = .ok (.aload_n 0, 1) := dk_42 (dk_at dksX4_hasPitch_0 17 rfl rfl)
theorem dX4_hasPitch_18 : decode cX4_hasPitch 18 = .ok (.getfield 30, 3) := dk_180 0 30 (dk_at dksX4_hasPitch_0 18 rfl rfl)
theorem dX4_hasPitch_21 : decode cX4_hasPitch 21 = .ok (.bipush 6, 2) := dk_16 6 (dk_at dksX4_hasPitch_0 21 rfl rfl)
theorem dX4_hasPitch_23 : decode cX4_hasPitch 23 = .ok (.iload_n 1, 1) := dk_27 (dk_at dksX4_hasPitch_0 23 rfl rfl)
theorem dX4_hasPitch_24 : decode cX4_hasPitch 24 = .ok (.imul, 1) := dk_104 (dk_at dksX4_hasPitch_1 0 rfl rfl)
theorem dX4_hasPitch_25 : decode cX4_hasPitch 25 = .ok (.iload 4, 2) := dk_21 4 (dk_at dksX4_hasPitch_1 1 rfl rfl)
theorem dX4_hasPitch_27 : decode cX4_hasPitch 27 = .ok (.iadd, 1) := dk_96 (dk_at dksX4_hasPitch_1 3 rfl rfl)
theorem dX4_hasPitch_28 : decode cX4_hasPitch 28 = .ok (.iaload, 1) := dk_46 (dk_at dksX4_hasPitch_1 4 rfl rfl)
theorem dX4_hasPitch_29 : decode cX4_hasPitch 29 = .ok (.iload_n 2, 1) := dk_28 (dk_at dksX4_hasPitch_1 5 rfl rfl)
theorem dX4_hasPitch_30 : decode cX4_hasPitch 30 = .ok (.if_icmp .ne 7, 3) := dk_160 0 7 (dk_at dksX4_hasPitch_1 6 rfl rfl)
theorem dX4_hasPitch_33 : decode cX4_hasPitch 33 = .ok (.iconst 1, 1) := dk_4 (dk_at dksX4_hasPitch_1 9 rfl rfl)
theorem dX4_hasPitch_34 : decode cX4_hasPitch 34 = .ok (.goto 4, 3) := dk_167 0 4 (dk_at dksX4_hasPitch_1 10 rfl rfl)
theorem dX4_hasPitch_37 : decode cX4_hasPitch 37 = .ok (.iconst 0, 1) := dk_3 (dk_at dksX4_hasPitch_1 13 rfl rfl)
theorem dX4_hasPitch_38 : decode cX4_hasPitch 38 = .ok (.ior, 1) := dk_128 (dk_at dksX4_hasPitch_1 14 rfl rfl)
theorem dX4_hasPitch_39 : decode cX4_hasPitch 39 = .ok (.istore_n 3, 1) := dk_62 (dk_at dksX4_hasPitch_1 15 rfl rfl)
theorem dX4_hasPitch_40 : decode cX4_hasPitch 40 = .ok (.iinc 4 1, 3) := dk_132 4 1 (dk_at dksX4_hasPitch_1 16 rfl rfl)
theorem dX4_hasPitch_43 : decode cX4_hasPitch 43 = .ok (.goto (-38), 3) := dk_167 255 218 (dk_at dksX4_hasPitch_1 19 rfl rfl)
theorem dX4_hasPitch_46 : decode cX4_hasPitch 46 = .ok (.iload_n 3, 1) := dk_29 (dk_at dksX4_hasPitch_1 22 rfl rfl)
theorem dX4_hasPitch_47 : decode cX4_hasPitch 47 = .ok (.ireturn, 1) := dk_172 (dk_at dksX4_hasPitch_1 23 rfl rfl)
abbrev cX4_isOut : ByteArray := prog_21_method_59_code
def yX4_isOut : MethodName := ⟨RX4, "isOut", "(I)Z"⟩
def dkwX4_isOut_3 : List UInt8 := [172]
abbrev dktX4_isOut_3 : List UInt8 := dkwX4_isOut_3 ++ []
def dkwX4_isOut_2 : List UInt8 := [182, 0, 178, 161, 0, 12, 21, 4, 28, 184, 0, 181, 164, 0, 5, 4, 172, 132, 3, 1, 167, 255, 206, 3]
abbrev dktX4_isOut_2 : List UInt8 := dkwX4_isOut_2 ++ dktX4_isOut_3
def dkwX4_isOut_1 : List UInt8 := [29, 42, 180, 0, 27, 27, 46, 162, 0, 38, 42, 27, 29, 182, 0, 220, 54, 4, 21, 4, 42, 28]
abbrev dktX4_isOut_1 : List UInt8 := dkwX4_isOut_1 ++ dktX4_isOut_2
def dkwX4_isOut_0 : List UInt8 := [42, 180, 0, 7, 42, 180, 0, 21, 27, 46, 6, 108, 46, 61, 3, 62, 42, 27, 182, 0, 214, 153, 0, 48]
abbrev dktX4_isOut_0 : List UInt8 := dkwX4_isOut_0 ++ dktX4_isOut_1
theorem dksX4_isOut_0 : cX4_isOut.data.toList.drop 0 = dktX4_isOut_0 := by decide +kernel
theorem dksX4_isOut_1 : cX4_isOut.data.toList.drop 24 = dktX4_isOut_1 := dk_seg dksX4_isOut_0 24 rfl rfl
theorem dksX4_isOut_2 : cX4_isOut.data.toList.drop 46 = dktX4_isOut_2 := dk_seg dksX4_isOut_1 22 rfl rfl
theorem dksX4_isOut_3 : cX4_isOut.data.toList.drop 70 = dktX4_isOut_3 := dk_seg dksX4_isOut_2 24 rfl rfl
theorem dX4_isOut_0 : decode cX4_isOut 0 = .ok (.aload_n 0, 1) := dk_42 (dk_at dksX4_isOut_0 0 rfl rfl)
theorem dX4_isOut_1 : decode cX4_isOut 1 = .ok (.getfield 7, 3) := dk_180 0 7 (dk_at dksX4_isOut_0 1 rfl rfl)
theorem dX4_isOut_4 : decode cX4_isOut 4 = .ok (.aload_n 0, 1) := dk_42 (dk_at dksX4_isOut_0 4 rfl rfl)
theorem dX4_isOut_5 : decode cX4_isOut 5 = .ok (.getfield 21, 3) := dk_180 0 21 (dk_at dksX4_isOut_0 5 rfl rfl)
theorem dX4_isOut_8 : decode cX4_isOut 8 = .ok (.iload_n 1, 1) := dk_27 (dk_at dksX4_isOut_0 8 rfl rfl)
theorem dX4_isOut_9 : decode cX4_isOut 9 = .ok (.iaload, 1) := dk_46 (dk_at dksX4_isOut_0 9 rfl rfl)
theorem dX4_isOut_10 : decode cX4_isOut 10 = .ok (.iconst 3, 1) := dk_6 (dk_at dksX4_isOut_0 10 rfl rfl)
theorem dX4_isOut_11 : decode cX4_isOut 11 = .ok (.idiv, 1) := dk_108 (dk_at dksX4_isOut_0 11 rfl rfl)
theorem dX4_isOut_12 : decode cX4_isOut 12 = .ok (.iaload, 1) := dk_46 (dk_at dksX4_isOut_0 12 rfl rfl)
theorem dX4_isOut_13 : decode cX4_isOut 13 = .ok (.istore_n 2, 1) := dk_61 (dk_at dksX4_isOut_0 13 rfl rfl)
theorem dX4_isOut_14 : decode cX4_isOut 14 = .ok (.iconst 0, 1) := dk_3 (dk_at dksX4_isOut_0 14 rfl rfl)
theorem dX4_isOut_15 : decode cX4_isOut 15 = .ok (.istore_n 3, 1) := dk_62 (dk_at dksX4_isOut_0 15 rfl rfl)
theorem dX4_isOut_16 : decode cX4_isOut 16 = .ok (.aload_n 0, 1) := dk_42 (dk_at dksX4_isOut_0 16 rfl rfl)
theorem dX4_isOut_17 : decode cX4_isOut 17 = .ok (.iload_n 1, 1) := dk_27 (dk_at dksX4_isOut_0 17 rfl rfl)
theorem dX4_isOut_18 : decode cX4_isOut 18 = .ok (.invokevirtual 214, 3) := dk_182 0 214 (dk_at dksX4_isOut_0 18 rfl rfl)
theorem dX4_isOut_21 : decode cX4_isOut 21 = .ok (.ifCond .eq 48, 3) := dk_153 0 48 (dk_at dksX4_isOut_0 21 rfl rfl)
theorem dX4_isOut_24 : decode cX4_isOut 24 = .ok (.iload_n 3, 1) := dk_29 (dk_at dksX4_isOut_1 0 rfl rfl)
theorem dX4_isOut_25 : decode cX4_isOut 25 = .ok (.aload_n 0, 1) := dk_42 (dk_at dksX4_isOut_1 1 rfl rfl)
theorem dX4_isOut_26 : decode cX4_isOut 26 = .ok (.getfield 27, 3) := dk_180 0 27 (dk_at dksX4_isOut_1 2 rfl rfl)
theorem dX4_isOut_29 : decode cX4_isOut 29 = .ok (.iload_n 1, 1) := dk_27 (dk_at dksX4_isOut_1 5 rfl rfl)
theorem dX4_isOut_30 : decode cX4_isOut 30 = .ok (.iaload, 1) := dk_46 (dk_at dksX4_isOut_1 6 rfl rfl)
theorem dX4_isOut_31 : decode cX4_isOut 31 = .ok (.if_icmp .ge 38, 3) := dk_162 0 38 (dk_at dksX4_isOut_1 7 rfl rfl)
theorem dX4_isOut_34 : decode cX4_isOut 34 = .ok (.aload_n 0, 1) := dk_42 (dk_at dksX4_isOut_1 10 rfl rfl)
theorem dX4_isOut_35 : decode cX4_isOut 35 = .ok (.iload_n 1, 1) := dk_27 (dk_at dksX4_isOut_1 11 rfl rfl)
theorem dX4_isOut_36 : decode cX4_isOut 36 = .ok (.iload_n 3, 1) := dk_29 (dk_at dksX4_isOut_1 12 rfl rfl)
theorem dX4_isOut_37 : decode cX4_isOut 37 = .ok (.invokevirtual 220, 3) := dk_182 0 220 (dk_at dksX4_isOut_1 13 rfl rfl)
theorem dX4_isOut_40 : decode cX4_isOut 40 = .ok (.istore 4, 2) := dk_54 4 (dk_at dksX4_isOut_1 16 rfl rfl)
theorem dX4_isOut_42 : decode cX4_isOut 42 = .ok (.iload 4, 2) := dk_21 4 (dk_at dksX4_isOut_1 18 rfl rfl)
theorem dX4_isOut_44 : decode cX4_isOut 44 = .ok (.aload_n 0, 1) := dk_42 (dk_at dksX4_isOut_1 20 rfl rfl)
theorem dX4_isOut_45 : decode cX4_isOut 45 = .ok (.iload_n 2, 1) := dk_28 (dk_at dksX4_isOut_1 21 rfl rfl)
theorem dX4_isOut_46 : decode cX4_isOut 46 = .ok (.invokevirtual 178, 3) := dk_182 0 178 (dk_at dksX4_isOut_2 0 rfl rfl)
theorem dX4_isOut_49 : decode cX4_isOut 49 = .ok (.if_icmp .lt 12, 3) := dk_161 0 12 (dk_at dksX4_isOut_2 3 rfl rfl)
theorem dX4_isOut_52 : decode cX4_isOut 52 = .ok (.iload 4, 2) := dk_21 4 (dk_at dksX4_isOut_2 6 rfl rfl)
theorem dX4_isOut_54 : decode cX4_isOut 54 = .ok (.iload_n 2, 1) := dk_28 (dk_at dksX4_isOut_2 8 rfl rfl)
theorem dX4_isOut_55 : decode cX4_isOut 55 = .ok (.invokestatic 181, 3) := dk_184 0 181 (dk_at dksX4_isOut_2 9 rfl rfl)
theorem dX4_isOut_58 : decode cX4_isOut 58 = .ok (.if_icmp .le 5, 3) := dk_164 0 5 (dk_at dksX4_isOut_2 12 rfl rfl)
theorem dX4_isOut_61 : decode cX4_isOut 61 = .ok (.iconst 1, 1) := dk_4 (dk_at dksX4_isOut_2 15 rfl rfl)
theorem dX4_isOut_62 : decode cX4_isOut 62 = .ok (.ireturn, 1) := dk_172 (dk_at dksX4_isOut_2 16 rfl rfl)
theorem dX4_isOut_63 : decode cX4_isOut 63 = .ok (.iinc 3 1, 3) := dk_132 3 1 (dk_at dksX4_isOut_2 17 rfl rfl)
theorem dX4_isOut_66 : decode cX4_isOut 66 = .ok (.goto (-50), 3) := dk_167 255 206 (dk_at dksX4_isOut_2 20 rfl rfl)
theorem dX4_isOut_69 : decode cX4_isOut 69 = .ok (.iconst 0, 1) := dk_3 (dk_at dksX4_isOut_2 23 rfl rfl)
theorem dX4_isOut_70 : decode cX4_isOut 70 = .ok (.ireturn, 1) := dk_172 (dk_at dksX4_isOut_3 0 rfl rfl)
abbrev cX4_isSumWrong : ByteArray := prog_21_method_61_code
def yX4_isSumWrong : MethodName := ⟨RX4, "isSumWrong", "(I)Z"⟩
def dkwX4_isSumWrong_7 : List UInt8 := [167, 0, 4, 3, 172]
abbrev dktX4_isSumWrong_7 : List UInt8 := dkwX4_isSumWrong_7 ++ []
def dkwX4_isSumWrong_6 : List UInt8 := [32, 20, 0, 154, 42, 180, 0, 66, 27, 46, 123, 42, 180, 0, 60, 27, 46, 133, 105, 148, 153, 0, 7, 4]
abbrev dktX4_isSumWrong_6 : List UInt8 := dkwX4_isSumWrong_6 ++ dktX4_isSumWrong_7
def dkwX4_isSumWrong_5 : List UInt8 := [167, 0, 5, 22, 8, 55, 8, 132, 10, 1, 167, 255, 196, 32, 22, 8, 97, 65, 132, 6, 1, 167, 255, 152]
abbrev dktX4_isSumWrong_5 : List UInt8 := dkwX4_isSumWrong_5 ++ dktX4_isSumWrong_6
def dkwX4_isSumWrong_4 : List UInt8 := [153, 0, 26, 22, 8, 42, 180, 0, 60, 21, 10, 46, 133, 109, 42, 180, 0, 63, 21, 10, 46, 133, 105]
abbrev dktX4_isSumWrong_4 : List UInt8 := dkwX4_isSumWrong_4 ++ dktX4_isSumWrong_5
def dkwX4_isSumWrong_3 : List UInt8 := [180, 0, 199, 162, 0, 57, 42, 21, 10, 27, 182, 1, 24, 153, 0, 37, 42, 21, 7, 21, 10, 182, 0, 239]
abbrev dktX4_isSumWrong_3 : List UInt8 := dkwX4_isSumWrong_3 ++ dktX4_isSumWrong_4
def dkwX4_isSumWrong_2 : List UInt8 := [21, 4, 104, 21, 6, 96, 46, 54, 7, 42, 21, 7, 182, 0, 235, 55, 8, 3, 54, 10, 21, 10, 42]
abbrev dktX4_isSumWrong_2 : List UInt8 := dkwX4_isSumWrong_2 ++ dktX4_isSumWrong_3
def dkwX4_isSumWrong_1 : List UInt8 := [180, 0, 54, 27, 46, 182, 0, 196, 54, 6, 21, 6, 21, 5, 163, 0, 103, 42, 180, 0, 42, 16, 40]
abbrev dktX4_isSumWrong_1 : List UInt8 := dkwX4_isSumWrong_1 ++ dktX4_isSumWrong_2
def dkwX4_isSumWrong_0 : List UInt8 := [9, 65, 42, 180, 0, 51, 27, 46, 54, 4, 42, 42, 180, 0, 57, 27, 46, 182, 0, 196, 54, 5, 42, 42]
abbrev dktX4_isSumWrong_0 : List UInt8 := dkwX4_isSumWrong_0 ++ dktX4_isSumWrong_1
theorem dksX4_isSumWrong_0 : cX4_isSumWrong.data.toList.drop 0 = dktX4_isSumWrong_0 := by decide +kernel
theorem dksX4_isSumWrong_1 : cX4_isSumWrong.data.toList.drop 24 = dktX4_isSumWrong_1 := dk_seg dksX4_isSumWrong_0 24 rfl rfl
theorem dksX4_isSumWrong_2 : cX4_isSumWrong.data.toList.drop 47 = dktX4_isSumWrong_2 := dk_seg dksX4_isSumWrong_1 23 rfl rfl
theorem dksX4_isSumWrong_3 : cX4_isSumWrong.data.toList.drop 70 = dktX4_isSumWrong_3 := dk_seg dksX4_isSumWrong_2 23 rfl rfl
theorem dksX4_isSumWrong_4 : cX4_isSumWrong.data.toList.drop 94 = dktX4_isSumWrong_4 := dk_seg dksX4_isSumWrong_3 24 rfl rfl
theorem dksX4_isSumWrong_5 : cX4_isSumWrong.data.toList.drop 117 = dktX4_isSumWrong_5 := dk_seg dksX4_isSumWrong_4 23 rfl rfl
theorem dksX4_isSumWrong_6 : cX4_isSumWrong.data.toList.drop 141 = dktX4_isSumWrong_6 := dk_seg dksX4_isSumWrong_5 24 rfl rfl
theorem dksX4_isSumWrong_7 : cX4_isSumWrong.data.toList.drop 165 = dktX4_isSumWrong_7 := dk_seg dksX4_isSumWrong_6 24 rfl rfl
theorem dX4_isSumWrong_0 : decode cX4_isSumWrong 0 = .ok (.lconst 0, 1) := dk_9 (dk_at dksX4_isSumWrong_0 0 rfl rfl)
theorem dX4_isSumWrong_1 : decode cX4_isSumWrong 1 = .ok (.lstore_n 2, 1) := dk_65 (dk_at dksX4_isSumWrong_0 1 rfl rfl)
theorem dX4_isSumWrong_2 : decode cX4_isSumWrong 2 = .ok (.aload_n 0, 1) := dk_42 (dk_at dksX4_isSumWrong_0 2 rfl rfl)
theorem dX4_isSumWrong_3 : decode cX4_isSumWrong 3 = .ok (.getfield 51, 3) := dk_180 0 51 (dk_at dksX4_isSumWrong_0 3 rfl rfl)
theorem dX4_isSumWrong_6 : decode cX4_isSumWrong 6 = .ok (.iload_n 1, 1) := dk_27 (dk_at dksX4_isSumWrong_0 6 rfl rfl)
theorem dX4_isSumWrong_7 : decode cX4_isSumWrong 7 = .ok (.iaload, 1) := dk_46 (dk_at dksX4_isSumWrong_0 7 rfl rfl)
theorem dX4_isSumWrong_8 : decode cX4_isSumWrong 8 = .ok (.istore 4, 2) := dk_54 4 (dk_at dksX4_isSumWrong_0 8 rfl rfl)
theorem dX4_isSumWrong_10 : decode cX4_isSumWrong 10 = .ok (.aload_n 0, 1) := dk_42 (dk_at dksX4_isSumWrong_0 10 rfl rfl)
theorem dX4_isSumWrong_11 : decode cX4_isSumWrong 11 = .ok (.aload_n 0, 1) := dk_42 (dk_at dksX4_isSumWrong_0 11 rfl rfl)
theorem dX4_isSumWrong_12 : decode cX4_isSumWrong 12 = .ok (.getfield 57, 3) := dk_180 0 57 (dk_at dksX4_isSumWrong_0 12 rfl rfl)
theorem dX4_isSumWrong_15 : decode cX4_isSumWrong 15 = .ok (.iload_n 1, 1) := dk_27 (dk_at dksX4_isSumWrong_0 15 rfl rfl)
theorem dX4_isSumWrong_16 : decode cX4_isSumWrong 16 = .ok (.iaload, 1) := dk_46 (dk_at dksX4_isSumWrong_0 16 rfl rfl)
theorem dX4_isSumWrong_17 : decode cX4_isSumWrong 17 = .ok (.invokevirtual 196, 3) := dk_182 0 196 (dk_at dksX4_isSumWrong_0 17 rfl rfl)
theorem dX4_isSumWrong_20 : decode cX4_isSumWrong 20 = .ok (.istore 5, 2) := dk_54 5 (dk_at dksX4_isSumWrong_0 20 rfl rfl)
theorem dX4_isSumWrong_22 : decode cX4_isSumWrong 22 = .ok (.aload_n 0, 1) := dk_42 (dk_at dksX4_isSumWrong_0 22 rfl rfl)
theorem dX4_isSumWrong_23 : decode cX4_isSumWrong 23 = .ok (.aload_n 0, 1) := dk_42 (dk_at dksX4_isSumWrong_0 23 rfl rfl)
theorem dX4_isSumWrong_24 : decode cX4_isSumWrong 24 = .ok (.getfield 54, 3) := dk_180 0 54 (dk_at dksX4_isSumWrong_1 0 rfl rfl)
theorem dX4_isSumWrong_27 : decode cX4_isSumWrong 27 = .ok (.iload_n 1, 1) := dk_27 (dk_at dksX4_isSumWrong_1 3 rfl rfl)
theorem dX4_isSumWrong_28 : decode cX4_isSumWrong 28 = .ok (.iaload, 1) := dk_46 (dk_at dksX4_isSumWrong_1 4 rfl rfl)
theorem dX4_isSumWrong_29 : decode cX4_isSumWrong 29 = .ok (.invokevirtual 196, 3) := dk_182 0 196 (dk_at dksX4_isSumWrong_1 5 rfl rfl)
theorem dX4_isSumWrong_32 : decode cX4_isSumWrong 32 = .ok (.istore 6, 2) := dk_54 6 (dk_at dksX4_isSumWrong_1 8 rfl rfl)
theorem dX4_isSumWrong_34 : decode cX4_isSumWrong 34 = .ok (.iload 6, 2) := dk_21 6 (dk_at dksX4_isSumWrong_1 10 rfl rfl)
theorem dX4_isSumWrong_36 : decode cX4_isSumWrong 36 = .ok (.iload 5, 2) := dk_21 5 (dk_at dksX4_isSumWrong_1 12 rfl rfl)
theorem dX4_isSumWrong_38 : decode cX4_isSumWrong 38 = .ok (.if_icmp .gt 103, 3) := dk_163 0 103 (dk_at dksX4_isSumWrong_1 14 rfl rfl)
theorem dX4_isSumWrong_41 : decode cX4_isSumWrong 41 = .ok (.aload_n 0, 1) := dk_42 (dk_at dksX4_isSumWrong_1 17 rfl rfl)
theorem dX4_isSumWrong_42 : decode cX4_isSumWrong 42 = .ok (.getfield 42, 3) := dk_180 0 42 (dk_at dksX4_isSumWrong_1 18 rfl rfl)
theorem dX4_isSumWrong_45 : decode cX4_isSumWrong 45 = .ok (.bipush 40, 2) := dk_16 40 (dk_at dksX4_isSumWrong_1 21 rfl rfl)
theorem dX4_isSumWrong_47 : decode cX4_isSumWrong 47 = .ok (.iload 4, 2) := dk_21 4 (dk_at dksX4_isSumWrong_2 0 rfl rfl)
theorem dX4_isSumWrong_49 : decode cX4_isSumWrong 49 = .ok (.imul, 1) := dk_104 (dk_at dksX4_isSumWrong_2 2 rfl rfl)
theorem dX4_isSumWrong_50 : decode cX4_isSumWrong 50 = .ok (.iload 6, 2) := dk_21 6 (dk_at dksX4_isSumWrong_2 3 rfl rfl)
theorem dX4_isSumWrong_52 : decode cX4_isSumWrong 52 = .ok (.iadd, 1) := dk_96 (dk_at dksX4_isSumWrong_2 5 rfl rfl)
theorem dX4_isSumWrong_53 : decode cX4_isSumWrong 53 = .ok (.iaload, 1) := dk_46 (dk_at dksX4_isSumWrong_2 6 rfl rfl)
theorem dX4_isSumWrong_54 : decode cX4_isSumWrong 54 = .ok (.istore 7, 2) := dk_54 7 (dk_at dksX4_isSumWrong_2 7 rfl rfl)
theorem dX4_isSumWrong_56 : decode cX4_isSumWrong 56 = .ok (.aload_n 0, 1) := dk_42 (dk_at dksX4_isSumWrong_2 9 rfl rfl)
theorem dX4_isSumWrong_57 : decode cX4_isSumWrong 57 = .ok (.iload 7, 2) := dk_21 7 (dk_at dksX4_isSumWrong_2 10 rfl rfl)
theorem dX4_isSumWrong_59 : decode cX4_isSumWrong 59 = .ok (.invokevirtual 235, 3) := dk_182 0 235 (dk_at dksX4_isSumWrong_2 12 rfl rfl)
theorem dX4_isSumWrong_62 : decode cX4_isSumWrong 62 = .ok (.lstore 8, 2) := dk_55 8 (dk_at dksX4_isSumWrong_2 15 rfl rfl)
theorem dX4_isSumWrong_64 : decode cX4_isSumWrong 64 = .ok (.iconst 0, 1) := dk_3 (dk_at dksX4_isSumWrong_2 17 rfl rfl)
theorem dX4_isSumWrong_65 : decode cX4_isSumWrong 65 = .ok (.istore 10, 2) := dk_54 10 (dk_at dksX4_isSumWrong_2 18 rfl rfl)
theorem dX4_isSumWrong_67 : decode cX4_isSumWrong 67 = .ok (.iload 10, 2) := dk_21 10 (dk_at dksX4_isSumWrong_2 20 rfl rfl)
theorem dX4_isSumWrong_69 : decode cX4_isSumWrong 69 = .ok (.aload_n 0, 1) := dk_42 (dk_at dksX4_isSumWrong_2 22 rfl rfl)
theorem dX4_isSumWrong_70 : decode cX4_isSumWrong 70 = .ok (.getfield 199, 3) := dk_180 0 199 (dk_at dksX4_isSumWrong_3 0 rfl rfl)
theorem dX4_isSumWrong_73 : decode cX4_isSumWrong 73 = .ok (.if_icmp .ge 57, 3) := dk_162 0 57 (dk_at dksX4_isSumWrong_3 3 rfl rfl)
theorem dX4_isSumWrong_76 : decode cX4_isSumWrong 76 = .ok (.aload_n 0, 1) := dk_42 (dk_at dksX4_isSumWrong_3 6 rfl rfl)
theorem dX4_isSumWrong_77 : decode cX4_isSumWrong 77 = .ok (.iload 10, 2) := dk_21 10 (dk_at dksX4_isSumWrong_3 7 rfl rfl)
theorem dX4_isSumWrong_79 : decode cX4_isSumWrong 79 = .ok (.iload_n 1, 1) := dk_27 (dk_at dksX4_isSumWrong_3 9 rfl rfl)
theorem dX4_isSumWrong_80 : decode cX4_isSumWrong 80 = .ok (.invokevirtual 280, 3) := dk_182 1 24 (dk_at dksX4_isSumWrong_3 10 rfl rfl)
theorem dX4_isSumWrong_83 : decode cX4_isSumWrong 83 = .ok (.ifCond .eq 37, 3) := dk_153 0 37 (dk_at dksX4_isSumWrong_3 13 rfl rfl)
theorem dX4_isSumWrong_86 : decode cX4_isSumWrong 86 = .ok (.aload_n 0, 1) := dk_42 (dk_at dksX4_isSumWrong_3 16 rfl rfl)
theorem dX4_isSumWrong_87 : decode cX4_isSumWrong 87 = .ok (.iload 7, 2) := dk_21 7 (dk_at dksX4_isSumWrong_3 17 rfl rfl)
theorem dX4_isSumWrong_89 : decode cX4_isSumWrong 89 = .ok (.iload 10, 2) := dk_21 10 (dk_at dksX4_isSumWrong_3 19 rfl rfl)
theorem dX4_isSumWrong_91 : decode cX4_isSumWrong 91 = .ok (.invokevirtual 239, 3) := dk_182 0 239 (dk_at dksX4_isSumWrong_3 21 rfl rfl)
theorem dX4_isSumWrong_94 : decode cX4_isSumWrong 94 = .ok (.ifCond .eq 26, 3) := dk_153 0 26 (dk_at dksX4_isSumWrong_4 0 rfl rfl)
theorem dX4_isSumWrong_97 : decode cX4_isSumWrong 97 = .ok (.lload 8, 2) := dk_22 8 (dk_at dksX4_isSumWrong_4 3 rfl rfl)
theorem dX4_isSumWrong_99 : decode cX4_isSumWrong 99 = .ok (.aload_n 0, 1) := dk_42 (dk_at dksX4_isSumWrong_4 5 rfl rfl)
theorem dX4_isSumWrong_100 : decode cX4_isSumWrong 100 = .ok (.getfield 60, 3) := dk_180 0 60 (dk_at dksX4_isSumWrong_4 6 rfl rfl)
theorem dX4_isSumWrong_103 : decode cX4_isSumWrong 103 = .ok (.iload 10, 2) := dk_21 10 (dk_at dksX4_isSumWrong_4 9 rfl rfl)
theorem dX4_isSumWrong_105 : decode cX4_isSumWrong 105 = .ok (.iaload, 1) := dk_46 (dk_at dksX4_isSumWrong_4 11 rfl rfl)
theorem dX4_isSumWrong_106 : decode cX4_isSumWrong 106 = .ok (.i2l, 1) := dk_133 (dk_at dksX4_isSumWrong_4 12 rfl rfl)
theorem dX4_isSumWrong_107 : decode cX4_isSumWrong 107 = .ok (.ldiv, 1) := dk_109 (dk_at dksX4_isSumWrong_4 13 rfl rfl)
theorem dX4_isSumWrong_108 : decode cX4_isSumWrong 108 = .ok (.aload_n 0, 1) := dk_42 (dk_at dksX4_isSumWrong_4 14 rfl rfl)
theorem dX4_isSumWrong_109 : decode cX4_isSumWrong 109 = .ok (.getfield 63, 3) := dk_180 0 63 (dk_at dksX4_isSumWrong_4 15 rfl rfl)
theorem dX4_isSumWrong_112 : decode cX4_isSumWrong 112 = .ok (.iload 10, 2) := dk_21 10 (dk_at dksX4_isSumWrong_4 18 rfl rfl)
theorem dX4_isSumWrong_114 : decode cX4_isSumWrong 114 = .ok (.iaload, 1) := dk_46 (dk_at dksX4_isSumWrong_4 20 rfl rfl)
theorem dX4_isSumWrong_115 : decode cX4_isSumWrong 115 = .ok (.i2l, 1) := dk_133 (dk_at dksX4_isSumWrong_4 21 rfl rfl)
theorem dX4_isSumWrong_116 : decode cX4_isSumWrong 116 = .ok (.lmul, 1) := dk_105 (dk_at dksX4_isSumWrong_4 22 rfl rfl)
theorem dX4_isSumWrong_117 : decode cX4_isSumWrong 117 = .ok (.goto 5, 3) := dk_167 0 5 (dk_at dksX4_isSumWrong_5 0 rfl rfl)
theorem dX4_isSumWrong_120 : decode cX4_isSumWrong 120 = .ok (.lload 8, 2) := dk_22 8 (dk_at dksX4_isSumWrong_5 3 rfl rfl)
theorem dX4_isSumWrong_122 : decode cX4_isSumWrong 122 = .ok (.lstore 8, 2) := dk_55 8 (dk_at dksX4_isSumWrong_5 5 rfl rfl)
theorem dX4_isSumWrong_124 : decode cX4_isSumWrong 124 = .ok (.iinc 10 1, 3) := dk_132 10 1 (dk_at dksX4_isSumWrong_5 7 rfl rfl)
theorem dX4_isSumWrong_127 : decode cX4_isSumWrong 127 = .ok (.goto (-60), 3) := dk_167 255 196 (dk_at dksX4_isSumWrong_5 10 rfl rfl)
theorem dX4_isSumWrong_130 : decode cX4_isSumWrong 130 = .ok (.lload_n 2, 1) := dk_32 (dk_at dksX4_isSumWrong_5 13 rfl rfl)
theorem dX4_isSumWrong_131 : decode cX4_isSumWrong 131 = .ok (.lload 8, 2) := dk_22 8 (dk_at dksX4_isSumWrong_5 14 rfl rfl)
theorem dX4_isSumWrong_133 : decode cX4_isSumWrong 133 = .ok (.ladd, 1) := dk_97 (dk_at dksX4_isSumWrong_5 16 rfl rfl)
theorem dX4_isSumWrong_134 : decode cX4_isSumWrong 134 = .ok (.lstore_n 2, 1) := dk_65 (dk_at dksX4_isSumWrong_5 17 rfl rfl)
theorem dX4_isSumWrong_135 : decode cX4_isSumWrong 135 = .ok (.iinc 6 1, 3) := dk_132 6 1 (dk_at dksX4_isSumWrong_5 18 rfl rfl)
theorem dX4_isSumWrong_138 : decode cX4_isSumWrong 138 = .ok (.goto (-104), 3) := dk_167 255 152 (dk_at dksX4_isSumWrong_5 21 rfl rfl)
theorem dX4_isSumWrong_141 : decode cX4_isSumWrong 141 = .ok (.lload_n 2, 1) := dk_32 (dk_at dksX4_isSumWrong_6 0 rfl rfl)
theorem dX4_isSumWrong_142 : decode cX4_isSumWrong 142 = .ok (.ldc2_w 154, 3) := dk_20 0 154 (dk_at dksX4_isSumWrong_6 1 rfl rfl)
theorem dX4_isSumWrong_145 : decode cX4_isSumWrong 145 = .ok (.aload_n 0, 1) := dk_42 (dk_at dksX4_isSumWrong_6 4 rfl rfl)
theorem dX4_isSumWrong_146 : decode cX4_isSumWrong 146 = .ok (.getfield 66, 3) := dk_180 0 66 (dk_at dksX4_isSumWrong_6 5 rfl rfl)
theorem dX4_isSumWrong_149 : decode cX4_isSumWrong 149 = .ok (.iload_n 1, 1) := dk_27 (dk_at dksX4_isSumWrong_6 8 rfl rfl)
theorem dX4_isSumWrong_150 : decode cX4_isSumWrong 150 = .ok (.iaload, 1) := dk_46 (dk_at dksX4_isSumWrong_6 9 rfl rfl)
theorem dX4_isSumWrong_151 : decode cX4_isSumWrong 151 = .ok (.lshr, 1) := dk_123 (dk_at dksX4_isSumWrong_6 10 rfl rfl)
theorem dX4_isSumWrong_152 : decode cX4_isSumWrong 152 = .ok (.aload_n 0, 1) := dk_42 (dk_at dksX4_isSumWrong_6 11 rfl rfl)
theorem dX4_isSumWrong_153 : decode cX4_isSumWrong 153 = .ok (.getfield 60, 3) := dk_180 0 60 (dk_at dksX4_isSumWrong_6 12 rfl rfl)
theorem dX4_isSumWrong_156 : decode cX4_isSumWrong 156 = .ok (.iload_n 1, 1) := dk_27 (dk_at dksX4_isSumWrong_6 15 rfl rfl)
theorem dX4_isSumWrong_157 : decode cX4_isSumWrong 157 = .ok (.iaload, 1) := dk_46 (dk_at dksX4_isSumWrong_6 16 rfl rfl)
theorem dX4_isSumWrong_158 : decode cX4_isSumWrong 158 = .ok (.i2l, 1) := dk_133 (dk_at dksX4_isSumWrong_6 17 rfl rfl)
theorem dX4_isSumWrong_159 : decode cX4_isSumWrong 159 = .ok (.lmul, 1) := dk_105 (dk_at dksX4_isSumWrong_6 18 rfl rfl)
theorem dX4_isSumWrong_160 : decode cX4_isSumWrong 160 = .ok (.lcmp, 1) := dk_148 (dk_at dksX4_isSumWrong_6 19 rfl rfl)
theorem dX4_isSumWrong_161 : decode cX4_isSumWrong 161 = .ok (.ifCond .eq 7, 3) := dk_153 0 7 (dk_at dksX4_isSumWrong_6 20 rfl rfl)
theorem dX4_isSumWrong_164 : decode cX4_isSumWrong 164 = .ok (.iconst 1, 1) := dk_4 (dk_at dksX4_isSumWrong_6 23 rfl rfl)
theorem dX4_isSumWrong_165 : decode cX4_isSumWrong 165 = .ok (.goto 4, 3) := dk_167 0 4 (dk_at dksX4_isSumWrong_7 0 rfl rfl)
theorem dX4_isSumWrong_168 : decode cX4_isSumWrong 168 = .ok (.iconst 0, 1) := dk_3 (dk_at dksX4_isSumWrong_7 3 rfl rfl)
theorem dX4_isSumWrong_169 : decode cX4_isSumWrong 169 = .ok (.ireturn, 1) := dk_172 (dk_at dksX4_isSumWrong_7 4 rfl rfl)
abbrev cX4_finding : ByteArray := prog_21_method_63_code
def yX4_finding : MethodName := ⟨RX4, "finding", "(II)I"⟩
def dkwX4_finding_2 : List UInt8 := [184, 0, 137, 153, 0, 16, 42, 180, 0, 84, 6, 27, 104, 28, 96, 46, 167, 0, 4, 2, 172]
abbrev dktX4_finding_2 : List UInt8 := dkwX4_finding_2 ++ []
def dkwX4_finding_1 : List UInt8 := [133, 9, 42, 180, 1, 33, 16, 100, 162, 0, 10, 42, 180, 1, 33, 167, 0, 5, 16, 100, 4, 100, 133]
abbrev dktX4_finding_1 : List UInt8 := dkwX4_finding_1 ++ dktX4_finding_2
def dkwX4_finding_0 : List UInt8 := [42, 182, 0, 144, 28, 133, 9, 20, 0, 170, 184, 0, 137, 154, 0, 10, 42, 16, 254, 182, 0, 130, 172, 27]
abbrev dktX4_finding_0 : List UInt8 := dkwX4_finding_0 ++ dktX4_finding_1
theorem dksX4_finding_0 : cX4_finding.data.toList.drop 0 = dktX4_finding_0 := by decide +kernel
theorem dksX4_finding_1 : cX4_finding.data.toList.drop 24 = dktX4_finding_1 := dk_seg dksX4_finding_0 24 rfl rfl
theorem dksX4_finding_2 : cX4_finding.data.toList.drop 47 = dktX4_finding_2 := dk_seg dksX4_finding_1 23 rfl rfl
theorem dX4_finding_0 : decode cX4_finding 0 = .ok (.aload_n 0, 1) := dk_42 (dk_at dksX4_finding_0 0 rfl rfl)
theorem dX4_finding_1 : decode cX4_finding 1 = .ok (.invokevirtual 144, 3) := dk_182 0 144 (dk_at dksX4_finding_0 1 rfl rfl)
theorem dX4_finding_4 : decode cX4_finding 4 = .ok (.iload_n 2, 1) := dk_28 (dk_at dksX4_finding_0 4 rfl rfl)
theorem dX4_finding_5 : decode cX4_finding 5 = .ok (.i2l, 1) := dk_133 (dk_at dksX4_finding_0 5 rfl rfl)
theorem dX4_finding_6 : decode cX4_finding 6 = .ok (.lconst 0, 1) := dk_9 (dk_at dksX4_finding_0 6 rfl rfl)
theorem dX4_finding_7 : decode cX4_finding 7 = .ok (.ldc2_w 170, 3) := dk_20 0 170 (dk_at dksX4_finding_0 7 rfl rfl)
theorem dX4_finding_10 : decode cX4_finding 10 = .ok (.invokestatic 137, 3) := dk_184 0 137 (dk_at dksX4_finding_0 10 rfl rfl)
theorem dX4_finding_13 : decode cX4_finding 13 = .ok (.ifCond .ne 10, 3) := dk_154 0 10 (dk_at dksX4_finding_0 13 rfl rfl)
theorem dX4_finding_16 : decode cX4_finding 16 = .ok (.aload_n 0, 1) := dk_42 (dk_at dksX4_finding_0 16 rfl rfl)
theorem dX4_finding_17 : decode cX4_finding 17 = .ok (.bipush (-2), 2) := dk_16 254 (dk_at dksX4_finding_0 17 rfl rfl)
theorem dX4_finding_19 : decode cX4_finding 19 = .ok (.invokevirtual 130, 3) := dk_182 0 130 (dk_at dksX4_finding_0 19 rfl rfl)
theorem dX4_finding_22 : decode cX4_finding 22 = .ok (.ireturn, 1) := dk_172 (dk_at dksX4_finding_0 22 rfl rfl)
theorem dX4_finding_23 : decode cX4_finding 23 = .ok (.iload_n 1, 1) := dk_27 (dk_at dksX4_finding_0 23 rfl rfl)
theorem dX4_finding_24 : decode cX4_finding 24 = .ok (.i2l, 1) := dk_133 (dk_at dksX4_finding_1 0 rfl rfl)
theorem dX4_finding_25 : decode cX4_finding 25 = .ok (.lconst 0, 1) := dk_9 (dk_at dksX4_finding_1 1 rfl rfl)
theorem dX4_finding_26 : decode cX4_finding 26 = .ok (.aload_n 0, 1) := dk_42 (dk_at dksX4_finding_1 2 rfl rfl)
theorem dX4_finding_27 : decode cX4_finding 27 = .ok (.getfield 289, 3) := dk_180 1 33 (dk_at dksX4_finding_1 3 rfl rfl)
theorem dX4_finding_30 : decode cX4_finding 30 = .ok (.bipush 100, 2) := dk_16 100 (dk_at dksX4_finding_1 6 rfl rfl)
theorem dX4_finding_32 : decode cX4_finding 32 = .ok (.if_icmp .ge 10, 3) := dk_162 0 10 (dk_at dksX4_finding_1 8 rfl rfl)
theorem dX4_finding_35 : decode cX4_finding 35 = .ok (.aload_n 0, 1) := dk_42 (dk_at dksX4_finding_1 11 rfl rfl)
theorem dX4_finding_36 : decode cX4_finding 36 = .ok (.getfield 289, 3) := dk_180 1 33 (dk_at dksX4_finding_1 12 rfl rfl)
theorem dX4_finding_39 : decode cX4_finding 39 = .ok (.goto 5, 3) := dk_167 0 5 (dk_at dksX4_finding_1 15 rfl rfl)
theorem dX4_finding_42 : decode cX4_finding 42 = .ok (.bipush 100, 2) := dk_16 100 (dk_at dksX4_finding_1 18 rfl rfl)
theorem dX4_finding_44 : decode cX4_finding 44 = .ok (.iconst 1, 1) := dk_4 (dk_at dksX4_finding_1 20 rfl rfl)
theorem dX4_finding_45 : decode cX4_finding 45 = .ok (.isub, 1) := dk_100 (dk_at dksX4_finding_1 21 rfl rfl)
theorem dX4_finding_46 : decode cX4_finding 46 = .ok (.i2l, 1) := dk_133 (dk_at dksX4_finding_1 22 rfl rfl)
theorem dX4_finding_47 : decode cX4_finding 47 = .ok (.invokestatic 137, 3) := dk_184 0 137 (dk_at dksX4_finding_2 0 rfl rfl)
theorem dX4_finding_50 : decode cX4_finding 50 = .ok (.ifCond .eq 16, 3) := dk_153 0 16 (dk_at dksX4_finding_2 3 rfl rfl)
theorem dX4_finding_53 : decode cX4_finding 53 = .ok (.aload_n 0, 1) := dk_42 (dk_at dksX4_finding_2 6 rfl rfl)
theorem dX4_finding_54 : decode cX4_finding 54 = .ok (.getfield 84, 3) := dk_180 0 84 (dk_at dksX4_finding_2 7 rfl rfl)
theorem dX4_finding_57 : decode cX4_finding 57 = .ok (.iconst 3, 1) := dk_6 (dk_at dksX4_finding_2 10 rfl rfl)
theorem dX4_finding_58 : decode cX4_finding 58 = .ok (.iload_n 1, 1) := dk_27 (dk_at dksX4_finding_2 11 rfl rfl)
theorem dX4_finding_59 : decode cX4_finding 59 = .ok (.imul, 1) := dk_104 (dk_at dksX4_finding_2 12 rfl rfl)
theorem dX4_finding_60 : decode cX4_finding 60 = .ok (.iload_n 2, 1) := dk_28 (dk_at dksX4_finding_2 13 rfl rfl)
theorem dX4_finding_61 : decode cX4_finding 61 = .ok (.iadd, 1) := dk_96 (dk_at dksX4_finding_2 14 rfl rfl)
theorem dX4_finding_62 : decode cX4_finding 62 = .ok (.iaload, 1) := dk_46 (dk_at dksX4_finding_2 15 rfl rfl)
theorem dX4_finding_63 : decode cX4_finding 63 = .ok (.goto 4, 3) := dk_167 0 4 (dk_at dksX4_finding_2 16 rfl rfl)
theorem dX4_finding_66 : decode cX4_finding 66 = .ok (.iconst (-1), 1) := dk_2 (dk_at dksX4_finding_2 19 rfl rfl)
theorem dX4_finding_67 : decode cX4_finding 67 = .ok (.ireturn, 1) := dk_172 (dk_at dksX4_finding_2 20 rfl rfl)
abbrev cX4_equal : ByteArray := prog_21_method_66_code
def yX4_equal : MethodName := ⟨RX4, "equal", "(II)I"⟩
def dkwX4_equal_11 : List UInt8 := [160, 0, 13, 21, 5, 2, 160, 0, 7, 4, 167, 0, 4, 3, 172]
abbrev dktX4_equal_11 : List UInt8 := dkwX4_equal_11 ++ []
def dkwX4_equal_10 : List UInt8 := [182, 1, 59, 54, 4, 42, 28, 21, 5, 182, 1, 59, 54, 5, 167, 255, 125, 29, 153, 0, 19, 21, 4, 2]
abbrev dktX4_equal_10 : List UInt8 := dkwX4_equal_10 ++ dktX4_equal_11
def dkwX4_equal_9 : List UInt8 := [21, 4, 46, 42, 180, 0, 66, 21, 5, 46, 160, 0, 7, 4, 167, 0, 4, 3, 62, 42, 27, 21, 4]
abbrev dktX4_equal_9 : List UInt8 := dkwX4_equal_9 ++ dktX4_equal_10
def dkwX4_equal_8 : List UInt8 := [160, 0, 41, 42, 180, 0, 63, 21, 4, 46, 42, 180, 0, 63, 21, 5, 46, 160, 0, 24, 42, 180, 0, 66]
abbrev dktX4_equal_8 : List UInt8 := dkwX4_equal_8 ++ dktX4_equal_9
def dkwX4_equal_7 : List UInt8 := [21, 5, 182, 1, 19, 160, 0, 58, 42, 180, 0, 60, 21, 4, 46, 42, 180, 0, 60, 21, 5, 46]
abbrev dktX4_equal_7 : List UInt8 := dkwX4_equal_7 ++ dktX4_equal_8
def dkwX4_equal_6 : List UInt8 := [182, 0, 196, 42, 42, 180, 0, 54, 21, 5, 46, 182, 0, 196, 160, 0, 73, 42, 21, 4, 182, 1, 19, 42]
abbrev dktX4_equal_6 : List UInt8 := dkwX4_equal_6 ++ dktX4_equal_7
def dkwX4_equal_5 : List UInt8 := [153, 0, 133, 21, 4, 2, 159, 0, 127, 21, 5, 2, 159, 0, 121, 42, 42, 180, 0, 54, 21, 4, 46]
abbrev dktX4_equal_5 : List UInt8 := dkwX4_equal_5 ++ dktX4_equal_6
def dkwX4_equal_4 : List UInt8 := [132, 4, 1, 167, 255, 209, 42, 27, 2, 182, 1, 59, 54, 4, 42, 28, 2, 182, 1, 59, 54, 5, 29]
abbrev dktX4_equal_4 : List UInt8 := dkwX4_equal_4 ++ dktX4_equal_5
def dkwX4_equal_3 : List UInt8 := [16, 40, 27, 104, 21, 4, 96, 46, 42, 180, 0, 42, 16, 40, 28, 104, 21, 4, 96, 46, 182, 1, 56, 62]
abbrev dktX4_equal_3 : List UInt8 := dkwX4_equal_3 ++ dktX4_equal_4
def dkwX4_equal_2 : List UInt8 := [62, 3, 54, 4, 21, 4, 42, 180, 0, 45, 27, 46, 162, 0, 42, 29, 153, 0, 38, 42, 42, 180, 0, 42]
abbrev dktX4_equal_2 : List UInt8 := dkwX4_equal_2 ++ dktX4_equal_3
def dkwX4_equal_1 : List UInt8 := [182, 0, 130, 172, 42, 180, 0, 45, 27, 46, 42, 180, 0, 45, 28, 46, 160, 0, 7, 4, 167, 0, 4, 3]
abbrev dktX4_equal_1 : List UInt8 := dkwX4_equal_1 ++ dktX4_equal_2
def dkwX4_equal_0 : List UInt8 := [42, 182, 0, 144, 42, 27, 182, 0, 184, 153, 0, 11, 42, 28, 182, 0, 184, 154, 0, 10, 42, 16, 254]
abbrev dktX4_equal_0 : List UInt8 := dkwX4_equal_0 ++ dktX4_equal_1
theorem dksX4_equal_0 : cX4_equal.data.toList.drop 0 = dktX4_equal_0 := by decide +kernel
theorem dksX4_equal_1 : cX4_equal.data.toList.drop 23 = dktX4_equal_1 := dk_seg dksX4_equal_0 23 rfl rfl
theorem dksX4_equal_2 : cX4_equal.data.toList.drop 47 = dktX4_equal_2 := dk_seg dksX4_equal_1 24 rfl rfl
theorem dksX4_equal_3 : cX4_equal.data.toList.drop 71 = dktX4_equal_3 := dk_seg dksX4_equal_2 24 rfl rfl
theorem dksX4_equal_4 : cX4_equal.data.toList.drop 95 = dktX4_equal_4 := dk_seg dksX4_equal_3 24 rfl rfl
theorem dksX4_equal_5 : cX4_equal.data.toList.drop 118 = dktX4_equal_5 := dk_seg dksX4_equal_4 23 rfl rfl
theorem dksX4_equal_6 : cX4_equal.data.toList.drop 141 = dktX4_equal_6 := dk_seg dksX4_equal_5 23 rfl rfl
theorem dksX4_equal_7 : cX4_equal.data.toList.drop 165 = dktX4_equal_7 := dk_seg dksX4_equal_6 24 rfl rfl
theorem dksX4_equal_8 : cX4_equal.data.toList.drop 187 = dktX4_equal_8 := dk_seg dksX4_equal_7 22 rfl rfl
theorem dksX4_equal_9 : cX4_equal.data.toList.drop 211 = dktX4_equal_9 := dk_seg dksX4_equal_8 24 rfl rfl
theorem dksX4_equal_10 : cX4_equal.data.toList.drop 234 = dktX4_equal_10 := dk_seg dksX4_equal_9 23 rfl rfl
theorem dksX4_equal_11 : cX4_equal.data.toList.drop 258 = dktX4_equal_11 := dk_seg dksX4_equal_10 24 rfl rfl
theorem dX4_equal_0 : decode cX4_equal 0 = .ok (.aload_n 0, 1) := dk_42 (dk_at dksX4_equal_0 0 rfl rfl)
theorem dX4_equal_1 : decode cX4_equal 1 = .ok (.invokevirtual 144, 3) := dk_182 0 144 (dk_at dksX4_equal_0 1 rfl rfl)
theorem dX4_equal_4 : decode cX4_equal 4 = .ok (.aload_n 0, 1) := dk_42 (dk_at dksX4_equal_0 4 rfl rfl)
theorem dX4_equal_5 : decode cX4_equal 5 = .ok (.iload_n 1, 1) := dk_27 (dk_at dksX4_equal_0 5 rfl rfl)
theorem dX4_equal_6 : decode cX4_equal 6 = .ok (.invokevirtual 184, 3) := dk_182 0 184 (dk_at dksX4_equal_0 6 rfl rfl)
theorem dX4_equal_9 : decode cX4_equal 9 = .ok (.ifCond .eq 11, 3) := dk_153 0 11 (dk_at dksX4_equal_0 9 rfl rfl)
theorem dX4_equal_12 : decode cX4_equal 12 = .ok (.aload_n 0, 1) := dk_42 (dk_at dksX4_equal_0 12 rfl rfl)
theorem dX4_equal_13 : decode cX4_equal 13 = .ok (.iload_n 2, 1) := dk_28 (dk_at dksX4_equal_0 13 rfl rfl)
theorem dX4_equal_14 : decode cX4_equal 14 = .ok (.invokevirtual 184, 3) := dk_182 0 184 (dk_at dksX4_equal_0 14 rfl rfl)
theorem dX4_equal_17 : decode cX4_equal 17 = .ok (.ifCond .ne 10, 3) := dk_154 0 10 (dk_at dksX4_equal_0 17 rfl rfl)
theorem dX4_equal_20 : decode cX4_equal 20 = .ok (.aload_n 0, 1) := dk_42 (dk_at dksX4_equal_0 20 rfl rfl)
theorem dX4_equal_21 : decode cX4_equal 21 = .ok (.bipush (-2), 2) := dk_16 254 (dk_at dksX4_equal_0 21 rfl rfl)
theorem dX4_equal_23 : decode cX4_equal 23 = .ok (.invokevirtual 130, 3) := dk_182 0 130 (dk_at dksX4_equal_1 0 rfl rfl)
theorem dX4_equal_26 : decode cX4_equal 26 = .ok (.ireturn, 1) := dk_172 (dk_at dksX4_equal_1 3 rfl rfl)
theorem dX4_equal_27 : decode cX4_equal 27 = .ok (.aload_n 0, 1) := dk_42 (dk_at dksX4_equal_1 4 rfl rfl)
theorem dX4_equal_28 : decode cX4_equal 28 = .ok (.getfield 45, 3) := dk_180 0 45 (dk_at dksX4_equal_1 5 rfl rfl)
theorem dX4_equal_31 : decode cX4_equal 31 = .ok (.iload_n 1, 1) := dk_27 (dk_at dksX4_equal_1 8 rfl rfl)
theorem dX4_equal_32 : decode cX4_equal 32 = .ok (.iaload, 1) := dk_46 (dk_at dksX4_equal_1 9 rfl rfl)
theorem dX4_equal_33 : decode cX4_equal 33 = .ok (.aload_n 0, 1) := dk_42 (dk_at dksX4_equal_1 10 rfl rfl)
theorem dX4_equal_34 : decode cX4_equal 34 = .ok (.getfield 45, 3) := dk_180 0 45 (dk_at dksX4_equal_1 11 rfl rfl)
theorem dX4_equal_37 : decode cX4_equal 37 = .ok (.iload_n 2, 1) := dk_28 (dk_at dksX4_equal_1 14 rfl rfl)
theorem dX4_equal_38 : decode cX4_equal 38 = .ok (.iaload, 1) := dk_46 (dk_at dksX4_equal_1 15 rfl rfl)
theorem dX4_equal_39 : decode cX4_equal 39 = .ok (.if_icmp .ne 7, 3) := dk_160 0 7 (dk_at dksX4_equal_1 16 rfl rfl)
theorem dX4_equal_42 : decode cX4_equal 42 = .ok (.iconst 1, 1) := dk_4 (dk_at dksX4_equal_1 19 rfl rfl)
theorem dX4_equal_43 : decode cX4_equal 43 = .ok (.goto 4, 3) := dk_167 0 4 (dk_at dksX4_equal_1 20 rfl rfl)
theorem dX4_equal_46 : decode cX4_equal 46 = .ok (.iconst 0, 1) := dk_3 (dk_at dksX4_equal_1 23 rfl rfl)
theorem dX4_equal_47 : decode cX4_equal 47 = .ok (.istore_n 3, 1) := dk_62 (dk_at dksX4_equal_2 0 rfl rfl)
theorem dX4_equal_48 : decode cX4_equal 48 = .ok (.iconst 0, 1) := dk_3 (dk_at dksX4_equal_2 1 rfl rfl)
theorem dX4_equal_49 : decode cX4_equal 49 = .ok (.istore 4, 2) := dk_54 4 (dk_at dksX4_equal_2 2 rfl rfl)
theorem dX4_equal_51 : decode cX4_equal 51 = .ok (.iload 4, 2) := dk_21 4 (dk_at dksX4_equal_2 4 rfl rfl)
theorem dX4_equal_53 : decode cX4_equal 53 = .ok (.aload_n 0, 1) := dk_42 (dk_at dksX4_equal_2 6 rfl rfl)
theorem dX4_equal_54 : decode cX4_equal 54 = .ok (.getfield 45, 3) := dk_180 0 45 (dk_at dksX4_equal_2 7 rfl rfl)
theorem dX4_equal_57 : decode cX4_equal 57 = .ok (.iload_n 1, 1) := dk_27 (dk_at dksX4_equal_2 10 rfl rfl)
theorem dX4_equal_58 : decode cX4_equal 58 = .ok (.iaload, 1) := dk_46 (dk_at dksX4_equal_2 11 rfl rfl)
theorem dX4_equal_59 : decode cX4_equal 59 = .ok (.if_icmp .ge 42, 3) := dk_162 0 42 (dk_at dksX4_equal_2 12 rfl rfl)
theorem dX4_equal_62 : decode cX4_equal 62 = .ok (.iload_n 3, 1) := dk_29 (dk_at dksX4_equal_2 15 rfl rfl)
theorem dX4_equal_63 : decode cX4_equal 63 = .ok (.ifCond .eq 38, 3) := dk_153 0 38 (dk_at dksX4_equal_2 16 rfl rfl)
theorem dX4_equal_66 : decode cX4_equal 66 = .ok (.aload_n 0, 1) := dk_42 (dk_at dksX4_equal_2 19 rfl rfl)
theorem dX4_equal_67 : decode cX4_equal 67 = .ok (.aload_n 0, 1) := dk_42 (dk_at dksX4_equal_2 20 rfl rfl)
theorem dX4_equal_68 : decode cX4_equal 68 = .ok (.getfield 42, 3) := dk_180 0 42 (dk_at dksX4_equal_2 21 rfl rfl)
theorem dX4_equal_71 : decode cX4_equal 71 = .ok (.bipush 40, 2) := dk_16 40 (dk_at dksX4_equal_3 0 rfl rfl)
theorem dX4_equal_73 : decode cX4_equal 73 = .ok (.iload_n 1, 1) := dk_27 (dk_at dksX4_equal_3 2 rfl rfl)
theorem dX4_equal_74 : decode cX4_equal 74 = .ok (.imul, 1) := dk_104 (dk_at dksX4_equal_3 3 rfl rfl)
theorem dX4_equal_75 : decode cX4_equal 75 = .ok (.iload 4, 2) := dk_21 4 (dk_at dksX4_equal_3 4 rfl rfl)
theorem dX4_equal_77 : decode cX4_equal 77 = .ok (.iadd, 1) := dk_96 (dk_at dksX4_equal_3 6 rfl rfl)
theorem dX4_equal_78 : decode cX4_equal 78 = .ok (.iaload, 1) := dk_46 (dk_at dksX4_equal_3 7 rfl rfl)
theorem dX4_equal_79 : decode cX4_equal 79 = .ok (.aload_n 0, 1) := dk_42 (dk_at dksX4_equal_3 8 rfl rfl)
theorem dX4_equal_80 : decode cX4_equal 80 = .ok (.getfield 42, 3) := dk_180 0 42 (dk_at dksX4_equal_3 9 rfl rfl)
theorem dX4_equal_83 : decode cX4_equal 83 = .ok (.bipush 40, 2) := dk_16 40 (dk_at dksX4_equal_3 12 rfl rfl)
theorem dX4_equal_85 : decode cX4_equal 85 = .ok (.iload_n 2, 1) := dk_28 (dk_at dksX4_equal_3 14 rfl rfl)
theorem dX4_equal_86 : decode cX4_equal 86 = .ok (.imul, 1) := dk_104 (dk_at dksX4_equal_3 15 rfl rfl)
theorem dX4_equal_87 : decode cX4_equal 87 = .ok (.iload 4, 2) := dk_21 4 (dk_at dksX4_equal_3 16 rfl rfl)
theorem dX4_equal_89 : decode cX4_equal 89 = .ok (.iadd, 1) := dk_96 (dk_at dksX4_equal_3 18 rfl rfl)
theorem dX4_equal_90 : decode cX4_equal 90 = .ok (.iaload, 1) := dk_46 (dk_at dksX4_equal_3 19 rfl rfl)
theorem dX4_equal_91 : decode cX4_equal 91 = .ok (.invokevirtual 312, 3) := dk_182 1 56 (dk_at dksX4_equal_3 20 rfl rfl)
theorem dX4_equal_94 : decode cX4_equal 94 = .ok (.istore_n 3, 1) := dk_62 (dk_at dksX4_equal_3 23 rfl rfl)
theorem dX4_equal_95 : decode cX4_equal 95 = .ok (.iinc 4 1, 3) := dk_132 4 1 (dk_at dksX4_equal_4 0 rfl rfl)
theorem dX4_equal_98 : decode cX4_equal 98 = .ok (.goto (-47), 3) := dk_167 255 209 (dk_at dksX4_equal_4 3 rfl rfl)
theorem dX4_equal_101 : decode cX4_equal 101 = .ok (.aload_n 0, 1) := dk_42 (dk_at dksX4_equal_4 6 rfl rfl)
theorem dX4_equal_102 : decode cX4_equal 102 = .ok (.iload_n 1, 1) := dk_27 (dk_at dksX4_equal_4 7 rfl rfl)
theorem dX4_equal_103 : decode cX4_equal 103 = .ok (.iconst (-1), 1) := dk_2 (dk_at dksX4_equal_4 8 rfl rfl)
theorem dX4_equal_104 : decode cX4_equal 104 = .ok (.invokevirtual 315, 3) := dk_182 1 59 (dk_at dksX4_equal_4 9 rfl rfl)
theorem dX4_equal_107 : decode cX4_equal 107 = .ok (.istore 4, 2) := dk_54 4 (dk_at dksX4_equal_4 12 rfl rfl)
theorem dX4_equal_109 : decode cX4_equal 109 = .ok (.aload_n 0, 1) := dk_42 (dk_at dksX4_equal_4 14 rfl rfl)
theorem dX4_equal_110 : decode cX4_equal 110 = .ok (.iload_n 2, 1) := dk_28 (dk_at dksX4_equal_4 15 rfl rfl)
theorem dX4_equal_111 : decode cX4_equal 111 = .ok (.iconst (-1), 1) := dk_2 (dk_at dksX4_equal_4 16 rfl rfl)
theorem dX4_equal_112 : decode cX4_equal 112 = .ok (.invokevirtual 315, 3) := dk_182 1 59 (dk_at dksX4_equal_4 17 rfl rfl)
theorem dX4_equal_115 : decode cX4_equal 115 = .ok (.istore 5, 2) := dk_54 5 (dk_at dksX4_equal_4 20 rfl rfl)
theorem dX4_equal_117 : decode cX4_equal 117 = .ok (.iload_n 3, 1) := dk_29 (dk_at dksX4_equal_4 22 rfl rfl)
theorem dX4_equal_118 : decode cX4_equal 118 = .ok (.ifCond .eq 133, 3) := dk_153 0 133 (dk_at dksX4_equal_5 0 rfl rfl)
theorem dX4_equal_121 : decode cX4_equal 121 = .ok (.iload 4, 2) := dk_21 4 (dk_at dksX4_equal_5 3 rfl rfl)
theorem dX4_equal_123 : decode cX4_equal 123 = .ok (.iconst (-1), 1) := dk_2 (dk_at dksX4_equal_5 5 rfl rfl)
theorem dX4_equal_124 : decode cX4_equal 124 = .ok (.if_icmp .eq 127, 3) := dk_159 0 127 (dk_at dksX4_equal_5 6 rfl rfl)
theorem dX4_equal_127 : decode cX4_equal 127 = .ok (.iload 5, 2) := dk_21 5 (dk_at dksX4_equal_5 9 rfl rfl)
theorem dX4_equal_129 : decode cX4_equal 129 = .ok (.iconst (-1), 1) := dk_2 (dk_at dksX4_equal_5 11 rfl rfl)
theorem dX4_equal_130 : decode cX4_equal 130 = .ok (.if_icmp .eq 121, 3) := dk_159 0 121 (dk_at dksX4_equal_5 12 rfl rfl)
theorem dX4_equal_133 : decode cX4_equal 133 = .ok (.aload_n 0, 1) := dk_42 (dk_at dksX4_equal_5 15 rfl rfl)
theorem dX4_equal_134 : decode cX4_equal 134 = .ok (.aload_n 0, 1) := dk_42 (dk_at dksX4_equal_5 16 rfl rfl)
theorem dX4_equal_135 : decode cX4_equal 135 = .ok (.getfield 54, 3) := dk_180 0 54 (dk_at dksX4_equal_5 17 rfl rfl)
theorem dX4_equal_138 : decode cX4_equal 138 = .ok (.iload 4, 2) := dk_21 4 (dk_at dksX4_equal_5 20 rfl rfl)
theorem dX4_equal_140 : decode cX4_equal 140 = .ok (.iaload, 1) := dk_46 (dk_at dksX4_equal_5 22 rfl rfl)
theorem dX4_equal_141 : decode cX4_equal 141 = .ok (.invokevirtual 196, 3) := dk_182 0 196 (dk_at dksX4_equal_6 0 rfl rfl)
theorem dX4_equal_144 : decode cX4_equal 144 = .ok (.aload_n 0, 1) := dk_42 (dk_at dksX4_equal_6 3 rfl rfl)
theorem dX4_equal_145 : decode cX4_equal 145 = .ok (.aload_n 0, 1) := dk_42 (dk_at dksX4_equal_6 4 rfl rfl)
theorem dX4_equal_146 : decode cX4_equal 146 = .ok (.getfield 54, 3) := dk_180 0 54 (dk_at dksX4_equal_6 5 rfl rfl)
theorem dX4_equal_149 : decode cX4_equal 149 = .ok (.iload 5, 2) := dk_21 5 (dk_at dksX4_equal_6 8 rfl rfl)
theorem dX4_equal_151 : decode cX4_equal 151 = .ok (.iaload, 1) := dk_46 (dk_at dksX4_equal_6 10 rfl rfl)
theorem dX4_equal_152 : decode cX4_equal 152 = .ok (.invokevirtual 196, 3) := dk_182 0 196 (dk_at dksX4_equal_6 11 rfl rfl)
theorem dX4_equal_155 : decode cX4_equal 155 = .ok (.if_icmp .ne 73, 3) := dk_160 0 73 (dk_at dksX4_equal_6 14 rfl rfl)
theorem dX4_equal_158 : decode cX4_equal 158 = .ok (.aload_n 0, 1) := dk_42 (dk_at dksX4_equal_6 17 rfl rfl)
theorem dX4_equal_159 : decode cX4_equal 159 = .ok (.iload 4, 2) := dk_21 4 (dk_at dksX4_equal_6 18 rfl rfl)
theorem dX4_equal_161 : decode cX4_equal 161 = .ok (.invokevirtual 275, 3) := dk_182 1 19 (dk_at dksX4_equal_6 20 rfl rfl)
theorem dX4_equal_164 : decode cX4_equal 164 = .ok (.aload_n 0, 1) := dk_42 (dk_at dksX4_equal_6 23 rfl rfl)
theorem dX4_equal_165 : decode cX4_equal 165 = .ok (.iload 5, 2) := dk_21 5 (dk_at dksX4_equal_7 0 rfl rfl)
theorem dX4_equal_167 : decode cX4_equal 167 = .ok (.invokevirtual 275, 3) := dk_182 1 19 (dk_at dksX4_equal_7 2 rfl rfl)
theorem dX4_equal_170 : decode cX4_equal 170 = .ok (.if_icmp .ne 58, 3) := dk_160 0 58 (dk_at dksX4_equal_7 5 rfl rfl)
theorem dX4_equal_173 : decode cX4_equal 173 = .ok (.aload_n 0, 1) := dk_42 (dk_at dksX4_equal_7 8 rfl rfl)
theorem dX4_equal_174 : decode cX4_equal 174 = .ok (.getfield 60, 3) := dk_180 0 60 (dk_at dksX4_equal_7 9 rfl rfl)
theorem dX4_equal_177 : decode cX4_equal 177 = .ok (.iload 4, 2) := dk_21 4 (dk_at dksX4_equal_7 12 rfl rfl)
theorem dX4_equal_179 : decode cX4_equal 179 = .ok (.iaload, 1) := dk_46 (dk_at dksX4_equal_7 14 rfl rfl)
theorem dX4_equal_180 : decode cX4_equal 180 = .ok (.aload_n 0, 1) := dk_42 (dk_at dksX4_equal_7 15 rfl rfl)
theorem dX4_equal_181 : decode cX4_equal 181 = .ok (.getfield 60, 3) := dk_180 0 60 (dk_at dksX4_equal_7 16 rfl rfl)
theorem dX4_equal_184 : decode cX4_equal 184 = .ok (.iload 5, 2) := dk_21 5 (dk_at dksX4_equal_7 19 rfl rfl)
theorem dX4_equal_186 : decode cX4_equal 186 = .ok (.iaload, 1) := dk_46 (dk_at dksX4_equal_7 21 rfl rfl)
theorem dX4_equal_187 : decode cX4_equal 187 = .ok (.if_icmp .ne 41, 3) := dk_160 0 41 (dk_at dksX4_equal_8 0 rfl rfl)
theorem dX4_equal_190 : decode cX4_equal 190 = .ok (.aload_n 0, 1) := dk_42 (dk_at dksX4_equal_8 3 rfl rfl)
theorem dX4_equal_191 : decode cX4_equal 191 = .ok (.getfield 63, 3) := dk_180 0 63 (dk_at dksX4_equal_8 4 rfl rfl)
theorem dX4_equal_194 : decode cX4_equal 194 = .ok (.iload 4, 2) := dk_21 4 (dk_at dksX4_equal_8 7 rfl rfl)
theorem dX4_equal_196 : decode cX4_equal 196 = .ok (.iaload, 1) := dk_46 (dk_at dksX4_equal_8 9 rfl rfl)
theorem dX4_equal_197 : decode cX4_equal 197 = .ok (.aload_n 0, 1) := dk_42 (dk_at dksX4_equal_8 10 rfl rfl)
theorem dX4_equal_198 : decode cX4_equal 198 = .ok (.getfield 63, 3) := dk_180 0 63 (dk_at dksX4_equal_8 11 rfl rfl)
theorem dX4_equal_201 : decode cX4_equal 201 = .ok (.iload 5, 2) := dk_21 5 (dk_at dksX4_equal_8 14 rfl rfl)
theorem dX4_equal_203 : decode cX4_equal 203 = .ok (.iaload, 1) := dk_46 (dk_at dksX4_equal_8 16 rfl rfl)
theorem dX4_equal_204 : decode cX4_equal 204 = .ok (.if_icmp .ne 24, 3) := dk_160 0 24 (dk_at dksX4_equal_8 17 rfl rfl)
theorem dX4_equal_207 : decode cX4_equal 207 = .ok (.aload_n 0, 1) := dk_42 (dk_at dksX4_equal_8 20 rfl rfl)
theorem dX4_equal_208 : decode cX4_equal 208 = .ok (.getfield 66, 3) := dk_180 0 66 (dk_at dksX4_equal_8 21 rfl rfl)
theorem dX4_equal_211 : decode cX4_equal 211 = .ok (.iload 4, 2) := dk_21 4 (dk_at dksX4_equal_9 0 rfl rfl)
theorem dX4_equal_213 : decode cX4_equal 213 = .ok (.iaload, 1) := dk_46 (dk_at dksX4_equal_9 2 rfl rfl)
theorem dX4_equal_214 : decode cX4_equal 214 = .ok (.aload_n 0, 1) := dk_42 (dk_at dksX4_equal_9 3 rfl rfl)
theorem dX4_equal_215 : decode cX4_equal 215 = .ok (.getfield 66, 3) := dk_180 0 66 (dk_at dksX4_equal_9 4 rfl rfl)
theorem dX4_equal_218 : decode cX4_equal 218 = .ok (.iload 5, 2) := dk_21 5 (dk_at dksX4_equal_9 7 rfl rfl)
theorem dX4_equal_220 : decode cX4_equal 220 = .ok (.iaload, 1) := dk_46 (dk_at dksX4_equal_9 9 rfl rfl)
theorem dX4_equal_221 : decode cX4_equal 221 = .ok (.if_icmp .ne 7, 3) := dk_160 0 7 (dk_at dksX4_equal_9 10 rfl rfl)
theorem dX4_equal_224 : decode cX4_equal 224 = .ok (.iconst 1, 1) := dk_4 (dk_at dksX4_equal_9 13 rfl rfl)
theorem dX4_equal_225 : decode cX4_equal 225 = .ok (.goto 4, 3) := dk_167 0 4 (dk_at dksX4_equal_9 14 rfl rfl)
theorem dX4_equal_228 : decode cX4_equal 228 = .ok (.iconst 0, 1) := dk_3 (dk_at dksX4_equal_9 17 rfl rfl)
theorem dX4_equal_229 : decode cX4_equal 229 = .ok (.istore_n 3, 1) := dk_62 (dk_at dksX4_equal_9 18 rfl rfl)
theorem dX4_equal_230 : decode cX4_equal 230 = .ok (.aload_n 0, 1) := dk_42 (dk_at dksX4_equal_9 19 rfl rfl)
theorem dX4_equal_231 : decode cX4_equal 231 = .ok (.iload_n 1, 1) := dk_27 (dk_at dksX4_equal_9 20 rfl rfl)
theorem dX4_equal_232 : decode cX4_equal 232 = .ok (.iload 4, 2) := dk_21 4 (dk_at dksX4_equal_9 21 rfl rfl)
theorem dX4_equal_234 : decode cX4_equal 234 = .ok (.invokevirtual 315, 3) := dk_182 1 59 (dk_at dksX4_equal_10 0 rfl rfl)
theorem dX4_equal_237 : decode cX4_equal 237 = .ok (.istore 4, 2) := dk_54 4 (dk_at dksX4_equal_10 3 rfl rfl)
theorem dX4_equal_239 : decode cX4_equal 239 = .ok (.aload_n 0, 1) := dk_42 (dk_at dksX4_equal_10 5 rfl rfl)
theorem dX4_equal_240 : decode cX4_equal 240 = .ok (.iload_n 2, 1) := dk_28 (dk_at dksX4_equal_10 6 rfl rfl)
theorem dX4_equal_241 : decode cX4_equal 241 = .ok (.iload 5, 2) := dk_21 5 (dk_at dksX4_equal_10 7 rfl rfl)
theorem dX4_equal_243 : decode cX4_equal 243 = .ok (.invokevirtual 315, 3) := dk_182 1 59 (dk_at dksX4_equal_10 9 rfl rfl)
theorem dX4_equal_246 : decode cX4_equal 246 = .ok (.istore 5, 2) := dk_54 5 (dk_at dksX4_equal_10 12 rfl rfl)
theorem dX4_equal_248 : decode cX4_equal 248 = .ok (.goto (-131), 3) := dk_167 255 125 (dk_at dksX4_equal_10 14 rfl rfl)
theorem dX4_equal_251 : decode cX4_equal 251 = .ok (.iload_n 3, 1) := dk_29 (dk_at dksX4_equal_10 17 rfl rfl)
theorem dX4_equal_252 : decode cX4_equal 252 = .ok (.ifCond .eq 19, 3) := dk_153 0 19 (dk_at dksX4_equal_10 18 rfl rfl)
theorem dX4_equal_255 : decode cX4_equal 255 = .ok (.iload 4, 2) := dk_21 4 (dk_at dksX4_equal_10 21 rfl rfl)
theorem dX4_equal_257 : decode cX4_equal 257 = .ok (.iconst (-1), 1) := dk_2 (dk_at dksX4_equal_10 23 rfl rfl)
theorem dX4_equal_258 : decode cX4_equal 258 = .ok (.if_icmp .ne 13, 3) := dk_160 0 13 (dk_at dksX4_equal_11 0 rfl rfl)
theorem dX4_equal_261 : decode cX4_equal 261 = .ok (.iload 5, 2) := dk_21 5 (dk_at dksX4_equal_11 3 rfl rfl)
theorem dX4_equal_263 : decode cX4_equal 263 = .ok (.iconst (-1), 1) := dk_2 (dk_at dksX4_equal_11 5 rfl rfl)
theorem dX4_equal_264 : decode cX4_equal 264 = .ok (.if_icmp .ne 7, 3) := dk_160 0 7 (dk_at dksX4_equal_11 6 rfl rfl)
theorem dX4_equal_267 : decode cX4_equal 267 = .ok (.iconst 1, 1) := dk_4 (dk_at dksX4_equal_11 9 rfl rfl)
theorem dX4_equal_268 : decode cX4_equal 268 = .ok (.goto 4, 3) := dk_167 0 4 (dk_at dksX4_equal_11 10 rfl rfl)
theorem dX4_equal_271 : decode cX4_equal 271 = .ok (.iconst 0, 1) := dk_3 (dk_at dksX4_equal_11 13 rfl rfl)
theorem dX4_equal_272 : decode cX4_equal 272 = .ok (.ireturn, 1) := dk_172 (dk_at dksX4_equal_11 14 rfl rfl)
abbrev cX4_areAlike : ByteArray := prog_21_method_65_code
def yX4_areAlike : MethodName := ⟨RX4, "areAlike", "(II)Z"⟩
def dkwX4_areAlike_6 : List UInt8 := [172]
abbrev dktX4_areAlike_6 : List UInt8 := dkwX4_areAlike_6 ++ []
def dkwX4_areAlike_5 : List UInt8 := [16, 6, 28, 104, 21, 4, 96, 46, 160, 0, 7, 4, 167, 0, 4, 3, 62, 132, 4, 1, 167, 255, 205, 29]
abbrev dktX4_areAlike_5 : List UInt8 := dkwX4_areAlike_5 ++ dktX4_areAlike_6
def dkwX4_areAlike_4 : List UInt8 := [162, 0, 46, 29, 153, 0, 42, 42, 180, 0, 30, 16, 6, 27, 104, 21, 4, 96, 46, 42, 180, 0, 30]
abbrev dktX4_areAlike_4 : List UInt8 := dkwX4_areAlike_4 ++ dktX4_areAlike_5
def dkwX4_areAlike_3 : List UInt8 := [28, 51, 160, 0, 7, 4, 167, 0, 4, 3, 62, 3, 54, 4, 21, 4, 42, 180, 0, 27, 27, 46]
abbrev dktX4_areAlike_3 : List UInt8 := dkwX4_areAlike_3 ++ dktX4_areAlike_4
def dkwX4_areAlike_2 : List UInt8 := [180, 0, 36, 27, 46, 42, 180, 0, 36, 28, 46, 160, 0, 22, 42, 180, 0, 39, 27, 51, 42, 180, 0, 39]
abbrev dktX4_areAlike_2 : List UInt8 := dkwX4_areAlike_2 ++ dktX4_areAlike_3
def dkwX4_areAlike_1 : List UInt8 := [180, 0, 27, 28, 46, 160, 0, 52, 42, 180, 0, 33, 27, 46, 42, 180, 0, 33, 28, 46, 160, 0, 37, 42]
abbrev dktX4_areAlike_1 : List UInt8 := dkwX4_areAlike_1 ++ dktX4_areAlike_2
def dkwX4_areAlike_0 : List UInt8 := [42, 180, 0, 24, 27, 46, 42, 180, 0, 24, 28, 46, 160, 0, 67, 42, 180, 0, 27, 27, 46, 42]
abbrev dktX4_areAlike_0 : List UInt8 := dkwX4_areAlike_0 ++ dktX4_areAlike_1
theorem dksX4_areAlike_0 : cX4_areAlike.data.toList.drop 0 = dktX4_areAlike_0 := by decide +kernel
theorem dksX4_areAlike_1 : cX4_areAlike.data.toList.drop 22 = dktX4_areAlike_1 := dk_seg dksX4_areAlike_0 22 rfl rfl
theorem dksX4_areAlike_2 : cX4_areAlike.data.toList.drop 46 = dktX4_areAlike_2 := dk_seg dksX4_areAlike_1 24 rfl rfl
theorem dksX4_areAlike_3 : cX4_areAlike.data.toList.drop 70 = dktX4_areAlike_3 := dk_seg dksX4_areAlike_2 24 rfl rfl
theorem dksX4_areAlike_4 : cX4_areAlike.data.toList.drop 92 = dktX4_areAlike_4 := dk_seg dksX4_areAlike_3 22 rfl rfl
theorem dksX4_areAlike_5 : cX4_areAlike.data.toList.drop 115 = dktX4_areAlike_5 := dk_seg dksX4_areAlike_4 23 rfl rfl
theorem dksX4_areAlike_6 : cX4_areAlike.data.toList.drop 139 = dktX4_areAlike_6 := dk_seg dksX4_areAlike_5 24 rfl rfl
theorem dX4_areAlike_0 : decode cX4_areAlike 0 = .ok (.aload_n 0, 1) := dk_42 (dk_at dksX4_areAlike_0 0 rfl rfl)
theorem dX4_areAlike_1 : decode cX4_areAlike 1 = .ok (.getfield 24, 3) := dk_180 0 24 (dk_at dksX4_areAlike_0 1 rfl rfl)
theorem dX4_areAlike_4 : decode cX4_areAlike 4 = .ok (.iload_n 1, 1) := dk_27 (dk_at dksX4_areAlike_0 4 rfl rfl)
theorem dX4_areAlike_5 : decode cX4_areAlike 5 = .ok (.iaload, 1) := dk_46 (dk_at dksX4_areAlike_0 5 rfl rfl)
theorem dX4_areAlike_6 : decode cX4_areAlike 6 = .ok (.aload_n 0, 1) := dk_42 (dk_at dksX4_areAlike_0 6 rfl rfl)
theorem dX4_areAlike_7 : decode cX4_areAlike 7 = .ok (.getfield 24, 3) := dk_180 0 24 (dk_at dksX4_areAlike_0 7 rfl rfl)
theorem dX4_areAlike_10 : decode cX4_areAlike 10 = .ok (.iload_n 2, 1) := dk_28 (dk_at dksX4_areAlike_0 10 rfl rfl)
theorem dX4_areAlike_11 : decode cX4_areAlike 11 = .ok (.iaload, 1) := dk_46 (dk_at dksX4_areAlike_0 11 rfl rfl)
theorem dX4_areAlike_12 : decode cX4_areAlike 12 = .ok (.if_icmp .ne 67, 3) := dk_160 0 67 (dk_at dksX4_areAlike_0 12 rfl rfl)
theorem dX4_areAlike_15 : decode cX4_areAlike 15 = .ok (.aload_n 0, 1) := dk_42 (dk_at dksX4_areAlike_0 15 rfl rfl)
theorem dX4_areAlike_16 : decode cX4_areAlike 16 = .ok (.getfield 27, 3) := dk_180 0 27 (dk_at dksX4_areAlike_0 16 rfl rfl)
theorem dX4_areAlike_19 : decode cX4_areAlike 19 = .ok (.iload_n 1, 1) := dk_27 (dk_at dksX4_areAlike_0 19 rfl rfl)
theorem dX4_areAlike_20 : decode cX4_areAlike 20 = .ok (.iaload, 1) := dk_46 (dk_at dksX4_areAlike_0 20 rfl rfl)
theorem dX4_areAlike_21 : decode cX4_areAlike 21 = .ok (.aload_n 0, 1) := dk_42 (dk_at dksX4_areAlike_0 21 rfl rfl)
theorem dX4_areAlike_22 : decode cX4_areAlike 22 = .ok (.getfield 27, 3) := dk_180 0 27 (dk_at dksX4_areAlike_1 0 rfl rfl)
theorem dX4_areAlike_25 : decode cX4_areAlike 25 = .ok (.iload_n 2, 1) := dk_28 (dk_at dksX4_areAlike_1 3 rfl rfl)
theorem dX4_areAlike_26 : decode cX4_areAlike 26 = .ok (.iaload, 1) := dk_46 (dk_at dksX4_areAlike_1 4 rfl rfl)
theorem dX4_areAlike_27 : decode cX4_areAlike 27 = .ok (.if_icmp .ne 52, 3) := dk_160 0 52 (dk_at dksX4_areAlike_1 5 rfl rfl)
theorem dX4_areAlike_30 : decode cX4_areAlike 30 = .ok (.aload_n 0, 1) := dk_42 (dk_at dksX4_areAlike_1 8 rfl rfl)
theorem dX4_areAlike_31 : decode cX4_areAlike 31 = .ok (.getfield 33, 3) := dk_180 0 33 (dk_at dksX4_areAlike_1 9 rfl rfl)
theorem dX4_areAlike_34 : decode cX4_areAlike 34 = .ok (.iload_n 1, 1) := dk_27 (dk_at dksX4_areAlike_1 12 rfl rfl)
theorem dX4_areAlike_35 : decode cX4_areAlike 35 = .ok (.iaload, 1) := dk_46 (dk_at dksX4_areAlike_1 13 rfl rfl)
theorem dX4_areAlike_36 : decode cX4_areAlike 36 = .ok (.aload_n 0, 1) := dk_42 (dk_at dksX4_areAlike_1 14 rfl rfl)
theorem dX4_areAlike_37 : decode cX4_areAlike 37 = .ok (.getfield 33, 3) := dk_180 0 33 (dk_at dksX4_areAlike_1 15 rfl rfl)
theorem dX4_areAlike_40 : decode cX4_areAlike 40 = .ok (.iload_n 2, 1) := dk_28 (dk_at dksX4_areAlike_1 18 rfl rfl)
theorem dX4_areAlike_41 : decode cX4_areAlike 41 = .ok (.iaload, 1) := dk_46 (dk_at dksX4_areAlike_1 19 rfl rfl)
theorem dX4_areAlike_42 : decode cX4_areAlike 42 = .ok (.if_icmp .ne 37, 3) := dk_160 0 37 (dk_at dksX4_areAlike_1 20 rfl rfl)
theorem dX4_areAlike_45 : decode cX4_areAlike 45 = .ok (.aload_n 0, 1) := dk_42 (dk_at dksX4_areAlike_1 23 rfl rfl)
theorem dX4_areAlike_46 : decode cX4_areAlike 46 = .ok (.getfield 36, 3) := dk_180 0 36 (dk_at dksX4_areAlike_2 0 rfl rfl)
theorem dX4_areAlike_49 : decode cX4_areAlike 49 = .ok (.iload_n 1, 1) := dk_27 (dk_at dksX4_areAlike_2 3 rfl rfl)
theorem dX4_areAlike_50 : decode cX4_areAlike 50 = .ok (.iaload, 1) := dk_46 (dk_at dksX4_areAlike_2 4 rfl rfl)
theorem dX4_areAlike_51 : decode cX4_areAlike 51 = .ok (.aload_n 0, 1) := dk_42 (dk_at dksX4_areAlike_2 5 rfl rfl)
theorem dX4_areAlike_52 : decode cX4_areAlike 52 = .ok (.getfield 36, 3) := dk_180 0 36 (dk_at dksX4_areAlike_2 6 rfl rfl)
theorem dX4_areAlike_55 : decode cX4_areAlike 55 = .ok (.iload_n 2, 1) := dk_28 (dk_at dksX4_areAlike_2 9 rfl rfl)
theorem dX4_areAlike_56 : decode cX4_areAlike 56 = .ok (.iaload, 1) := dk_46 (dk_at dksX4_areAlike_2 10 rfl rfl)
theorem dX4_areAlike_57 : decode cX4_areAlike 57 = .ok (.if_icmp .ne 22, 3) := dk_160 0 22 (dk_at dksX4_areAlike_2 11 rfl rfl)
theorem dX4_areAlike_60 : decode cX4_areAlike 60 = .ok (.aload_n 0, 1) := dk_42 (dk_at dksX4_areAlike_2 14 rfl rfl)
theorem dX4_areAlike_61 : decode cX4_areAlike 61 = .ok (.getfield 39, 3) := dk_180 0 39 (dk_at dksX4_areAlike_2 15 rfl rfl)
theorem dX4_areAlike_64 : decode cX4_areAlike 64 = .ok (.iload_n 1, 1) := dk_27 (dk_at dksX4_areAlike_2 18 rfl rfl)
theorem dX4_areAlike_65 : decode cX4_areAlike 65 = .ok (.baload, 1) := dk_51 (dk_at dksX4_areAlike_2 19 rfl rfl)
theorem dX4_areAlike_66 : decode cX4_areAlike 66 = .ok (.aload_n 0, 1) := dk_42 (dk_at dksX4_areAlike_2 20 rfl rfl)
theorem dX4_areAlike_67 : decode cX4_areAlike 67 = .ok (.getfield 39, 3) := dk_180 0 39 (dk_at dksX4_areAlike_2 21 rfl rfl)
theorem dX4_areAlike_70 : decode cX4_areAlike 70 = .ok (.iload_n 2, 1) := dk_28 (dk_at dksX4_areAlike_3 0 rfl rfl)
theorem dX4_areAlike_71 : decode cX4_areAlike 71 = .ok (.baload, 1) := dk_51 (dk_at dksX4_areAlike_3 1 rfl rfl)
theorem dX4_areAlike_72 : decode cX4_areAlike 72 = .ok (.if_icmp .ne 7, 3) := dk_160 0 7 (dk_at dksX4_areAlike_3 2 rfl rfl)
theorem dX4_areAlike_75 : decode cX4_areAlike 75 = .ok (.iconst 1, 1) := dk_4 (dk_at dksX4_areAlike_3 5 rfl rfl)
theorem dX4_areAlike_76 : decode cX4_areAlike 76 = .ok (.goto 4, 3) := dk_167 0 4 (dk_at dksX4_areAlike_3 6 rfl rfl)
theorem dX4_areAlike_79 : decode cX4_areAlike 79 = .ok (.iconst 0, 1) := dk_3 (dk_at dksX4_areAlike_3 9 rfl rfl)
theorem dX4_areAlike_80 : decode cX4_areAlike 80 = .ok (.istore_n 3, 1) := dk_62 (dk_at dksX4_areAlike_3 10 rfl rfl)
theorem dX4_areAlike_81 : decode cX4_areAlike 81 = .ok (.iconst 0, 1) := dk_3 (dk_at dksX4_areAlike_3 11 rfl rfl)
theorem dX4_areAlike_82 : decode cX4_areAlike 82 = .ok (.istore 4, 2) := dk_54 4 (dk_at dksX4_areAlike_3 12 rfl rfl)
theorem dX4_areAlike_84 : decode cX4_areAlike 84 = .ok (.iload 4, 2) := dk_21 4 (dk_at dksX4_areAlike_3 14 rfl rfl)
theorem dX4_areAlike_86 : decode cX4_areAlike 86 = .ok (.aload_n 0, 1) := dk_42 (dk_at dksX4_areAlike_3 16 rfl rfl)
theorem dX4_areAlike_87 : decode cX4_areAlike 87 = .ok (.getfield 27, 3) := dk_180 0 27 (dk_at dksX4_areAlike_3 17 rfl rfl)
theorem dX4_areAlike_90 : decode cX4_areAlike 90 = .ok (.iload_n 1, 1) := dk_27 (dk_at dksX4_areAlike_3 20 rfl rfl)
theorem dX4_areAlike_91 : decode cX4_areAlike 91 = .ok (.iaload, 1) := dk_46 (dk_at dksX4_areAlike_3 21 rfl rfl)
theorem dX4_areAlike_92 : decode cX4_areAlike 92 = .ok (.if_icmp .ge 46, 3) := dk_162 0 46 (dk_at dksX4_areAlike_4 0 rfl rfl)
theorem dX4_areAlike_95 : decode cX4_areAlike 95 = .ok (.iload_n 3, 1) := dk_29 (dk_at dksX4_areAlike_4 3 rfl rfl)
theorem dX4_areAlike_96 : decode cX4_areAlike 96 = .ok (.ifCond .eq 42, 3) := dk_153 0 42 (dk_at dksX4_areAlike_4 4 rfl rfl)
theorem dX4_areAlike_99 : decode cX4_areAlike 99 = .ok (.aload_n 0, 1) := dk_42 (dk_at dksX4_areAlike_4 7 rfl rfl)
theorem dX4_areAlike_100 : decode cX4_areAlike 100 = .ok (.getfield 30, 3) := dk_180 0 30 (dk_at dksX4_areAlike_4 8 rfl rfl)
theorem dX4_areAlike_103 : decode cX4_areAlike 103 = .ok (.bipush 6, 2) := dk_16 6 (dk_at dksX4_areAlike_4 11 rfl rfl)
theorem dX4_areAlike_105 : decode cX4_areAlike 105 = .ok (.iload_n 1, 1) := dk_27 (dk_at dksX4_areAlike_4 13 rfl rfl)
theorem dX4_areAlike_106 : decode cX4_areAlike 106 = .ok (.imul, 1) := dk_104 (dk_at dksX4_areAlike_4 14 rfl rfl)
theorem dX4_areAlike_107 : decode cX4_areAlike 107 = .ok (.iload 4, 2) := dk_21 4 (dk_at dksX4_areAlike_4 15 rfl rfl)
theorem dX4_areAlike_109 : decode cX4_areAlike 109 = .ok (.iadd, 1) := dk_96 (dk_at dksX4_areAlike_4 17 rfl rfl)
theorem dX4_areAlike_110 : decode cX4_areAlike 110 = .ok (.iaload, 1) := dk_46 (dk_at dksX4_areAlike_4 18 rfl rfl)
theorem dX4_areAlike_111 : decode cX4_areAlike 111 = .ok (.aload_n 0, 1) := dk_42 (dk_at dksX4_areAlike_4 19 rfl rfl)
theorem dX4_areAlike_112 : decode cX4_areAlike 112 = .ok (.getfield 30, 3) := dk_180 0 30 (dk_at dksX4_areAlike_4 20 rfl rfl)
theorem dX4_areAlike_115 : decode cX4_areAlike 115 = .ok (.bipush 6, 2) := dk_16 6 (dk_at dksX4_areAlike_5 0 rfl rfl)
theorem dX4_areAlike_117 : decode cX4_areAlike 117 = .ok (.iload_n 2, 1) := dk_28 (dk_at dksX4_areAlike_5 2 rfl rfl)
theorem dX4_areAlike_118 : decode cX4_areAlike 118 = .ok (.imul, 1) := dk_104 (dk_at dksX4_areAlike_5 3 rfl rfl)
theorem dX4_areAlike_119 : decode cX4_areAlike 119 = .ok (.iload 4, 2) := dk_21 4 (dk_at dksX4_areAlike_5 4 rfl rfl)
theorem dX4_areAlike_121 : decode cX4_areAlike 121 = .ok (.iadd, 1) := dk_96 (dk_at dksX4_areAlike_5 6 rfl rfl)
theorem dX4_areAlike_122 : decode cX4_areAlike 122 = .ok (.iaload, 1) := dk_46 (dk_at dksX4_areAlike_5 7 rfl rfl)
theorem dX4_areAlike_123 : decode cX4_areAlike 123 = .ok (.if_icmp .ne 7, 3) := dk_160 0 7 (dk_at dksX4_areAlike_5 8 rfl rfl)
theorem dX4_areAlike_126 : decode cX4_areAlike 126 = .ok (.iconst 1, 1) := dk_4 (dk_at dksX4_areAlike_5 11 rfl rfl)
theorem dX4_areAlike_127 : decode cX4_areAlike 127 = .ok (.goto 4, 3) := dk_167 0 4 (dk_at dksX4_areAlike_5 12 rfl rfl)
theorem dX4_areAlike_130 : decode cX4_areAlike 130 = .ok (.iconst 0, 1) := dk_3 (dk_at dksX4_areAlike_5 15 rfl rfl)
theorem dX4_areAlike_131 : decode cX4_areAlike 131 = .ok (.istore_n 3, 1) := dk_62 (dk_at dksX4_areAlike_5 16 rfl rfl)
theorem dX4_areAlike_132 : decode cX4_areAlike 132 = .ok (.iinc 4 1, 3) := dk_132 4 1 (dk_at dksX4_areAlike_5 17 rfl rfl)
theorem dX4_areAlike_135 : decode cX4_areAlike 135 = .ok (.goto (-51), 3) := dk_167 255 205 (dk_at dksX4_areAlike_5 20 rfl rfl)
theorem dX4_areAlike_138 : decode cX4_areAlike 138 = .ok (.iload_n 3, 1) := dk_29 (dk_at dksX4_areAlike_5 23 rfl rfl)
theorem dX4_areAlike_139 : decode cX4_areAlike 139 = .ok (.ireturn, 1) := dk_172 (dk_at dksX4_areAlike_6 0 rfl rfl)
abbrev cX4_nextOf : ByteArray := prog_21_method_64_code
def yX4_nextOf : MethodName := ⟨RX4, "nextOf", "(II)I"⟩
def dkwX4_nextOf_2 : List UInt8 := [167, 0, 4, 2, 172]
abbrev dktX4_nextOf_2 : List UInt8 := dkwX4_nextOf_2 ++ []
def dkwX4_nextOf_1 : List UInt8 := [180, 0, 51, 29, 46, 27, 159, 0, 9, 132, 3, 1, 167, 255, 226, 29, 42, 180, 0, 199, 162, 0, 7, 29]
abbrev dktX4_nextOf_1 : List UInt8 := dkwX4_nextOf_1 ++ dktX4_nextOf_2
def dkwX4_nextOf_0 : List UInt8 := [28, 4, 96, 62, 29, 42, 180, 0, 199, 162, 0, 28, 42, 180, 0, 48, 29, 51, 153, 0, 13, 42]
abbrev dktX4_nextOf_0 : List UInt8 := dkwX4_nextOf_0 ++ dktX4_nextOf_1
theorem dksX4_nextOf_0 : cX4_nextOf.data.toList.drop 0 = dktX4_nextOf_0 := by decide +kernel
theorem dksX4_nextOf_1 : cX4_nextOf.data.toList.drop 22 = dktX4_nextOf_1 := dk_seg dksX4_nextOf_0 22 rfl rfl
theorem dksX4_nextOf_2 : cX4_nextOf.data.toList.drop 46 = dktX4_nextOf_2 := dk_seg dksX4_nextOf_1 24 rfl rfl
theorem dX4_nextOf_0 : decode cX4_nextOf 0 = .ok (.iload_n 2, 1) := dk_28 (dk_at dksX4_nextOf_0 0 rfl rfl)
theorem dX4_nextOf_1 : decode cX4_nextOf 1 = .ok (.iconst 1, 1) := dk_4 (dk_at dksX4_nextOf_0 1 rfl rfl)
theorem dX4_nextOf_2 : decode cX4_nextOf 2 = .ok (.iadd, 1) := dk_96 (dk_at dksX4_nextOf_0 2 rfl rfl)
theorem dX4_nextOf_3 : decode cX4_nextOf 3 = .ok (.istore_n 3, 1) := dk_62 (dk_at dksX4_nextOf_0 3 rfl rfl)
theorem dX4_nextOf_4 : decode cX4_nextOf 4 = .ok (.iload_n 3, 1) := dk_29 (dk_at dksX4_nextOf_0 4 rfl rfl)
theorem dX4_nextOf_5 : decode cX4_nextOf 5 = .ok (.aload_n 0, 1) := dk_42 (dk_at dksX4_nextOf_0 5 rfl rfl)
theorem dX4_nextOf_6 : decode cX4_nextOf 6 = .ok (.getfield 199, 3) := dk_180 0 199 (dk_at dksX4_nextOf_0 6 rfl rfl)
theorem dX4_nextOf_9 : decode cX4_nextOf 9 = .ok (.if_icmp .ge 28, 3) := dk_162 0 28 (dk_at dksX4_nextOf_0 9 rfl rfl)
theorem dX4_nextOf_12 : decode cX4_nextOf 12 = .ok (.aload_n 0, 1) := dk_42 (dk_at dksX4_nextOf_0 12 rfl rfl)
theorem dX4_nextOf_13 : decode cX4_nextOf 13 = .ok (.getfield 48, 3) := dk_180 0 48 (dk_at dksX4_nextOf_0 13 rfl rfl)
theorem dX4_nextOf_16 : decode cX4_nextOf 16 = .ok (.iload_n 3, 1) := dk_29 (dk_at dksX4_nextOf_0 16 rfl rfl)
theorem dX4_nextOf_17 : decode cX4_nextOf 17 = .ok (.baload, 1) := dk_51 (dk_at dksX4_nextOf_0 17 rfl rfl)
theorem dX4_nextOf_18 : decode cX4_nextOf 18 = .ok (.ifCond .eq 13, 3) := dk_153 0 13 (dk_at dksX4_nextOf_0 18 rfl rfl)
theorem dX4_nextOf_21 : decode cX4_nextOf 21 = .ok (.aload_n 0, 1) := dk_42 (dk_at dksX4_nextOf_0 21 rfl rfl)
theorem dX4_nextOf_22 : decode cX4_nextOf 22 = .ok (.getfield 51, 3) := dk_180 0 51 (dk_at dksX4_nextOf_1 0 rfl rfl)
theorem dX4_nextOf_25 : decode cX4_nextOf 25 = .ok (.iload_n 3, 1) := dk_29 (dk_at dksX4_nextOf_1 3 rfl rfl)
theorem dX4_nextOf_26 : decode cX4_nextOf 26 = .ok (.iaload, 1) := dk_46 (dk_at dksX4_nextOf_1 4 rfl rfl)
theorem dX4_nextOf_27 : decode cX4_nextOf 27 = .ok (.iload_n 1, 1) := dk_27 (dk_at dksX4_nextOf_1 5 rfl rfl)
theorem dX4_nextOf_28 : decode cX4_nextOf 28 = .ok (.if_icmp .eq 9, 3) := dk_159 0 9 (dk_at dksX4_nextOf_1 6 rfl rfl)
theorem dX4_nextOf_31 : decode cX4_nextOf 31 = .ok (.iinc 3 1, 3) := dk_132 3 1 (dk_at dksX4_nextOf_1 9 rfl rfl)
theorem dX4_nextOf_34 : decode cX4_nextOf 34 = .ok (.goto (-30), 3) := dk_167 255 226 (dk_at dksX4_nextOf_1 12 rfl rfl)
theorem dX4_nextOf_37 : decode cX4_nextOf 37 = .ok (.iload_n 3, 1) := dk_29 (dk_at dksX4_nextOf_1 15 rfl rfl)
theorem dX4_nextOf_38 : decode cX4_nextOf 38 = .ok (.aload_n 0, 1) := dk_42 (dk_at dksX4_nextOf_1 16 rfl rfl)
theorem dX4_nextOf_39 : decode cX4_nextOf 39 = .ok (.getfield 199, 3) := dk_180 0 199 (dk_at dksX4_nextOf_1 17 rfl rfl)
theorem dX4_nextOf_42 : decode cX4_nextOf 42 = .ok (.if_icmp .ge 7, 3) := dk_162 0 7 (dk_at dksX4_nextOf_1 20 rfl rfl)
theorem dX4_nextOf_45 : decode cX4_nextOf 45 = .ok (.iload_n 3, 1) := dk_29 (dk_at dksX4_nextOf_1 23 rfl rfl)
theorem dX4_nextOf_46 : decode cX4_nextOf 46 = .ok (.goto 4, 3) := dk_167 0 4 (dk_at dksX4_nextOf_2 0 rfl rfl)
theorem dX4_nextOf_49 : decode cX4_nextOf 49 = .ok (.iconst (-1), 1) := dk_2 (dk_at dksX4_nextOf_2 3 rfl rfl)
theorem dX4_nextOf_50 : decode cX4_nextOf 50 = .ok (.ireturn, 1) := dk_172 (dk_at dksX4_nextOf_2 4 rfl rfl)
abbrev cX4_rack : ByteArray := prog_21_method_67_code
def yX4_rack : MethodName := ⟨RX4, "rack", "(III)I"⟩
def dkwX4_rack_4 : List UInt8 := [2, 79, 132, 4, 1, 167, 255, 233, 4, 172]
abbrev dktX4_rack_4 : List UInt8 := dkwX4_rack_4 ++ []
def dkwX4_rack_3 : List UInt8 := [27, 29, 79, 3, 54, 4, 21, 4, 16, 20, 162, 0, 22, 42, 180, 0, 96, 16, 20, 27, 104, 21, 4, 96]
abbrev dktX4_rack_3 : List UInt8 := dkwX4_rack_3 ++ dktX4_rack_4
def dkwX4_rack_2 : List UInt8 := [16, 241, 182, 0, 211, 172, 42, 180, 0, 87, 27, 4, 84, 42, 180, 0, 90, 27, 28, 79, 42, 180, 0, 93]
abbrev dktX4_rack_2 : List UInt8 := dkwX4_rack_2 ++ dktX4_rack_3
def dkwX4_rack_1 : List UInt8 := [184, 0, 137, 153, 0, 9, 29, 16, 20, 164, 0, 10, 42, 16, 254, 182, 0, 130, 172, 29, 156, 0, 10, 42]
abbrev dktX4_rack_1 : List UInt8 := dkwX4_rack_1 ++ dktX4_rack_2
def dkwX4_rack_0 : List UInt8 := [42, 182, 0, 144, 27, 133, 9, 20, 0, 231, 184, 0, 137, 153, 0, 21, 28, 133, 9, 20, 0, 147]
abbrev dktX4_rack_0 : List UInt8 := dkwX4_rack_0 ++ dktX4_rack_1
theorem dksX4_rack_0 : cX4_rack.data.toList.drop 0 = dktX4_rack_0 := by decide +kernel
theorem dksX4_rack_1 : cX4_rack.data.toList.drop 22 = dktX4_rack_1 := dk_seg dksX4_rack_0 22 rfl rfl
theorem dksX4_rack_2 : cX4_rack.data.toList.drop 46 = dktX4_rack_2 := dk_seg dksX4_rack_1 24 rfl rfl
theorem dksX4_rack_3 : cX4_rack.data.toList.drop 70 = dktX4_rack_3 := dk_seg dksX4_rack_2 24 rfl rfl
theorem dksX4_rack_4 : cX4_rack.data.toList.drop 94 = dktX4_rack_4 := dk_seg dksX4_rack_3 24 rfl rfl
theorem dX4_rack_0 : decode cX4_rack 0 = .ok (.aload_n 0, 1) := dk_42 (dk_at dksX4_rack_0 0 rfl rfl)
theorem dX4_rack_1 : decode cX4_rack 1 = .ok (.invokevirtual 144, 3) := dk_182 0 144 (dk_at dksX4_rack_0 1 rfl rfl)
theorem dX4_rack_4 : decode cX4_rack 4 = .ok (.iload_n 1, 1) := dk_27 (dk_at dksX4_rack_0 4 rfl rfl)
theorem dX4_rack_5 : decode cX4_rack 5 = .ok (.i2l, 1) := dk_133 (dk_at dksX4_rack_0 5 rfl rfl)
theorem dX4_rack_6 : decode cX4_rack 6 = .ok (.lconst 0, 1) := dk_9 (dk_at dksX4_rack_0 6 rfl rfl)
theorem dX4_rack_7 : decode cX4_rack 7 = .ok (.ldc2_w 231, 3) := dk_20 0 231 (dk_at dksX4_rack_0 7 rfl rfl)
theorem dX4_rack_10 : decode cX4_rack 10 = .ok (.invokestatic 137, 3) := dk_184 0 137 (dk_at dksX4_rack_0 10 rfl rfl)
theorem dX4_rack_13 : decode cX4_rack 13 = .ok (.ifCond .eq 21, 3) := dk_153 0 21 (dk_at dksX4_rack_0 13 rfl rfl)
theorem dX4_rack_16 : decode cX4_rack 16 = .ok (.iload_n 2, 1) := dk_28 (dk_at dksX4_rack_0 16 rfl rfl)
theorem dX4_rack_17 : decode cX4_rack 17 = .ok (.i2l, 1) := dk_133 (dk_at dksX4_rack_0 17 rfl rfl)
theorem dX4_rack_18 : decode cX4_rack 18 = .ok (.lconst 0, 1) := dk_9 (dk_at dksX4_rack_0 18 rfl rfl)
theorem dX4_rack_19 : decode cX4_rack 19 = .ok (.ldc2_w 147, 3) := dk_20 0 147 (dk_at dksX4_rack_0 19 rfl rfl)
theorem dX4_rack_22 : decode cX4_rack 22 = .ok (.invokestatic 137, 3) := dk_184 0 137 (dk_at dksX4_rack_1 0 rfl rfl)
theorem dX4_rack_25 : decode cX4_rack 25 = .ok (.ifCond .eq 9, 3) := dk_153 0 9 (dk_at dksX4_rack_1 3 rfl rfl)
theorem dX4_rack_28 : decode cX4_rack 28 = .ok (.iload_n 3, 1) := dk_29 (dk_at dksX4_rack_1 6 rfl rfl)
theorem dX4_rack_29 : decode cX4_rack 29 = .ok (.bipush 20, 2) := dk_16 20 (dk_at dksX4_rack_1 7 rfl rfl)
theorem dX4_rack_31 : decode cX4_rack 31 = .ok (.if_icmp .le 10, 3) := dk_164 0 10 (dk_at dksX4_rack_1 9 rfl rfl)
theorem dX4_rack_34 : decode cX4_rack 34 = .ok (.aload_n 0, 1) := dk_42 (dk_at dksX4_rack_1 12 rfl rfl)
theorem dX4_rack_35 : decode cX4_rack 35 = .ok (.bipush (-2), 2) := dk_16 254 (dk_at dksX4_rack_1 13 rfl rfl)
theorem dX4_rack_37 : decode cX4_rack 37 = .ok (.invokevirtual 130, 3) := dk_182 0 130 (dk_at dksX4_rack_1 15 rfl rfl)
theorem dX4_rack_40 : decode cX4_rack 40 = .ok (.ireturn, 1) := dk_172 (dk_at dksX4_rack_1 18 rfl rfl)
theorem dX4_rack_41 : decode cX4_rack 41 = .ok (.iload_n 3, 1) := dk_29 (dk_at dksX4_rack_1 19 rfl rfl)
theorem dX4_rack_42 : decode cX4_rack 42 = .ok (.ifCond .ge 10, 3) := dk_156 0 10 (dk_at dksX4_rack_1 20 rfl rfl)
theorem dX4_rack_45 : decode cX4_rack 45 = .ok (.aload_n 0, 1) := dk_42 (dk_at dksX4_rack_1 23 rfl rfl)
theorem dX4_rack_46 : decode cX4_rack 46 = .ok (.bipush (-15), 2) := dk_16 241 (dk_at dksX4_rack_2 0 rfl rfl)
theorem dX4_rack_48 : decode cX4_rack 48 = .ok (.invokevirtual 211, 3) := dk_182 0 211 (dk_at dksX4_rack_2 2 rfl rfl)
theorem dX4_rack_51 : decode cX4_rack 51 = .ok (.ireturn, 1) := dk_172 (dk_at dksX4_rack_2 5 rfl rfl)
theorem dX4_rack_52 : decode cX4_rack 52 = .ok (.aload_n 0, 1) := dk_42 (dk_at dksX4_rack_2 6 rfl rfl)
theorem dX4_rack_53 : decode cX4_rack 53 = .ok (.getfield 87, 3) := dk_180 0 87 (dk_at dksX4_rack_2 7 rfl rfl)
theorem dX4_rack_56 : decode cX4_rack 56 = .ok (.iload_n 1, 1) := dk_27 (dk_at dksX4_rack_2 10 rfl rfl)
theorem dX4_rack_57 : decode cX4_rack 57 = .ok (.iconst 1, 1) := dk_4 (dk_at dksX4_rack_2 11 rfl rfl)
theorem dX4_rack_58 : decode cX4_rack 58 = .ok (.bastore, 1) := dk_84 (dk_at dksX4_rack_2 12 rfl rfl)
theorem dX4_rack_59 : decode cX4_rack 59 = .ok (.aload_n 0, 1) := dk_42 (dk_at dksX4_rack_2 13 rfl rfl)
theorem dX4_rack_60 : decode cX4_rack 60 = .ok (.getfield 90, 3) := dk_180 0 90 (dk_at dksX4_rack_2 14 rfl rfl)
theorem dX4_rack_63 : decode cX4_rack 63 = .ok (.iload_n 1, 1) := dk_27 (dk_at dksX4_rack_2 17 rfl rfl)
theorem dX4_rack_64 : decode cX4_rack 64 = .ok (.iload_n 2, 1) := dk_28 (dk_at dksX4_rack_2 18 rfl rfl)
theorem dX4_rack_65 : decode cX4_rack 65 = .ok (.iastore, 1) := dk_79 (dk_at dksX4_rack_2 19 rfl rfl)
theorem dX4_rack_66 : decode cX4_rack 66 = .ok (.aload_n 0, 1) := dk_42 (dk_at dksX4_rack_2 20 rfl rfl)
theorem dX4_rack_67 : decode cX4_rack 67 = .ok (.getfield 93, 3) := dk_180 0 93 (dk_at dksX4_rack_2 21 rfl rfl)
theorem dX4_rack_70 : decode cX4_rack 70 = .ok (.iload_n 1, 1) := dk_27 (dk_at dksX4_rack_3 0 rfl rfl)
theorem dX4_rack_71 : decode cX4_rack 71 = .ok (.iload_n 3, 1) := dk_29 (dk_at dksX4_rack_3 1 rfl rfl)
theorem dX4_rack_72 : decode cX4_rack 72 = .ok (.iastore, 1) := dk_79 (dk_at dksX4_rack_3 2 rfl rfl)
theorem dX4_rack_73 : decode cX4_rack 73 = .ok (.iconst 0, 1) := dk_3 (dk_at dksX4_rack_3 3 rfl rfl)
theorem dX4_rack_74 : decode cX4_rack 74 = .ok (.istore 4, 2) := dk_54 4 (dk_at dksX4_rack_3 4 rfl rfl)
theorem dX4_rack_76 : decode cX4_rack 76 = .ok (.iload 4, 2) := dk_21 4 (dk_at dksX4_rack_3 6 rfl rfl)
theorem dX4_rack_78 : decode cX4_rack 78 = .ok (.bipush 20, 2) := dk_16 20 (dk_at dksX4_rack_3 8 rfl rfl)
theorem dX4_rack_80 : decode cX4_rack 80 = .ok (.if_icmp .ge 22, 3) := dk_162 0 22 (dk_at dksX4_rack_3 10 rfl rfl)
theorem dX4_rack_83 : decode cX4_rack 83 = .ok (.aload_n 0, 1) := dk_42 (dk_at dksX4_rack_3 13 rfl rfl)
theorem dX4_rack_84 : decode cX4_rack 84 = .ok (.getfield 96, 3) := dk_180 0 96 (dk_at dksX4_rack_3 14 rfl rfl)
theorem dX4_rack_87 : decode cX4_rack 87 = .ok (.bipush 20, 2) := dk_16 20 (dk_at dksX4_rack_3 17 rfl rfl)
theorem dX4_rack_89 : decode cX4_rack 89 = .ok (.iload_n 1, 1) := dk_27 (dk_at dksX4_rack_3 19 rfl rfl)
theorem dX4_rack_90 : decode cX4_rack 90 = .ok (.imul, 1) := dk_104 (dk_at dksX4_rack_3 20 rfl rfl)
theorem dX4_rack_91 : decode cX4_rack 91 = .ok (.iload 4, 2) := dk_21 4 (dk_at dksX4_rack_3 21 rfl rfl)
theorem dX4_rack_93 : decode cX4_rack 93 = .ok (.iadd, 1) := dk_96 (dk_at dksX4_rack_3 23 rfl rfl)
theorem dX4_rack_94 : decode cX4_rack 94 = .ok (.iconst (-1), 1) := dk_2 (dk_at dksX4_rack_4 0 rfl rfl)
theorem dX4_rack_95 : decode cX4_rack 95 = .ok (.iastore, 1) := dk_79 (dk_at dksX4_rack_4 1 rfl rfl)
theorem dX4_rack_96 : decode cX4_rack 96 = .ok (.iinc 4 1, 3) := dk_132 4 1 (dk_at dksX4_rack_4 2 rfl rfl)
theorem dX4_rack_99 : decode cX4_rack 99 = .ok (.goto (-23), 3) := dk_167 255 233 (dk_at dksX4_rack_4 5 rfl rfl)
theorem dX4_rack_102 : decode cX4_rack 102 = .ok (.iconst 1, 1) := dk_4 (dk_at dksX4_rack_4 8 rfl rfl)
theorem dX4_rack_103 : decode cX4_rack 103 = .ok (.ireturn, 1) := dk_172 (dk_at dksX4_rack_4 9 rfl rfl)
abbrev cX4_hold : ByteArray := prog_21_method_69_code
def yX4_hold : MethodName := ⟨RX4, "hold", "(III)I"⟩
def dkwX4_hold_4 : List UInt8 := [154, 0, 10, 42, 16, 242, 182, 0, 211, 172, 42, 180, 0, 96, 16, 20, 27, 104, 28, 96, 29, 79, 4, 172]
abbrev dktX4_hold_4 : List UInt8 := dkwX4_hold_4 ++ []
def dkwX4_hold_3 : List UInt8 := [42, 16, 244, 182, 0, 211, 172, 29, 2, 159, 0, 24, 42, 29, 42, 180, 0, 90, 27, 46, 182, 1, 62]
abbrev dktX4_hold_3 : List UInt8 := dkwX4_hold_3 ++ dktX4_hold_4
def dkwX4_hold_2 : List UInt8 := [16, 245, 182, 0, 211, 172, 28, 133, 9, 42, 180, 0, 93, 27, 46, 4, 100, 133, 184, 0, 137, 154, 0, 10]
abbrev dktX4_hold_2 : List UInt8 := dkwX4_hold_2 ++ dktX4_hold_3
def dkwX4_hold_1 : List UInt8 := [182, 0, 193, 154, 0, 10, 42, 16, 254, 182, 0, 130, 172, 42, 180, 0, 87, 27, 51, 154, 0, 10, 42]
abbrev dktX4_hold_1 : List UInt8 := dkwX4_hold_1 ++ dktX4_hold_2
def dkwX4_hold_0 : List UInt8 := [42, 182, 0, 144, 27, 133, 9, 20, 0, 231, 184, 0, 137, 153, 0, 16, 29, 2, 159, 0, 18, 42, 29]
abbrev dktX4_hold_0 : List UInt8 := dkwX4_hold_0 ++ dktX4_hold_1
theorem dksX4_hold_0 : cX4_hold.data.toList.drop 0 = dktX4_hold_0 := by decide +kernel
theorem dksX4_hold_1 : cX4_hold.data.toList.drop 23 = dktX4_hold_1 := dk_seg dksX4_hold_0 23 rfl rfl
theorem dksX4_hold_2 : cX4_hold.data.toList.drop 46 = dktX4_hold_2 := dk_seg dksX4_hold_1 23 rfl rfl
theorem dksX4_hold_3 : cX4_hold.data.toList.drop 70 = dktX4_hold_3 := dk_seg dksX4_hold_2 24 rfl rfl
theorem dksX4_hold_4 : cX4_hold.data.toList.drop 93 = dktX4_hold_4 := dk_seg dksX4_hold_3 23 rfl rfl
theorem dX4_hold_0 : decode cX4_hold 0 = .ok (.aload_n 0, 1) := dk_42 (dk_at dksX4_hold_0 0 rfl rfl)
theorem dX4_hold_1 : decode cX4_hold 1 = .ok (.invokevirtual 144, 3) := dk_182 0 144 (dk_at dksX4_hold_0 1 rfl rfl)
theorem dX4_hold_4 : decode cX4_hold 4 = .ok (.iload_n 1, 1) := dk_27 (dk_at dksX4_hold_0 4 rfl rfl)
theorem dX4_hold_5 : decode cX4_hold 5 = .ok (.i2l, 1) := dk_133 (dk_at dksX4_hold_0 5 rfl rfl)
theorem dX4_hold_6 : decode cX4_hold 6 = .ok (.lconst 0, 1) := dk_9 (dk_at dksX4_hold_0 6 rfl rfl)
theorem dX4_hold_7 : decode cX4_hold 7 = .ok (.ldc2_w 231, 3) := dk_20 0 231 (dk_at dksX4_hold_0 7 rfl rfl)
theorem dX4_hold_10 : decode cX4_hold 10 = .ok (.invokestatic 137, 3) := dk_184 0 137 (dk_at dksX4_hold_0 10 rfl rfl)
theorem dX4_hold_13 : decode cX4_hold 13 = .ok (.ifCond .eq 16, 3) := dk_153 0 16 (dk_at dksX4_hold_0 13 rfl rfl)
theorem dX4_hold_16 : decode cX4_hold 16 = .ok (.iload_n 3, 1) := dk_29 (dk_at dksX4_hold_0 16 rfl rfl)
theorem dX4_hold_17 : decode cX4_hold 17 = .ok (.iconst (-1), 1) := dk_2 (dk_at dksX4_hold_0 17 rfl rfl)
theorem dX4_hold_18 : decode cX4_hold 18 = .ok (.if_icmp .eq 18, 3) := dk_159 0 18 (dk_at dksX4_hold_0 18 rfl rfl)
theorem dX4_hold_21 : decode cX4_hold 21 = .ok (.aload_n 0, 1) := dk_42 (dk_at dksX4_hold_0 21 rfl rfl)
theorem dX4_hold_22 : decode cX4_hold 22 = .ok (.iload_n 3, 1) := dk_29 (dk_at dksX4_hold_0 22 rfl rfl)
theorem dX4_hold_23 : decode cX4_hold 23 = .ok (.invokevirtual 193, 3) := dk_182 0 193 (dk_at dksX4_hold_1 0 rfl rfl)
theorem dX4_hold_26 : decode cX4_hold 26 = .ok (.ifCond .ne 10, 3) := dk_154 0 10 (dk_at dksX4_hold_1 3 rfl rfl)
theorem dX4_hold_29 : decode cX4_hold 29 = .ok (.aload_n 0, 1) := dk_42 (dk_at dksX4_hold_1 6 rfl rfl)
theorem dX4_hold_30 : decode cX4_hold 30 = .ok (.bipush (-2), 2) := dk_16 254 (dk_at dksX4_hold_1 7 rfl rfl)
theorem dX4_hold_32 : decode cX4_hold 32 = .ok (.invokevirtual 130, 3) := dk_182 0 130 (dk_at dksX4_hold_1 9 rfl rfl)
theorem dX4_hold_35 : decode cX4_hold 35 = .ok (.ireturn, 1) := dk_172 (dk_at dksX4_hold_1 12 rfl rfl)
theorem dX4_hold_36 : decode cX4_hold 36 = .ok (.aload_n 0, 1) := dk_42 (dk_at dksX4_hold_1 13 rfl rfl)
theorem dX4_hold_37 : decode cX4_hold 37 = .ok (.getfield 87, 3) := dk_180 0 87 (dk_at dksX4_hold_1 14 rfl rfl)
theorem dX4_hold_40 : decode cX4_hold 40 = .ok (.iload_n 1, 1) := dk_27 (dk_at dksX4_hold_1 17 rfl rfl)
theorem dX4_hold_41 : decode cX4_hold 41 = .ok (.baload, 1) := dk_51 (dk_at dksX4_hold_1 18 rfl rfl)
theorem dX4_hold_42 : decode cX4_hold 42 = .ok (.ifCond .ne 10, 3) := dk_154 0 10 (dk_at dksX4_hold_1 19 rfl rfl)
theorem dX4_hold_45 : decode cX4_hold 45 = .ok (.aload_n 0, 1) := dk_42 (dk_at dksX4_hold_1 22 rfl rfl)
theorem dX4_hold_46 : decode cX4_hold 46 = .ok (.bipush (-11), 2) := dk_16 245 (dk_at dksX4_hold_2 0 rfl rfl)
theorem dX4_hold_48 : decode cX4_hold 48 = .ok (.invokevirtual 211, 3) := dk_182 0 211 (dk_at dksX4_hold_2 2 rfl rfl)
theorem dX4_hold_51 : decode cX4_hold 51 = .ok (.ireturn, 1) := dk_172 (dk_at dksX4_hold_2 5 rfl rfl)
theorem dX4_hold_52 : decode cX4_hold 52 = .ok (.iload_n 2, 1) := dk_28 (dk_at dksX4_hold_2 6 rfl rfl)
theorem dX4_hold_53 : decode cX4_hold 53 = .ok (.i2l, 1) := dk_133 (dk_at dksX4_hold_2 7 rfl rfl)
theorem dX4_hold_54 : decode cX4_hold 54 = .ok (.lconst 0, 1) := dk_9 (dk_at dksX4_hold_2 8 rfl rfl)
theorem dX4_hold_55 : decode cX4_hold 55 = .ok (.aload_n 0, 1) := dk_42 (dk_at dksX4_hold_2 9 rfl rfl)
theorem dX4_hold_56 : decode cX4_hold 56 = .ok (.getfield 93, 3) := dk_180 0 93 (dk_at dksX4_hold_2 10 rfl rfl)
theorem dX4_hold_59 : decode cX4_hold 59 = .ok (.iload_n 1, 1) := dk_27 (dk_at dksX4_hold_2 13 rfl rfl)
theorem dX4_hold_60 : decode cX4_hold 60 = .ok (.iaload, 1) := dk_46 (dk_at dksX4_hold_2 14 rfl rfl)
theorem dX4_hold_61 : decode cX4_hold 61 = .ok (.iconst 1, 1) := dk_4 (dk_at dksX4_hold_2 15 rfl rfl)
theorem dX4_hold_62 : decode cX4_hold 62 = .ok (.isub, 1) := dk_100 (dk_at dksX4_hold_2 16 rfl rfl)
theorem dX4_hold_63 : decode cX4_hold 63 = .ok (.i2l, 1) := dk_133 (dk_at dksX4_hold_2 17 rfl rfl)
theorem dX4_hold_64 : decode cX4_hold 64 = .ok (.invokestatic 137, 3) := dk_184 0 137 (dk_at dksX4_hold_2 18 rfl rfl)
theorem dX4_hold_67 : decode cX4_hold 67 = .ok (.ifCond .ne 10, 3) := dk_154 0 10 (dk_at dksX4_hold_2 21 rfl rfl)
theorem dX4_hold_70 : decode cX4_hold 70 = .ok (.aload_n 0, 1) := dk_42 (dk_at dksX4_hold_3 0 rfl rfl)
theorem dX4_hold_71 : decode cX4_hold 71 = .ok (.bipush (-12), 2) := dk_16 244 (dk_at dksX4_hold_3 1 rfl rfl)
theorem dX4_hold_73 : decode cX4_hold 73 = .ok (.invokevirtual 211, 3) := dk_182 0 211 (dk_at dksX4_hold_3 3 rfl rfl)
theorem dX4_hold_76 : decode cX4_hold 76 = .ok (.ireturn, 1) := dk_172 (dk_at dksX4_hold_3 6 rfl rfl)
theorem dX4_hold_77 : decode cX4_hold 77 = .ok (.iload_n 3, 1) := dk_29 (dk_at dksX4_hold_3 7 rfl rfl)
theorem dX4_hold_78 : decode cX4_hold 78 = .ok (.iconst (-1), 1) := dk_2 (dk_at dksX4_hold_3 8 rfl rfl)
theorem dX4_hold_79 : decode cX4_hold 79 = .ok (.if_icmp .eq 24, 3) := dk_159 0 24 (dk_at dksX4_hold_3 9 rfl rfl)
theorem dX4_hold_82 : decode cX4_hold 82 = .ok (.aload_n 0, 1) := dk_42 (dk_at dksX4_hold_3 12 rfl rfl)
theorem dX4_hold_83 : decode cX4_hold 83 = .ok (.iload_n 3, 1) := dk_29 (dk_at dksX4_hold_3 13 rfl rfl)
theorem dX4_hold_84 : decode cX4_hold 84 = .ok (.aload_n 0, 1) := dk_42 (dk_at dksX4_hold_3 14 rfl rfl)
theorem dX4_hold_85 : decode cX4_hold 85 = .ok (.getfield 90, 3) := dk_180 0 90 (dk_at dksX4_hold_3 15 rfl rfl)
theorem dX4_hold_88 : decode cX4_hold 88 = .ok (.iload_n 1, 1) := dk_27 (dk_at dksX4_hold_3 18 rfl rfl)
theorem dX4_hold_89 : decode cX4_hold 89 = .ok (.iaload, 1) := dk_46 (dk_at dksX4_hold_3 19 rfl rfl)
theorem dX4_hold_90 : decode cX4_hold 90 = .ok (.invokevirtual 318, 3) := dk_182 1 62 (dk_at dksX4_hold_3 20 rfl rfl)
theorem dX4_hold_93 : decode cX4_hold 93 = .ok (.ifCond .ne 10, 3) := dk_154 0 10 (dk_at dksX4_hold_4 0 rfl rfl)
theorem dX4_hold_96 : decode cX4_hold 96 = .ok (.aload_n 0, 1) := dk_42 (dk_at dksX4_hold_4 3 rfl rfl)
theorem dX4_hold_97 : decode cX4_hold 97 = .ok (.bipush (-14), 2) := dk_16 242 (dk_at dksX4_hold_4 4 rfl rfl)
theorem dX4_hold_99 : decode cX4_hold 99 = .ok (.invokevirtual 211, 3) := dk_182 0 211 (dk_at dksX4_hold_4 6 rfl rfl)
theorem dX4_hold_102 : decode cX4_hold 102 = .ok (.ireturn, 1) := dk_172 (dk_at dksX4_hold_4 9 rfl rfl)
theorem dX4_hold_103 : decode cX4_hold 103 = .ok (.aload_n 0, 1) := dk_42 (dk_at dksX4_hold_4 10 rfl rfl)
theorem dX4_hold_104 : decode cX4_hold 104 = .ok (.getfield 96, 3) := dk_180 0 96 (dk_at dksX4_hold_4 11 rfl rfl)
theorem dX4_hold_107 : decode cX4_hold 107 = .ok (.bipush 20, 2) := dk_16 20 (dk_at dksX4_hold_4 14 rfl rfl)
theorem dX4_hold_109 : decode cX4_hold 109 = .ok (.iload_n 1, 1) := dk_27 (dk_at dksX4_hold_4 16 rfl rfl)
theorem dX4_hold_110 : decode cX4_hold 110 = .ok (.imul, 1) := dk_104 (dk_at dksX4_hold_4 17 rfl rfl)
theorem dX4_hold_111 : decode cX4_hold 111 = .ok (.iload_n 2, 1) := dk_28 (dk_at dksX4_hold_4 18 rfl rfl)
theorem dX4_hold_112 : decode cX4_hold 112 = .ok (.iadd, 1) := dk_96 (dk_at dksX4_hold_4 19 rfl rfl)
theorem dX4_hold_113 : decode cX4_hold 113 = .ok (.iload_n 3, 1) := dk_29 (dk_at dksX4_hold_4 20 rfl rfl)
theorem dX4_hold_114 : decode cX4_hold 114 = .ok (.iastore, 1) := dk_79 (dk_at dksX4_hold_4 21 rfl rfl)
theorem dX4_hold_115 : decode cX4_hold 115 = .ok (.iconst 1, 1) := dk_4 (dk_at dksX4_hold_4 22 rfl rfl)
theorem dX4_hold_116 : decode cX4_hold 116 = .ok (.ireturn, 1) := dk_172 (dk_at dksX4_hold_4 23 rfl rfl)
abbrev cX4_isOf : ByteArray := prog_21_method_68_code
def yX4_isOf : MethodName := ⟨RX4, "isOf", "(II)Z"⟩
def dkwX4_isOf_1 : List UInt8 := [154, 0, 16, 28, 6, 160, 0, 15, 42, 27, 182, 0, 214, 154, 0, 7, 4, 167, 0, 4, 3, 172]
abbrev dktX4_isOf_1 : List UInt8 := dkwX4_isOf_1 ++ []
def dkwX4_isOf_0 : List UInt8 := [28, 8, 159, 0, 38, 28, 42, 180, 0, 24, 27, 46, 159, 0, 28, 28, 154, 0, 11, 42, 27, 182, 0, 214]
abbrev dktX4_isOf_0 : List UInt8 := dkwX4_isOf_0 ++ dktX4_isOf_1
theorem dksX4_isOf_0 : cX4_isOf.data.toList.drop 0 = dktX4_isOf_0 := by decide +kernel
theorem dksX4_isOf_1 : cX4_isOf.data.toList.drop 24 = dktX4_isOf_1 := dk_seg dksX4_isOf_0 24 rfl rfl
theorem dX4_isOf_0 : decode cX4_isOf 0 = .ok (.iload_n 2, 1) := dk_28 (dk_at dksX4_isOf_0 0 rfl rfl)
theorem dX4_isOf_1 : decode cX4_isOf 1 = .ok (.iconst 5, 1) := dk_8 (dk_at dksX4_isOf_0 1 rfl rfl)
theorem dX4_isOf_2 : decode cX4_isOf 2 = .ok (.if_icmp .eq 38, 3) := dk_159 0 38 (dk_at dksX4_isOf_0 2 rfl rfl)
theorem dX4_isOf_5 : decode cX4_isOf 5 = .ok (.iload_n 2, 1) := dk_28 (dk_at dksX4_isOf_0 5 rfl rfl)
theorem dX4_isOf_6 : decode cX4_isOf 6 = .ok (.aload_n 0, 1) := dk_42 (dk_at dksX4_isOf_0 6 rfl rfl)
theorem dX4_isOf_7 : decode cX4_isOf 7 = .ok (.getfield 24, 3) := dk_180 0 24 (dk_at dksX4_isOf_0 7 rfl rfl)
theorem dX4_isOf_10 : decode cX4_isOf 10 = .ok (.iload_n 1, 1) := dk_27 (dk_at dksX4_isOf_0 10 rfl rfl)
theorem dX4_isOf_11 : decode cX4_isOf 11 = .ok (.iaload, 1) := dk_46 (dk_at dksX4_isOf_0 11 rfl rfl)
theorem dX4_isOf_12 : decode cX4_isOf 12 = .ok (.if_icmp .eq 28, 3) := dk_159 0 28 (dk_at dksX4_isOf_0 12 rfl rfl)
theorem dX4_isOf_15 : decode cX4_isOf 15 = .ok (.iload_n 2, 1) := dk_28 (dk_at dksX4_isOf_0 15 rfl rfl)
theorem dX4_isOf_16 : decode cX4_isOf 16 = .ok (.ifCond .ne 11, 3) := dk_154 0 11 (dk_at dksX4_isOf_0 16 rfl rfl)
theorem dX4_isOf_19 : decode cX4_isOf 19 = .ok (.aload_n 0, 1) := dk_42 (dk_at dksX4_isOf_0 19 rfl rfl)
theorem dX4_isOf_20 : decode cX4_isOf 20 = .ok (.iload_n 1, 1) := dk_27 (dk_at dksX4_isOf_0 20 rfl rfl)
theorem dX4_isOf_21 : decode cX4_isOf 21 = .ok (.invokevirtual 214, 3) := dk_182 0 214 (dk_at dksX4_isOf_0 21 rfl rfl)
theorem dX4_isOf_24 : decode cX4_isOf 24 = .ok (.ifCond .ne 16, 3) := dk_154 0 16 (dk_at dksX4_isOf_1 0 rfl rfl)
theorem dX4_isOf_27 : decode cX4_isOf 27 = .ok (.iload_n 2, 1) := dk_28 (dk_at dksX4_isOf_1 3 rfl rfl)
theorem dX4_isOf_28 : decode cX4_isOf 28 = .ok (.iconst 3, 1) := dk_6 (dk_at dksX4_isOf_1 4 rfl rfl)
theorem dX4_isOf_29 : decode cX4_isOf 29 = .ok (.if_icmp .ne 15, 3) := dk_160 0 15 (dk_at dksX4_isOf_1 5 rfl rfl)
theorem dX4_isOf_32 : decode cX4_isOf 32 = .ok (.aload_n 0, 1) := dk_42 (dk_at dksX4_isOf_1 8 rfl rfl)
theorem dX4_isOf_33 : decode cX4_isOf 33 = .ok (.iload_n 1, 1) := dk_27 (dk_at dksX4_isOf_1 9 rfl rfl)
theorem dX4_isOf_34 : decode cX4_isOf 34 = .ok (.invokevirtual 214, 3) := dk_182 0 214 (dk_at dksX4_isOf_1 10 rfl rfl)
theorem dX4_isOf_37 : decode cX4_isOf 37 = .ok (.ifCond .ne 7, 3) := dk_154 0 7 (dk_at dksX4_isOf_1 13 rfl rfl)
theorem dX4_isOf_40 : decode cX4_isOf 40 = .ok (.iconst 1, 1) := dk_4 (dk_at dksX4_isOf_1 16 rfl rfl)
theorem dX4_isOf_41 : decode cX4_isOf 41 = .ok (.goto 4, 3) := dk_167 0 4 (dk_at dksX4_isOf_1 17 rfl rfl)
theorem dX4_isOf_44 : decode cX4_isOf 44 = .ok (.iconst 0, 1) := dk_3 (dk_at dksX4_isOf_1 20 rfl rfl)
theorem dX4_isOf_45 : decode cX4_isOf 45 = .ok (.ireturn, 1) := dk_172 (dk_at dksX4_isOf_1 21 rfl rfl)
abbrev cX4_held : ByteArray := prog_21_method_70_code
def yX4_held : MethodName := ⟨RX4, "held", "(II)I"⟩
def dkwX4_held_3 : List UInt8 := [28, 96, 46, 62, 29, 2, 160, 0, 12, 42, 16, 245, 182, 0, 211, 167, 0, 4, 29, 172]
abbrev dktX4_held_3 : List UInt8 := dkwX4_held_3 ++ []
def dkwX4_held_2 : List UInt8 := [4, 100, 133, 184, 0, 137, 154, 0, 10, 42, 16, 244, 182, 0, 211, 172, 42, 180, 0, 96, 16, 20, 27, 104]
abbrev dktX4_held_2 : List UInt8 := dkwX4_held_2 ++ dktX4_held_3
def dkwX4_held_1 : List UInt8 := [180, 0, 87, 27, 51, 154, 0, 10, 42, 16, 245, 182, 0, 211, 172, 28, 133, 9, 42, 180, 0, 93, 27, 46]
abbrev dktX4_held_1 : List UInt8 := dkwX4_held_1 ++ dktX4_held_2
def dkwX4_held_0 : List UInt8 := [42, 182, 0, 144, 27, 133, 9, 20, 0, 231, 184, 0, 137, 154, 0, 10, 42, 16, 254, 182, 0, 130, 172, 42]
abbrev dktX4_held_0 : List UInt8 := dkwX4_held_0 ++ dktX4_held_1
theorem dksX4_held_0 : cX4_held.data.toList.drop 0 = dktX4_held_0 := by decide +kernel
theorem dksX4_held_1 : cX4_held.data.toList.drop 24 = dktX4_held_1 := dk_seg dksX4_held_0 24 rfl rfl
theorem dksX4_held_2 : cX4_held.data.toList.drop 48 = dktX4_held_2 := dk_seg dksX4_held_1 24 rfl rfl
theorem dksX4_held_3 : cX4_held.data.toList.drop 72 = dktX4_held_3 := dk_seg dksX4_held_2 24 rfl rfl
theorem dX4_held_0 : decode cX4_held 0 = .ok (.aload_n 0, 1) := dk_42 (dk_at dksX4_held_0 0 rfl rfl)
theorem dX4_held_1 : decode cX4_held 1 = .ok (.invokevirtual 144, 3) := dk_182 0 144 (dk_at dksX4_held_0 1 rfl rfl)
theorem dX4_held_4 : decode cX4_held 4 = .ok (.iload_n 1, 1) := dk_27 (dk_at dksX4_held_0 4 rfl rfl)
theorem dX4_held_5 : decode cX4_held 5 = .ok (.i2l, 1) := dk_133 (dk_at dksX4_held_0 5 rfl rfl)
theorem dX4_held_6 : decode cX4_held 6 = .ok (.lconst 0, 1) := dk_9 (dk_at dksX4_held_0 6 rfl rfl)
theorem dX4_held_7 : decode cX4_held 7 = .ok (.ldc2_w 231, 3) := dk_20 0 231 (dk_at dksX4_held_0 7 rfl rfl)
theorem dX4_held_10 : decode cX4_held 10 = .ok (.invokestatic 137, 3) := dk_184 0 137 (dk_at dksX4_held_0 10 rfl rfl)
theorem dX4_held_13 : decode cX4_held 13 = .ok (.ifCond .ne 10, 3) := dk_154 0 10 (dk_at dksX4_held_0 13 rfl rfl)
theorem dX4_held_16 : decode cX4_held 16 = .ok (.aload_n 0, 1) := dk_42 (dk_at dksX4_held_0 16 rfl rfl)
theorem dX4_held_17 : decode cX4_held 17 = .ok (.bipush (-2), 2) := dk_16 254 (dk_at dksX4_held_0 17 rfl rfl)
theorem dX4_held_19 : decode cX4_held 19 = .ok (.invokevirtual 130, 3) := dk_182 0 130 (dk_at dksX4_held_0 19 rfl rfl)
theorem dX4_held_22 : decode cX4_held 22 = .ok (.ireturn, 1) := dk_172 (dk_at dksX4_held_0 22 rfl rfl)
theorem dX4_held_23 : decode cX4_held 23 = .ok (.aload_n 0, 1) := dk_42 (dk_at dksX4_held_0 23 rfl rfl)
theorem dX4_held_24 : decode cX4_held 24 = .ok (.getfield 87, 3) := dk_180 0 87 (dk_at dksX4_held_1 0 rfl rfl)
theorem dX4_held_27 : decode cX4_held 27 = .ok (.iload_n 1, 1) := dk_27 (dk_at dksX4_held_1 3 rfl rfl)
theorem dX4_held_28 : decode cX4_held 28 = .ok (.baload, 1) := dk_51 (dk_at dksX4_held_1 4 rfl rfl)
theorem dX4_held_29 : decode cX4_held 29 = .ok (.ifCond .ne 10, 3) := dk_154 0 10 (dk_at dksX4_held_1 5 rfl rfl)
theorem dX4_held_32 : decode cX4_held 32 = .ok (.aload_n 0, 1) := dk_42 (dk_at dksX4_held_1 8 rfl rfl)
theorem dX4_held_33 : decode cX4_held 33 = .ok (.bipush (-11), 2) := dk_16 245 (dk_at dksX4_held_1 9 rfl rfl)
theorem dX4_held_35 : decode cX4_held 35 = .ok (.invokevirtual 211, 3) := dk_182 0 211 (dk_at dksX4_held_1 11 rfl rfl)
theorem dX4_held_38 : decode cX4_held 38 = .ok (.ireturn, 1) := dk_172 (dk_at dksX4_held_1 14 rfl rfl)
theorem dX4_held_39 : decode cX4_held 39 = .ok (.iload_n 2, 1) := dk_28 (dk_at dksX4_held_1 15 rfl rfl)
theorem dX4_held_40 : decode cX4_held 40 = .ok (.i2l, 1) := dk_133 (dk_at dksX4_held_1 16 rfl rfl)
theorem dX4_held_41 : decode cX4_held 41 = .ok (.lconst 0, 1) := dk_9 (dk_at dksX4_held_1 17 rfl rfl)
theorem dX4_held_42 : decode cX4_held 42 = .ok (.aload_n 0, 1) := dk_42 (dk_at dksX4_held_1 18 rfl rfl)
theorem dX4_held_43 : decode cX4_held 43 = .ok (.getfield 93, 3) := dk_180 0 93 (dk_at dksX4_held_1 19 rfl rfl)
theorem dX4_held_46 : decode cX4_held 46 = .ok (.iload_n 1, 1) := dk_27 (dk_at dksX4_held_1 22 rfl rfl)
theorem dX4_held_47 : decode cX4_held 47 = .ok (.iaload, 1) := dk_46 (dk_at dksX4_held_1 23 rfl rfl)
theorem dX4_held_48 : decode cX4_held 48 = .ok (.iconst 1, 1) := dk_4 (dk_at dksX4_held_2 0 rfl rfl)
theorem dX4_held_49 : decode cX4_held 49 = .ok (.isub, 1) := dk_100 (dk_at dksX4_held_2 1 rfl rfl)
theorem dX4_held_50 : decode cX4_held 50 = .ok (.i2l, 1) := dk_133 (dk_at dksX4_held_2 2 rfl rfl)
theorem dX4_held_51 : decode cX4_held 51 = .ok (.invokestatic 137, 3) := dk_184 0 137 (dk_at dksX4_held_2 3 rfl rfl)
theorem dX4_held_54 : decode cX4_held 54 = .ok (.ifCond .ne 10, 3) := dk_154 0 10 (dk_at dksX4_held_2 6 rfl rfl)
theorem dX4_held_57 : decode cX4_held 57 = .ok (.aload_n 0, 1) := dk_42 (dk_at dksX4_held_2 9 rfl rfl)
theorem dX4_held_58 : decode cX4_held 58 = .ok (.bipush (-12), 2) := dk_16 244 (dk_at dksX4_held_2 10 rfl rfl)
theorem dX4_held_60 : decode cX4_held 60 = .ok (.invokevirtual 211, 3) := dk_182 0 211 (dk_at dksX4_held_2 12 rfl rfl)
theorem dX4_held_63 : decode cX4_held 63 = .ok (.ireturn, 1) := dk_172 (dk_at dksX4_held_2 15 rfl rfl)
theorem dX4_held_64 : decode cX4_held 64 = .ok (.aload_n 0, 1) := dk_42 (dk_at dksX4_held_2 16 rfl rfl)
theorem dX4_held_65 : decode cX4_held 65 = .ok (.getfield 96, 3) := dk_180 0 96 (dk_at dksX4_held_2 17 rfl rfl)
theorem dX4_held_68 : decode cX4_held 68 = .ok (.bipush 20, 2) := dk_16 20 (dk_at dksX4_held_2 20 rfl rfl)
theorem dX4_held_70 : decode cX4_held 70 = .ok (.iload_n 1, 1) := dk_27 (dk_at dksX4_held_2 22 rfl rfl)
theorem dX4_held_71 : decode cX4_held 71 = .ok (.imul, 1) := dk_104 (dk_at dksX4_held_2 23 rfl rfl)
theorem dX4_held_72 : decode cX4_held 72 = .ok (.iload_n 2, 1) := dk_28 (dk_at dksX4_held_3 0 rfl rfl)
theorem dX4_held_73 : decode cX4_held 73 = .ok (.iadd, 1) := dk_96 (dk_at dksX4_held_3 1 rfl rfl)
theorem dX4_held_74 : decode cX4_held 74 = .ok (.iaload, 1) := dk_46 (dk_at dksX4_held_3 2 rfl rfl)
theorem dX4_held_75 : decode cX4_held 75 = .ok (.istore_n 3, 1) := dk_62 (dk_at dksX4_held_3 3 rfl rfl)
theorem dX4_held_76 : decode cX4_held 76 = .ok (.iload_n 3, 1) := dk_29 (dk_at dksX4_held_3 4 rfl rfl)
theorem dX4_held_77 : decode cX4_held 77 = .ok (.iconst (-1), 1) := dk_2 (dk_at dksX4_held_3 5 rfl rfl)
theorem dX4_held_78 : decode cX4_held 78 = .ok (.if_icmp .ne 12, 3) := dk_160 0 12 (dk_at dksX4_held_3 6 rfl rfl)
theorem dX4_held_81 : decode cX4_held 81 = .ok (.aload_n 0, 1) := dk_42 (dk_at dksX4_held_3 9 rfl rfl)
theorem dX4_held_82 : decode cX4_held 82 = .ok (.bipush (-11), 2) := dk_16 245 (dk_at dksX4_held_3 10 rfl rfl)
theorem dX4_held_84 : decode cX4_held 84 = .ok (.invokevirtual 211, 3) := dk_182 0 211 (dk_at dksX4_held_3 12 rfl rfl)
theorem dX4_held_87 : decode cX4_held 87 = .ok (.goto 4, 3) := dk_167 0 4 (dk_at dksX4_held_3 15 rfl rfl)
theorem dX4_held_90 : decode cX4_held 90 = .ok (.iload_n 3, 1) := dk_29 (dk_at dksX4_held_3 18 rfl rfl)
theorem dX4_held_91 : decode cX4_held 91 = .ok (.ireturn, 1) := dk_172 (dk_at dksX4_held_3 19 rfl rfl)
abbrev cX4_slide : ByteArray := prog_21_method_72_code
def yX4_slide : MethodName := ⟨RX4, "slide", "(IIII)I"⟩
def dkwX4_slide_6 : List UInt8 := [132, 5, 1, 167, 255, 225, 21, 4, 172]
abbrev dktX4_slide_6 : List UInt8 := dkwX4_slide_6 ++ []
def dkwX4_slide_5 : List UInt8 := [162, 0, 30, 42, 180, 0, 96, 16, 20, 27, 104, 29, 96, 21, 5, 96, 42, 180, 0, 99, 21, 5, 46, 79]
abbrev dktX4_slide_5 : List UInt8 := dkwX4_slide_5 ++ dktX4_slide_6
def dkwX4_slide_4 : List UInt8 := [16, 20, 27, 104, 28, 96, 21, 5, 96, 46, 79, 132, 5, 1, 167, 255, 225, 3, 54, 5, 21, 5, 21, 4]
abbrev dktX4_slide_4 : List UInt8 := dkwX4_slide_4 ++ dktX4_slide_5
def dkwX4_slide_3 : List UInt8 := [182, 0, 211, 172, 3, 54, 5, 21, 5, 21, 4, 162, 0, 30, 42, 180, 0, 99, 21, 5, 42, 180, 0, 96]
abbrev dktX4_slide_3 : List UInt8 := dkwX4_slide_3 ++ dktX4_slide_4
def dkwX4_slide_2 : List UInt8 := [184, 1, 65, 153, 0, 18, 29, 21, 4, 42, 180, 0, 93, 27, 46, 184, 1, 65, 154, 0, 10, 42, 16, 244]
abbrev dktX4_slide_2 : List UInt8 := dkwX4_slide_2 ++ dktX4_slide_3
def dkwX4_slide_1 : List UInt8 := [180, 0, 87, 27, 51, 154, 0, 10, 42, 16, 245, 182, 0, 211, 172, 28, 21, 4, 42, 180, 0, 93, 27, 46]
abbrev dktX4_slide_1 : List UInt8 := dkwX4_slide_1 ++ dktX4_slide_2
def dkwX4_slide_0 : List UInt8 := [42, 182, 0, 144, 27, 133, 9, 20, 0, 231, 184, 0, 137, 154, 0, 10, 42, 16, 254, 182, 0, 130, 172, 42]
abbrev dktX4_slide_0 : List UInt8 := dkwX4_slide_0 ++ dktX4_slide_1
theorem dksX4_slide_0 : cX4_slide.data.toList.drop 0 = dktX4_slide_0 := by decide +kernel
theorem dksX4_slide_1 : cX4_slide.data.toList.drop 24 = dktX4_slide_1 := dk_seg dksX4_slide_0 24 rfl rfl
theorem dksX4_slide_2 : cX4_slide.data.toList.drop 48 = dktX4_slide_2 := dk_seg dksX4_slide_1 24 rfl rfl
theorem dksX4_slide_3 : cX4_slide.data.toList.drop 72 = dktX4_slide_3 := dk_seg dksX4_slide_2 24 rfl rfl
theorem dksX4_slide_4 : cX4_slide.data.toList.drop 96 = dktX4_slide_4 := dk_seg dksX4_slide_3 24 rfl rfl
theorem dksX4_slide_5 : cX4_slide.data.toList.drop 120 = dktX4_slide_5 := dk_seg dksX4_slide_4 24 rfl rfl
theorem dksX4_slide_6 : cX4_slide.data.toList.drop 144 = dktX4_slide_6 := dk_seg dksX4_slide_5 24 rfl rfl
theorem dX4_slide_0 : decode cX4_slide 0 = .ok (.aload_n 0, 1) := dk_42 (dk_at dksX4_slide_0 0 rfl rfl)
theorem dX4_slide_1 : decode cX4_slide 1 = .ok (.invokevirtual 144, 3) := dk_182 0 144 (dk_at dksX4_slide_0 1 rfl rfl)
theorem dX4_slide_4 : decode cX4_slide 4 = .ok (.iload_n 1, 1) := dk_27 (dk_at dksX4_slide_0 4 rfl rfl)
theorem dX4_slide_5 : decode cX4_slide 5 = .ok (.i2l, 1) := dk_133 (dk_at dksX4_slide_0 5 rfl rfl)
theorem dX4_slide_6 : decode cX4_slide 6 = .ok (.lconst 0, 1) := dk_9 (dk_at dksX4_slide_0 6 rfl rfl)
theorem dX4_slide_7 : decode cX4_slide 7 = .ok (.ldc2_w 231, 3) := dk_20 0 231 (dk_at dksX4_slide_0 7 rfl rfl)
theorem dX4_slide_10 : decode cX4_slide 10 = .ok (.invokestatic 137, 3) := dk_184 0 137 (dk_at dksX4_slide_0 10 rfl rfl)
theorem dX4_slide_13 : decode cX4_slide 13 = .ok (.ifCond .ne 10, 3) := dk_154 0 10 (dk_at dksX4_slide_0 13 rfl rfl)
theorem dX4_slide_16 : decode cX4_slide 16 = .ok (.aload_n 0, 1) := dk_42 (dk_at dksX4_slide_0 16 rfl rfl)
theorem dX4_slide_17 : decode cX4_slide 17 = .ok (.bipush (-2), 2) := dk_16 254 (dk_at dksX4_slide_0 17 rfl rfl)
theorem dX4_slide_19 : decode cX4_slide 19 = .ok (.invokevirtual 130, 3) := dk_182 0 130 (dk_at dksX4_slide_0 19 rfl rfl)
theorem dX4_slide_22 : decode cX4_slide 22 = .ok (.ireturn, 1) := dk_172 (dk_at dksX4_slide_0 22 rfl rfl)
theorem dX4_slide_23 : decode cX4_slide 23 = .ok (.aload_n 0, 1) := dk_42 (dk_at dksX4_slide_0 23 rfl rfl)
theorem dX4_slide_24 : decode cX4_slide 24 = .ok (.getfield 87, 3) := dk_180 0 87 (dk_at dksX4_slide_1 0 rfl rfl)
theorem dX4_slide_27 : decode cX4_slide 27 = .ok (.iload_n 1, 1) := dk_27 (dk_at dksX4_slide_1 3 rfl rfl)
theorem dX4_slide_28 : decode cX4_slide 28 = .ok (.baload, 1) := dk_51 (dk_at dksX4_slide_1 4 rfl rfl)
theorem dX4_slide_29 : decode cX4_slide 29 = .ok (.ifCond .ne 10, 3) := dk_154 0 10 (dk_at dksX4_slide_1 5 rfl rfl)
theorem dX4_slide_32 : decode cX4_slide 32 = .ok (.aload_n 0, 1) := dk_42 (dk_at dksX4_slide_1 8 rfl rfl)
theorem dX4_slide_33 : decode cX4_slide 33 = .ok (.bipush (-11), 2) := dk_16 245 (dk_at dksX4_slide_1 9 rfl rfl)
theorem dX4_slide_35 : decode cX4_slide 35 = .ok (.invokevirtual 211, 3) := dk_182 0 211 (dk_at dksX4_slide_1 11 rfl rfl)
theorem dX4_slide_38 : decode cX4_slide 38 = .ok (.ireturn, 1) := dk_172 (dk_at dksX4_slide_1 14 rfl rfl)
theorem dX4_slide_39 : decode cX4_slide 39 = .ok (.iload_n 2, 1) := dk_28 (dk_at dksX4_slide_1 15 rfl rfl)
theorem dX4_slide_40 : decode cX4_slide 40 = .ok (.iload 4, 2) := dk_21 4 (dk_at dksX4_slide_1 16 rfl rfl)
theorem dX4_slide_42 : decode cX4_slide 42 = .ok (.aload_n 0, 1) := dk_42 (dk_at dksX4_slide_1 18 rfl rfl)
theorem dX4_slide_43 : decode cX4_slide 43 = .ok (.getfield 93, 3) := dk_180 0 93 (dk_at dksX4_slide_1 19 rfl rfl)
theorem dX4_slide_46 : decode cX4_slide 46 = .ok (.iload_n 1, 1) := dk_27 (dk_at dksX4_slide_1 22 rfl rfl)
theorem dX4_slide_47 : decode cX4_slide 47 = .ok (.iaload, 1) := dk_46 (dk_at dksX4_slide_1 23 rfl rfl)
theorem dX4_slide_48 : decode cX4_slide 48 = .ok (.invokestatic 321, 3) := dk_184 1 65 (dk_at dksX4_slide_2 0 rfl rfl)
theorem dX4_slide_51 : decode cX4_slide 51 = .ok (.ifCond .eq 18, 3) := dk_153 0 18 (dk_at dksX4_slide_2 3 rfl rfl)
theorem dX4_slide_54 : decode cX4_slide 54 = .ok (.iload_n 3, 1) := dk_29 (dk_at dksX4_slide_2 6 rfl rfl)
theorem dX4_slide_55 : decode cX4_slide 55 = .ok (.iload 4, 2) := dk_21 4 (dk_at dksX4_slide_2 7 rfl rfl)
theorem dX4_slide_57 : decode cX4_slide 57 = .ok (.aload_n 0, 1) := dk_42 (dk_at dksX4_slide_2 9 rfl rfl)
theorem dX4_slide_58 : decode cX4_slide 58 = .ok (.getfield 93, 3) := dk_180 0 93 (dk_at dksX4_slide_2 10 rfl rfl)
theorem dX4_slide_61 : decode cX4_slide 61 = .ok (.iload_n 1, 1) := dk_27 (dk_at dksX4_slide_2 13 rfl rfl)
theorem dX4_slide_62 : decode cX4_slide 62 = .ok (.iaload, 1) := dk_46 (dk_at dksX4_slide_2 14 rfl rfl)
theorem dX4_slide_63 : decode cX4_slide 63 = .ok (.invokestatic 321, 3) := dk_184 1 65 (dk_at dksX4_slide_2 15 rfl rfl)
theorem dX4_slide_66 : decode cX4_slide 66 = .ok (.ifCond .ne 10, 3) := dk_154 0 10 (dk_at dksX4_slide_2 18 rfl rfl)
theorem dX4_slide_69 : decode cX4_slide 69 = .ok (.aload_n 0, 1) := dk_42 (dk_at dksX4_slide_2 21 rfl rfl)
theorem dX4_slide_70 : decode cX4_slide 70 = .ok (.bipush (-12), 2) := dk_16 244 (dk_at dksX4_slide_2 22 rfl rfl)
theorem dX4_slide_72 : decode cX4_slide 72 = .ok (.invokevirtual 211, 3) := dk_182 0 211 (dk_at dksX4_slide_3 0 rfl rfl)
theorem dX4_slide_75 : decode cX4_slide 75 = .ok (.ireturn, 1) := dk_172 (dk_at dksX4_slide_3 3 rfl rfl)
theorem dX4_slide_76 : decode cX4_slide 76 = .ok (.iconst 0, 1) := dk_3 (dk_at dksX4_slide_3 4 rfl rfl)
theorem dX4_slide_77 : decode cX4_slide 77 = .ok (.istore 5, 2) := dk_54 5 (dk_at dksX4_slide_3 5 rfl rfl)
theorem dX4_slide_79 : decode cX4_slide 79 = .ok (.iload 5, 2) := dk_21 5 (dk_at dksX4_slide_3 7 rfl rfl)
theorem dX4_slide_81 : decode cX4_slide 81 = .ok (.iload 4, 2) := dk_21 4 (dk_at dksX4_slide_3 9 rfl rfl)
theorem dX4_slide_83 : decode cX4_slide 83 = .ok (.if_icmp .ge 30, 3) := dk_162 0 30 (dk_at dksX4_slide_3 11 rfl rfl)
theorem dX4_slide_86 : decode cX4_slide 86 = .ok (.aload_n 0, 1) := dk_42 (dk_at dksX4_slide_3 14 rfl rfl)
theorem dX4_slide_87 : decode cX4_slide 87 = .ok (.getfield 99, 3) := dk_180 0 99 (dk_at dksX4_slide_3 15 rfl rfl)
theorem dX4_slide_90 : decode cX4_slide 90 = .ok (.iload 5, 2) := dk_21 5 (dk_at dksX4_slide_3 18 rfl rfl)
theorem dX4_slide_92 : decode cX4_slide 92 = .ok (.aload_n 0, 1) := dk_42 (dk_at dksX4_slide_3 20 rfl rfl)
theorem dX4_slide_93 : decode cX4_slide 93 = .ok (.getfield 96, 3) := dk_180 0 96 (dk_at dksX4_slide_3 21 rfl rfl)
theorem dX4_slide_96 : decode cX4_slide 96 = .ok (.bipush 20, 2) := dk_16 20 (dk_at dksX4_slide_4 0 rfl rfl)
theorem dX4_slide_98 : decode cX4_slide 98 = .ok (.iload_n 1, 1) := dk_27 (dk_at dksX4_slide_4 2 rfl rfl)
theorem dX4_slide_99 : decode cX4_slide 99 = .ok (.imul, 1) := dk_104 (dk_at dksX4_slide_4 3 rfl rfl)
theorem dX4_slide_100 : decode cX4_slide 100 = .ok (.iload_n 2, 1) := dk_28 (dk_at dksX4_slide_4 4 rfl rfl)
theorem dX4_slide_101 : decode cX4_slide 101 = .ok (.iadd, 1) := dk_96 (dk_at dksX4_slide_4 5 rfl rfl)
theorem dX4_slide_102 : decode cX4_slide 102 = .ok (.iload 5, 2) := dk_21 5 (dk_at dksX4_slide_4 6 rfl rfl)
theorem dX4_slide_104 : decode cX4_slide 104 = .ok (.iadd, 1) := dk_96 (dk_at dksX4_slide_4 8 rfl rfl)
theorem dX4_slide_105 : decode cX4_slide 105 = .ok (.iaload, 1) := dk_46 (dk_at dksX4_slide_4 9 rfl rfl)
theorem dX4_slide_106 : decode cX4_slide 106 = .ok (.iastore, 1) := dk_79 (dk_at dksX4_slide_4 10 rfl rfl)
theorem dX4_slide_107 : decode cX4_slide 107 = .ok (.iinc 5 1, 3) := dk_132 5 1 (dk_at dksX4_slide_4 11 rfl rfl)
theorem dX4_slide_110 : decode cX4_slide 110 = .ok (.goto (-31), 3) := dk_167 255 225 (dk_at dksX4_slide_4 14 rfl rfl)
theorem dX4_slide_113 : decode cX4_slide 113 = .ok (.iconst 0, 1) := dk_3 (dk_at dksX4_slide_4 17 rfl rfl)
theorem dX4_slide_114 : decode cX4_slide 114 = .ok (.istore 5, 2) := dk_54 5 (dk_at dksX4_slide_4 18 rfl rfl)
theorem dX4_slide_116 : decode cX4_slide 116 = .ok (.iload 5, 2) := dk_21 5 (dk_at dksX4_slide_4 20 rfl rfl)
theorem dX4_slide_118 : decode cX4_slide 118 = .ok (.iload 4, 2) := dk_21 4 (dk_at dksX4_slide_4 22 rfl rfl)
theorem dX4_slide_120 : decode cX4_slide 120 = .ok (.if_icmp .ge 30, 3) := dk_162 0 30 (dk_at dksX4_slide_5 0 rfl rfl)
theorem dX4_slide_123 : decode cX4_slide 123 = .ok (.aload_n 0, 1) := dk_42 (dk_at dksX4_slide_5 3 rfl rfl)
theorem dX4_slide_124 : decode cX4_slide 124 = .ok (.getfield 96, 3) := dk_180 0 96 (dk_at dksX4_slide_5 4 rfl rfl)
theorem dX4_slide_127 : decode cX4_slide 127 = .ok (.bipush 20, 2) := dk_16 20 (dk_at dksX4_slide_5 7 rfl rfl)
theorem dX4_slide_129 : decode cX4_slide 129 = .ok (.iload_n 1, 1) := dk_27 (dk_at dksX4_slide_5 9 rfl rfl)
theorem dX4_slide_130 : decode cX4_slide 130 = .ok (.imul, 1) := dk_104 (dk_at dksX4_slide_5 10 rfl rfl)
theorem dX4_slide_131 : decode cX4_slide 131 = .ok (.iload_n 3, 1) := dk_29 (dk_at dksX4_slide_5 11 rfl rfl)
theorem dX4_slide_132 : decode cX4_slide 132 = .ok (.iadd, 1) := dk_96 (dk_at dksX4_slide_5 12 rfl rfl)
theorem dX4_slide_133 : decode cX4_slide 133 = .ok (.iload 5, 2) := dk_21 5 (dk_at dksX4_slide_5 13 rfl rfl)
theorem dX4_slide_135 : decode cX4_slide 135 = .ok (.iadd, 1) := dk_96 (dk_at dksX4_slide_5 15 rfl rfl)
theorem dX4_slide_136 : decode cX4_slide 136 = .ok (.aload_n 0, 1) := dk_42 (dk_at dksX4_slide_5 16 rfl rfl)
theorem dX4_slide_137 : decode cX4_slide 137 = .ok (.getfield 99, 3) := dk_180 0 99 (dk_at dksX4_slide_5 17 rfl rfl)
theorem dX4_slide_140 : decode cX4_slide 140 = .ok (.iload 5, 2) := dk_21 5 (dk_at dksX4_slide_5 20 rfl rfl)
theorem dX4_slide_142 : decode cX4_slide 142 = .ok (.iaload, 1) := dk_46 (dk_at dksX4_slide_5 22 rfl rfl)
theorem dX4_slide_143 : decode cX4_slide 143 = .ok (.iastore, 1) := dk_79 (dk_at dksX4_slide_5 23 rfl rfl)
theorem dX4_slide_144 : decode cX4_slide 144 = .ok (.iinc 5 1, 3) := dk_132 5 1 (dk_at dksX4_slide_6 0 rfl rfl)
theorem dX4_slide_147 : decode cX4_slide 147 = .ok (.goto (-31), 3) := dk_167 255 225 (dk_at dksX4_slide_6 3 rfl rfl)
theorem dX4_slide_150 : decode cX4_slide 150 = .ok (.iload 4, 2) := dk_21 4 (dk_at dksX4_slide_6 6 rfl rfl)
theorem dX4_slide_152 : decode cX4_slide 152 = .ok (.ireturn, 1) := dk_172 (dk_at dksX4_slide_6 8 rfl rfl)
abbrev cX4_areThere : ByteArray := prog_21_method_71_code
def yX4_areThere : MethodName := ⟨RX4, "areThere", "(III)Z"⟩
def dkwX4_areThere_1 : List UInt8 := [172]
abbrev dktX4_areThere_1 : List UInt8 := dkwX4_areThere_1 ++ []
def dkwX4_areThere_0 : List UInt8 := [26, 155, 0, 22, 27, 155, 0, 18, 26, 133, 27, 133, 97, 28, 133, 148, 157, 0, 7, 4, 167, 0, 4, 3]
abbrev dktX4_areThere_0 : List UInt8 := dkwX4_areThere_0 ++ dktX4_areThere_1
theorem dksX4_areThere_0 : cX4_areThere.data.toList.drop 0 = dktX4_areThere_0 := by decide +kernel
theorem dksX4_areThere_1 : cX4_areThere.data.toList.drop 24 = dktX4_areThere_1 := dk_seg dksX4_areThere_0 24 rfl rfl
theorem dX4_areThere_0 : decode cX4_areThere 0 = .ok (.iload_n 0, 1) := dk_26 (dk_at dksX4_areThere_0 0 rfl rfl)
theorem dX4_areThere_1 : decode cX4_areThere 1 = .ok (.ifCond .lt 22, 3) := dk_155 0 22 (dk_at dksX4_areThere_0 1 rfl rfl)
theorem dX4_areThere_4 : decode cX4_areThere 4 = .ok (.iload_n 1, 1) := dk_27 (dk_at dksX4_areThere_0 4 rfl rfl)
theorem dX4_areThere_5 : decode cX4_areThere 5 = .ok (.ifCond .lt 18, 3) := dk_155 0 18 (dk_at dksX4_areThere_0 5 rfl rfl)
theorem dX4_areThere_8 : decode cX4_areThere 8 = .ok (.iload_n 0, 1) := dk_26 (dk_at dksX4_areThere_0 8 rfl rfl)
theorem dX4_areThere_9 : decode cX4_areThere 9 = .ok (.i2l, 1) := dk_133 (dk_at dksX4_areThere_0 9 rfl rfl)
theorem dX4_areThere_10 : decode cX4_areThere 10 = .ok (.iload_n 1, 1) := dk_27 (dk_at dksX4_areThere_0 10 rfl rfl)
theorem dX4_areThere_11 : decode cX4_areThere 11 = .ok (.i2l, 1) := dk_133 (dk_at dksX4_areThere_0 11 rfl rfl)
theorem dX4_areThere_12 : decode cX4_areThere 12 = .ok (.ladd, 1) := dk_97 (dk_at dksX4_areThere_0 12 rfl rfl)
theorem dX4_areThere_13 : decode cX4_areThere 13 = .ok (.iload_n 2, 1) := dk_28 (dk_at dksX4_areThere_0 13 rfl rfl)
theorem dX4_areThere_14 : decode cX4_areThere 14 = .ok (.i2l, 1) := dk_133 (dk_at dksX4_areThere_0 14 rfl rfl)
theorem dX4_areThere_15 : decode cX4_areThere 15 = .ok (.lcmp, 1) := dk_148 (dk_at dksX4_areThere_0 15 rfl rfl)
theorem dX4_areThere_16 : decode cX4_areThere 16 = .ok (.ifCond .gt 7, 3) := dk_157 0 7 (dk_at dksX4_areThere_0 16 rfl rfl)
theorem dX4_areThere_19 : decode cX4_areThere 19 = .ok (.iconst 1, 1) := dk_4 (dk_at dksX4_areThere_0 19 rfl rfl)
theorem dX4_areThere_20 : decode cX4_areThere 20 = .ok (.goto 4, 3) := dk_167 0 4 (dk_at dksX4_areThere_0 20 rfl rfl)
theorem dX4_areThere_23 : decode cX4_areThere 23 = .ok (.iconst 0, 1) := dk_3 (dk_at dksX4_areThere_0 23 rfl rfl)
theorem dX4_areThere_24 : decode cX4_areThere 24 = .ok (.ireturn, 1) := dk_172 (dk_at dksX4_areThere_1 0 rfl rfl)
abbrev cX4_shelf : ByteArray := prog_21_method_73_code
def yX4_shelf : MethodName := ⟨RX4, "shelf", "(III)I"⟩
def dkwX4_shelf_4 : List UInt8 := [3, 79, 132, 4, 1, 167, 255, 233, 4, 172]
abbrev dktX4_shelf_4 : List UInt8 := dkwX4_shelf_4 ++ []
def dkwX4_shelf_3 : List UInt8 := [27, 29, 79, 3, 54, 4, 21, 4, 16, 60, 162, 0, 22, 42, 180, 0, 111, 16, 60, 27, 104, 21, 4, 96]
abbrev dktX4_shelf_3 : List UInt8 := dkwX4_shelf_3 ++ dktX4_shelf_4
def dkwX4_shelf_2 : List UInt8 := [16, 241, 182, 0, 211, 172, 42, 180, 0, 102, 27, 4, 84, 42, 180, 0, 105, 27, 28, 79, 42, 180, 0, 108]
abbrev dktX4_shelf_2 : List UInt8 := dkwX4_shelf_2 ++ dktX4_shelf_3
def dkwX4_shelf_1 : List UInt8 := [184, 0, 137, 153, 0, 9, 29, 16, 60, 164, 0, 10, 42, 16, 254, 182, 0, 130, 172, 29, 156, 0, 10, 42]
abbrev dktX4_shelf_1 : List UInt8 := dkwX4_shelf_1 ++ dktX4_shelf_2
def dkwX4_shelf_0 : List UInt8 := [42, 182, 0, 144, 27, 133, 9, 20, 0, 231, 184, 0, 137, 153, 0, 21, 28, 133, 9, 20, 0, 231]
abbrev dktX4_shelf_0 : List UInt8 := dkwX4_shelf_0 ++ dktX4_shelf_1
theorem dksX4_shelf_0 : cX4_shelf.data.toList.drop 0 = dktX4_shelf_0 := by decide +kernel
theorem dksX4_shelf_1 : cX4_shelf.data.toList.drop 22 = dktX4_shelf_1 := dk_seg dksX4_shelf_0 22 rfl rfl
theorem dksX4_shelf_2 : cX4_shelf.data.toList.drop 46 = dktX4_shelf_2 := dk_seg dksX4_shelf_1 24 rfl rfl
theorem dksX4_shelf_3 : cX4_shelf.data.toList.drop 70 = dktX4_shelf_3 := dk_seg dksX4_shelf_2 24 rfl rfl
theorem dksX4_shelf_4 : cX4_shelf.data.toList.drop 94 = dktX4_shelf_4 := dk_seg dksX4_shelf_3 24 rfl rfl
theorem dX4_shelf_0 : decode cX4_shelf 0 = .ok (.aload_n 0, 1) := dk_42 (dk_at dksX4_shelf_0 0 rfl rfl)
theorem dX4_shelf_1 : decode cX4_shelf 1 = .ok (.invokevirtual 144, 3) := dk_182 0 144 (dk_at dksX4_shelf_0 1 rfl rfl)
theorem dX4_shelf_4 : decode cX4_shelf 4 = .ok (.iload_n 1, 1) := dk_27 (dk_at dksX4_shelf_0 4 rfl rfl)
theorem dX4_shelf_5 : decode cX4_shelf 5 = .ok (.i2l, 1) := dk_133 (dk_at dksX4_shelf_0 5 rfl rfl)
theorem dX4_shelf_6 : decode cX4_shelf 6 = .ok (.lconst 0, 1) := dk_9 (dk_at dksX4_shelf_0 6 rfl rfl)
theorem dX4_shelf_7 : decode cX4_shelf 7 = .ok (.ldc2_w 231, 3) := dk_20 0 231 (dk_at dksX4_shelf_0 7 rfl rfl)
theorem dX4_shelf_10 : decode cX4_shelf 10 = .ok (.invokestatic 137, 3) := dk_184 0 137 (dk_at dksX4_shelf_0 10 rfl rfl)
theorem dX4_shelf_13 : decode cX4_shelf 13 = .ok (.ifCond .eq 21, 3) := dk_153 0 21 (dk_at dksX4_shelf_0 13 rfl rfl)
theorem dX4_shelf_16 : decode cX4_shelf 16 = .ok (.iload_n 2, 1) := dk_28 (dk_at dksX4_shelf_0 16 rfl rfl)
theorem dX4_shelf_17 : decode cX4_shelf 17 = .ok (.i2l, 1) := dk_133 (dk_at dksX4_shelf_0 17 rfl rfl)
theorem dX4_shelf_18 : decode cX4_shelf 18 = .ok (.lconst 0, 1) := dk_9 (dk_at dksX4_shelf_0 18 rfl rfl)
theorem dX4_shelf_19 : decode cX4_shelf 19 = .ok (.ldc2_w 231, 3) := dk_20 0 231 (dk_at dksX4_shelf_0 19 rfl rfl)
theorem dX4_shelf_22 : decode cX4_shelf 22 = .ok (.invokestatic 137, 3) := dk_184 0 137 (dk_at dksX4_shelf_1 0 rfl rfl)
theorem dX4_shelf_25 : decode cX4_shelf 25 = .ok (.ifCond .eq 9, 3) := dk_153 0 9 (dk_at dksX4_shelf_1 3 rfl rfl)
theorem dX4_shelf_28 : decode cX4_shelf 28 = .ok (.iload_n 3, 1) := dk_29 (dk_at dksX4_shelf_1 6 rfl rfl)
theorem dX4_shelf_29 : decode cX4_shelf 29 = .ok (.bipush 60, 2) := dk_16 60 (dk_at dksX4_shelf_1 7 rfl rfl)
theorem dX4_shelf_31 : decode cX4_shelf 31 = .ok (.if_icmp .le 10, 3) := dk_164 0 10 (dk_at dksX4_shelf_1 9 rfl rfl)
theorem dX4_shelf_34 : decode cX4_shelf 34 = .ok (.aload_n 0, 1) := dk_42 (dk_at dksX4_shelf_1 12 rfl rfl)
theorem dX4_shelf_35 : decode cX4_shelf 35 = .ok (.bipush (-2), 2) := dk_16 254 (dk_at dksX4_shelf_1 13 rfl rfl)
theorem dX4_shelf_37 : decode cX4_shelf 37 = .ok (.invokevirtual 130, 3) := dk_182 0 130 (dk_at dksX4_shelf_1 15 rfl rfl)
theorem dX4_shelf_40 : decode cX4_shelf 40 = .ok (.ireturn, 1) := dk_172 (dk_at dksX4_shelf_1 18 rfl rfl)
theorem dX4_shelf_41 : decode cX4_shelf 41 = .ok (.iload_n 3, 1) := dk_29 (dk_at dksX4_shelf_1 19 rfl rfl)
theorem dX4_shelf_42 : decode cX4_shelf 42 = .ok (.ifCond .ge 10, 3) := dk_156 0 10 (dk_at dksX4_shelf_1 20 rfl rfl)
theorem dX4_shelf_45 : decode cX4_shelf 45 = .ok (.aload_n 0, 1) := dk_42 (dk_at dksX4_shelf_1 23 rfl rfl)
theorem dX4_shelf_46 : decode cX4_shelf 46 = .ok (.bipush (-15), 2) := dk_16 241 (dk_at dksX4_shelf_2 0 rfl rfl)
theorem dX4_shelf_48 : decode cX4_shelf 48 = .ok (.invokevirtual 211, 3) := dk_182 0 211 (dk_at dksX4_shelf_2 2 rfl rfl)
theorem dX4_shelf_51 : decode cX4_shelf 51 = .ok (.ireturn, 1) := dk_172 (dk_at dksX4_shelf_2 5 rfl rfl)
theorem dX4_shelf_52 : decode cX4_shelf 52 = .ok (.aload_n 0, 1) := dk_42 (dk_at dksX4_shelf_2 6 rfl rfl)
theorem dX4_shelf_53 : decode cX4_shelf 53 = .ok (.getfield 102, 3) := dk_180 0 102 (dk_at dksX4_shelf_2 7 rfl rfl)
theorem dX4_shelf_56 : decode cX4_shelf 56 = .ok (.iload_n 1, 1) := dk_27 (dk_at dksX4_shelf_2 10 rfl rfl)
theorem dX4_shelf_57 : decode cX4_shelf 57 = .ok (.iconst 1, 1) := dk_4 (dk_at dksX4_shelf_2 11 rfl rfl)
theorem dX4_shelf_58 : decode cX4_shelf 58 = .ok (.bastore, 1) := dk_84 (dk_at dksX4_shelf_2 12 rfl rfl)
theorem dX4_shelf_59 : decode cX4_shelf 59 = .ok (.aload_n 0, 1) := dk_42 (dk_at dksX4_shelf_2 13 rfl rfl)
theorem dX4_shelf_60 : decode cX4_shelf 60 = .ok (.getfield 105, 3) := dk_180 0 105 (dk_at dksX4_shelf_2 14 rfl rfl)
theorem dX4_shelf_63 : decode cX4_shelf 63 = .ok (.iload_n 1, 1) := dk_27 (dk_at dksX4_shelf_2 17 rfl rfl)
theorem dX4_shelf_64 : decode cX4_shelf 64 = .ok (.iload_n 2, 1) := dk_28 (dk_at dksX4_shelf_2 18 rfl rfl)
theorem dX4_shelf_65 : decode cX4_shelf 65 = .ok (.iastore, 1) := dk_79 (dk_at dksX4_shelf_2 19 rfl rfl)
theorem dX4_shelf_66 : decode cX4_shelf 66 = .ok (.aload_n 0, 1) := dk_42 (dk_at dksX4_shelf_2 20 rfl rfl)
theorem dX4_shelf_67 : decode cX4_shelf 67 = .ok (.getfield 108, 3) := dk_180 0 108 (dk_at dksX4_shelf_2 21 rfl rfl)
theorem dX4_shelf_70 : decode cX4_shelf 70 = .ok (.iload_n 1, 1) := dk_27 (dk_at dksX4_shelf_3 0 rfl rfl)
theorem dX4_shelf_71 : decode cX4_shelf 71 = .ok (.iload_n 3, 1) := dk_29 (dk_at dksX4_shelf_3 1 rfl rfl)
theorem dX4_shelf_72 : decode cX4_shelf 72 = .ok (.iastore, 1) := dk_79 (dk_at dksX4_shelf_3 2 rfl rfl)
theorem dX4_shelf_73 : decode cX4_shelf 73 = .ok (.iconst 0, 1) := dk_3 (dk_at dksX4_shelf_3 3 rfl rfl)
theorem dX4_shelf_74 : decode cX4_shelf 74 = .ok (.istore 4, 2) := dk_54 4 (dk_at dksX4_shelf_3 4 rfl rfl)
theorem dX4_shelf_76 : decode cX4_shelf 76 = .ok (.iload 4, 2) := dk_21 4 (dk_at dksX4_shelf_3 6 rfl rfl)
theorem dX4_shelf_78 : decode cX4_shelf 78 = .ok (.bipush 60, 2) := dk_16 60 (dk_at dksX4_shelf_3 8 rfl rfl)
theorem dX4_shelf_80 : decode cX4_shelf 80 = .ok (.if_icmp .ge 22, 3) := dk_162 0 22 (dk_at dksX4_shelf_3 10 rfl rfl)
theorem dX4_shelf_83 : decode cX4_shelf 83 = .ok (.aload_n 0, 1) := dk_42 (dk_at dksX4_shelf_3 13 rfl rfl)
theorem dX4_shelf_84 : decode cX4_shelf 84 = .ok (.getfield 111, 3) := dk_180 0 111 (dk_at dksX4_shelf_3 14 rfl rfl)
theorem dX4_shelf_87 : decode cX4_shelf 87 = .ok (.bipush 60, 2) := dk_16 60 (dk_at dksX4_shelf_3 17 rfl rfl)
theorem dX4_shelf_89 : decode cX4_shelf 89 = .ok (.iload_n 1, 1) := dk_27 (dk_at dksX4_shelf_3 19 rfl rfl)
theorem dX4_shelf_90 : decode cX4_shelf 90 = .ok (.imul, 1) := dk_104 (dk_at dksX4_shelf_3 20 rfl rfl)
theorem dX4_shelf_91 : decode cX4_shelf 91 = .ok (.iload 4, 2) := dk_21 4 (dk_at dksX4_shelf_3 21 rfl rfl)
theorem dX4_shelf_93 : decode cX4_shelf 93 = .ok (.iadd, 1) := dk_96 (dk_at dksX4_shelf_3 23 rfl rfl)
theorem dX4_shelf_94 : decode cX4_shelf 94 = .ok (.iconst 0, 1) := dk_3 (dk_at dksX4_shelf_4 0 rfl rfl)
theorem dX4_shelf_95 : decode cX4_shelf 95 = .ok (.iastore, 1) := dk_79 (dk_at dksX4_shelf_4 1 rfl rfl)
theorem dX4_shelf_96 : decode cX4_shelf 96 = .ok (.iinc 4 1, 3) := dk_132 4 1 (dk_at dksX4_shelf_4 2 rfl rfl)
theorem dX4_shelf_99 : decode cX4_shelf 99 = .ok (.goto (-23), 3) := dk_167 255 233 (dk_at dksX4_shelf_4 5 rfl rfl)
theorem dX4_shelf_102 : decode cX4_shelf 102 = .ok (.iconst 1, 1) := dk_4 (dk_at dksX4_shelf_4 8 rfl rfl)
theorem dX4_shelf_103 : decode cX4_shelf 103 = .ok (.ireturn, 1) := dk_172 (dk_at dksX4_shelf_4 9 rfl rfl)
abbrev cX4_lay : ByteArray := prog_21_method_75_code
def yX4_lay : MethodName := ⟨RX4, "lay", "(IZII)I"⟩
def dkwX4_lay_6 : List UInt8 := [21, 6, 133, 97, 182, 1, 72, 154, 0, 6, 21, 6, 172, 132, 6, 1, 167, 255, 197, 21, 5, 172]
abbrev dktX4_lay_6 : List UInt8 := dkwX4_lay_6 ++ []
def dkwX4_lay_5 : List UInt8 := [104, 21, 6, 96, 46, 167, 0, 15, 42, 180, 0, 42, 16, 40, 27, 104, 21, 6, 96, 46, 29, 21, 4, 133]
abbrev dktX4_lay_5 : List UInt8 := dkwX4_lay_5 ++ dktX4_lay_6
def dkwX4_lay_4 : List UInt8 := [54, 5, 3, 54, 6, 21, 6, 21, 5, 162, 0, 58, 42, 28, 153, 0, 18, 42, 180, 0, 96, 16, 20, 27]
abbrev dktX4_lay_4 : List UInt8 := dkwX4_lay_4 ++ dktX4_lay_5
def dkwX4_lay_3 : List UInt8 := [181, 1, 69, 3, 172, 28, 153, 0, 12, 42, 180, 0, 93, 27, 46, 167, 0, 9, 42, 180, 0, 45, 27, 46]
abbrev dktX4_lay_3 : List UInt8 := dkwX4_lay_3 ++ dktX4_lay_4
def dkwX4_lay_2 : List UInt8 := [182, 0, 130, 172, 28, 153, 0, 24, 42, 180, 0, 87, 27, 51, 154, 0, 15, 42, 42, 16, 245, 182, 0, 211]
abbrev dktX4_lay_2 : List UInt8 := dkwX4_lay_2 ++ dktX4_lay_3
def dkwX4_lay_1 : List UInt8 := [27, 182, 0, 184, 153, 0, 15, 29, 133, 9, 20, 0, 231, 184, 0, 137, 154, 0, 10, 42, 16, 254]
abbrev dktX4_lay_1 : List UInt8 := dkwX4_lay_1 ++ dktX4_lay_2
def dkwX4_lay_0 : List UInt8 := [42, 182, 0, 144, 28, 153, 0, 18, 27, 133, 9, 20, 0, 231, 184, 0, 137, 153, 0, 26, 167, 0, 11, 42]
abbrev dktX4_lay_0 : List UInt8 := dkwX4_lay_0 ++ dktX4_lay_1
theorem dksX4_lay_0 : cX4_lay.data.toList.drop 0 = dktX4_lay_0 := by decide +kernel
theorem dksX4_lay_1 : cX4_lay.data.toList.drop 24 = dktX4_lay_1 := dk_seg dksX4_lay_0 24 rfl rfl
theorem dksX4_lay_2 : cX4_lay.data.toList.drop 46 = dktX4_lay_2 := dk_seg dksX4_lay_1 22 rfl rfl
theorem dksX4_lay_3 : cX4_lay.data.toList.drop 70 = dktX4_lay_3 := dk_seg dksX4_lay_2 24 rfl rfl
theorem dksX4_lay_4 : cX4_lay.data.toList.drop 94 = dktX4_lay_4 := dk_seg dksX4_lay_3 24 rfl rfl
theorem dksX4_lay_5 : cX4_lay.data.toList.drop 118 = dktX4_lay_5 := dk_seg dksX4_lay_4 24 rfl rfl
theorem dksX4_lay_6 : cX4_lay.data.toList.drop 142 = dktX4_lay_6 := dk_seg dksX4_lay_5 24 rfl rfl
theorem dX4_lay_0 : decode cX4_lay 0 = .ok (.aload_n 0, 1) := dk_42 (dk_at dksX4_lay_0 0 rfl rfl)
theorem dX4_lay_1 : decode cX4_lay 1 = .ok (.invokevirtual 144, 3) := dk_182 0 144 (dk_at dksX4_lay_0 1 rfl rfl)
theorem dX4_lay_4 : decode cX4_lay 4 = .ok (.iload_n 2, 1) := dk_28 (dk_at dksX4_lay_0 4 rfl rfl)
theorem dX4_lay_5 : decode cX4_lay 5 = .ok (.ifCond .eq 18, 3) := dk_153 0 18 (dk_at dksX4_lay_0 5 rfl rfl)
theorem dX4_lay_8 : decode cX4_lay 8 = .ok (.iload_n 1, 1) := dk_27 (dk_at dksX4_lay_0 8 rfl rfl)
theorem dX4_lay_9 : decode cX4_lay 9 = .ok (.i2l, 1) := dk_133 (dk_at dksX4_lay_0 9 rfl rfl)
theorem dX4_lay_10 : decode cX4_lay 10 = .ok (.lconst 0, 1) := dk_9 (dk_at dksX4_lay_0 10 rfl rfl)
theorem dX4_lay_11 : decode cX4_lay 11 = .ok (.ldc2_w 231, 3) := dk_20 0 231 (dk_at dksX4_lay_0 11 rfl rfl)
theorem dX4_lay_14 : decode cX4_lay 14 = .ok (.invokestatic 137, 3) := dk_184 0 137 (dk_at dksX4_lay_0 14 rfl rfl)
theorem dX4_lay_17 : decode cX4_lay 17 = .ok (.ifCond .eq 26, 3) := dk_153 0 26 (dk_at dksX4_lay_0 17 rfl rfl)
theorem dX4_lay_20 : decode cX4_lay 20 = .ok (.goto 11, 3) := dk_167 0 11 (dk_at dksX4_lay_0 20 rfl rfl)
theorem dX4_lay_23 : decode cX4_lay 23 = .ok (.aload_n 0, 1) := dk_42 (dk_at dksX4_lay_0 23 rfl rfl)
theorem dX4_lay_24 : decode cX4_lay 24 = .ok (.iload_n 1, 1) := dk_27 (dk_at dksX4_lay_1 0 rfl rfl)
theorem dX4_lay_25 : decode cX4_lay 25 = .ok (.invokevirtual 184, 3) := dk_182 0 184 (dk_at dksX4_lay_1 1 rfl rfl)
theorem dX4_lay_28 : decode cX4_lay 28 = .ok (.ifCond .eq 15, 3) := dk_153 0 15 (dk_at dksX4_lay_1 4 rfl rfl)
theorem dX4_lay_31 : decode cX4_lay 31 = .ok (.iload_n 3, 1) := dk_29 (dk_at dksX4_lay_1 7 rfl rfl)
theorem dX4_lay_32 : decode cX4_lay 32 = .ok (.i2l, 1) := dk_133 (dk_at dksX4_lay_1 8 rfl rfl)
theorem dX4_lay_33 : decode cX4_lay 33 = .ok (.lconst 0, 1) := dk_9 (dk_at dksX4_lay_1 9 rfl rfl)
theorem dX4_lay_34 : decode cX4_lay 34 = .ok (.ldc2_w 231, 3) := dk_20 0 231 (dk_at dksX4_lay_1 10 rfl rfl)
theorem dX4_lay_37 : decode cX4_lay 37 = .ok (.invokestatic 137, 3) := dk_184 0 137 (dk_at dksX4_lay_1 13 rfl rfl)
theorem dX4_lay_40 : decode cX4_lay 40 = .ok (.ifCond .ne 10, 3) := dk_154 0 10 (dk_at dksX4_lay_1 16 rfl rfl)
theorem dX4_lay_43 : decode cX4_lay 43 = .ok (.aload_n 0, 1) := dk_42 (dk_at dksX4_lay_1 19 rfl rfl)
theorem dX4_lay_44 : decode cX4_lay 44 = .ok (.bipush (-2), 2) := dk_16 254 (dk_at dksX4_lay_1 20 rfl rfl)
theorem dX4_lay_46 : decode cX4_lay 46 = .ok (.invokevirtual 130, 3) := dk_182 0 130 (dk_at dksX4_lay_2 0 rfl rfl)
theorem dX4_lay_49 : decode cX4_lay 49 = .ok (.ireturn, 1) := dk_172 (dk_at dksX4_lay_2 3 rfl rfl)
theorem dX4_lay_50 : decode cX4_lay 50 = .ok (.iload_n 2, 1) := dk_28 (dk_at dksX4_lay_2 4 rfl rfl)
theorem dX4_lay_51 : decode cX4_lay 51 = .ok (.ifCond .eq 24, 3) := dk_153 0 24 (dk_at dksX4_lay_2 5 rfl rfl)
theorem dX4_lay_54 : decode cX4_lay 54 = .ok (.aload_n 0, 1) := dk_42 (dk_at dksX4_lay_2 8 rfl rfl)
theorem dX4_lay_55 : decode cX4_lay 55 = .ok (.getfield 87, 3) := dk_180 0 87 (dk_at dksX4_lay_2 9 rfl rfl)
theorem dX4_lay_58 : decode cX4_lay 58 = .ok (.iload_n 1, 1) := dk_27 (dk_at dksX4_lay_2 12 rfl rfl)
theorem dX4_lay_59 : decode cX4_lay 59 = .ok (.baload, 1) := dk_51 (dk_at dksX4_lay_2 13 rfl rfl)
theorem dX4_lay_60 : decode cX4_lay 60 = .ok (.ifCond .ne 15, 3) := dk_154 0 15 (dk_at dksX4_lay_2 14 rfl rfl)
theorem dX4_lay_63 : decode cX4_lay 63 = .ok (.aload_n 0, 1) := dk_42 (dk_at dksX4_lay_2 17 rfl rfl)
theorem dX4_lay_64 : decode cX4_lay 64 = .ok (.aload_n 0, 1) := dk_42 (dk_at dksX4_lay_2 18 rfl rfl)
theorem dX4_lay_65 : decode cX4_lay 65 = .ok (.bipush (-11), 2) := dk_16 245 (dk_at dksX4_lay_2 19 rfl rfl)
theorem dX4_lay_67 : decode cX4_lay 67 = .ok (.invokevirtual 211, 3) := dk_182 0 211 (dk_at dksX4_lay_2 21 rfl rfl)
theorem dX4_lay_70 : decode cX4_lay 70 = .ok (.putfield 325, 3) := dk_181 1 69 (dk_at dksX4_lay_3 0 rfl rfl)
theorem dX4_lay_73 : decode cX4_lay 73 = .ok (.iconst 0, 1) := dk_3 (dk_at dksX4_lay_3 3 rfl rfl)
theorem dX4_lay_74 : decode cX4_lay 74 = .ok (.ireturn, 1) := dk_172 (dk_at dksX4_lay_3 4 rfl rfl)
theorem dX4_lay_75 : decode cX4_lay 75 = .ok (.iload_n 2, 1) := dk_28 (dk_at dksX4_lay_3 5 rfl rfl)
theorem dX4_lay_76 : decode cX4_lay 76 = .ok (.ifCond .eq 12, 3) := dk_153 0 12 (dk_at dksX4_lay_3 6 rfl rfl)
theorem dX4_lay_79 : decode cX4_lay 79 = .ok (.aload_n 0, 1) := dk_42 (dk_at dksX4_lay_3 9 rfl rfl)
theorem dX4_lay_80 : decode cX4_lay 80 = .ok (.getfield 93, 3) := dk_180 0 93 (dk_at dksX4_lay_3 10 rfl rfl)
theorem dX4_lay_83 : decode cX4_lay 83 = .ok (.iload_n 1, 1) := dk_27 (dk_at dksX4_lay_3 13 rfl rfl)
theorem dX4_lay_84 : decode cX4_lay 84 = .ok (.iaload, 1) := dk_46 (dk_at dksX4_lay_3 14 rfl rfl)
theorem dX4_lay_85 : decode cX4_lay 85 = .ok (.goto 9, 3) := dk_167 0 9 (dk_at dksX4_lay_3 15 rfl rfl)
theorem dX4_lay_88 : decode cX4_lay 88 = .ok (.aload_n 0, 1) := dk_42 (dk_at dksX4_lay_3 18 rfl rfl)
theorem dX4_lay_89 : decode cX4_lay 89 = .ok (.getfield 45, 3) := dk_180 0 45 (dk_at dksX4_lay_3 19 rfl rfl)
theorem dX4_lay_92 : decode cX4_lay 92 = .ok (.iload_n 1, 1) := dk_27 (dk_at dksX4_lay_3 22 rfl rfl)
theorem dX4_lay_93 : decode cX4_lay 93 = .ok (.iaload, 1) := dk_46 (dk_at dksX4_lay_3 23 rfl rfl)
theorem dX4_lay_94 : decode cX4_lay 94 = .ok (.istore 5, 2) := dk_54 5 (dk_at dksX4_lay_4 0 rfl rfl)
theorem dX4_lay_96 : decode cX4_lay 96 = .ok (.iconst 0, 1) := dk_3 (dk_at dksX4_lay_4 2 rfl rfl)
theorem dX4_lay_97 : decode cX4_lay 97 = .ok (.istore 6, 2) := dk_54 6 (dk_at dksX4_lay_4 3 rfl rfl)
theorem dX4_lay_99 : decode cX4_lay 99 = .ok (.iload 6, 2) := dk_21 6 (dk_at dksX4_lay_4 5 rfl rfl)
theorem dX4_lay_101 : decode cX4_lay 101 = .ok (.iload 5, 2) := dk_21 5 (dk_at dksX4_lay_4 7 rfl rfl)
theorem dX4_lay_103 : decode cX4_lay 103 = .ok (.if_icmp .ge 58, 3) := dk_162 0 58 (dk_at dksX4_lay_4 9 rfl rfl)
theorem dX4_lay_106 : decode cX4_lay 106 = .ok (.aload_n 0, 1) := dk_42 (dk_at dksX4_lay_4 12 rfl rfl)
theorem dX4_lay_107 : decode cX4_lay 107 = .ok (.iload_n 2, 1) := dk_28 (dk_at dksX4_lay_4 13 rfl rfl)
theorem dX4_lay_108 : decode cX4_lay 108 = .ok (.ifCond .eq 18, 3) := dk_153 0 18 (dk_at dksX4_lay_4 14 rfl rfl)
theorem dX4_lay_111 : decode cX4_lay 111 = .ok (.aload_n 0, 1) := dk_42 (dk_at dksX4_lay_4 17 rfl rfl)
theorem dX4_lay_112 : decode cX4_lay 112 = .ok (.getfield 96, 3) := dk_180 0 96 (dk_at dksX4_lay_4 18 rfl rfl)
theorem dX4_lay_115 : decode cX4_lay 115 = .ok (.bipush 20, 2) := dk_16 20 (dk_at dksX4_lay_4 21 rfl rfl)
theorem dX4_lay_117 : decode cX4_lay 117 = .ok (.iload_n 1, 1) := dk_27 (dk_at dksX4_lay_4 23 rfl rfl)
theorem dX4_lay_118 : decode cX4_lay 118 = .ok (.imul, 1) := dk_104 (dk_at dksX4_lay_5 0 rfl rfl)
theorem dX4_lay_119 : decode cX4_lay 119 = .ok (.iload 6, 2) := dk_21 6 (dk_at dksX4_lay_5 1 rfl rfl)
theorem dX4_lay_121 : decode cX4_lay 121 = .ok (.iadd, 1) := dk_96 (dk_at dksX4_lay_5 3 rfl rfl)
theorem dX4_lay_122 : decode cX4_lay 122 = .ok (.iaload, 1) := dk_46 (dk_at dksX4_lay_5 4 rfl rfl)
theorem dX4_lay_123 : decode cX4_lay 123 = .ok (.goto 15, 3) := dk_167 0 15 (dk_at dksX4_lay_5 5 rfl rfl)
theorem dX4_lay_126 : decode cX4_lay 126 = .ok (.aload_n 0, 1) := dk_42 (dk_at dksX4_lay_5 8 rfl rfl)
theorem dX4_lay_127 : decode cX4_lay 127 = .ok (.getfield 42, 3) := dk_180 0 42 (dk_at dksX4_lay_5 9 rfl rfl)
theorem dX4_lay_130 : decode cX4_lay 130 = .ok (.bipush 40, 2) := dk_16 40 (dk_at dksX4_lay_5 12 rfl rfl)
theorem dX4_lay_132 : decode cX4_lay 132 = .ok (.iload_n 1, 1) := dk_27 (dk_at dksX4_lay_5 14 rfl rfl)
theorem dX4_lay_133 : decode cX4_lay 133 = .ok (.imul, 1) := dk_104 (dk_at dksX4_lay_5 15 rfl rfl)
theorem dX4_lay_134 : decode cX4_lay 134 = .ok (.iload 6, 2) := dk_21 6 (dk_at dksX4_lay_5 16 rfl rfl)
theorem dX4_lay_136 : decode cX4_lay 136 = .ok (.iadd, 1) := dk_96 (dk_at dksX4_lay_5 18 rfl rfl)
theorem dX4_lay_137 : decode cX4_lay 137 = .ok (.iaload, 1) := dk_46 (dk_at dksX4_lay_5 19 rfl rfl)
theorem dX4_lay_138 : decode cX4_lay 138 = .ok (.iload_n 3, 1) := dk_29 (dk_at dksX4_lay_5 20 rfl rfl)
theorem dX4_lay_139 : decode cX4_lay 139 = .ok (.iload 4, 2) := dk_21 4 (dk_at dksX4_lay_5 21 rfl rfl)
theorem dX4_lay_141 : decode cX4_lay 141 = .ok (.i2l, 1) := dk_133 (dk_at dksX4_lay_5 23 rfl rfl)
theorem dX4_lay_142 : decode cX4_lay 142 = .ok (.iload 6, 2) := dk_21 6 (dk_at dksX4_lay_6 0 rfl rfl)
theorem dX4_lay_144 : decode cX4_lay 144 = .ok (.i2l, 1) := dk_133 (dk_at dksX4_lay_6 2 rfl rfl)
theorem dX4_lay_145 : decode cX4_lay 145 = .ok (.ladd, 1) := dk_97 (dk_at dksX4_lay_6 3 rfl rfl)
theorem dX4_lay_146 : decode cX4_lay 146 = .ok (.invokevirtual 328, 3) := dk_182 1 72 (dk_at dksX4_lay_6 4 rfl rfl)
theorem dX4_lay_149 : decode cX4_lay 149 = .ok (.ifCond .ne 6, 3) := dk_154 0 6 (dk_at dksX4_lay_6 7 rfl rfl)
theorem dX4_lay_152 : decode cX4_lay 152 = .ok (.iload 6, 2) := dk_21 6 (dk_at dksX4_lay_6 10 rfl rfl)
theorem dX4_lay_154 : decode cX4_lay 154 = .ok (.ireturn, 1) := dk_172 (dk_at dksX4_lay_6 12 rfl rfl)
theorem dX4_lay_155 : decode cX4_lay 155 = .ok (.iinc 6 1, 3) := dk_132 6 1 (dk_at dksX4_lay_6 13 rfl rfl)
theorem dX4_lay_158 : decode cX4_lay 158 = .ok (.goto (-59), 3) := dk_167 255 197 (dk_at dksX4_lay_6 16 rfl rfl)
theorem dX4_lay_161 : decode cX4_lay 161 = .ok (.iload 5, 2) := dk_21 5 (dk_at dksX4_lay_6 19 rfl rfl)
theorem dX4_lay_163 : decode cX4_lay 163 = .ok (.ireturn, 1) := dk_172 (dk_at dksX4_lay_6 21 rfl rfl)
abbrev cX4_lays : ByteArray := prog_21_method_74_code
def yX4_lays : MethodName := ⟨RX4, "lays", "(IIJ)Z"⟩
def dkwX4_lays_4 : List UInt8 := [28, 104, 33, 136, 96, 42, 180, 0, 30, 16, 6, 27, 104, 46, 79, 4, 172]
abbrev dktX4_lays_4 : List UInt8 := dkwX4_lays_4 ++ []
def dkwX4_lays_3 : List UInt8 := [184, 0, 137, 154, 0, 15, 42, 42, 16, 244, 182, 0, 211, 181, 1, 69, 3, 172, 42, 180, 0, 111, 16, 60]
abbrev dktX4_lays_3 : List UInt8 := dkwX4_lays_3 ++ dktX4_lays_4
def dkwX4_lays_2 : List UInt8 := [42, 42, 16, 245, 182, 0, 211, 181, 1, 69, 3, 172, 33, 9, 42, 180, 0, 108, 28, 46, 4, 100, 133]
abbrev dktX4_lays_2 : List UInt8 := dkwX4_lays_2 ++ dktX4_lays_3
def dkwX4_lays_1 : List UInt8 := [154, 0, 15, 42, 42, 16, 243, 182, 0, 211, 181, 1, 69, 3, 172, 42, 180, 0, 102, 28, 51, 154, 0, 15]
abbrev dktX4_lays_1 : List UInt8 := dkwX4_lays_1 ++ dktX4_lays_2
def dkwX4_lays_0 : List UInt8 := [27, 2, 160, 0, 15, 42, 42, 16, 245, 182, 0, 211, 181, 1, 69, 3, 172, 42, 27, 182, 0, 214]
abbrev dktX4_lays_0 : List UInt8 := dkwX4_lays_0 ++ dktX4_lays_1
theorem dksX4_lays_0 : cX4_lays.data.toList.drop 0 = dktX4_lays_0 := by decide +kernel
theorem dksX4_lays_1 : cX4_lays.data.toList.drop 22 = dktX4_lays_1 := dk_seg dksX4_lays_0 22 rfl rfl
theorem dksX4_lays_2 : cX4_lays.data.toList.drop 46 = dktX4_lays_2 := dk_seg dksX4_lays_1 24 rfl rfl
theorem dksX4_lays_3 : cX4_lays.data.toList.drop 69 = dktX4_lays_3 := dk_seg dksX4_lays_2 23 rfl rfl
theorem dksX4_lays_4 : cX4_lays.data.toList.drop 93 = dktX4_lays_4 := dk_seg dksX4_lays_3 24 rfl rfl
theorem dX4_lays_0 : decode cX4_lays 0 = .ok (.iload_n 1, 1) := dk_27 (dk_at dksX4_lays_0 0 rfl rfl)
theorem dX4_lays_1 : decode cX4_lays 1 = .ok (.iconst (-1), 1) := dk_2 (dk_at dksX4_lays_0 1 rfl rfl)
theorem dX4_lays_2 : decode cX4_lays 2 = .ok (.if_icmp .ne 15, 3) := dk_160 0 15 (dk_at dksX4_lays_0 2 rfl rfl)
theorem dX4_lays_5 : decode cX4_lays 5 = .ok (.aload_n 0, 1) := dk_42 (dk_at dksX4_lays_0 5 rfl rfl)
theorem dX4_lays_6 : decode cX4_lays 6 = .ok (.aload_n 0, 1) := dk_42 (dk_at dksX4_lays_0 6 rfl rfl)
theorem dX4_lays_7 : decode cX4_lays 7 = .ok (.bipush (-11), 2) := dk_16 245 (dk_at dksX4_lays_0 7 rfl rfl)
theorem dX4_lays_9 : decode cX4_lays 9 = .ok (.invokevirtual 211, 3) := dk_182 0 211 (dk_at dksX4_lays_0 9 rfl rfl)
theorem dX4_lays_12 : decode cX4_lays 12 = .ok (.putfield 325, 3) := dk_181 1 69 (dk_at dksX4_lays_0 12 rfl rfl)
theorem dX4_lays_15 : decode cX4_lays 15 = .ok (.iconst 0, 1) := dk_3 (dk_at dksX4_lays_0 15 rfl rfl)
theorem dX4_lays_16 : decode cX4_lays 16 = .ok (.ireturn, 1) := dk_172 (dk_at dksX4_lays_0 16 rfl rfl)
theorem dX4_lays_17 : decode cX4_lays 17 = .ok (.aload_n 0, 1) := dk_42 (dk_at dksX4_lays_0 17 rfl rfl)
theorem dX4_lays_18 : decode cX4_lays 18 = .ok (.iload_n 1, 1) := dk_27 (dk_at dksX4_lays_0 18 rfl rfl)
theorem dX4_lays_19 : decode cX4_lays 19 = .ok (.invokevirtual 214, 3) := dk_182 0 214 (dk_at dksX4_lays_0 19 rfl rfl)
theorem dX4_lays_22 : decode cX4_lays 22 = .ok (.ifCond .ne 15, 3) := dk_154 0 15 (dk_at dksX4_lays_1 0 rfl rfl)
theorem dX4_lays_25 : decode cX4_lays 25 = .ok (.aload_n 0, 1) := dk_42 (dk_at dksX4_lays_1 3 rfl rfl)
theorem dX4_lays_26 : decode cX4_lays 26 = .ok (.aload_n 0, 1) := dk_42 (dk_at dksX4_lays_1 4 rfl rfl)
theorem dX4_lays_27 : decode cX4_lays 27 = .ok (.bipush (-13), 2) := dk_16 243 (dk_at dksX4_lays_1 5 rfl rfl)
theorem dX4_lays_29 : decode cX4_lays 29 = .ok (.invokevirtual 211, 3) := dk_182 0 211 (dk_at dksX4_lays_1 7 rfl rfl)
theorem dX4_lays_32 : decode cX4_lays 32 = .ok (.putfield 325, 3) := dk_181 1 69 (dk_at dksX4_lays_1 10 rfl rfl)
theorem dX4_lays_35 : decode cX4_lays 35 = .ok (.iconst 0, 1) := dk_3 (dk_at dksX4_lays_1 13 rfl rfl)
theorem dX4_lays_36 : decode cX4_lays 36 = .ok (.ireturn, 1) := dk_172 (dk_at dksX4_lays_1 14 rfl rfl)
theorem dX4_lays_37 : decode cX4_lays 37 = .ok (.aload_n 0, 1) := dk_42 (dk_at dksX4_lays_1 15 rfl rfl)
theorem dX4_lays_38 : decode cX4_lays 38 = .ok (.getfield 102, 3) := dk_180 0 102 (dk_at dksX4_lays_1 16 rfl rfl)
theorem dX4_lays_41 : decode cX4_lays 41 = .ok (.iload_n 2, 1) := dk_28 (dk_at dksX4_lays_1 19 rfl rfl)
theorem dX4_lays_42 : decode cX4_lays 42 = .ok (.baload, 1) := dk_51 (dk_at dksX4_lays_1 20 rfl rfl)
theorem dX4_lays_43 : decode cX4_lays 43 = .ok (.ifCond .ne 15, 3) := dk_154 0 15 (dk_at dksX4_lays_1 21 rfl rfl)
theorem dX4_lays_46 : decode cX4_lays 46 = .ok (.aload_n 0, 1) := dk_42 (dk_at dksX4_lays_2 0 rfl rfl)
theorem dX4_lays_47 : decode cX4_lays 47 = .ok (.aload_n 0, 1) := dk_42 (dk_at dksX4_lays_2 1 rfl rfl)
theorem dX4_lays_48 : decode cX4_lays 48 = .ok (.bipush (-11), 2) := dk_16 245 (dk_at dksX4_lays_2 2 rfl rfl)
theorem dX4_lays_50 : decode cX4_lays 50 = .ok (.invokevirtual 211, 3) := dk_182 0 211 (dk_at dksX4_lays_2 4 rfl rfl)
theorem dX4_lays_53 : decode cX4_lays 53 = .ok (.putfield 325, 3) := dk_181 1 69 (dk_at dksX4_lays_2 7 rfl rfl)
theorem dX4_lays_56 : decode cX4_lays 56 = .ok (.iconst 0, 1) := dk_3 (dk_at dksX4_lays_2 10 rfl rfl)
theorem dX4_lays_57 : decode cX4_lays 57 = .ok (.ireturn, 1) := dk_172 (dk_at dksX4_lays_2 11 rfl rfl)
theorem dX4_lays_58 : decode cX4_lays 58 = .ok (.lload_n 3, 1) := dk_33 (dk_at dksX4_lays_2 12 rfl rfl)
theorem dX4_lays_59 : decode cX4_lays 59 = .ok (.lconst 0, 1) := dk_9 (dk_at dksX4_lays_2 13 rfl rfl)
theorem dX4_lays_60 : decode cX4_lays 60 = .ok (.aload_n 0, 1) := dk_42 (dk_at dksX4_lays_2 14 rfl rfl)
theorem dX4_lays_61 : decode cX4_lays 61 = .ok (.getfield 108, 3) := dk_180 0 108 (dk_at dksX4_lays_2 15 rfl rfl)
theorem dX4_lays_64 : decode cX4_lays 64 = .ok (.iload_n 2, 1) := dk_28 (dk_at dksX4_lays_2 18 rfl rfl)
theorem dX4_lays_65 : decode cX4_lays 65 = .ok (.iaload, 1) := dk_46 (dk_at dksX4_lays_2 19 rfl rfl)
theorem dX4_lays_66 : decode cX4_lays 66 = .ok (.iconst 1, 1) := dk_4 (dk_at dksX4_lays_2 20 rfl rfl)
theorem dX4_lays_67 : decode cX4_lays 67 = .ok (.isub, 1) := dk_100 (dk_at dksX4_lays_2 21 rfl rfl)
theorem dX4_lays_68 : decode cX4_lays 68 = .ok (.i2l, 1) := dk_133 (dk_at dksX4_lays_2 22 rfl rfl)
theorem dX4_lays_69 : decode cX4_lays 69 = .ok (.invokestatic 137, 3) := dk_184 0 137 (dk_at dksX4_lays_3 0 rfl rfl)
theorem dX4_lays_72 : decode cX4_lays 72 = .ok (.ifCond .ne 15, 3) := dk_154 0 15 (dk_at dksX4_lays_3 3 rfl rfl)
theorem dX4_lays_75 : decode cX4_lays 75 = .ok (.aload_n 0, 1) := dk_42 (dk_at dksX4_lays_3 6 rfl rfl)
theorem dX4_lays_76 : decode cX4_lays 76 = .ok (.aload_n 0, 1) := dk_42 (dk_at dksX4_lays_3 7 rfl rfl)
theorem dX4_lays_77 : decode cX4_lays 77 = .ok (.bipush (-12), 2) := dk_16 244 (dk_at dksX4_lays_3 8 rfl rfl)
theorem dX4_lays_79 : decode cX4_lays 79 = .ok (.invokevirtual 211, 3) := dk_182 0 211 (dk_at dksX4_lays_3 10 rfl rfl)
theorem dX4_lays_82 : decode cX4_lays 82 = .ok (.putfield 325, 3) := dk_181 1 69 (dk_at dksX4_lays_3 13 rfl rfl)
theorem dX4_lays_85 : decode cX4_lays 85 = .ok (.iconst 0, 1) := dk_3 (dk_at dksX4_lays_3 16 rfl rfl)
theorem dX4_lays_86 : decode cX4_lays 86 = .ok (.ireturn, 1) := dk_172 (dk_at dksX4_lays_3 17 rfl rfl)
theorem dX4_lays_87 : decode cX4_lays 87 = .ok (.aload_n 0, 1) := dk_42 (dk_at dksX4_lays_3 18 rfl rfl)
theorem dX4_lays_88 : decode cX4_lays 88 = .ok (.getfield 111, 3) := dk_180 0 111 (dk_at dksX4_lays_3 19 rfl rfl)
theorem dX4_lays_91 : decode cX4_lays 91 = .ok (.bipush 60, 2) := dk_16 60 (dk_at dksX4_lays_3 22 rfl rfl)
theorem dX4_lays_93 : decode cX4_lays 93 = .ok (.iload_n 2, 1) := dk_28 (dk_at dksX4_lays_4 0 rfl rfl)
theorem dX4_lays_94 : decode cX4_lays 94 = .ok (.imul, 1) := dk_104 (dk_at dksX4_lays_4 1 rfl rfl)
theorem dX4_lays_95 : decode cX4_lays 95 = .ok (.lload_n 3, 1) := dk_33 (dk_at dksX4_lays_4 2 rfl rfl)
theorem dX4_lays_96 : decode cX4_lays 96 = .ok (.l2i, 1) := dk_136 (dk_at dksX4_lays_4 3 rfl rfl)
theorem dX4_lays_97 : decode cX4_lays 97 = .ok (.iadd, 1) := dk_96 (dk_at dksX4_lays_4 4 rfl rfl)
theorem dX4_lays_98 : decode cX4_lays 98 = .ok (.aload_n 0, 1) := dk_42 (dk_at dksX4_lays_4 5 rfl rfl)
theorem dX4_lays_99 : decode cX4_lays 99 = .ok (.getfield 30, 3) := dk_180 0 30 (dk_at dksX4_lays_4 6 rfl rfl)
theorem dX4_lays_102 : decode cX4_lays 102 = .ok (.bipush 6, 2) := dk_16 6 (dk_at dksX4_lays_4 9 rfl rfl)
theorem dX4_lays_104 : decode cX4_lays 104 = .ok (.iload_n 1, 1) := dk_27 (dk_at dksX4_lays_4 11 rfl rfl)
theorem dX4_lays_105 : decode cX4_lays 105 = .ok (.imul, 1) := dk_104 (dk_at dksX4_lays_4 12 rfl rfl)
theorem dX4_lays_106 : decode cX4_lays 106 = .ok (.iaload, 1) := dk_46 (dk_at dksX4_lays_4 13 rfl rfl)
theorem dX4_lays_107 : decode cX4_lays 107 = .ok (.iastore, 1) := dk_79 (dk_at dksX4_lays_4 14 rfl rfl)
theorem dX4_lays_108 : decode cX4_lays 108 = .ok (.iconst 1, 1) := dk_4 (dk_at dksX4_lays_4 15 rfl rfl)
theorem dX4_lays_109 : decode cX4_lays 109 = .ok (.ireturn, 1) := dk_172 (dk_at dksX4_lays_4 16 rfl rfl)
abbrev cX4_item : ByteArray := prog_21_method_76_code
def yX4_item : MethodName := ⟨RX4, "item", "(II)I"⟩
def dkwX4_item_3 : List UInt8 := [16, 244, 182, 0, 211, 181, 1, 69, 17, 248, 46, 172, 42, 180, 0, 111, 16, 60, 27, 104, 28, 96, 46, 172]
abbrev dktX4_item_3 : List UInt8 := dkwX4_item_3 ++ []
def dkwX4_item_2 : List UInt8 := [17, 248, 47, 172, 28, 133, 9, 42, 180, 0, 108, 27, 46, 4, 100, 133, 184, 0, 137, 154, 0, 17, 42, 42]
abbrev dktX4_item_2 : List UInt8 := dkwX4_item_2 ++ dktX4_item_3
def dkwX4_item_1 : List UInt8 := [17, 248, 48, 172, 42, 180, 0, 102, 27, 51, 154, 0, 17, 42, 42, 16, 245, 182, 0, 211, 181, 1, 69]
abbrev dktX4_item_1 : List UInt8 := dkwX4_item_1 ++ dktX4_item_2
def dkwX4_item_0 : List UInt8 := [42, 182, 0, 144, 27, 133, 9, 20, 0, 231, 184, 0, 137, 154, 0, 13, 42, 16, 254, 181, 0, 127]
abbrev dktX4_item_0 : List UInt8 := dkwX4_item_0 ++ dktX4_item_1
theorem dksX4_item_0 : cX4_item.data.toList.drop 0 = dktX4_item_0 := by decide +kernel
theorem dksX4_item_1 : cX4_item.data.toList.drop 22 = dktX4_item_1 := dk_seg dksX4_item_0 22 rfl rfl
theorem dksX4_item_2 : cX4_item.data.toList.drop 45 = dktX4_item_2 := dk_seg dksX4_item_1 23 rfl rfl
theorem dksX4_item_3 : cX4_item.data.toList.drop 69 = dktX4_item_3 := dk_seg dksX4_item_2 24 rfl rfl
theorem dX4_item_0 : decode cX4_item 0 = .ok (.aload_n 0, 1) := dk_42 (dk_at dksX4_item_0 0 rfl rfl)
theorem dX4_item_1 : decode cX4_item 1 = .ok (.invokevirtual 144, 3) := dk_182 0 144 (dk_at dksX4_item_0 1 rfl rfl)
theorem dX4_item_4 : decode cX4_item 4 = .ok (.iload_n 1, 1) := dk_27 (dk_at dksX4_item_0 4 rfl rfl)
theorem dX4_item_5 : decode cX4_item 5 = .ok (.i2l, 1) := dk_133 (dk_at dksX4_item_0 5 rfl rfl)
theorem dX4_item_6 : decode cX4_item 6 = .ok (.lconst 0, 1) := dk_9 (dk_at dksX4_item_0 6 rfl rfl)
theorem dX4_item_7 : decode cX4_item 7 = .ok (.ldc2_w 231, 3) := dk_20 0 231 (dk_at dksX4_item_0 7 rfl rfl)
theorem dX4_item_10 : decode cX4_item 10 = .ok (.invokestatic 137, 3) := dk_184 0 137 (dk_at dksX4_item_0 10 rfl rfl)
theorem dX4_item_13 : decode cX4_item 13 = .ok (.ifCond .ne 13, 3) := dk_154 0 13 (dk_at dksX4_item_0 13 rfl rfl)
theorem dX4_item_16 : decode cX4_item 16 = .ok (.aload_n 0, 1) := dk_42 (dk_at dksX4_item_0 16 rfl rfl)
theorem dX4_item_17 : decode cX4_item 17 = .ok (.bipush (-2), 2) := dk_16 254 (dk_at dksX4_item_0 17 rfl rfl)
theorem dX4_item_19 : decode cX4_item 19 = .ok (.putfield 127, 3) := dk_181 0 127 (dk_at dksX4_item_0 19 rfl rfl)
theorem dX4_item_22 : decode cX4_item 22 = .ok (.sipush (-2000), 3) := dk_17 248 48 (dk_at dksX4_item_1 0 rfl rfl)
theorem dX4_item_25 : decode cX4_item 25 = .ok (.ireturn, 1) := dk_172 (dk_at dksX4_item_1 3 rfl rfl)
theorem dX4_item_26 : decode cX4_item 26 = .ok (.aload_n 0, 1) := dk_42 (dk_at dksX4_item_1 4 rfl rfl)
theorem dX4_item_27 : decode cX4_item 27 = .ok (.getfield 102, 3) := dk_180 0 102 (dk_at dksX4_item_1 5 rfl rfl)
theorem dX4_item_30 : decode cX4_item 30 = .ok (.iload_n 1, 1) := dk_27 (dk_at dksX4_item_1 8 rfl rfl)
theorem dX4_item_31 : decode cX4_item 31 = .ok (.baload, 1) := dk_51 (dk_at dksX4_item_1 9 rfl rfl)
theorem dX4_item_32 : decode cX4_item 32 = .ok (.ifCond .ne 17, 3) := dk_154 0 17 (dk_at dksX4_item_1 10 rfl rfl)
theorem dX4_item_35 : decode cX4_item 35 = .ok (.aload_n 0, 1) := dk_42 (dk_at dksX4_item_1 13 rfl rfl)
theorem dX4_item_36 : decode cX4_item 36 = .ok (.aload_n 0, 1) := dk_42 (dk_at dksX4_item_1 14 rfl rfl)
theorem dX4_item_37 : decode cX4_item 37 = .ok (.bipush (-11), 2) := dk_16 245 (dk_at dksX4_item_1 15 rfl rfl)
theorem dX4_item_39 : decode cX4_item 39 = .ok (.invokevirtual 211, 3) := dk_182 0 211 (dk_at dksX4_item_1 17 rfl rfl)
theorem dX4_item_42 : decode cX4_item 42 = .ok (.putfield 325, 3) := dk_181 1 69 (dk_at dksX4_item_1 20 rfl rfl)
theorem dX4_item_45 : decode cX4_item 45 = .ok (.sipush (-2001), 3) := dk_17 248 47 (dk_at dksX4_item_2 0 rfl rfl)
theorem dX4_item_48 : decode cX4_item 48 = .ok (.ireturn, 1) := dk_172 (dk_at dksX4_item_2 3 rfl rfl)
theorem dX4_item_49 : decode cX4_item 49 = .ok (.iload_n 2, 1) := dk_28 (dk_at dksX4_item_2 4 rfl rfl)
theorem dX4_item_50 : decode cX4_item 50 = .ok (.i2l, 1) := dk_133 (dk_at dksX4_item_2 5 rfl rfl)
theorem dX4_item_51 : decode cX4_item 51 = .ok (.lconst 0, 1) := dk_9 (dk_at dksX4_item_2 6 rfl rfl)
theorem dX4_item_52 : decode cX4_item 52 = .ok (.aload_n 0, 1) := dk_42 (dk_at dksX4_item_2 7 rfl rfl)
theorem dX4_item_53 : decode cX4_item 53 = .ok (.getfield 108, 3) := dk_180 0 108 (dk_at dksX4_item_2 8 rfl rfl)
theorem dX4_item_56 : decode cX4_item 56 = .ok (.iload_n 1, 1) := dk_27 (dk_at dksX4_item_2 11 rfl rfl)
theorem dX4_item_57 : decode cX4_item 57 = .ok (.iaload, 1) := dk_46 (dk_at dksX4_item_2 12 rfl rfl)
theorem dX4_item_58 : decode cX4_item 58 = .ok (.iconst 1, 1) := dk_4 (dk_at dksX4_item_2 13 rfl rfl)
theorem dX4_item_59 : decode cX4_item 59 = .ok (.isub, 1) := dk_100 (dk_at dksX4_item_2 14 rfl rfl)
theorem dX4_item_60 : decode cX4_item 60 = .ok (.i2l, 1) := dk_133 (dk_at dksX4_item_2 15 rfl rfl)
theorem dX4_item_61 : decode cX4_item 61 = .ok (.invokestatic 137, 3) := dk_184 0 137 (dk_at dksX4_item_2 16 rfl rfl)
theorem dX4_item_64 : decode cX4_item 64 = .ok (.ifCond .ne 17, 3) := dk_154 0 17 (dk_at dksX4_item_2 19 rfl rfl)
theorem dX4_item_67 : decode cX4_item 67 = .ok (.aload_n 0, 1) := dk_42 (dk_at dksX4_item_2 22 rfl rfl)
theorem dX4_item_68 : decode cX4_item 68 = .ok (.aload_n 0, 1) := dk_42 (dk_at dksX4_item_2 23 rfl rfl)
theorem dX4_item_69 : decode cX4_item 69 = .ok (.bipush (-12), 2) := dk_16 244 (dk_at dksX4_item_3 0 rfl rfl)
theorem dX4_item_71 : decode cX4_item 71 = .ok (.invokevirtual 211, 3) := dk_182 0 211 (dk_at dksX4_item_3 2 rfl rfl)
theorem dX4_item_74 : decode cX4_item 74 = .ok (.putfield 325, 3) := dk_181 1 69 (dk_at dksX4_item_3 5 rfl rfl)
theorem dX4_item_77 : decode cX4_item 77 = .ok (.sipush (-2002), 3) := dk_17 248 46 (dk_at dksX4_item_3 8 rfl rfl)
theorem dX4_item_80 : decode cX4_item 80 = .ok (.ireturn, 1) := dk_172 (dk_at dksX4_item_3 11 rfl rfl)
theorem dX4_item_81 : decode cX4_item 81 = .ok (.aload_n 0, 1) := dk_42 (dk_at dksX4_item_3 12 rfl rfl)
theorem dX4_item_82 : decode cX4_item 82 = .ok (.getfield 111, 3) := dk_180 0 111 (dk_at dksX4_item_3 13 rfl rfl)
theorem dX4_item_85 : decode cX4_item 85 = .ok (.bipush 60, 2) := dk_16 60 (dk_at dksX4_item_3 16 rfl rfl)
theorem dX4_item_87 : decode cX4_item 87 = .ok (.iload_n 1, 1) := dk_27 (dk_at dksX4_item_3 18 rfl rfl)
theorem dX4_item_88 : decode cX4_item 88 = .ok (.imul, 1) := dk_104 (dk_at dksX4_item_3 19 rfl rfl)
theorem dX4_item_89 : decode cX4_item 89 = .ok (.iload_n 2, 1) := dk_28 (dk_at dksX4_item_3 20 rfl rfl)
theorem dX4_item_90 : decode cX4_item 90 = .ok (.iadd, 1) := dk_96 (dk_at dksX4_item_3 21 rfl rfl)
theorem dX4_item_91 : decode cX4_item 91 = .ok (.iaload, 1) := dk_46 (dk_at dksX4_item_3 22 rfl rfl)
theorem dX4_item_92 : decode cX4_item 92 = .ok (.ireturn, 1) := dk_172 (dk_at dksX4_item_3 23 rfl rfl)
abbrev cX4_lift : ByteArray := prog_21_method_77_code
def yX4_lift : MethodName := ⟨RX4, "lift", "(III)I"⟩
def dkwX4_lift_5 : List UInt8 := [4, 172]
abbrev dktX4_lift_5 : List UInt8 := dkwX4_lift_5 ++ []
def dkwX4_lift_4 : List UInt8 := [160, 0, 8, 29, 147, 167, 0, 18, 21, 4, 5, 160, 0, 11, 29, 19, 1, 76, 126, 167, 0, 4, 29, 79]
abbrev dktX4_lift_4 : List UInt8 := dkwX4_lift_4 ++ dktX4_lift_5
def dkwX4_lift_3 : List UInt8 := [42, 180, 0, 111, 16, 60, 27, 104, 28, 96, 21, 4, 154, 0, 8, 29, 145, 167, 0, 29, 21, 4, 4]
abbrev dktX4_lift_3 : List UInt8 := dkwX4_lift_3 ++ dktX4_lift_4
def dkwX4_lift_2 : List UInt8 := [4, 100, 133, 184, 0, 137, 154, 0, 10, 42, 16, 244, 182, 0, 211, 172, 42, 180, 0, 105, 27, 46, 54, 4]
abbrev dktX4_lift_2 : List UInt8 := dkwX4_lift_2 ++ dktX4_lift_3
def dkwX4_lift_1 : List UInt8 := [180, 0, 102, 27, 51, 154, 0, 10, 42, 16, 245, 182, 0, 211, 172, 28, 133, 9, 42, 180, 0, 108, 27, 46]
abbrev dktX4_lift_1 : List UInt8 := dkwX4_lift_1 ++ dktX4_lift_2
def dkwX4_lift_0 : List UInt8 := [42, 182, 0, 144, 27, 133, 9, 20, 0, 231, 184, 0, 137, 154, 0, 10, 42, 16, 254, 182, 0, 130, 172, 42]
abbrev dktX4_lift_0 : List UInt8 := dkwX4_lift_0 ++ dktX4_lift_1
theorem dksX4_lift_0 : cX4_lift.data.toList.drop 0 = dktX4_lift_0 := by decide +kernel
theorem dksX4_lift_1 : cX4_lift.data.toList.drop 24 = dktX4_lift_1 := dk_seg dksX4_lift_0 24 rfl rfl
theorem dksX4_lift_2 : cX4_lift.data.toList.drop 48 = dktX4_lift_2 := dk_seg dksX4_lift_1 24 rfl rfl
theorem dksX4_lift_3 : cX4_lift.data.toList.drop 72 = dktX4_lift_3 := dk_seg dksX4_lift_2 24 rfl rfl
theorem dksX4_lift_4 : cX4_lift.data.toList.drop 95 = dktX4_lift_4 := dk_seg dksX4_lift_3 23 rfl rfl
theorem dksX4_lift_5 : cX4_lift.data.toList.drop 119 = dktX4_lift_5 := dk_seg dksX4_lift_4 24 rfl rfl
theorem dX4_lift_0 : decode cX4_lift 0 = .ok (.aload_n 0, 1) := dk_42 (dk_at dksX4_lift_0 0 rfl rfl)
theorem dX4_lift_1 : decode cX4_lift 1 = .ok (.invokevirtual 144, 3) := dk_182 0 144 (dk_at dksX4_lift_0 1 rfl rfl)
theorem dX4_lift_4 : decode cX4_lift 4 = .ok (.iload_n 1, 1) := dk_27 (dk_at dksX4_lift_0 4 rfl rfl)
theorem dX4_lift_5 : decode cX4_lift 5 = .ok (.i2l, 1) := dk_133 (dk_at dksX4_lift_0 5 rfl rfl)
theorem dX4_lift_6 : decode cX4_lift 6 = .ok (.lconst 0, 1) := dk_9 (dk_at dksX4_lift_0 6 rfl rfl)
theorem dX4_lift_7 : decode cX4_lift 7 = .ok (.ldc2_w 231, 3) := dk_20 0 231 (dk_at dksX4_lift_0 7 rfl rfl)
theorem dX4_lift_10 : decode cX4_lift 10 = .ok (.invokestatic 137, 3) := dk_184 0 137 (dk_at dksX4_lift_0 10 rfl rfl)
theorem dX4_lift_13 : decode cX4_lift 13 = .ok (.ifCond .ne 10, 3) := dk_154 0 10 (dk_at dksX4_lift_0 13 rfl rfl)
theorem dX4_lift_16 : decode cX4_lift 16 = .ok (.aload_n 0, 1) := dk_42 (dk_at dksX4_lift_0 16 rfl rfl)
theorem dX4_lift_17 : decode cX4_lift 17 = .ok (.bipush (-2), 2) := dk_16 254 (dk_at dksX4_lift_0 17 rfl rfl)
theorem dX4_lift_19 : decode cX4_lift 19 = .ok (.invokevirtual 130, 3) := dk_182 0 130 (dk_at dksX4_lift_0 19 rfl rfl)
theorem dX4_lift_22 : decode cX4_lift 22 = .ok (.ireturn, 1) := dk_172 (dk_at dksX4_lift_0 22 rfl rfl)
theorem dX4_lift_23 : decode cX4_lift 23 = .ok (.aload_n 0, 1) := dk_42 (dk_at dksX4_lift_0 23 rfl rfl)
theorem dX4_lift_24 : decode cX4_lift 24 = .ok (.getfield 102, 3) := dk_180 0 102 (dk_at dksX4_lift_1 0 rfl rfl)
theorem dX4_lift_27 : decode cX4_lift 27 = .ok (.iload_n 1, 1) := dk_27 (dk_at dksX4_lift_1 3 rfl rfl)
theorem dX4_lift_28 : decode cX4_lift 28 = .ok (.baload, 1) := dk_51 (dk_at dksX4_lift_1 4 rfl rfl)
theorem dX4_lift_29 : decode cX4_lift 29 = .ok (.ifCond .ne 10, 3) := dk_154 0 10 (dk_at dksX4_lift_1 5 rfl rfl)
theorem dX4_lift_32 : decode cX4_lift 32 = .ok (.aload_n 0, 1) := dk_42 (dk_at dksX4_lift_1 8 rfl rfl)
theorem dX4_lift_33 : decode cX4_lift 33 = .ok (.bipush (-11), 2) := dk_16 245 (dk_at dksX4_lift_1 9 rfl rfl)
theorem dX4_lift_35 : decode cX4_lift 35 = .ok (.invokevirtual 211, 3) := dk_182 0 211 (dk_at dksX4_lift_1 11 rfl rfl)
theorem dX4_lift_38 : decode cX4_lift 38 = .ok (.ireturn, 1) := dk_172 (dk_at dksX4_lift_1 14 rfl rfl)
theorem dX4_lift_39 : decode cX4_lift 39 = .ok (.iload_n 2, 1) := dk_28 (dk_at dksX4_lift_1 15 rfl rfl)
theorem dX4_lift_40 : decode cX4_lift 40 = .ok (.i2l, 1) := dk_133 (dk_at dksX4_lift_1 16 rfl rfl)
theorem dX4_lift_41 : decode cX4_lift 41 = .ok (.lconst 0, 1) := dk_9 (dk_at dksX4_lift_1 17 rfl rfl)
theorem dX4_lift_42 : decode cX4_lift 42 = .ok (.aload_n 0, 1) := dk_42 (dk_at dksX4_lift_1 18 rfl rfl)
theorem dX4_lift_43 : decode cX4_lift 43 = .ok (.getfield 108, 3) := dk_180 0 108 (dk_at dksX4_lift_1 19 rfl rfl)
theorem dX4_lift_46 : decode cX4_lift 46 = .ok (.iload_n 1, 1) := dk_27 (dk_at dksX4_lift_1 22 rfl rfl)
theorem dX4_lift_47 : decode cX4_lift 47 = .ok (.iaload, 1) := dk_46 (dk_at dksX4_lift_1 23 rfl rfl)
theorem dX4_lift_48 : decode cX4_lift 48 = .ok (.iconst 1, 1) := dk_4 (dk_at dksX4_lift_2 0 rfl rfl)
theorem dX4_lift_49 : decode cX4_lift 49 = .ok (.isub, 1) := dk_100 (dk_at dksX4_lift_2 1 rfl rfl)
theorem dX4_lift_50 : decode cX4_lift 50 = .ok (.i2l, 1) := dk_133 (dk_at dksX4_lift_2 2 rfl rfl)
theorem dX4_lift_51 : decode cX4_lift 51 = .ok (.invokestatic 137, 3) := dk_184 0 137 (dk_at dksX4_lift_2 3 rfl rfl)
theorem dX4_lift_54 : decode cX4_lift 54 = .ok (.ifCond .ne 10, 3) := dk_154 0 10 (dk_at dksX4_lift_2 6 rfl rfl)
theorem dX4_lift_57 : decode cX4_lift 57 = .ok (.aload_n 0, 1) := dk_42 (dk_at dksX4_lift_2 9 rfl rfl)
theorem dX4_lift_58 : decode cX4_lift 58 = .ok (.bipush (-12), 2) := dk_16 244 (dk_at dksX4_lift_2 10 rfl rfl)
theorem dX4_lift_60 : decode cX4_lift 60 = .ok (.invokevirtual 211, 3) := dk_182 0 211 (dk_at dksX4_lift_2 12 rfl rfl)
theorem dX4_lift_63 : decode cX4_lift 63 = .ok (.ireturn, 1) := dk_172 (dk_at dksX4_lift_2 15 rfl rfl)
theorem dX4_lift_64 : decode cX4_lift 64 = .ok (.aload_n 0, 1) := dk_42 (dk_at dksX4_lift_2 16 rfl rfl)
theorem dX4_lift_65 : decode cX4_lift 65 = .ok (.getfield 105, 3) := dk_180 0 105 (dk_at dksX4_lift_2 17 rfl rfl)
theorem dX4_lift_68 : decode cX4_lift 68 = .ok (.iload_n 1, 1) := dk_27 (dk_at dksX4_lift_2 20 rfl rfl)
theorem dX4_lift_69 : decode cX4_lift 69 = .ok (.iaload, 1) := dk_46 (dk_at dksX4_lift_2 21 rfl rfl)
theorem dX4_lift_70 : decode cX4_lift 70 = .ok (.istore 4, 2) := dk_54 4 (dk_at dksX4_lift_2 22 rfl rfl)
theorem dX4_lift_72 : decode cX4_lift 72 = .ok (.aload_n 0, 1) := dk_42 (dk_at dksX4_lift_3 0 rfl rfl)
theorem dX4_lift_73 : decode cX4_lift 73 = .ok (.getfield 111, 3) := dk_180 0 111 (dk_at dksX4_lift_3 1 rfl rfl)
theorem dX4_lift_76 : decode cX4_lift 76 = .ok (.bipush 60, 2) := dk_16 60 (dk_at dksX4_lift_3 4 rfl rfl)
theorem dX4_lift_78 : decode cX4_lift 78 = .ok (.iload_n 1, 1) := dk_27 (dk_at dksX4_lift_3 6 rfl rfl)
theorem dX4_lift_79 : decode cX4_lift 79 = .ok (.imul, 1) := dk_104 (dk_at dksX4_lift_3 7 rfl rfl)
theorem dX4_lift_80 : decode cX4_lift 80 = .ok (.iload_n 2, 1) := dk_28 (dk_at dksX4_lift_3 8 rfl rfl)
theorem dX4_lift_81 : decode cX4_lift 81 = .ok (.iadd, 1) := dk_96 (dk_at dksX4_lift_3 9 rfl rfl)
theorem dX4_lift_82 : decode cX4_lift 82 = .ok (.iload 4, 2) := dk_21 4 (dk_at dksX4_lift_3 10 rfl rfl)
theorem dX4_lift_84 : decode cX4_lift 84 = .ok (.ifCond .ne 8, 3) := dk_154 0 8 (dk_at dksX4_lift_3 12 rfl rfl)
theorem dX4_lift_87 : decode cX4_lift 87 = .ok (.iload_n 3, 1) := dk_29 (dk_at dksX4_lift_3 15 rfl rfl)
theorem dX4_lift_88 : decode cX4_lift 88 = .ok (.i2b, 1) := dk_145 (dk_at dksX4_lift_3 16 rfl rfl)
theorem dX4_lift_89 : decode cX4_lift 89 = .ok (.goto 29, 3) := dk_167 0 29 (dk_at dksX4_lift_3 17 rfl rfl)
theorem dX4_lift_92 : decode cX4_lift 92 = .ok (.iload 4, 2) := dk_21 4 (dk_at dksX4_lift_3 20 rfl rfl)
theorem dX4_lift_94 : decode cX4_lift 94 = .ok (.iconst 1, 1) := dk_4 (dk_at dksX4_lift_3 22 rfl rfl)
theorem dX4_lift_95 : decode cX4_lift 95 = .ok (.if_icmp .ne 8, 3) := dk_160 0 8 (dk_at dksX4_lift_4 0 rfl rfl)
theorem dX4_lift_98 : decode cX4_lift 98 = .ok (.iload_n 3, 1) := dk_29 (dk_at dksX4_lift_4 3 rfl rfl)
theorem dX4_lift_99 : decode cX4_lift 99 = .ok (.i2s, 1) := dk_147 (dk_at dksX4_lift_4 4 rfl rfl)
theorem dX4_lift_100 : decode cX4_lift 100 = .ok (.goto 18, 3) := dk_167 0 18 (dk_at dksX4_lift_4 5 rfl rfl)
theorem dX4_lift_103 : decode cX4_lift 103 = .ok (.iload 4, 2) := dk_21 4 (dk_at dksX4_lift_4 8 rfl rfl)
theorem dX4_lift_105 : decode cX4_lift 105 = .ok (.iconst 2, 1) := dk_5 (dk_at dksX4_lift_4 10 rfl rfl)
theorem dX4_lift_106 : decode cX4_lift 106 = .ok (.if_icmp .ne 11, 3) := dk_160 0 11 (dk_at dksX4_lift_4 11 rfl rfl)
theorem dX4_lift_109 : decode cX4_lift 109 = .ok (.iload_n 3, 1) := dk_29 (dk_at dksX4_lift_4 14 rfl rfl)
theorem dX4_lift_110 : decode cX4_lift 110 = .ok (.ldc_w 332, 3) := dk_19 1 76 (dk_at dksX4_lift_4 15 rfl rfl)
theorem dX4_lift_113 : decode cX4_lift 113 = .ok (.iand, 1) := dk_126 (dk_at dksX4_lift_4 18 rfl rfl)
theorem dX4_lift_114 : decode cX4_lift 114 = .ok (.goto 4, 3) := dk_167 0 4 (dk_at dksX4_lift_4 19 rfl rfl)
theorem dX4_lift_117 : decode cX4_lift 117 = .ok (.iload_n 3, 1) := dk_29 (dk_at dksX4_lift_4 22 rfl rfl)
theorem dX4_lift_118 : decode cX4_lift 118 = .ok (.iastore, 1) := dk_79 (dk_at dksX4_lift_4 23 rfl rfl)
theorem dX4_lift_119 : decode cX4_lift 119 = .ok (.iconst 1, 1) := dk_4 (dk_at dksX4_lift_5 0 rfl rfl)
theorem dX4_lift_120 : decode cX4_lift 120 = .ok (.ireturn, 1) := dk_172 (dk_at dksX4_lift_5 1 rfl rfl)
abbrev cX4_copy : ByteArray := prog_21_method_78_code
def yX4_copy : MethodName := ⟨RX4, "copy", "(IIIII)I"⟩
def dkwX4_copy_8 : List UInt8 := [180, 0, 114, 21, 6, 46, 79, 132, 6, 1, 167, 255, 224, 21, 5, 172]
abbrev dktX4_copy_8 : List UInt8 := dkwX4_copy_8 ++ []
def dkwX4_copy_7 : List UInt8 := [21, 6, 21, 5, 162, 0, 31, 42, 180, 0, 111, 16, 60, 29, 104, 21, 4, 96, 21, 6, 96, 42]
abbrev dktX4_copy_7 : List UInt8 := dkwX4_copy_7 ++ dktX4_copy_8
def dkwX4_copy_6 : List UInt8 := [180, 0, 111, 16, 60, 27, 104, 28, 96, 21, 6, 96, 46, 79, 132, 6, 1, 167, 255, 225, 3, 54, 6]
abbrev dktX4_copy_6 : List UInt8 := dkwX4_copy_6 ++ dktX4_copy_7
def dkwX4_copy_5 : List UInt8 := [16, 244, 182, 0, 211, 172, 3, 54, 6, 21, 6, 21, 5, 162, 0, 30, 42, 180, 0, 114, 21, 6, 42]
abbrev dktX4_copy_5 : List UInt8 := dkwX4_copy_5 ++ dktX4_copy_6
def dkwX4_copy_4 : List UInt8 := [184, 1, 65, 153, 0, 19, 21, 4, 21, 5, 42, 180, 0, 108, 29, 46, 184, 1, 65, 154, 0, 10, 42]
abbrev dktX4_copy_4 : List UInt8 := dkwX4_copy_4 ++ dktX4_copy_5
def dkwX4_copy_3 : List UInt8 := [180, 0, 105, 29, 46, 159, 0, 10, 42, 16, 243, 182, 0, 211, 172, 28, 21, 5, 42, 180, 0, 108, 27, 46]
abbrev dktX4_copy_3 : List UInt8 := dkwX4_copy_3 ++ dktX4_copy_4
def dkwX4_copy_2 : List UInt8 := [180, 0, 102, 29, 51, 154, 0, 10, 42, 16, 245, 182, 0, 211, 172, 42, 180, 0, 105, 27, 46, 42]
abbrev dktX4_copy_2 : List UInt8 := dkwX4_copy_2 ++ dktX4_copy_3
def dkwX4_copy_1 : List UInt8 := [184, 0, 137, 154, 0, 10, 42, 16, 254, 182, 0, 130, 172, 42, 180, 0, 102, 27, 51, 153, 0, 12, 42]
abbrev dktX4_copy_1 : List UInt8 := dkwX4_copy_1 ++ dktX4_copy_2
def dkwX4_copy_0 : List UInt8 := [42, 182, 0, 144, 27, 133, 9, 20, 0, 231, 184, 0, 137, 153, 0, 15, 29, 133, 9, 20, 0, 231]
abbrev dktX4_copy_0 : List UInt8 := dkwX4_copy_0 ++ dktX4_copy_1
theorem dksX4_copy_0 : cX4_copy.data.toList.drop 0 = dktX4_copy_0 := by decide +kernel
theorem dksX4_copy_1 : cX4_copy.data.toList.drop 22 = dktX4_copy_1 := dk_seg dksX4_copy_0 22 rfl rfl
theorem dksX4_copy_2 : cX4_copy.data.toList.drop 45 = dktX4_copy_2 := dk_seg dksX4_copy_1 23 rfl rfl
theorem dksX4_copy_3 : cX4_copy.data.toList.drop 67 = dktX4_copy_3 := dk_seg dksX4_copy_2 22 rfl rfl
theorem dksX4_copy_4 : cX4_copy.data.toList.drop 91 = dktX4_copy_4 := dk_seg dksX4_copy_3 24 rfl rfl
theorem dksX4_copy_5 : cX4_copy.data.toList.drop 114 = dktX4_copy_5 := dk_seg dksX4_copy_4 23 rfl rfl
theorem dksX4_copy_6 : cX4_copy.data.toList.drop 137 = dktX4_copy_6 := dk_seg dksX4_copy_5 23 rfl rfl
theorem dksX4_copy_7 : cX4_copy.data.toList.drop 160 = dktX4_copy_7 := dk_seg dksX4_copy_6 23 rfl rfl
theorem dksX4_copy_8 : cX4_copy.data.toList.drop 182 = dktX4_copy_8 := dk_seg dksX4_copy_7 22 rfl rfl
theorem dX4_copy_0 : decode cX4_copy 0 = .ok (.aload_n 0, 1) := dk_42 (dk_at dksX4_copy_0 0 rfl rfl)
theorem dX4_copy_1 : decode cX4_copy 1 = .ok (.invokevirtual 144, 3) := dk_182 0 144 (dk_at dksX4_copy_0 1 rfl rfl)
theorem dX4_copy_4 : decode cX4_copy 4 = .ok (.iload_n 1, 1) := dk_27 (dk_at dksX4_copy_0 4 rfl rfl)
theorem dX4_copy_5 : decode cX4_copy 5 = .ok (.i2l, 1) := dk_133 (dk_at dksX4_copy_0 5 rfl rfl)
theorem dX4_copy_6 : decode cX4_copy 6 = .ok (.lconst 0, 1) := dk_9 (dk_at dksX4_copy_0 6 rfl rfl)
theorem dX4_copy_7 : decode cX4_copy 7 = .ok (.ldc2_w 231, 3) := dk_20 0 231 (dk_at dksX4_copy_0 7 rfl rfl)
theorem dX4_copy_10 : decode cX4_copy 10 = .ok (.invokestatic 137, 3) := dk_184 0 137 (dk_at dksX4_copy_0 10 rfl rfl)
theorem dX4_copy_13 : decode cX4_copy 13 = .ok (.ifCond .eq 15, 3) := dk_153 0 15 (dk_at dksX4_copy_0 13 rfl rfl)
theorem dX4_copy_16 : decode cX4_copy 16 = .ok (.iload_n 3, 1) := dk_29 (dk_at dksX4_copy_0 16 rfl rfl)
theorem dX4_copy_17 : decode cX4_copy 17 = .ok (.i2l, 1) := dk_133 (dk_at dksX4_copy_0 17 rfl rfl)
theorem dX4_copy_18 : decode cX4_copy 18 = .ok (.lconst 0, 1) := dk_9 (dk_at dksX4_copy_0 18 rfl rfl)
theorem dX4_copy_19 : decode cX4_copy 19 = .ok (.ldc2_w 231, 3) := dk_20 0 231 (dk_at dksX4_copy_0 19 rfl rfl)
theorem dX4_copy_22 : decode cX4_copy 22 = .ok (.invokestatic 137, 3) := dk_184 0 137 (dk_at dksX4_copy_1 0 rfl rfl)
theorem dX4_copy_25 : decode cX4_copy 25 = .ok (.ifCond .ne 10, 3) := dk_154 0 10 (dk_at dksX4_copy_1 3 rfl rfl)
theorem dX4_copy_28 : decode cX4_copy 28 = .ok (.aload_n 0, 1) := dk_42 (dk_at dksX4_copy_1 6 rfl rfl)
theorem dX4_copy_29 : decode cX4_copy 29 = .ok (.bipush (-2), 2) := dk_16 254 (dk_at dksX4_copy_1 7 rfl rfl)
theorem dX4_copy_31 : decode cX4_copy 31 = .ok (.invokevirtual 130, 3) := dk_182 0 130 (dk_at dksX4_copy_1 9 rfl rfl)
theorem dX4_copy_34 : decode cX4_copy 34 = .ok (.ireturn, 1) := dk_172 (dk_at dksX4_copy_1 12 rfl rfl)
theorem dX4_copy_35 : decode cX4_copy 35 = .ok (.aload_n 0, 1) := dk_42 (dk_at dksX4_copy_1 13 rfl rfl)
theorem dX4_copy_36 : decode cX4_copy 36 = .ok (.getfield 102, 3) := dk_180 0 102 (dk_at dksX4_copy_1 14 rfl rfl)
theorem dX4_copy_39 : decode cX4_copy 39 = .ok (.iload_n 1, 1) := dk_27 (dk_at dksX4_copy_1 17 rfl rfl)
theorem dX4_copy_40 : decode cX4_copy 40 = .ok (.baload, 1) := dk_51 (dk_at dksX4_copy_1 18 rfl rfl)
theorem dX4_copy_41 : decode cX4_copy 41 = .ok (.ifCond .eq 12, 3) := dk_153 0 12 (dk_at dksX4_copy_1 19 rfl rfl)
theorem dX4_copy_44 : decode cX4_copy 44 = .ok (.aload_n 0, 1) := dk_42 (dk_at dksX4_copy_1 22 rfl rfl)
theorem dX4_copy_45 : decode cX4_copy 45 = .ok (.getfield 102, 3) := dk_180 0 102 (dk_at dksX4_copy_2 0 rfl rfl)
theorem dX4_copy_48 : decode cX4_copy 48 = .ok (.iload_n 3, 1) := dk_29 (dk_at dksX4_copy_2 3 rfl rfl)
theorem dX4_copy_49 : decode cX4_copy 49 = .ok (.baload, 1) := dk_51 (dk_at dksX4_copy_2 4 rfl rfl)
theorem dX4_copy_50 : decode cX4_copy 50 = .ok (.ifCond .ne 10, 3) := dk_154 0 10 (dk_at dksX4_copy_2 5 rfl rfl)
theorem dX4_copy_53 : decode cX4_copy 53 = .ok (.aload_n 0, 1) := dk_42 (dk_at dksX4_copy_2 8 rfl rfl)
theorem dX4_copy_54 : decode cX4_copy 54 = .ok (.bipush (-11), 2) := dk_16 245 (dk_at dksX4_copy_2 9 rfl rfl)
theorem dX4_copy_56 : decode cX4_copy 56 = .ok (.invokevirtual 211, 3) := dk_182 0 211 (dk_at dksX4_copy_2 11 rfl rfl)
theorem dX4_copy_59 : decode cX4_copy 59 = .ok (.ireturn, 1) := dk_172 (dk_at dksX4_copy_2 14 rfl rfl)
theorem dX4_copy_60 : decode cX4_copy 60 = .ok (.aload_n 0, 1) := dk_42 (dk_at dksX4_copy_2 15 rfl rfl)
theorem dX4_copy_61 : decode cX4_copy 61 = .ok (.getfield 105, 3) := dk_180 0 105 (dk_at dksX4_copy_2 16 rfl rfl)
theorem dX4_copy_64 : decode cX4_copy 64 = .ok (.iload_n 1, 1) := dk_27 (dk_at dksX4_copy_2 19 rfl rfl)
theorem dX4_copy_65 : decode cX4_copy 65 = .ok (.iaload, 1) := dk_46 (dk_at dksX4_copy_2 20 rfl rfl)
theorem dX4_copy_66 : decode cX4_copy 66 = .ok (.aload_n 0, 1) := dk_42 (dk_at dksX4_copy_2 21 rfl rfl)
theorem dX4_copy_67 : decode cX4_copy 67 = .ok (.getfield 105, 3) := dk_180 0 105 (dk_at dksX4_copy_3 0 rfl rfl)
theorem dX4_copy_70 : decode cX4_copy 70 = .ok (.iload_n 3, 1) := dk_29 (dk_at dksX4_copy_3 3 rfl rfl)
theorem dX4_copy_71 : decode cX4_copy 71 = .ok (.iaload, 1) := dk_46 (dk_at dksX4_copy_3 4 rfl rfl)
theorem dX4_copy_72 : decode cX4_copy 72 = .ok (.if_icmp .eq 10, 3) := dk_159 0 10 (dk_at dksX4_copy_3 5 rfl rfl)
theorem dX4_copy_75 : decode cX4_copy 75 = .ok (.aload_n 0, 1) := dk_42 (dk_at dksX4_copy_3 8 rfl rfl)
theorem dX4_copy_76 : decode cX4_copy 76 = .ok (.bipush (-13), 2) := dk_16 243 (dk_at dksX4_copy_3 9 rfl rfl)
theorem dX4_copy_78 : decode cX4_copy 78 = .ok (.invokevirtual 211, 3) := dk_182 0 211 (dk_at dksX4_copy_3 11 rfl rfl)
theorem dX4_copy_81 : decode cX4_copy 81 = .ok (.ireturn, 1) := dk_172 (dk_at dksX4_copy_3 14 rfl rfl)
theorem dX4_copy_82 : decode cX4_copy 82 = .ok (.iload_n 2, 1) := dk_28 (dk_at dksX4_copy_3 15 rfl rfl)
theorem dX4_copy_83 : decode cX4_copy 83 = .ok (.iload 5, 2) := dk_21 5 (dk_at dksX4_copy_3 16 rfl rfl)
theorem dX4_copy_85 : decode cX4_copy 85 = .ok (.aload_n 0, 1) := dk_42 (dk_at dksX4_copy_3 18 rfl rfl)
theorem dX4_copy_86 : decode cX4_copy 86 = .ok (.getfield 108, 3) := dk_180 0 108 (dk_at dksX4_copy_3 19 rfl rfl)
theorem dX4_copy_89 : decode cX4_copy 89 = .ok (.iload_n 1, 1) := dk_27 (dk_at dksX4_copy_3 22 rfl rfl)
theorem dX4_copy_90 : decode cX4_copy 90 = .ok (.iaload, 1) := dk_46 (dk_at dksX4_copy_3 23 rfl rfl)
theorem dX4_copy_91 : decode cX4_copy 91 = .ok (.invokestatic 321, 3) := dk_184 1 65 (dk_at dksX4_copy_4 0 rfl rfl)
theorem dX4_copy_94 : decode cX4_copy 94 = .ok (.ifCond .eq 19, 3) := dk_153 0 19 (dk_at dksX4_copy_4 3 rfl rfl)
theorem dX4_copy_97 : decode cX4_copy 97 = .ok (.iload 4, 2) := dk_21 4 (dk_at dksX4_copy_4 6 rfl rfl)
theorem dX4_copy_99 : decode cX4_copy 99 = .ok (.iload 5, 2) := dk_21 5 (dk_at dksX4_copy_4 8 rfl rfl)
theorem dX4_copy_101 : decode cX4_copy 101 = .ok (.aload_n 0, 1) := dk_42 (dk_at dksX4_copy_4 10 rfl rfl)
theorem dX4_copy_102 : decode cX4_copy 102 = .ok (.getfield 108, 3) := dk_180 0 108 (dk_at dksX4_copy_4 11 rfl rfl)
theorem dX4_copy_105 : decode cX4_copy 105 = .ok (.iload_n 3, 1) := dk_29 (dk_at dksX4_copy_4 14 rfl rfl)
theorem dX4_copy_106 : decode cX4_copy 106 = .ok (.iaload, 1) := dk_46 (dk_at dksX4_copy_4 15 rfl rfl)
theorem dX4_copy_107 : decode cX4_copy 107 = .ok (.invokestatic 321, 3) := dk_184 1 65 (dk_at dksX4_copy_4 16 rfl rfl)
theorem dX4_copy_110 : decode cX4_copy 110 = .ok (.ifCond .ne 10, 3) := dk_154 0 10 (dk_at dksX4_copy_4 19 rfl rfl)
theorem dX4_copy_113 : decode cX4_copy 113 = .ok (.aload_n 0, 1) := dk_42 (dk_at dksX4_copy_4 22 rfl rfl)
theorem dX4_copy_114 : decode cX4_copy 114 = .ok (.bipush (-12), 2) := dk_16 244 (dk_at dksX4_copy_5 0 rfl rfl)
theorem dX4_copy_116 : decode cX4_copy 116 = .ok (.invokevirtual 211, 3) := dk_182 0 211 (dk_at dksX4_copy_5 2 rfl rfl)
theorem dX4_copy_119 : decode cX4_copy 119 = .ok (.ireturn, 1) := dk_172 (dk_at dksX4_copy_5 5 rfl rfl)
theorem dX4_copy_120 : decode cX4_copy 120 = .ok (.iconst 0, 1) := dk_3 (dk_at dksX4_copy_5 6 rfl rfl)
theorem dX4_copy_121 : decode cX4_copy 121 = .ok (.istore 6, 2) := dk_54 6 (dk_at dksX4_copy_5 7 rfl rfl)
theorem dX4_copy_123 : decode cX4_copy 123 = .ok (.iload 6, 2) := dk_21 6 (dk_at dksX4_copy_5 9 rfl rfl)
theorem dX4_copy_125 : decode cX4_copy 125 = .ok (.iload 5, 2) := dk_21 5 (dk_at dksX4_copy_5 11 rfl rfl)
theorem dX4_copy_127 : decode cX4_copy 127 = .ok (.if_icmp .ge 30, 3) := dk_162 0 30 (dk_at dksX4_copy_5 13 rfl rfl)
theorem dX4_copy_130 : decode cX4_copy 130 = .ok (.aload_n 0, 1) := dk_42 (dk_at dksX4_copy_5 16 rfl rfl)
theorem dX4_copy_131 : decode cX4_copy 131 = .ok (.getfield 114, 3) := dk_180 0 114 (dk_at dksX4_copy_5 17 rfl rfl)
theorem dX4_copy_134 : decode cX4_copy 134 = .ok (.iload 6, 2) := dk_21 6 (dk_at dksX4_copy_5 20 rfl rfl)
theorem dX4_copy_136 : decode cX4_copy 136 = .ok (.aload_n 0, 1) := dk_42 (dk_at dksX4_copy_5 22 rfl rfl)
theorem dX4_copy_137 : decode cX4_copy 137 = .ok (.getfield 111, 3) := dk_180 0 111 (dk_at dksX4_copy_6 0 rfl rfl)
theorem dX4_copy_140 : decode cX4_copy 140 = .ok (.bipush 60, 2) := dk_16 60 (dk_at dksX4_copy_6 3 rfl rfl)
theorem dX4_copy_142 : decode cX4_copy 142 = .ok (.iload_n 1, 1) := dk_27 (dk_at dksX4_copy_6 5 rfl rfl)
theorem dX4_copy_143 : decode cX4_copy 143 = .ok (.imul, 1) := dk_104 (dk_at dksX4_copy_6 6 rfl rfl)
theorem dX4_copy_144 : decode cX4_copy 144 = .ok (.iload_n 2, 1) := dk_28 (dk_at dksX4_copy_6 7 rfl rfl)
theorem dX4_copy_145 : decode cX4_copy 145 = .ok (.iadd, 1) := dk_96 (dk_at dksX4_copy_6 8 rfl rfl)
theorem dX4_copy_146 : decode cX4_copy 146 = .ok (.iload 6, 2) := dk_21 6 (dk_at dksX4_copy_6 9 rfl rfl)
theorem dX4_copy_148 : decode cX4_copy 148 = .ok (.iadd, 1) := dk_96 (dk_at dksX4_copy_6 11 rfl rfl)
theorem dX4_copy_149 : decode cX4_copy 149 = .ok (.iaload, 1) := dk_46 (dk_at dksX4_copy_6 12 rfl rfl)
theorem dX4_copy_150 : decode cX4_copy 150 = .ok (.iastore, 1) := dk_79 (dk_at dksX4_copy_6 13 rfl rfl)
theorem dX4_copy_151 : decode cX4_copy 151 = .ok (.iinc 6 1, 3) := dk_132 6 1 (dk_at dksX4_copy_6 14 rfl rfl)
theorem dX4_copy_154 : decode cX4_copy 154 = .ok (.goto (-31), 3) := dk_167 255 225 (dk_at dksX4_copy_6 17 rfl rfl)
theorem dX4_copy_157 : decode cX4_copy 157 = .ok (.iconst 0, 1) := dk_3 (dk_at dksX4_copy_6 20 rfl rfl)
theorem dX4_copy_158 : decode cX4_copy 158 = .ok (.istore 6, 2) := dk_54 6 (dk_at dksX4_copy_6 21 rfl rfl)
theorem dX4_copy_160 : decode cX4_copy 160 = .ok (.iload 6, 2) := dk_21 6 (dk_at dksX4_copy_7 0 rfl rfl)
theorem dX4_copy_162 : decode cX4_copy 162 = .ok (.iload 5, 2) := dk_21 5 (dk_at dksX4_copy_7 2 rfl rfl)
theorem dX4_copy_164 : decode cX4_copy 164 = .ok (.if_icmp .ge 31, 3) := dk_162 0 31 (dk_at dksX4_copy_7 4 rfl rfl)
theorem dX4_copy_167 : decode cX4_copy 167 = .ok (.aload_n 0, 1) := dk_42 (dk_at dksX4_copy_7 7 rfl rfl)
theorem dX4_copy_168 : decode cX4_copy 168 = .ok (.getfield 111, 3) := dk_180 0 111 (dk_at dksX4_copy_7 8 rfl rfl)
theorem dX4_copy_171 : decode cX4_copy 171 = .ok (.bipush 60, 2) := dk_16 60 (dk_at dksX4_copy_7 11 rfl rfl)
theorem dX4_copy_173 : decode cX4_copy 173 = .ok (.iload_n 3, 1) := dk_29 (dk_at dksX4_copy_7 13 rfl rfl)
theorem dX4_copy_174 : decode cX4_copy 174 = .ok (.imul, 1) := dk_104 (dk_at dksX4_copy_7 14 rfl rfl)
theorem dX4_copy_175 : decode cX4_copy 175 = .ok (.iload 4, 2) := dk_21 4 (dk_at dksX4_copy_7 15 rfl rfl)
theorem dX4_copy_177 : decode cX4_copy 177 = .ok (.iadd, 1) := dk_96 (dk_at dksX4_copy_7 17 rfl rfl)
theorem dX4_copy_178 : decode cX4_copy 178 = .ok (.iload 6, 2) := dk_21 6 (dk_at dksX4_copy_7 18 rfl rfl)
theorem dX4_copy_180 : decode cX4_copy 180 = .ok (.iadd, 1) := dk_96 (dk_at dksX4_copy_7 20 rfl rfl)
theorem dX4_copy_181 : decode cX4_copy 181 = .ok (.aload_n 0, 1) := dk_42 (dk_at dksX4_copy_7 21 rfl rfl)
theorem dX4_copy_182 : decode cX4_copy 182 = .ok (.getfield 114, 3) := dk_180 0 114 (dk_at dksX4_copy_8 0 rfl rfl)
theorem dX4_copy_185 : decode cX4_copy 185 = .ok (.iload 6, 2) := dk_21 6 (dk_at dksX4_copy_8 3 rfl rfl)
theorem dX4_copy_187 : decode cX4_copy 187 = .ok (.iaload, 1) := dk_46 (dk_at dksX4_copy_8 5 rfl rfl)
theorem dX4_copy_188 : decode cX4_copy 188 = .ok (.iastore, 1) := dk_79 (dk_at dksX4_copy_8 6 rfl rfl)
theorem dX4_copy_189 : decode cX4_copy 189 = .ok (.iinc 6 1, 3) := dk_132 6 1 (dk_at dksX4_copy_8 7 rfl rfl)
theorem dX4_copy_192 : decode cX4_copy 192 = .ok (.goto (-32), 3) := dk_167 255 224 (dk_at dksX4_copy_8 10 rfl rfl)
theorem dX4_copy_195 : decode cX4_copy 195 = .ok (.iload 5, 2) := dk_21 5 (dk_at dksX4_copy_8 13 rfl rfl)
theorem dX4_copy_197 : decode cX4_copy 197 = .ok (.ireturn, 1) := dk_172 (dk_at dksX4_copy_8 15 rfl rfl)
abbrev cX4_play : ByteArray := prog_21_method_79_code
def yX4_play : MethodName := ⟨RX4, "play", "(II)I"⟩
def dkwX4_play_7 : List UInt8 := [21, 5, 22, 6, 136, 182, 0, 227, 132, 3, 1, 132, 4, 1, 167, 255, 115, 29, 172]
abbrev dktX4_play_7 : List UInt8 := dkwX4_play_7 ++ []
def dkwX4_play_6 : List UInt8 := [21, 5, 22, 6, 182, 0, 223, 154, 0, 15, 42, 42, 16, 244, 182, 0, 211, 181, 1, 69, 29, 172, 42]
abbrev dktX4_play_6 : List UInt8 := dkwX4_play_6 ++ dktX4_play_7
def dkwX4_play_5 : List UInt8 := [16, 60, 27, 104, 29, 96, 46, 133, 42, 180, 0, 30, 16, 6, 21, 5, 104, 46, 133, 101, 55, 6, 42]
abbrev dktX4_play_5 : List UInt8 := dkwX4_play_5 ++ dktX4_play_6
def dkwX4_play_4 : List UInt8 := [180, 0, 108, 27, 46, 160, 0, 15, 42, 42, 16, 244, 182, 0, 211, 181, 1, 69, 29, 172, 42, 180, 0, 111]
abbrev dktX4_play_4 : List UInt8 := dkwX4_play_4 ++ dktX4_play_5
def dkwX4_play_3 : List UInt8 := [180, 0, 102, 27, 51, 154, 0, 15, 42, 42, 16, 245, 182, 0, 211, 181, 1, 69, 29, 172, 29, 42]
abbrev dktX4_play_3 : List UInt8 := dkwX4_play_3 ++ dktX4_play_4
def dkwX4_play_2 : List UInt8 := [180, 0, 42, 16, 40, 28, 104, 21, 4, 96, 46, 54, 5, 42, 21, 5, 182, 0, 214, 153, 0, 107, 42]
abbrev dktX4_play_2 : List UInt8 := dkwX4_play_2 ++ dktX4_play_3
def dkwX4_play_1 : List UInt8 := [42, 16, 254, 182, 0, 130, 172, 3, 62, 3, 54, 4, 21, 4, 42, 180, 0, 45, 28, 46, 162, 0, 136, 42]
abbrev dktX4_play_1 : List UInt8 := dkwX4_play_1 ++ dktX4_play_2
def dkwX4_play_0 : List UInt8 := [42, 182, 0, 144, 27, 133, 9, 20, 0, 231, 184, 0, 137, 153, 0, 11, 42, 28, 182, 0, 184, 154, 0, 10]
abbrev dktX4_play_0 : List UInt8 := dkwX4_play_0 ++ dktX4_play_1
theorem dksX4_play_0 : cX4_play.data.toList.drop 0 = dktX4_play_0 := by decide +kernel
theorem dksX4_play_1 : cX4_play.data.toList.drop 24 = dktX4_play_1 := dk_seg dksX4_play_0 24 rfl rfl
theorem dksX4_play_2 : cX4_play.data.toList.drop 48 = dktX4_play_2 := dk_seg dksX4_play_1 24 rfl rfl
theorem dksX4_play_3 : cX4_play.data.toList.drop 71 = dktX4_play_3 := dk_seg dksX4_play_2 23 rfl rfl
theorem dksX4_play_4 : cX4_play.data.toList.drop 93 = dktX4_play_4 := dk_seg dksX4_play_3 22 rfl rfl
theorem dksX4_play_5 : cX4_play.data.toList.drop 117 = dktX4_play_5 := dk_seg dksX4_play_4 24 rfl rfl
theorem dksX4_play_6 : cX4_play.data.toList.drop 140 = dktX4_play_6 := dk_seg dksX4_play_5 23 rfl rfl
theorem dksX4_play_7 : cX4_play.data.toList.drop 163 = dktX4_play_7 := dk_seg dksX4_play_6 23 rfl rfl
theorem dX4_play_0 : decode cX4_play 0 = .ok (.aload_n 0, 1) := dk_42 (dk_at dksX4_play_0 0 rfl rfl)
theorem dX4_play_1 : decode cX4_play 1 = .ok (.invokevirtual 144, 3) := dk_182 0 144 (dk_at dksX4_play_0 1 rfl rfl)
theorem dX4_play_4 : decode cX4_play 4 = .ok (.iload_n 1, 1) := dk_27 (dk_at dksX4_play_0 4 rfl rfl)
theorem dX4_play_5 : decode cX4_play 5 = .ok (.i2l, 1) := dk_133 (dk_at dksX4_play_0 5 rfl rfl)
theorem dX4_play_6 : decode cX4_play 6 = .ok (.lconst 0, 1) := dk_9 (dk_at dksX4_play_0 6 rfl rfl)
theorem dX4_play_7 : decode cX4_play 7 = .ok (.ldc2_w 231, 3) := dk_20 0 231 (dk_at dksX4_play_0 7 rfl rfl)
theorem dX4_play_10 : decode cX4_play 10 = .ok (.invokestatic 137, 3) := dk_184 0 137 (dk_at dksX4_play_0 10 rfl rfl)
theorem dX4_play_13 : decode cX4_play 13 = .ok (.ifCond .eq 11, 3) := dk_153 0 11 (dk_at dksX4_play_0 13 rfl rfl)
theorem dX4_play_16 : decode cX4_play 16 = .ok (.aload_n 0, 1) := dk_42 (dk_at dksX4_play_0 16 rfl rfl)
theorem dX4_play_17 : decode cX4_play 17 = .ok (.iload_n 2, 1) := dk_28 (dk_at dksX4_play_0 17 rfl rfl)
theorem dX4_play_18 : decode cX4_play 18 = .ok (.invokevirtual 184, 3) := dk_182 0 184 (dk_at dksX4_play_0 18 rfl rfl)
theorem dX4_play_21 : decode cX4_play 21 = .ok (.ifCond .ne 10, 3) := dk_154 0 10 (dk_at dksX4_play_0 21 rfl rfl)
theorem dX4_play_24 : decode cX4_play 24 = .ok (.aload_n 0, 1) := dk_42 (dk_at dksX4_play_1 0 rfl rfl)
theorem dX4_play_25 : decode cX4_play 25 = .ok (.bipush (-2), 2) := dk_16 254 (dk_at dksX4_play_1 1 rfl rfl)
theorem dX4_play_27 : decode cX4_play 27 = .ok (.invokevirtual 130, 3) := dk_182 0 130 (dk_at dksX4_play_1 3 rfl rfl)
theorem dX4_play_30 : decode cX4_play 30 = .ok (.ireturn, 1) := dk_172 (dk_at dksX4_play_1 6 rfl rfl)
theorem dX4_play_31 : decode cX4_play 31 = .ok (.iconst 0, 1) := dk_3 (dk_at dksX4_play_1 7 rfl rfl)
theorem dX4_play_32 : decode cX4_play 32 = .ok (.istore_n 3, 1) := dk_62 (dk_at dksX4_play_1 8 rfl rfl)
theorem dX4_play_33 : decode cX4_play 33 = .ok (.iconst 0, 1) := dk_3 (dk_at dksX4_play_1 9 rfl rfl)
theorem dX4_play_34 : decode cX4_play 34 = .ok (.istore 4, 2) := dk_54 4 (dk_at dksX4_play_1 10 rfl rfl)
theorem dX4_play_36 : decode cX4_play 36 = .ok (.iload 4, 2) := dk_21 4 (dk_at dksX4_play_1 12 rfl rfl)
theorem dX4_play_38 : decode cX4_play 38 = .ok (.aload_n 0, 1) := dk_42 (dk_at dksX4_play_1 14 rfl rfl)
theorem dX4_play_39 : decode cX4_play 39 = .ok (.getfield 45, 3) := dk_180 0 45 (dk_at dksX4_play_1 15 rfl rfl)
theorem dX4_play_42 : decode cX4_play 42 = .ok (.iload_n 2, 1) := dk_28 (dk_at dksX4_play_1 18 rfl rfl)
theorem dX4_play_43 : decode cX4_play 43 = .ok (.iaload, 1) := dk_46 (dk_at dksX4_play_1 19 rfl rfl)
theorem dX4_play_44 : decode cX4_play 44 = .ok (.if_icmp .ge 136, 3) := dk_162 0 136 (dk_at dksX4_play_1 20 rfl rfl)
theorem dX4_play_47 : decode cX4_play 47 = .ok (.aload_n 0, 1) := dk_42 (dk_at dksX4_play_1 23 rfl rfl)
theorem dX4_play_48 : decode cX4_play 48 = .ok (.getfield 42, 3) := dk_180 0 42 (dk_at dksX4_play_2 0 rfl rfl)
theorem dX4_play_51 : decode cX4_play 51 = .ok (.bipush 40, 2) := dk_16 40 (dk_at dksX4_play_2 3 rfl rfl)
theorem dX4_play_53 : decode cX4_play 53 = .ok (.iload_n 2, 1) := dk_28 (dk_at dksX4_play_2 5 rfl rfl)
theorem dX4_play_54 : decode cX4_play 54 = .ok (.imul, 1) := dk_104 (dk_at dksX4_play_2 6 rfl rfl)
theorem dX4_play_55 : decode cX4_play 55 = .ok (.iload 4, 2) := dk_21 4 (dk_at dksX4_play_2 7 rfl rfl)
theorem dX4_play_57 : decode cX4_play 57 = .ok (.iadd, 1) := dk_96 (dk_at dksX4_play_2 9 rfl rfl)
theorem dX4_play_58 : decode cX4_play 58 = .ok (.iaload, 1) := dk_46 (dk_at dksX4_play_2 10 rfl rfl)
theorem dX4_play_59 : decode cX4_play 59 = .ok (.istore 5, 2) := dk_54 5 (dk_at dksX4_play_2 11 rfl rfl)
theorem dX4_play_61 : decode cX4_play 61 = .ok (.aload_n 0, 1) := dk_42 (dk_at dksX4_play_2 13 rfl rfl)
theorem dX4_play_62 : decode cX4_play 62 = .ok (.iload 5, 2) := dk_21 5 (dk_at dksX4_play_2 14 rfl rfl)
theorem dX4_play_64 : decode cX4_play 64 = .ok (.invokevirtual 214, 3) := dk_182 0 214 (dk_at dksX4_play_2 16 rfl rfl)
theorem dX4_play_67 : decode cX4_play 67 = .ok (.ifCond .eq 107, 3) := dk_153 0 107 (dk_at dksX4_play_2 19 rfl rfl)
theorem dX4_play_70 : decode cX4_play 70 = .ok (.aload_n 0, 1) := dk_42 (dk_at dksX4_play_2 22 rfl rfl)
theorem dX4_play_71 : decode cX4_play 71 = .ok (.getfield 102, 3) := dk_180 0 102 (dk_at dksX4_play_3 0 rfl rfl)
theorem dX4_play_74 : decode cX4_play 74 = .ok (.iload_n 1, 1) := dk_27 (dk_at dksX4_play_3 3 rfl rfl)
theorem dX4_play_75 : decode cX4_play 75 = .ok (.baload, 1) := dk_51 (dk_at dksX4_play_3 4 rfl rfl)
theorem dX4_play_76 : decode cX4_play 76 = .ok (.ifCond .ne 15, 3) := dk_154 0 15 (dk_at dksX4_play_3 5 rfl rfl)
theorem dX4_play_79 : decode cX4_play 79 = .ok (.aload_n 0, 1) := dk_42 (dk_at dksX4_play_3 8 rfl rfl)
theorem dX4_play_80 : decode cX4_play 80 = .ok (.aload_n 0, 1) := dk_42 (dk_at dksX4_play_3 9 rfl rfl)
theorem dX4_play_81 : decode cX4_play 81 = .ok (.bipush (-11), 2) := dk_16 245 (dk_at dksX4_play_3 10 rfl rfl)
theorem dX4_play_83 : decode cX4_play 83 = .ok (.invokevirtual 211, 3) := dk_182 0 211 (dk_at dksX4_play_3 12 rfl rfl)
theorem dX4_play_86 : decode cX4_play 86 = .ok (.putfield 325, 3) := dk_181 1 69 (dk_at dksX4_play_3 15 rfl rfl)
theorem dX4_play_89 : decode cX4_play 89 = .ok (.iload_n 3, 1) := dk_29 (dk_at dksX4_play_3 18 rfl rfl)
theorem dX4_play_90 : decode cX4_play 90 = .ok (.ireturn, 1) := dk_172 (dk_at dksX4_play_3 19 rfl rfl)
theorem dX4_play_91 : decode cX4_play 91 = .ok (.iload_n 3, 1) := dk_29 (dk_at dksX4_play_3 20 rfl rfl)
theorem dX4_play_92 : decode cX4_play 92 = .ok (.aload_n 0, 1) := dk_42 (dk_at dksX4_play_3 21 rfl rfl)
theorem dX4_play_93 : decode cX4_play 93 = .ok (.getfield 108, 3) := dk_180 0 108 (dk_at dksX4_play_4 0 rfl rfl)
theorem dX4_play_96 : decode cX4_play 96 = .ok (.iload_n 1, 1) := dk_27 (dk_at dksX4_play_4 3 rfl rfl)
theorem dX4_play_97 : decode cX4_play 97 = .ok (.iaload, 1) := dk_46 (dk_at dksX4_play_4 4 rfl rfl)
theorem dX4_play_98 : decode cX4_play 98 = .ok (.if_icmp .ne 15, 3) := dk_160 0 15 (dk_at dksX4_play_4 5 rfl rfl)
theorem dX4_play_101 : decode cX4_play 101 = .ok (.aload_n 0, 1) := dk_42 (dk_at dksX4_play_4 8 rfl rfl)
theorem dX4_play_102 : decode cX4_play 102 = .ok (.aload_n 0, 1) := dk_42 (dk_at dksX4_play_4 9 rfl rfl)
theorem dX4_play_103 : decode cX4_play 103 = .ok (.bipush (-12), 2) := dk_16 244 (dk_at dksX4_play_4 10 rfl rfl)
theorem dX4_play_105 : decode cX4_play 105 = .ok (.invokevirtual 211, 3) := dk_182 0 211 (dk_at dksX4_play_4 12 rfl rfl)
theorem dX4_play_108 : decode cX4_play 108 = .ok (.putfield 325, 3) := dk_181 1 69 (dk_at dksX4_play_4 15 rfl rfl)
theorem dX4_play_111 : decode cX4_play 111 = .ok (.iload_n 3, 1) := dk_29 (dk_at dksX4_play_4 18 rfl rfl)
theorem dX4_play_112 : decode cX4_play 112 = .ok (.ireturn, 1) := dk_172 (dk_at dksX4_play_4 19 rfl rfl)
theorem dX4_play_113 : decode cX4_play 113 = .ok (.aload_n 0, 1) := dk_42 (dk_at dksX4_play_4 20 rfl rfl)
theorem dX4_play_114 : decode cX4_play 114 = .ok (.getfield 111, 3) := dk_180 0 111 (dk_at dksX4_play_4 21 rfl rfl)
theorem dX4_play_117 : decode cX4_play 117 = .ok (.bipush 60, 2) := dk_16 60 (dk_at dksX4_play_5 0 rfl rfl)
theorem dX4_play_119 : decode cX4_play 119 = .ok (.iload_n 1, 1) := dk_27 (dk_at dksX4_play_5 2 rfl rfl)
theorem dX4_play_120 : decode cX4_play 120 = .ok (.imul, 1) := dk_104 (dk_at dksX4_play_5 3 rfl rfl)
theorem dX4_play_121 : decode cX4_play 121 = .ok (.iload_n 3, 1) := dk_29 (dk_at dksX4_play_5 4 rfl rfl)
theorem dX4_play_122 : decode cX4_play 122 = .ok (.iadd, 1) := dk_96 (dk_at dksX4_play_5 5 rfl rfl)
theorem dX4_play_123 : decode cX4_play 123 = .ok (.iaload, 1) := dk_46 (dk_at dksX4_play_5 6 rfl rfl)
theorem dX4_play_124 : decode cX4_play 124 = .ok (.i2l, 1) := dk_133 (dk_at dksX4_play_5 7 rfl rfl)
theorem dX4_play_125 : decode cX4_play 125 = .ok (.aload_n 0, 1) := dk_42 (dk_at dksX4_play_5 8 rfl rfl)
theorem dX4_play_126 : decode cX4_play 126 = .ok (.getfield 30, 3) := dk_180 0 30 (dk_at dksX4_play_5 9 rfl rfl)
theorem dX4_play_129 : decode cX4_play 129 = .ok (.bipush 6, 2) := dk_16 6 (dk_at dksX4_play_5 12 rfl rfl)
theorem dX4_play_131 : decode cX4_play 131 = .ok (.iload 5, 2) := dk_21 5 (dk_at dksX4_play_5 14 rfl rfl)
theorem dX4_play_133 : decode cX4_play 133 = .ok (.imul, 1) := dk_104 (dk_at dksX4_play_5 16 rfl rfl)
theorem dX4_play_134 : decode cX4_play 134 = .ok (.iaload, 1) := dk_46 (dk_at dksX4_play_5 17 rfl rfl)
theorem dX4_play_135 : decode cX4_play 135 = .ok (.i2l, 1) := dk_133 (dk_at dksX4_play_5 18 rfl rfl)
theorem dX4_play_136 : decode cX4_play 136 = .ok (.lsub, 1) := dk_101 (dk_at dksX4_play_5 19 rfl rfl)
theorem dX4_play_137 : decode cX4_play 137 = .ok (.lstore 6, 2) := dk_55 6 (dk_at dksX4_play_5 20 rfl rfl)
theorem dX4_play_139 : decode cX4_play 139 = .ok (.aload_n 0, 1) := dk_42 (dk_at dksX4_play_5 22 rfl rfl)
theorem dX4_play_140 : decode cX4_play 140 = .ok (.iload 5, 2) := dk_21 5 (dk_at dksX4_play_6 0 rfl rfl)
theorem dX4_play_142 : decode cX4_play 142 = .ok (.lload 6, 2) := dk_22 6 (dk_at dksX4_play_6 2 rfl rfl)
theorem dX4_play_144 : decode cX4_play 144 = .ok (.invokevirtual 223, 3) := dk_182 0 223 (dk_at dksX4_play_6 4 rfl rfl)
theorem dX4_play_147 : decode cX4_play 147 = .ok (.ifCond .ne 15, 3) := dk_154 0 15 (dk_at dksX4_play_6 7 rfl rfl)
theorem dX4_play_150 : decode cX4_play 150 = .ok (.aload_n 0, 1) := dk_42 (dk_at dksX4_play_6 10 rfl rfl)
theorem dX4_play_151 : decode cX4_play 151 = .ok (.aload_n 0, 1) := dk_42 (dk_at dksX4_play_6 11 rfl rfl)
theorem dX4_play_152 : decode cX4_play 152 = .ok (.bipush (-12), 2) := dk_16 244 (dk_at dksX4_play_6 12 rfl rfl)
theorem dX4_play_154 : decode cX4_play 154 = .ok (.invokevirtual 211, 3) := dk_182 0 211 (dk_at dksX4_play_6 14 rfl rfl)
theorem dX4_play_157 : decode cX4_play 157 = .ok (.putfield 325, 3) := dk_181 1 69 (dk_at dksX4_play_6 17 rfl rfl)
theorem dX4_play_160 : decode cX4_play 160 = .ok (.iload_n 3, 1) := dk_29 (dk_at dksX4_play_6 20 rfl rfl)
theorem dX4_play_161 : decode cX4_play 161 = .ok (.ireturn, 1) := dk_172 (dk_at dksX4_play_6 21 rfl rfl)
theorem dX4_play_162 : decode cX4_play 162 = .ok (.aload_n 0, 1) := dk_42 (dk_at dksX4_play_6 22 rfl rfl)
theorem dX4_play_163 : decode cX4_play 163 = .ok (.iload 5, 2) := dk_21 5 (dk_at dksX4_play_7 0 rfl rfl)
theorem dX4_play_165 : decode cX4_play 165 = .ok (.lload 6, 2) := dk_22 6 (dk_at dksX4_play_7 2 rfl rfl)
theorem dX4_play_167 : decode cX4_play 167 = .ok (.l2i, 1) := dk_136 (dk_at dksX4_play_7 4 rfl rfl)
theorem dX4_play_168 : decode cX4_play 168 = .ok (.invokevirtual 227, 3) := dk_182 0 227 (dk_at dksX4_play_7 5 rfl rfl)
theorem dX4_play_171 : decode cX4_play 171 = .ok (.iinc 3 1, 3) := dk_132 3 1 (dk_at dksX4_play_7 8 rfl rfl)
theorem dX4_play_174 : decode cX4_play 174 = .ok (.iinc 4 1, 3) := dk_132 4 1 (dk_at dksX4_play_7 11 rfl rfl)
theorem dX4_play_177 : decode cX4_play 177 = .ok (.goto (-141), 3) := dk_167 255 115 (dk_at dksX4_play_7 14 rfl rfl)
theorem dX4_play_180 : decode cX4_play 180 = .ok (.iload_n 3, 1) := dk_29 (dk_at dksX4_play_7 17 rfl rfl)
theorem dX4_play_181 : decode cX4_play 181 = .ok (.ireturn, 1) := dk_172 (dk_at dksX4_play_7 18 rfl rfl)
abbrev cX4_failures : ByteArray := prog_21_method_80_code
def yX4_failures : MethodName := ⟨RX4, "failures", "(I)I"⟩
def dkwX4_failures_1 : List UInt8 := [167, 0, 5, 16, 254, 172]
abbrev dktX4_failures_1 : List UInt8 := dkwX4_failures_1 ++ []
def dkwX4_failures_0 : List UInt8 := [42, 3, 181, 0, 123, 27, 133, 9, 20, 0, 172, 184, 0, 137, 153, 0, 12, 42, 180, 0, 117, 27, 46]
abbrev dktX4_failures_0 : List UInt8 := dkwX4_failures_0 ++ dktX4_failures_1
theorem dksX4_failures_0 : cX4_failures.data.toList.drop 0 = dktX4_failures_0 := by decide +kernel
theorem dksX4_failures_1 : cX4_failures.data.toList.drop 23 = dktX4_failures_1 := dk_seg dksX4_failures_0 23 rfl rfl
theorem dX4_failures_0 : decode cX4_failures 0 = .ok (.aload_n 0, 1) := dk_42 (dk_at dksX4_failures_0 0 rfl rfl)
theorem dX4_failures_1 : decode cX4_failures 1 = .ok (.iconst 0, 1) := dk_3 (dk_at dksX4_failures_0 1 rfl rfl)
theorem dX4_failures_2 : decode cX4_failures 2 = .ok (.putfield 123, 3) := dk_181 0 123 (dk_at dksX4_failures_0 2 rfl rfl)
theorem dX4_failures_5 : decode cX4_failures 5 = .ok (.iload_n 1, 1) := dk_27 (dk_at dksX4_failures_0 5 rfl rfl)
theorem dX4_failures_6 : decode cX4_failures 6 = .ok (.i2l, 1) := dk_133 (dk_at dksX4_failures_0 6 rfl rfl)
theorem dX4_failures_7 : decode cX4_failures 7 = .ok (.lconst 0, 1) := dk_9 (dk_at dksX4_failures_0 7 rfl rfl)
theorem dX4_failures_8 : decode cX4_failures 8 = .ok (.ldc2_w 172, 3) := dk_20 0 172 (dk_at dksX4_failures_0 8 rfl rfl)
theorem dX4_failures_11 : decode cX4_failures 11 = .ok (.invokestatic 137, 3) := dk_184 0 137 (dk_at dksX4_failures_0 11 rfl rfl)
theorem dX4_failures_14 : decode cX4_failures 14 = .ok (.ifCond .eq 12, 3) := dk_153 0 12 (dk_at dksX4_failures_0 14 rfl rfl)
theorem dX4_failures_17 : decode cX4_failures 17 = .ok (.aload_n 0, 1) := dk_42 (dk_at dksX4_failures_0 17 rfl rfl)
theorem dX4_failures_18 : decode cX4_failures 18 = .ok (.getfield 117, 3) := dk_180 0 117 (dk_at dksX4_failures_0 18 rfl rfl)
theorem dX4_failures_21 : decode cX4_failures 21 = .ok (.iload_n 1, 1) := dk_27 (dk_at dksX4_failures_0 21 rfl rfl)
theorem dX4_failures_22 : decode cX4_failures 22 = .ok (.iaload, 1) := dk_46 (dk_at dksX4_failures_0 22 rfl rfl)
theorem dX4_failures_23 : decode cX4_failures 23 = .ok (.goto 5, 3) := dk_167 0 5 (dk_at dksX4_failures_1 0 rfl rfl)
theorem dX4_failures_26 : decode cX4_failures 26 = .ok (.bipush (-2), 2) := dk_16 254 (dk_at dksX4_failures_1 3 rfl rfl)
theorem dX4_failures_28 : decode cX4_failures 28 = .ok (.ireturn, 1) := dk_172 (dk_at dksX4_failures_1 5 rfl rfl)
abbrev cX4_status : ByteArray := prog_21_method_81_code
def yX4_status : MethodName := ⟨RX4, "status", "()I"⟩
def dkwX4_status_0 : List UInt8 := [42, 3, 181, 0, 123, 42, 180, 0, 127, 172]
abbrev dktX4_status_0 : List UInt8 := dkwX4_status_0 ++ []
theorem dksX4_status_0 : cX4_status.data.toList.drop 0 = dktX4_status_0 := by decide +kernel
theorem dX4_status_0 : decode cX4_status 0 = .ok (.aload_n 0, 1) := dk_42 (dk_at dksX4_status_0 0 rfl rfl)
theorem dX4_status_1 : decode cX4_status 1 = .ok (.iconst 0, 1) := dk_3 (dk_at dksX4_status_0 1 rfl rfl)
theorem dX4_status_2 : decode cX4_status 2 = .ok (.putfield 123, 3) := dk_181 0 123 (dk_at dksX4_status_0 2 rfl rfl)
theorem dX4_status_5 : decode cX4_status 5 = .ok (.aload_n 0, 1) := dk_42 (dk_at dksX4_status_0 5 rfl rfl)
theorem dX4_status_6 : decode cX4_status 6 = .ok (.getfield 127, 3) := dk_180 0 127 (dk_at dksX4_status_0 6 rfl rfl)
theorem dX4_status_9 : decode cX4_status 9 = .ok (.ireturn, 1) := dk_172 (dk_at dksX4_status_0 9 rfl rfl)
abbrev cX4_trace : ByteArray := prog_21_method_82_code
def yX4_trace : MethodName := ⟨RX4, "trace", "()J"⟩
def dkwX4_trace_0 : List UInt8 := [42, 3, 181, 0, 123, 42, 180, 0, 156, 173]
abbrev dktX4_trace_0 : List UInt8 := dkwX4_trace_0 ++ []
theorem dksX4_trace_0 : cX4_trace.data.toList.drop 0 = dktX4_trace_0 := by decide +kernel
theorem dX4_trace_0 : decode cX4_trace 0 = .ok (.aload_n 0, 1) := dk_42 (dk_at dksX4_trace_0 0 rfl rfl)
theorem dX4_trace_1 : decode cX4_trace 1 = .ok (.iconst 0, 1) := dk_3 (dk_at dksX4_trace_0 1 rfl rfl)
theorem dX4_trace_2 : decode cX4_trace 2 = .ok (.putfield 123, 3) := dk_181 0 123 (dk_at dksX4_trace_0 2 rfl rfl)
theorem dX4_trace_5 : decode cX4_trace 5 = .ok (.aload_n 0, 1) := dk_42 (dk_at dksX4_trace_0 5 rfl rfl)
theorem dX4_trace_6 : decode cX4_trace 6 = .ok (.getfield 156, 3) := dk_180 0 156 (dk_at dksX4_trace_0 6 rfl rfl)
theorem dX4_trace_9 : decode cX4_trace 9 = .ok (.lreturn, 1) := dk_173 (dk_at dksX4_trace_0 9 rfl rfl)
abbrev cX4_count : ByteArray := prog_21_method_83_code
def yX4_count : MethodName := ⟨RX4, "count", "(I)I"⟩
def dkwX4_count_3 : List UInt8 := [172, 42, 180, 0, 208, 172, 42, 180, 1, 33, 172, 16, 254, 172]
abbrev dktX4_count_3 : List UInt8 := dkwX4_count_3 ++ []
def dkwX4_count_2 : List UInt8 := [42, 180, 0, 134, 172, 42, 180, 0, 151, 172, 42, 180, 0, 190, 172, 42, 180, 0, 141, 172, 42, 180, 0, 202]
abbrev dktX4_count_2 : List UInt8 := dkwX4_count_2 ++ dktX4_count_3
def dkwX4_count_1 : List UInt8 := [170, 0, 0, 0, 0, 77, 0, 0, 0, 0, 0, 0, 0, 6, 0, 0, 0, 42, 0, 0, 0, 47, 0, 0, 0, 52, 0, 0, 0, 57, 0, 0, 0, 62, 0, 0, 0, 67, 0, 0, 0, 72]
abbrev dktX4_count_1 : List UInt8 := dkwX4_count_1 ++ dktX4_count_2
def dkwX4_count_0 : List UInt8 := [42, 3, 181, 0, 123, 27]
abbrev dktX4_count_0 : List UInt8 := dkwX4_count_0 ++ dktX4_count_1
theorem dksX4_count_0 : cX4_count.data.toList.drop 0 = dktX4_count_0 := by decide +kernel
theorem dksX4_count_1 : cX4_count.data.toList.drop 6 = dktX4_count_1 := dk_seg dksX4_count_0 6 rfl rfl
theorem dksX4_count_2 : cX4_count.data.toList.drop 48 = dktX4_count_2 := dk_seg dksX4_count_1 42 rfl rfl
theorem dksX4_count_3 : cX4_count.data.toList.drop 72 = dktX4_count_3 := dk_seg dksX4_count_2 24 rfl rfl
theorem dX4_count_0 : decode cX4_count 0 = .ok (.aload_n 0, 1) := dk_42 (dk_at dksX4_count_0 0 rfl rfl)
theorem dX4_count_1 : decode cX4_count 1 = .ok (.iconst 0, 1) := dk_3 (dk_at dksX4_count_0 1 rfl rfl)
theorem dX4_count_2 : decode cX4_count 2 = .ok (.putfield 123, 3) := dk_181 0 123 (dk_at dksX4_count_0 2 rfl rfl)
theorem dX4_count_5 : decode cX4_count 5 = .ok (.iload_n 1, 1) := dk_27 (dk_at dksX4_count_0 5 rfl rfl)
theorem dX4_count_6 : decode cX4_count 6 = .ok (.tableswitch 77 0 6 #[42, 47, 52, 57, 62, 67, 72], 42) := by decide +kernel
theorem dX4_count_48 : decode cX4_count 48 = .ok (.aload_n 0, 1) := dk_42 (dk_at dksX4_count_2 0 rfl rfl)
theorem dX4_count_49 : decode cX4_count 49 = .ok (.getfield 134, 3) := dk_180 0 134 (dk_at dksX4_count_2 1 rfl rfl)
theorem dX4_count_52 : decode cX4_count 52 = .ok (.ireturn, 1) := dk_172 (dk_at dksX4_count_2 4 rfl rfl)
theorem dX4_count_53 : decode cX4_count 53 = .ok (.aload_n 0, 1) := dk_42 (dk_at dksX4_count_2 5 rfl rfl)
theorem dX4_count_54 : decode cX4_count 54 = .ok (.getfield 151, 3) := dk_180 0 151 (dk_at dksX4_count_2 6 rfl rfl)
theorem dX4_count_57 : decode cX4_count 57 = .ok (.ireturn, 1) := dk_172 (dk_at dksX4_count_2 9 rfl rfl)
theorem dX4_count_58 : decode cX4_count 58 = .ok (.aload_n 0, 1) := dk_42 (dk_at dksX4_count_2 10 rfl rfl)
theorem dX4_count_59 : decode cX4_count 59 = .ok (.getfield 190, 3) := dk_180 0 190 (dk_at dksX4_count_2 11 rfl rfl)
theorem dX4_count_62 : decode cX4_count 62 = .ok (.ireturn, 1) := dk_172 (dk_at dksX4_count_2 14 rfl rfl)
theorem dX4_count_63 : decode cX4_count 63 = .ok (.aload_n 0, 1) := dk_42 (dk_at dksX4_count_2 15 rfl rfl)
theorem dX4_count_64 : decode cX4_count 64 = .ok (.getfield 141, 3) := dk_180 0 141 (dk_at dksX4_count_2 16 rfl rfl)
theorem dX4_count_67 : decode cX4_count 67 = .ok (.ireturn, 1) := dk_172 (dk_at dksX4_count_2 19 rfl rfl)
theorem dX4_count_68 : decode cX4_count 68 = .ok (.aload_n 0, 1) := dk_42 (dk_at dksX4_count_2 20 rfl rfl)
theorem dX4_count_69 : decode cX4_count 69 = .ok (.getfield 202, 3) := dk_180 0 202 (dk_at dksX4_count_2 21 rfl rfl)
theorem dX4_count_72 : decode cX4_count 72 = .ok (.ireturn, 1) := dk_172 (dk_at dksX4_count_3 0 rfl rfl)
theorem dX4_count_73 : decode cX4_count 73 = .ok (.aload_n 0, 1) := dk_42 (dk_at dksX4_count_3 1 rfl rfl)
theorem dX4_count_74 : decode cX4_count 74 = .ok (.getfield 208, 3) := dk_180 0 208 (dk_at dksX4_count_3 2 rfl rfl)
theorem dX4_count_77 : decode cX4_count 77 = .ok (.ireturn, 1) := dk_172 (dk_at dksX4_count_3 5 rfl rfl)
theorem dX4_count_78 : decode cX4_count 78 = .ok (.aload_n 0, 1) := dk_42 (dk_at dksX4_count_3 6 rfl rfl)
theorem dX4_count_79 : decode cX4_count 79 = .ok (.getfield 289, 3) := dk_180 1 33 (dk_at dksX4_count_3 7 rfl rfl)
theorem dX4_count_82 : decode cX4_count 82 = .ok (.ireturn, 1) := dk_172 (dk_at dksX4_count_3 10 rfl rfl)
theorem dX4_count_83 : decode cX4_count 83 = .ok (.bipush (-2), 2) := dk_16 254 (dk_at dksX4_count_3 11 rfl rfl)
theorem dX4_count_85 : decode cX4_count 85 = .ok (.ireturn, 1) := dk_172 (dk_at dksX4_count_3 13 rfl rfl)
theorem q67 : (Jvm.Cond.initialized "StaveScoreModel") ∈ lw_all := lw_g (lw_at lw_m1 5 rfl) rfl
theorem q1255 : (Jvm.Cond.instantiable "StaveScoreModel" (51 : Nat)) ∈ lw_all := lw_g (lw_at lw_m5 233 rfl) rfl
theorem q1257 : (Jvm.Cond.instanceMethod ({ cls := "StaveScoreModel", name := "<init>", desc := "()V" } : Jvm.MethodName)) ∈ lw_all := lw_g (lw_at lw_m5 235 rfl) rfl
theorem q1258 : (Jvm.Cond.code ({ cls := "StaveScoreModel", name := "<init>", desc := "()V" } : Jvm.MethodName) prog_21_method_1_code (1 : Nat) (Option.none : Option Jvm.ClassFile.FieldType)) ∈ lw_all := lw_g (lw_at lw_m5 236 rfl) rfl
theorem q1259 : (Jvm.Cond.methodLink "StaveScoreModel" (1 : Nat) ({ cls := "java/lang/Object", name := "<init>", desc := "()V" } : Jvm.MethodName)) ∈ lw_all := lw_g (lw_at lw_m5 237 rfl) rfl
theorem q1260 : (Jvm.Cond.fieldLink "StaveScoreModel" (134 : Nat) "StaveScoreModel" "parts" "I") ∈ lw_all := lw_g (lw_at lw_m5 238 rfl) rfl
theorem q1261 : (Jvm.Cond.fieldLink "StaveScoreModel" (7 : Nat) "StaveScoreModel" "partKind" "[I") ∈ lw_all := lw_g (lw_at lw_m5 239 rfl) rfl
theorem q1262 : (Jvm.Cond.fieldLink "StaveScoreModel" (151 : Nat) "StaveScoreModel" "bars" "I") ∈ lw_all := lw_g (lw_at lw_m6 0 rfl) rfl
theorem q1263 : (Jvm.Cond.fieldLink "StaveScoreModel" (13 : Nat) "StaveScoreModel" "barTime" "[J") ∈ lw_all := lw_g (lw_at lw_m6 1 rfl) rfl
theorem q1264 : (Jvm.Cond.fieldLink "StaveScoreModel" (141 : Nat) "StaveScoreModel" "ever" "I") ∈ lw_all := lw_g (lw_at lw_m6 2 rfl) rfl
theorem q1265 : (Jvm.Cond.fieldLink "StaveScoreModel" (190 : Nat) "StaveScoreModel" "there" "I") ∈ lw_all := lw_g (lw_at lw_m6 3 rfl) rfl
theorem q1266 : (Jvm.Cond.fieldLink "StaveScoreModel" (17 : Nat) "StaveScoreModel" "isThere" "[Z") ∈ lw_all := lw_g (lw_at lw_m6 4 rfl) rfl
theorem q1267 : (Jvm.Cond.fieldLink "StaveScoreModel" (21 : Nat) "StaveScoreModel" "voiceOf" "[I") ∈ lw_all := lw_g (lw_at lw_m6 5 rfl) rfl
theorem q1268 : (Jvm.Cond.fieldLink "StaveScoreModel" (24 : Nat) "StaveScoreModel" "kindOf" "[I") ∈ lw_all := lw_g (lw_at lw_m6 6 rfl) rfl
theorem q1269 : (Jvm.Cond.fieldLink "StaveScoreModel" (27 : Nat) "StaveScoreModel" "pitches" "[I") ∈ lw_all := lw_g (lw_at lw_m6 7 rfl) rfl
theorem q1270 : (Jvm.Cond.fieldLink "StaveScoreModel" (30 : Nat) "StaveScoreModel" "pitchOf" "[I") ∈ lw_all := lw_g (lw_at lw_m6 8 rfl) rfl
theorem q1271 : (Jvm.Cond.fieldLink "StaveScoreModel" (33 : Nat) "StaveScoreModel" "valueOf" "[I") ∈ lw_all := lw_g (lw_at lw_m6 9 rfl) rfl
theorem q1272 : (Jvm.Cond.fieldLink "StaveScoreModel" (36 : Nat) "StaveScoreModel" "dotsOf" "[I") ∈ lw_all := lw_g (lw_at lw_m6 10 rfl) rfl
theorem q1273 : (Jvm.Cond.fieldLink "StaveScoreModel" (39 : Nat) "StaveScoreModel" "isTied" "[Z") ∈ lw_all := lw_g (lw_at lw_m6 11 rfl) rfl
theorem q1274 : (Jvm.Cond.fieldLink "StaveScoreModel" (42 : Nat) "StaveScoreModel" "row" "[I") ∈ lw_all := lw_g (lw_at lw_m6 12 rfl) rfl
theorem q1275 : (Jvm.Cond.fieldLink "StaveScoreModel" (45 : Nat) "StaveScoreModel" "many" "[I") ∈ lw_all := lw_g (lw_at lw_m6 13 rfl) rfl
theorem q1276 : (Jvm.Cond.fieldLink "StaveScoreModel" (199 : Nat) "StaveScoreModel" "tupletsEver" "I") ∈ lw_all := lw_g (lw_at lw_m6 14 rfl) rfl
theorem q1277 : (Jvm.Cond.fieldLink "StaveScoreModel" (202 : Nat) "StaveScoreModel" "tupletsThere" "I") ∈ lw_all := lw_g (lw_at lw_m6 15 rfl) rfl
theorem q1278 : (Jvm.Cond.fieldLink "StaveScoreModel" (48 : Nat) "StaveScoreModel" "isTuplet" "[Z") ∈ lw_all := lw_g (lw_at lw_m6 16 rfl) rfl
theorem q1279 : (Jvm.Cond.fieldLink "StaveScoreModel" (51 : Nat) "StaveScoreModel" "tupletVoice" "[I") ∈ lw_all := lw_g (lw_at lw_m6 17 rfl) rfl
theorem q1280 : (Jvm.Cond.fieldLink "StaveScoreModel" (54 : Nat) "StaveScoreModel" "tupletFirst" "[I") ∈ lw_all := lw_g (lw_at lw_m6 18 rfl) rfl
theorem q1281 : (Jvm.Cond.fieldLink "StaveScoreModel" (57 : Nat) "StaveScoreModel" "tupletLast" "[I") ∈ lw_all := lw_g (lw_at lw_m6 19 rfl) rfl
theorem q1282 : (Jvm.Cond.fieldLink "StaveScoreModel" (60 : Nat) "StaveScoreModel" "tupletN" "[I") ∈ lw_all := lw_g (lw_at lw_m6 20 rfl) rfl
theorem q1283 : (Jvm.Cond.fieldLink "StaveScoreModel" (63 : Nat) "StaveScoreModel" "tupletM" "[I") ∈ lw_all := lw_g (lw_at lw_m6 21 rfl) rfl
theorem q1284 : (Jvm.Cond.fieldLink "StaveScoreModel" (66 : Nat) "StaveScoreModel" "tupletUnit" "[I") ∈ lw_all := lw_g (lw_at lw_m6 22 rfl) rfl
theorem q1285 : (Jvm.Cond.fieldLink "StaveScoreModel" (205 : Nat) "StaveScoreModel" "linesEver" "I") ∈ lw_all := lw_g (lw_at lw_m6 23 rfl) rfl
theorem q1286 : (Jvm.Cond.fieldLink "StaveScoreModel" (208 : Nat) "StaveScoreModel" "linesThere" "I") ∈ lw_all := lw_g (lw_at lw_m6 24 rfl) rfl
theorem q1287 : (Jvm.Cond.fieldLink "StaveScoreModel" (69 : Nat) "StaveScoreModel" "isLine" "[Z") ∈ lw_all := lw_g (lw_at lw_m6 25 rfl) rfl
theorem q1288 : (Jvm.Cond.fieldLink "StaveScoreModel" (72 : Nat) "StaveScoreModel" "lineKind" "[I") ∈ lw_all := lw_g (lw_at lw_m6 26 rfl) rfl
theorem q1289 : (Jvm.Cond.fieldLink "StaveScoreModel" (75 : Nat) "StaveScoreModel" "lineFrom" "[I") ∈ lw_all := lw_g (lw_at lw_m6 27 rfl) rfl
theorem q1290 : (Jvm.Cond.fieldLink "StaveScoreModel" (78 : Nat) "StaveScoreModel" "lineTo" "[I") ∈ lw_all := lw_g (lw_at lw_m6 28 rfl) rfl
theorem q1291 : (Jvm.Cond.fieldLink "StaveScoreModel" (286 : Nat) "StaveScoreModel" "walkMany" "I") ∈ lw_all := lw_g (lw_at lw_m6 29 rfl) rfl
theorem q1292 : (Jvm.Cond.fieldLink "StaveScoreModel" (81 : Nat) "StaveScoreModel" "walkRow" "[I") ∈ lw_all := lw_g (lw_at lw_m6 30 rfl) rfl
theorem q1293 : (Jvm.Cond.fieldLink "StaveScoreModel" (289 : Nat) "StaveScoreModel" "found" "I") ∈ lw_all := lw_g (lw_at lw_m6 31 rfl) rfl
theorem q1294 : (Jvm.Cond.fieldLink "StaveScoreModel" (84 : Nat) "StaveScoreModel" "findings" "[I") ∈ lw_all := lw_g (lw_at lw_m6 32 rfl) rfl
theorem q1295 : (Jvm.Cond.fieldLink "StaveScoreModel" (87 : Nat) "StaveScoreModel" "hasRack" "[Z") ∈ lw_all := lw_g (lw_at lw_m6 33 rfl) rfl
theorem q1296 : (Jvm.Cond.fieldLink "StaveScoreModel" (90 : Nat) "StaveScoreModel" "rackKind" "[I") ∈ lw_all := lw_g (lw_at lw_m6 34 rfl) rfl
theorem q1297 : (Jvm.Cond.fieldLink "StaveScoreModel" (93 : Nat) "StaveScoreModel" "rackSize" "[I") ∈ lw_all := lw_g (lw_at lw_m6 35 rfl) rfl
theorem q1298 : (Jvm.Cond.fieldLink "StaveScoreModel" (96 : Nat) "StaveScoreModel" "rackRow" "[I") ∈ lw_all := lw_g (lw_at lw_m6 36 rfl) rfl
theorem q1299 : (Jvm.Cond.fieldLink "StaveScoreModel" (99 : Nat) "StaveScoreModel" "slid" "[I") ∈ lw_all := lw_g (lw_at lw_m6 37 rfl) rfl
theorem q1300 : (Jvm.Cond.fieldLink "StaveScoreModel" (102 : Nat) "StaveScoreModel" "hasShelf" "[Z") ∈ lw_all := lw_g (lw_at lw_m6 38 rfl) rfl
theorem q1301 : (Jvm.Cond.fieldLink "StaveScoreModel" (105 : Nat) "StaveScoreModel" "shelfKind" "[I") ∈ lw_all := lw_g (lw_at lw_m6 39 rfl) rfl
theorem q1302 : (Jvm.Cond.fieldLink "StaveScoreModel" (108 : Nat) "StaveScoreModel" "shelfSize" "[I") ∈ lw_all := lw_g (lw_at lw_m6 40 rfl) rfl
theorem q1303 : (Jvm.Cond.fieldLink "StaveScoreModel" (111 : Nat) "StaveScoreModel" "shelfRow" "[I") ∈ lw_all := lw_g (lw_at lw_m6 41 rfl) rfl
theorem q1304 : (Jvm.Cond.fieldLink "StaveScoreModel" (114 : Nat) "StaveScoreModel" "copied" "[I") ∈ lw_all := lw_g (lw_at lw_m6 42 rfl) rfl
theorem q1305 : (Jvm.Cond.fieldLink "StaveScoreModel" (117 : Nat) "StaveScoreModel" "failed" "[I") ∈ lw_all := lw_g (lw_at lw_m6 43 rfl) rfl
theorem q1306 : (Jvm.Cond.fieldLink "StaveScoreModel" (127 : Nat) "StaveScoreModel" "status" "I") ∈ lw_all := lw_g (lw_at lw_m6 44 rfl) rfl
theorem q1307 : (Jvm.Cond.fieldLink "StaveScoreModel" (156 : Nat) "StaveScoreModel" "trace" "J") ∈ lw_all := lw_g (lw_at lw_m6 45 rfl) rfl
theorem q1308 : (Jvm.Cond.fieldLink "StaveScoreModel" (123 : Nat) "StaveScoreModel" "thrown" "I") ∈ lw_all := lw_g (lw_at lw_m6 46 rfl) rfl
theorem q1309 : (Jvm.Cond.fieldLink "StaveScoreModel" (120 : Nat) "StaveScoreModel" "walkTime" "[J") ∈ lw_all := lw_g (lw_at lw_m6 47 rfl) rfl
theorem q1310 : (Jvm.Cond.fieldLink "StaveScoreModel" (325 : Nat) "StaveScoreModel" "laid" "I") ∈ lw_all := lw_g (lw_at lw_m6 48 rfl) rfl
theorem q1311 : (Jvm.Cond.lays "StaveScoreModel" "StaveScoreModel" "parts" "I") ∈ lw_all := lw_g (lw_at lw_m6 49 rfl) rfl
theorem q1312 : (Jvm.Cond.soleField "StaveScoreModel" "parts") ∈ lw_all := lw_g (lw_at lw_m6 50 rfl) rfl
theorem q1313 : (Jvm.Cond.laysFinal "StaveScoreModel" "StaveScoreModel" "partKind" "[I") ∈ lw_all := lw_g (lw_at lw_m6 51 rfl) rfl
theorem q1314 : (Jvm.Cond.soleField "StaveScoreModel" "partKind") ∈ lw_all := lw_g (lw_at lw_m6 52 rfl) rfl
theorem q1315 : (Jvm.Cond.lays "StaveScoreModel" "StaveScoreModel" "bars" "I") ∈ lw_all := lw_g (lw_at lw_m6 53 rfl) rfl
theorem q1316 : (Jvm.Cond.soleField "StaveScoreModel" "bars") ∈ lw_all := lw_g (lw_at lw_m6 54 rfl) rfl
theorem q1317 : (Jvm.Cond.laysFinal "StaveScoreModel" "StaveScoreModel" "barTime" "[J") ∈ lw_all := lw_g (lw_at lw_m6 55 rfl) rfl
theorem q1318 : (Jvm.Cond.soleField "StaveScoreModel" "barTime") ∈ lw_all := lw_g (lw_at lw_m6 56 rfl) rfl
theorem q1319 : (Jvm.Cond.lays "StaveScoreModel" "StaveScoreModel" "ever" "I") ∈ lw_all := lw_g (lw_at lw_m6 57 rfl) rfl
theorem q1320 : (Jvm.Cond.soleField "StaveScoreModel" "ever") ∈ lw_all := lw_g (lw_at lw_m6 58 rfl) rfl
theorem q1321 : (Jvm.Cond.lays "StaveScoreModel" "StaveScoreModel" "there" "I") ∈ lw_all := lw_g (lw_at lw_m6 59 rfl) rfl
theorem q1322 : (Jvm.Cond.soleField "StaveScoreModel" "there") ∈ lw_all := lw_g (lw_at lw_m6 60 rfl) rfl
theorem q1323 : (Jvm.Cond.laysFinal "StaveScoreModel" "StaveScoreModel" "isThere" "[Z") ∈ lw_all := lw_g (lw_at lw_m6 61 rfl) rfl
theorem q1324 : (Jvm.Cond.soleField "StaveScoreModel" "isThere") ∈ lw_all := lw_g (lw_at lw_m6 62 rfl) rfl
theorem q1325 : (Jvm.Cond.laysFinal "StaveScoreModel" "StaveScoreModel" "voiceOf" "[I") ∈ lw_all := lw_g (lw_at lw_m6 63 rfl) rfl
theorem q1326 : (Jvm.Cond.soleField "StaveScoreModel" "voiceOf") ∈ lw_all := lw_g (lw_at lw_m6 64 rfl) rfl
theorem q1327 : (Jvm.Cond.laysFinal "StaveScoreModel" "StaveScoreModel" "kindOf" "[I") ∈ lw_all := lw_g (lw_at lw_m6 65 rfl) rfl
theorem q1328 : (Jvm.Cond.soleField "StaveScoreModel" "kindOf") ∈ lw_all := lw_g (lw_at lw_m6 66 rfl) rfl
theorem q1329 : (Jvm.Cond.laysFinal "StaveScoreModel" "StaveScoreModel" "pitches" "[I") ∈ lw_all := lw_g (lw_at lw_m6 67 rfl) rfl
theorem q1330 : (Jvm.Cond.soleField "StaveScoreModel" "pitches") ∈ lw_all := lw_g (lw_at lw_m6 68 rfl) rfl
theorem q1331 : (Jvm.Cond.laysFinal "StaveScoreModel" "StaveScoreModel" "pitchOf" "[I") ∈ lw_all := lw_g (lw_at lw_m6 69 rfl) rfl
theorem q1332 : (Jvm.Cond.soleField "StaveScoreModel" "pitchOf") ∈ lw_all := lw_g (lw_at lw_m6 70 rfl) rfl
theorem q1333 : (Jvm.Cond.laysFinal "StaveScoreModel" "StaveScoreModel" "valueOf" "[I") ∈ lw_all := lw_g (lw_at lw_m6 71 rfl) rfl
theorem q1334 : (Jvm.Cond.soleField "StaveScoreModel" "valueOf") ∈ lw_all := lw_g (lw_at lw_m6 72 rfl) rfl
theorem q1335 : (Jvm.Cond.laysFinal "StaveScoreModel" "StaveScoreModel" "dotsOf" "[I") ∈ lw_all := lw_g (lw_at lw_m6 73 rfl) rfl
theorem q1336 : (Jvm.Cond.soleField "StaveScoreModel" "dotsOf") ∈ lw_all := lw_g (lw_at lw_m6 74 rfl) rfl
theorem q1337 : (Jvm.Cond.laysFinal "StaveScoreModel" "StaveScoreModel" "isTied" "[Z") ∈ lw_all := lw_g (lw_at lw_m6 75 rfl) rfl
theorem q1338 : (Jvm.Cond.soleField "StaveScoreModel" "isTied") ∈ lw_all := lw_g (lw_at lw_m6 76 rfl) rfl
theorem q1339 : (Jvm.Cond.laysFinal "StaveScoreModel" "StaveScoreModel" "row" "[I") ∈ lw_all := lw_g (lw_at lw_m6 77 rfl) rfl
theorem q1340 : (Jvm.Cond.soleField "StaveScoreModel" "row") ∈ lw_all := lw_g (lw_at lw_m6 78 rfl) rfl
theorem q1341 : (Jvm.Cond.laysFinal "StaveScoreModel" "StaveScoreModel" "many" "[I") ∈ lw_all := lw_g (lw_at lw_m6 79 rfl) rfl
theorem q1342 : (Jvm.Cond.soleField "StaveScoreModel" "many") ∈ lw_all := lw_g (lw_at lw_m6 80 rfl) rfl
theorem q1343 : (Jvm.Cond.lays "StaveScoreModel" "StaveScoreModel" "tupletsEver" "I") ∈ lw_all := lw_g (lw_at lw_m6 81 rfl) rfl
theorem q1344 : (Jvm.Cond.soleField "StaveScoreModel" "tupletsEver") ∈ lw_all := lw_g (lw_at lw_m6 82 rfl) rfl
theorem q1345 : (Jvm.Cond.lays "StaveScoreModel" "StaveScoreModel" "tupletsThere" "I") ∈ lw_all := lw_g (lw_at lw_m6 83 rfl) rfl
theorem q1346 : (Jvm.Cond.soleField "StaveScoreModel" "tupletsThere") ∈ lw_all := lw_g (lw_at lw_m6 84 rfl) rfl
theorem q1347 : (Jvm.Cond.laysFinal "StaveScoreModel" "StaveScoreModel" "isTuplet" "[Z") ∈ lw_all := lw_g (lw_at lw_m6 85 rfl) rfl
theorem q1348 : (Jvm.Cond.soleField "StaveScoreModel" "isTuplet") ∈ lw_all := lw_g (lw_at lw_m6 86 rfl) rfl
theorem q1349 : (Jvm.Cond.laysFinal "StaveScoreModel" "StaveScoreModel" "tupletVoice" "[I") ∈ lw_all := lw_g (lw_at lw_m6 87 rfl) rfl
theorem q1350 : (Jvm.Cond.soleField "StaveScoreModel" "tupletVoice") ∈ lw_all := lw_g (lw_at lw_m6 88 rfl) rfl
theorem q1351 : (Jvm.Cond.laysFinal "StaveScoreModel" "StaveScoreModel" "tupletFirst" "[I") ∈ lw_all := lw_g (lw_at lw_m6 89 rfl) rfl
theorem q1352 : (Jvm.Cond.soleField "StaveScoreModel" "tupletFirst") ∈ lw_all := lw_g (lw_at lw_m6 90 rfl) rfl
theorem q1353 : (Jvm.Cond.laysFinal "StaveScoreModel" "StaveScoreModel" "tupletLast" "[I") ∈ lw_all := lw_g (lw_at lw_m6 91 rfl) rfl
theorem q1354 : (Jvm.Cond.soleField "StaveScoreModel" "tupletLast") ∈ lw_all := lw_g (lw_at lw_m6 92 rfl) rfl
theorem q1355 : (Jvm.Cond.laysFinal "StaveScoreModel" "StaveScoreModel" "tupletN" "[I") ∈ lw_all := lw_g (lw_at lw_m6 93 rfl) rfl
theorem q1356 : (Jvm.Cond.soleField "StaveScoreModel" "tupletN") ∈ lw_all := lw_g (lw_at lw_m6 94 rfl) rfl
theorem q1357 : (Jvm.Cond.laysFinal "StaveScoreModel" "StaveScoreModel" "tupletM" "[I") ∈ lw_all := lw_g (lw_at lw_m6 95 rfl) rfl
theorem q1358 : (Jvm.Cond.soleField "StaveScoreModel" "tupletM") ∈ lw_all := lw_g (lw_at lw_m6 96 rfl) rfl
theorem q1359 : (Jvm.Cond.laysFinal "StaveScoreModel" "StaveScoreModel" "tupletUnit" "[I") ∈ lw_all := lw_g (lw_at lw_m6 97 rfl) rfl
theorem q1360 : (Jvm.Cond.soleField "StaveScoreModel" "tupletUnit") ∈ lw_all := lw_g (lw_at lw_m6 98 rfl) rfl
theorem q1361 : (Jvm.Cond.lays "StaveScoreModel" "StaveScoreModel" "linesEver" "I") ∈ lw_all := lw_g (lw_at lw_m6 99 rfl) rfl
theorem q1362 : (Jvm.Cond.soleField "StaveScoreModel" "linesEver") ∈ lw_all := lw_g (lw_at lw_m6 100 rfl) rfl
theorem q1363 : (Jvm.Cond.lays "StaveScoreModel" "StaveScoreModel" "linesThere" "I") ∈ lw_all := lw_g (lw_at lw_m6 101 rfl) rfl
theorem q1364 : (Jvm.Cond.soleField "StaveScoreModel" "linesThere") ∈ lw_all := lw_g (lw_at lw_m6 102 rfl) rfl
theorem q1365 : (Jvm.Cond.laysFinal "StaveScoreModel" "StaveScoreModel" "isLine" "[Z") ∈ lw_all := lw_g (lw_at lw_m6 103 rfl) rfl
theorem q1366 : (Jvm.Cond.soleField "StaveScoreModel" "isLine") ∈ lw_all := lw_g (lw_at lw_m6 104 rfl) rfl
theorem q1367 : (Jvm.Cond.laysFinal "StaveScoreModel" "StaveScoreModel" "lineKind" "[I") ∈ lw_all := lw_g (lw_at lw_m6 105 rfl) rfl
theorem q1368 : (Jvm.Cond.soleField "StaveScoreModel" "lineKind") ∈ lw_all := lw_g (lw_at lw_m6 106 rfl) rfl
theorem q1369 : (Jvm.Cond.laysFinal "StaveScoreModel" "StaveScoreModel" "lineFrom" "[I") ∈ lw_all := lw_g (lw_at lw_m6 107 rfl) rfl
theorem q1370 : (Jvm.Cond.soleField "StaveScoreModel" "lineFrom") ∈ lw_all := lw_g (lw_at lw_m6 108 rfl) rfl
theorem q1371 : (Jvm.Cond.laysFinal "StaveScoreModel" "StaveScoreModel" "lineTo" "[I") ∈ lw_all := lw_g (lw_at lw_m6 109 rfl) rfl
theorem q1372 : (Jvm.Cond.soleField "StaveScoreModel" "lineTo") ∈ lw_all := lw_g (lw_at lw_m6 110 rfl) rfl
theorem q1373 : (Jvm.Cond.lays "StaveScoreModel" "StaveScoreModel" "walkMany" "I") ∈ lw_all := lw_g (lw_at lw_m6 111 rfl) rfl
theorem q1374 : (Jvm.Cond.soleField "StaveScoreModel" "walkMany") ∈ lw_all := lw_g (lw_at lw_m6 112 rfl) rfl
theorem q1375 : (Jvm.Cond.laysFinal "StaveScoreModel" "StaveScoreModel" "walkRow" "[I") ∈ lw_all := lw_g (lw_at lw_m6 113 rfl) rfl
theorem q1376 : (Jvm.Cond.soleField "StaveScoreModel" "walkRow") ∈ lw_all := lw_g (lw_at lw_m6 114 rfl) rfl
theorem q1377 : (Jvm.Cond.lays "StaveScoreModel" "StaveScoreModel" "found" "I") ∈ lw_all := lw_g (lw_at lw_m6 115 rfl) rfl
theorem q1378 : (Jvm.Cond.soleField "StaveScoreModel" "found") ∈ lw_all := lw_g (lw_at lw_m6 116 rfl) rfl
theorem q1379 : (Jvm.Cond.laysFinal "StaveScoreModel" "StaveScoreModel" "findings" "[I") ∈ lw_all := lw_g (lw_at lw_m6 117 rfl) rfl
theorem q1380 : (Jvm.Cond.soleField "StaveScoreModel" "findings") ∈ lw_all := lw_g (lw_at lw_m6 118 rfl) rfl
theorem q1381 : (Jvm.Cond.laysFinal "StaveScoreModel" "StaveScoreModel" "hasRack" "[Z") ∈ lw_all := lw_g (lw_at lw_m6 119 rfl) rfl
theorem q1382 : (Jvm.Cond.soleField "StaveScoreModel" "hasRack") ∈ lw_all := lw_g (lw_at lw_m6 120 rfl) rfl
theorem q1383 : (Jvm.Cond.laysFinal "StaveScoreModel" "StaveScoreModel" "rackKind" "[I") ∈ lw_all := lw_g (lw_at lw_m6 121 rfl) rfl
theorem q1384 : (Jvm.Cond.soleField "StaveScoreModel" "rackKind") ∈ lw_all := lw_g (lw_at lw_m6 122 rfl) rfl
theorem q1385 : (Jvm.Cond.laysFinal "StaveScoreModel" "StaveScoreModel" "rackSize" "[I") ∈ lw_all := lw_g (lw_at lw_m6 123 rfl) rfl
theorem q1386 : (Jvm.Cond.soleField "StaveScoreModel" "rackSize") ∈ lw_all := lw_g (lw_at lw_m6 124 rfl) rfl
theorem q1387 : (Jvm.Cond.laysFinal "StaveScoreModel" "StaveScoreModel" "rackRow" "[I") ∈ lw_all := lw_g (lw_at lw_m6 125 rfl) rfl
theorem q1388 : (Jvm.Cond.soleField "StaveScoreModel" "rackRow") ∈ lw_all := lw_g (lw_at lw_m6 126 rfl) rfl
theorem q1389 : (Jvm.Cond.laysFinal "StaveScoreModel" "StaveScoreModel" "slid" "[I") ∈ lw_all := lw_g (lw_at lw_m6 127 rfl) rfl
theorem q1390 : (Jvm.Cond.soleField "StaveScoreModel" "slid") ∈ lw_all := lw_g (lw_at lw_m6 128 rfl) rfl
theorem q1391 : (Jvm.Cond.laysFinal "StaveScoreModel" "StaveScoreModel" "hasShelf" "[Z") ∈ lw_all := lw_g (lw_at lw_m6 129 rfl) rfl
theorem q1392 : (Jvm.Cond.soleField "StaveScoreModel" "hasShelf") ∈ lw_all := lw_g (lw_at lw_m6 130 rfl) rfl
theorem q1393 : (Jvm.Cond.laysFinal "StaveScoreModel" "StaveScoreModel" "shelfKind" "[I") ∈ lw_all := lw_g (lw_at lw_m6 131 rfl) rfl
theorem q1394 : (Jvm.Cond.soleField "StaveScoreModel" "shelfKind") ∈ lw_all := lw_g (lw_at lw_m6 132 rfl) rfl
theorem q1395 : (Jvm.Cond.laysFinal "StaveScoreModel" "StaveScoreModel" "shelfSize" "[I") ∈ lw_all := lw_g (lw_at lw_m6 133 rfl) rfl
theorem q1396 : (Jvm.Cond.soleField "StaveScoreModel" "shelfSize") ∈ lw_all := lw_g (lw_at lw_m6 134 rfl) rfl
theorem q1397 : (Jvm.Cond.laysFinal "StaveScoreModel" "StaveScoreModel" "shelfRow" "[I") ∈ lw_all := lw_g (lw_at lw_m6 135 rfl) rfl
theorem q1398 : (Jvm.Cond.soleField "StaveScoreModel" "shelfRow") ∈ lw_all := lw_g (lw_at lw_m6 136 rfl) rfl
theorem q1399 : (Jvm.Cond.laysFinal "StaveScoreModel" "StaveScoreModel" "copied" "[I") ∈ lw_all := lw_g (lw_at lw_m6 137 rfl) rfl
theorem q1400 : (Jvm.Cond.soleField "StaveScoreModel" "copied") ∈ lw_all := lw_g (lw_at lw_m6 138 rfl) rfl
theorem q1401 : (Jvm.Cond.laysFinal "StaveScoreModel" "StaveScoreModel" "failed" "[I") ∈ lw_all := lw_g (lw_at lw_m6 139 rfl) rfl
theorem q1402 : (Jvm.Cond.soleField "StaveScoreModel" "failed") ∈ lw_all := lw_g (lw_at lw_m6 140 rfl) rfl
theorem q1403 : (Jvm.Cond.lays "StaveScoreModel" "StaveScoreModel" "status" "I") ∈ lw_all := lw_g (lw_at lw_m6 141 rfl) rfl
theorem q1404 : (Jvm.Cond.soleField "StaveScoreModel" "status") ∈ lw_all := lw_g (lw_at lw_m6 142 rfl) rfl
theorem q1405 : (Jvm.Cond.lays "StaveScoreModel" "StaveScoreModel" "trace" "J") ∈ lw_all := lw_g (lw_at lw_m6 143 rfl) rfl
theorem q1406 : (Jvm.Cond.soleField "StaveScoreModel" "trace") ∈ lw_all := lw_g (lw_at lw_m6 144 rfl) rfl
theorem q1407 : (Jvm.Cond.lays "StaveScoreModel" "StaveScoreModel" "thrown" "I") ∈ lw_all := lw_g (lw_at lw_m6 145 rfl) rfl
theorem q1408 : (Jvm.Cond.soleField "StaveScoreModel" "thrown") ∈ lw_all := lw_g (lw_at lw_m6 146 rfl) rfl
theorem q1409 : (Jvm.Cond.laysFinal "StaveScoreModel" "StaveScoreModel" "walkTime" "[J") ∈ lw_all := lw_g (lw_at lw_m6 147 rfl) rfl
theorem q1410 : (Jvm.Cond.soleField "StaveScoreModel" "walkTime") ∈ lw_all := lw_g (lw_at lw_m6 148 rfl) rfl
theorem q1411 : (Jvm.Cond.lays "StaveScoreModel" "StaveScoreModel" "laid" "I") ∈ lw_all := lw_g (lw_at lw_m6 149 rfl) rfl
theorem q1412 : (Jvm.Cond.soleField "StaveScoreModel" "laid") ∈ lw_all := lw_g (lw_at lw_m6 150 rfl) rfl
theorem q1413 : (Jvm.Cond.superclass "StaveScoreModel" "java/lang/Object") ∈ lw_all := lw_g (lw_at lw_m6 151 rfl) rfl
theorem q1417 : (Jvm.Cond.instanceMethod ({ cls := "StaveScoreModel", name := "part", desc := "(I)I" } : Jvm.MethodName)) ∈ lw_all := lw_g (lw_at lw_m6 155 rfl) rfl
theorem q1418 : (Jvm.Cond.selects "StaveScoreModel" ({ cls := "StaveScoreModel", name := "part", desc := "(I)I" } : Jvm.MethodName) ({ cls := "StaveScoreModel", name := "part", desc := "(I)I" } : Jvm.MethodName)) ∈ lw_all := lw_g (lw_at lw_m6 156 rfl) rfl
theorem q1419 : (Jvm.Cond.code ({ cls := "StaveScoreModel", name := "part", desc := "(I)I" } : Jvm.MethodName) prog_21_method_11_code (2 : Nat) (Option.some Jvm.ClassFile.FieldType.int)) ∈ lw_all := lw_g (lw_at lw_m6 157 rfl) rfl
theorem q1420 : (Jvm.Cond.methodLink "StaveScoreModel" (144 : Nat) ({ cls := "StaveScoreModel", name := "begin", desc := "()V" } : Jvm.MethodName)) ∈ lw_all := lw_g (lw_at lw_m6 158 rfl) rfl
theorem q1421 : (Jvm.Cond.privateMethod ({ cls := "StaveScoreModel", name := "begin", desc := "()V" } : Jvm.MethodName)) ∈ lw_tbl := lw_at lw_m6 159 rfl
theorem q1422 : (Jvm.Cond.instanceMethod ({ cls := "StaveScoreModel", name := "begin", desc := "()V" } : Jvm.MethodName)) ∈ lw_all := lw_g (lw_at lw_m6 160 rfl) rfl
theorem q1423 : (Jvm.Cond.code ({ cls := "StaveScoreModel", name := "begin", desc := "()V" } : Jvm.MethodName) prog_21_method_4_code (1 : Nat) (Option.none : Option Jvm.ClassFile.FieldType)) ∈ lw_all := lw_g (lw_at lw_m6 161 rfl) rfl
theorem q1424 : (Jvm.Cond.constantLong "StaveScoreModel" (147 : Nat) (5 : Int64)) ∈ lw_all := lw_g (lw_at lw_m6 162 rfl) rfl
theorem q1425 : (Jvm.Cond.methodLink "StaveScoreModel" (137 : Nat) ({ cls := "StaveScoreModel", name := "in", desc := "(JJJ)Z" } : Jvm.MethodName)) ∈ lw_all := lw_g (lw_at lw_m6 163 rfl) rfl
theorem q1426 : (Jvm.Cond.static ({ cls := "StaveScoreModel", name := "in", desc := "(JJJ)Z" } : Jvm.MethodName)) ∈ lw_all := lw_g (lw_at lw_m6 164 rfl) rfl
theorem q1427 : (Jvm.Cond.code ({ cls := "StaveScoreModel", name := "in", desc := "(JJJ)Z" } : Jvm.MethodName) prog_21_method_3_code (6 : Nat) (Option.some Jvm.ClassFile.FieldType.boolean)) ∈ lw_all := lw_g (lw_at lw_m6 165 rfl) rfl
theorem q1428 : (Jvm.Cond.methodLink "StaveScoreModel" (130 : Nat) ({ cls := "StaveScoreModel", name := "no", desc := "(I)I" } : Jvm.MethodName)) ∈ lw_all := lw_g (lw_at lw_m6 166 rfl) rfl
theorem q1429 : (Jvm.Cond.privateMethod ({ cls := "StaveScoreModel", name := "no", desc := "(I)I" } : Jvm.MethodName)) ∈ lw_tbl := lw_at lw_m6 167 rfl
theorem q1430 : (Jvm.Cond.instanceMethod ({ cls := "StaveScoreModel", name := "no", desc := "(I)I" } : Jvm.MethodName)) ∈ lw_all := lw_g (lw_at lw_m6 168 rfl) rfl
theorem q1431 : (Jvm.Cond.code ({ cls := "StaveScoreModel", name := "no", desc := "(I)I" } : Jvm.MethodName) prog_21_method_5_code (2 : Nat) (Option.some Jvm.ClassFile.FieldType.int)) ∈ lw_all := lw_g (lw_at lw_m6 169 rfl) rfl
theorem q1433 : (Jvm.Cond.instanceMethod ({ cls := "StaveScoreModel", name := "bar", desc := "(II)I" } : Jvm.MethodName)) ∈ lw_all := lw_g (lw_at lw_m6 171 rfl) rfl
theorem q1434 : (Jvm.Cond.selects "StaveScoreModel" ({ cls := "StaveScoreModel", name := "bar", desc := "(II)I" } : Jvm.MethodName) ({ cls := "StaveScoreModel", name := "bar", desc := "(II)I" } : Jvm.MethodName)) ∈ lw_all := lw_g (lw_at lw_m6 172 rfl) rfl
theorem q1435 : (Jvm.Cond.code ({ cls := "StaveScoreModel", name := "bar", desc := "(II)I" } : Jvm.MethodName) prog_21_method_12_code (4 : Nat) (Option.some Jvm.ClassFile.FieldType.int)) ∈ lw_all := lw_g (lw_at lw_m6 173 rfl) rfl
theorem q1436 : (Jvm.Cond.constantLong "StaveScoreModel" (149 : Nat) (64 : Int64)) ∈ lw_all := lw_g (lw_at lw_m6 174 rfl) rfl
theorem q1437 : (Jvm.Cond.constantLong "StaveScoreModel" (154 : Nat) (5644800 : Int64)) ∈ lw_all := lw_g (lw_at lw_m6 175 rfl) rfl
theorem q1439 : (Jvm.Cond.instanceMethod ({ cls := "StaveScoreModel", name := "asks", desc := "(III)I" } : Jvm.MethodName)) ∈ lw_all := lw_g (lw_at lw_m6 177 rfl) rfl
theorem q1440 : (Jvm.Cond.selects "StaveScoreModel" ({ cls := "StaveScoreModel", name := "asks", desc := "(III)I" } : Jvm.MethodName) ({ cls := "StaveScoreModel", name := "asks", desc := "(III)I" } : Jvm.MethodName)) ∈ lw_all := lw_g (lw_at lw_m6 178 rfl) rfl
theorem q1441 : (Jvm.Cond.code ({ cls := "StaveScoreModel", name := "asks", desc := "(III)I" } : Jvm.MethodName) prog_21_method_16_code (5 : Nat) (Option.some Jvm.ClassFile.FieldType.int)) ∈ lw_all := lw_g (lw_at lw_m6 179 rfl) rfl
theorem q1442 : (Jvm.Cond.constantLong "StaveScoreModel" (170 : Nat) (2 : Int64)) ∈ lw_all := lw_g (lw_at lw_m6 180 rfl) rfl
theorem q1443 : (Jvm.Cond.methodLink "StaveScoreModel" (174 : Nat) ({ cls := "StaveScoreModel", name := "sounds", desc := "(II)I" } : Jvm.MethodName)) ∈ lw_all := lw_g (lw_at lw_m6 181 rfl) rfl
theorem q1444 : (Jvm.Cond.privateMethod ({ cls := "StaveScoreModel", name := "sounds", desc := "(II)I" } : Jvm.MethodName)) ∈ lw_tbl := lw_at lw_m6 182 rfl
theorem q1445 : (Jvm.Cond.instanceMethod ({ cls := "StaveScoreModel", name := "sounds", desc := "(II)I" } : Jvm.MethodName)) ∈ lw_all := lw_g (lw_at lw_m6 183 rfl) rfl
theorem q1446 : (Jvm.Cond.code ({ cls := "StaveScoreModel", name := "sounds", desc := "(II)I" } : Jvm.MethodName) prog_21_method_13_code (3 : Nat) (Option.some Jvm.ClassFile.FieldType.int)) ∈ lw_all := lw_g (lw_at lw_m6 184 rfl) rfl
theorem q1447 : (Jvm.Cond.constantLong "StaveScoreModel" (160 : Nat) (11 : Int64)) ∈ lw_all := lw_g (lw_at lw_m6 185 rfl) rfl
theorem q1448 : (Jvm.Cond.constantLong "StaveScoreModel" (162 : Nat) (101 : Int64)) ∈ lw_all := lw_g (lw_at lw_m6 186 rfl) rfl
theorem q1449 : (Jvm.Cond.constantLong "StaveScoreModel" (164 : Nat) (1101 : Int64)) ∈ lw_all := lw_g (lw_at lw_m6 187 rfl) rfl
theorem q1450 : (Jvm.Cond.constantLong "StaveScoreModel" (166 : Nat) (10000 : Int64)) ∈ lw_all := lw_g (lw_at lw_m6 188 rfl) rfl
theorem q1451 : (Jvm.Cond.methodLink "StaveScoreModel" (178 : Nat) ({ cls := "StaveScoreModel", name := "leastOf", desc := "(I)I" } : Jvm.MethodName)) ∈ lw_all := lw_g (lw_at lw_m6 189 rfl) rfl
theorem q1452 : (Jvm.Cond.privateMethod ({ cls := "StaveScoreModel", name := "leastOf", desc := "(I)I" } : Jvm.MethodName)) ∈ lw_tbl := lw_at lw_m6 190 rfl
theorem q1453 : (Jvm.Cond.instanceMethod ({ cls := "StaveScoreModel", name := "leastOf", desc := "(I)I" } : Jvm.MethodName)) ∈ lw_all := lw_g (lw_at lw_m6 191 rfl) rfl
theorem q1454 : (Jvm.Cond.code ({ cls := "StaveScoreModel", name := "leastOf", desc := "(I)I" } : Jvm.MethodName) prog_21_method_14_code (2 : Nat) (Option.some Jvm.ClassFile.FieldType.int)) ∈ lw_all := lw_g (lw_at lw_m6 192 rfl) rfl
theorem q1455 : (Jvm.Cond.constantLong "StaveScoreModel" (168 : Nat) (100000 : Int64)) ∈ lw_all := lw_g (lw_at lw_m6 193 rfl) rfl
theorem q1456 : (Jvm.Cond.methodLink "StaveScoreModel" (181 : Nat) ({ cls := "StaveScoreModel", name := "mostOf", desc := "(I)I" } : Jvm.MethodName)) ∈ lw_all := lw_g (lw_at lw_m6 194 rfl) rfl
theorem q1457 : (Jvm.Cond.static ({ cls := "StaveScoreModel", name := "mostOf", desc := "(I)I" } : Jvm.MethodName)) ∈ lw_all := lw_g (lw_at lw_m6 195 rfl) rfl
theorem q1458 : (Jvm.Cond.code ({ cls := "StaveScoreModel", name := "mostOf", desc := "(I)I" } : Jvm.MethodName) prog_21_method_15_code (1 : Nat) (Option.some Jvm.ClassFile.FieldType.int)) ∈ lw_all := lw_g (lw_at lw_m6 196 rfl) rfl
theorem q1459 : (Jvm.Cond.constantLong "StaveScoreModel" (172 : Nat) (4 : Int64)) ∈ lw_all := lw_g (lw_at lw_m6 197 rfl) rfl
theorem q1461 : (Jvm.Cond.instanceMethod ({ cls := "StaveScoreModel", name := "put", desc := "(IIIIII)I" } : Jvm.MethodName)) ∈ lw_all := lw_g (lw_at lw_m6 199 rfl) rfl
theorem q1462 : (Jvm.Cond.selects "StaveScoreModel" ({ cls := "StaveScoreModel", name := "put", desc := "(IIIIII)I" } : Jvm.MethodName) ({ cls := "StaveScoreModel", name := "put", desc := "(IIIIII)I" } : Jvm.MethodName)) ∈ lw_all := lw_g (lw_at lw_m6 200 rfl) rfl
theorem q1463 : (Jvm.Cond.code ({ cls := "StaveScoreModel", name := "put", desc := "(IIIIII)I" } : Jvm.MethodName) prog_21_method_17_code (9 : Nat) (Option.some Jvm.ClassFile.FieldType.int)) ∈ lw_all := lw_g (lw_at lw_m6 201 rfl) rfl
theorem q1464 : (Jvm.Cond.methodLink "StaveScoreModel" (184 : Nat) ({ cls := "StaveScoreModel", name := "isVoice", desc := "(I)Z" } : Jvm.MethodName)) ∈ lw_all := lw_g (lw_at lw_m6 202 rfl) rfl
theorem q1465 : (Jvm.Cond.privateMethod ({ cls := "StaveScoreModel", name := "isVoice", desc := "(I)Z" } : Jvm.MethodName)) ∈ lw_tbl := lw_at lw_m6 203 rfl
theorem q1466 : (Jvm.Cond.instanceMethod ({ cls := "StaveScoreModel", name := "isVoice", desc := "(I)Z" } : Jvm.MethodName)) ∈ lw_all := lw_g (lw_at lw_m6 204 rfl) rfl
theorem q1467 : (Jvm.Cond.code ({ cls := "StaveScoreModel", name := "isVoice", desc := "(I)Z" } : Jvm.MethodName) prog_21_method_7_code (2 : Nat) (Option.some Jvm.ClassFile.FieldType.boolean)) ∈ lw_all := lw_g (lw_at lw_m6 205 rfl) rfl
theorem q1468 : (Jvm.Cond.constantLong "StaveScoreModel" (188 : Nat) (127 : Int64)) ∈ lw_all := lw_g (lw_at lw_m6 206 rfl) rfl
theorem q1470 : (Jvm.Cond.instanceMethod ({ cls := "StaveScoreModel", name := "drop", desc := "(I)I" } : Jvm.MethodName)) ∈ lw_all := lw_g (lw_at lw_m6 208 rfl) rfl
theorem q1471 : (Jvm.Cond.selects "StaveScoreModel" ({ cls := "StaveScoreModel", name := "drop", desc := "(I)I" } : Jvm.MethodName) ({ cls := "StaveScoreModel", name := "drop", desc := "(I)I" } : Jvm.MethodName)) ∈ lw_all := lw_g (lw_at lw_m6 209 rfl) rfl
theorem q1472 : (Jvm.Cond.code ({ cls := "StaveScoreModel", name := "drop", desc := "(I)I" } : Jvm.MethodName) prog_21_method_18_code (5 : Nat) (Option.some Jvm.ClassFile.FieldType.int)) ∈ lw_all := lw_g (lw_at lw_m6 210 rfl) rfl
theorem q1473 : (Jvm.Cond.methodLink "StaveScoreModel" (193 : Nat) ({ cls := "StaveScoreModel", name := "isEvent", desc := "(I)Z" } : Jvm.MethodName)) ∈ lw_all := lw_g (lw_at lw_m6 211 rfl) rfl
theorem q1474 : (Jvm.Cond.privateMethod ({ cls := "StaveScoreModel", name := "isEvent", desc := "(I)Z" } : Jvm.MethodName)) ∈ lw_tbl := lw_at lw_m6 212 rfl
theorem q1475 : (Jvm.Cond.instanceMethod ({ cls := "StaveScoreModel", name := "isEvent", desc := "(I)Z" } : Jvm.MethodName)) ∈ lw_all := lw_g (lw_at lw_m6 213 rfl) rfl
theorem q1476 : (Jvm.Cond.code ({ cls := "StaveScoreModel", name := "isEvent", desc := "(I)Z" } : Jvm.MethodName) prog_21_method_8_code (2 : Nat) (Option.some Jvm.ClassFile.FieldType.boolean)) ∈ lw_all := lw_g (lw_at lw_m6 214 rfl) rfl
theorem q1477 : (Jvm.Cond.methodLink "StaveScoreModel" (196 : Nat) ({ cls := "StaveScoreModel", name := "placeOf", desc := "(I)I" } : Jvm.MethodName)) ∈ lw_all := lw_g (lw_at lw_m6 215 rfl) rfl
theorem q1478 : (Jvm.Cond.privateMethod ({ cls := "StaveScoreModel", name := "placeOf", desc := "(I)I" } : Jvm.MethodName)) ∈ lw_tbl := lw_at lw_m6 216 rfl
theorem q1479 : (Jvm.Cond.instanceMethod ({ cls := "StaveScoreModel", name := "placeOf", desc := "(I)I" } : Jvm.MethodName)) ∈ lw_all := lw_g (lw_at lw_m6 217 rfl) rfl
theorem q1480 : (Jvm.Cond.code ({ cls := "StaveScoreModel", name := "placeOf", desc := "(I)I" } : Jvm.MethodName) prog_21_method_10_code (4 : Nat) (Option.some Jvm.ClassFile.FieldType.int)) ∈ lw_all := lw_g (lw_at lw_m6 218 rfl) rfl
theorem q1482 : (Jvm.Cond.instanceMethod ({ cls := "StaveScoreModel", name := "chord", desc := "(II)I" } : Jvm.MethodName)) ∈ lw_all := lw_g (lw_at lw_m6 220 rfl) rfl
theorem q1483 : (Jvm.Cond.selects "StaveScoreModel" ({ cls := "StaveScoreModel", name := "chord", desc := "(II)I" } : Jvm.MethodName) ({ cls := "StaveScoreModel", name := "chord", desc := "(II)I" } : Jvm.MethodName)) ∈ lw_all := lw_g (lw_at lw_m6 221 rfl) rfl
theorem q1484 : (Jvm.Cond.code ({ cls := "StaveScoreModel", name := "chord", desc := "(II)I" } : Jvm.MethodName) prog_21_method_19_code (4 : Nat) (Option.some Jvm.ClassFile.FieldType.int)) ∈ lw_all := lw_g (lw_at lw_m6 222 rfl) rfl
theorem q1485 : (Jvm.Cond.methodLink "StaveScoreModel" (211 : Nat) ({ cls := "StaveScoreModel", name := "fails", desc := "(I)I" } : Jvm.MethodName)) ∈ lw_all := lw_g (lw_at lw_m6 223 rfl) rfl
theorem q1486 : (Jvm.Cond.privateMethod ({ cls := "StaveScoreModel", name := "fails", desc := "(I)I" } : Jvm.MethodName)) ∈ lw_tbl := lw_at lw_m6 224 rfl
theorem q1487 : (Jvm.Cond.instanceMethod ({ cls := "StaveScoreModel", name := "fails", desc := "(I)I" } : Jvm.MethodName)) ∈ lw_all := lw_g (lw_at lw_m6 225 rfl) rfl
theorem q1488 : (Jvm.Cond.code ({ cls := "StaveScoreModel", name := "fails", desc := "(I)I" } : Jvm.MethodName) prog_21_method_6_code (2 : Nat) (Option.some Jvm.ClassFile.FieldType.int)) ∈ lw_all := lw_g (lw_at lw_m6 226 rfl) rfl
theorem q1490 : (Jvm.Cond.instanceMethod ({ cls := "StaveScoreModel", name := "pitch", desc := "(II)I" } : Jvm.MethodName)) ∈ lw_all := lw_g (lw_at lw_m6 228 rfl) rfl
theorem q1491 : (Jvm.Cond.selects "StaveScoreModel" ({ cls := "StaveScoreModel", name := "pitch", desc := "(II)I" } : Jvm.MethodName) ({ cls := "StaveScoreModel", name := "pitch", desc := "(II)I" } : Jvm.MethodName)) ∈ lw_all := lw_g (lw_at lw_m6 229 rfl) rfl
theorem q1492 : (Jvm.Cond.code ({ cls := "StaveScoreModel", name := "pitch", desc := "(II)I" } : Jvm.MethodName) prog_21_method_20_code (3 : Nat) (Option.some Jvm.ClassFile.FieldType.int)) ∈ lw_all := lw_g (lw_at lw_m6 230 rfl) rfl
theorem q1493 : (Jvm.Cond.methodLink "StaveScoreModel" (214 : Nat) ({ cls := "StaveScoreModel", name := "isNote", desc := "(I)Z" } : Jvm.MethodName)) ∈ lw_all := lw_g (lw_at lw_m6 231 rfl) rfl
theorem q1494 : (Jvm.Cond.privateMethod ({ cls := "StaveScoreModel", name := "isNote", desc := "(I)Z" } : Jvm.MethodName)) ∈ lw_tbl := lw_at lw_m6 232 rfl
theorem q1495 : (Jvm.Cond.instanceMethod ({ cls := "StaveScoreModel", name := "isNote", desc := "(I)Z" } : Jvm.MethodName)) ∈ lw_all := lw_g (lw_at lw_m6 233 rfl) rfl
theorem q1496 : (Jvm.Cond.code ({ cls := "StaveScoreModel", name := "isNote", desc := "(I)Z" } : Jvm.MethodName) prog_21_method_9_code (2 : Nat) (Option.some Jvm.ClassFile.FieldType.boolean)) ∈ lw_all := lw_g (lw_at lw_m6 234 rfl) rfl
theorem q1498 : (Jvm.Cond.instanceMethod ({ cls := "StaveScoreModel", name := "heard", desc := "(II)I" } : Jvm.MethodName)) ∈ lw_all := lw_g (lw_at lw_m6 236 rfl) rfl
theorem q1499 : (Jvm.Cond.selects "StaveScoreModel" ({ cls := "StaveScoreModel", name := "heard", desc := "(II)I" } : Jvm.MethodName) ({ cls := "StaveScoreModel", name := "heard", desc := "(II)I" } : Jvm.MethodName)) ∈ lw_all := lw_g (lw_at lw_m6 237 rfl) rfl
theorem q1500 : (Jvm.Cond.code ({ cls := "StaveScoreModel", name := "heard", desc := "(II)I" } : Jvm.MethodName) prog_21_method_23_code (4 : Nat) (Option.some Jvm.ClassFile.FieldType.int)) ∈ lw_all := lw_g (lw_at lw_m6 238 rfl) rfl
theorem q1501 : (Jvm.Cond.methodLink "StaveScoreModel" (220 : Nat) ({ cls := "StaveScoreModel", name := "heardOf", desc := "(II)I" } : Jvm.MethodName)) ∈ lw_all := lw_g (lw_at lw_m6 239 rfl) rfl
theorem q1502 : (Jvm.Cond.privateMethod ({ cls := "StaveScoreModel", name := "heardOf", desc := "(II)I" } : Jvm.MethodName)) ∈ lw_tbl := lw_at lw_m7 0 rfl
theorem q1503 : (Jvm.Cond.instanceMethod ({ cls := "StaveScoreModel", name := "heardOf", desc := "(II)I" } : Jvm.MethodName)) ∈ lw_all := lw_g (lw_at lw_m7 1 rfl) rfl
theorem q1504 : (Jvm.Cond.code ({ cls := "StaveScoreModel", name := "heardOf", desc := "(II)I" } : Jvm.MethodName) prog_21_method_22_code (3 : Nat) (Option.some Jvm.ClassFile.FieldType.int)) ∈ lw_all := lw_g (lw_at lw_m7 2 rfl) rfl
theorem q1505 : (Jvm.Cond.methodLink "StaveScoreModel" (217 : Nat) ({ cls := "StaveScoreModel", name := "liftOf", desc := "(I)I" } : Jvm.MethodName)) ∈ lw_all := lw_g (lw_at lw_m7 3 rfl) rfl
theorem q1506 : (Jvm.Cond.privateMethod ({ cls := "StaveScoreModel", name := "liftOf", desc := "(I)I" } : Jvm.MethodName)) ∈ lw_tbl := lw_at lw_m7 4 rfl
theorem q1507 : (Jvm.Cond.instanceMethod ({ cls := "StaveScoreModel", name := "liftOf", desc := "(I)I" } : Jvm.MethodName)) ∈ lw_all := lw_g (lw_at lw_m7 5 rfl) rfl
theorem q1508 : (Jvm.Cond.code ({ cls := "StaveScoreModel", name := "liftOf", desc := "(I)I" } : Jvm.MethodName) prog_21_method_21_code (5 : Nat) (Option.some Jvm.ClassFile.FieldType.int)) ∈ lw_all := lw_g (lw_at lw_m7 6 rfl) rfl
theorem q1510 : (Jvm.Cond.instanceMethod ({ cls := "StaveScoreModel", name := "shift", desc := "(II)I" } : Jvm.MethodName)) ∈ lw_all := lw_g (lw_at lw_m7 8 rfl) rfl
theorem q1511 : (Jvm.Cond.selects "StaveScoreModel" ({ cls := "StaveScoreModel", name := "shift", desc := "(II)I" } : Jvm.MethodName) ({ cls := "StaveScoreModel", name := "shift", desc := "(II)I" } : Jvm.MethodName)) ∈ lw_all := lw_g (lw_at lw_m7 9 rfl) rfl
theorem q1512 : (Jvm.Cond.code ({ cls := "StaveScoreModel", name := "shift", desc := "(II)I" } : Jvm.MethodName) prog_21_method_26_code (3 : Nat) (Option.some Jvm.ClassFile.FieldType.int)) ∈ lw_all := lw_g (lw_at lw_m7 10 rfl) rfl
theorem q1513 : (Jvm.Cond.methodLink "StaveScoreModel" (223 : Nat) ({ cls := "StaveScoreModel", name := "mayShift", desc := "(IJ)Z" } : Jvm.MethodName)) ∈ lw_all := lw_g (lw_at lw_m7 11 rfl) rfl
theorem q1514 : (Jvm.Cond.privateMethod ({ cls := "StaveScoreModel", name := "mayShift", desc := "(IJ)Z" } : Jvm.MethodName)) ∈ lw_tbl := lw_at lw_m7 12 rfl
theorem q1515 : (Jvm.Cond.instanceMethod ({ cls := "StaveScoreModel", name := "mayShift", desc := "(IJ)Z" } : Jvm.MethodName)) ∈ lw_all := lw_g (lw_at lw_m7 13 rfl) rfl
theorem q1516 : (Jvm.Cond.code ({ cls := "StaveScoreModel", name := "mayShift", desc := "(IJ)Z" } : Jvm.MethodName) prog_21_method_24_code (4 : Nat) (Option.some Jvm.ClassFile.FieldType.boolean)) ∈ lw_all := lw_g (lw_at lw_m7 14 rfl) rfl
theorem q1517 : (Jvm.Cond.methodLink "StaveScoreModel" (227 : Nat) ({ cls := "StaveScoreModel", name := "shifts", desc := "(II)V" } : Jvm.MethodName)) ∈ lw_all := lw_g (lw_at lw_m7 15 rfl) rfl
theorem q1518 : (Jvm.Cond.privateMethod ({ cls := "StaveScoreModel", name := "shifts", desc := "(II)V" } : Jvm.MethodName)) ∈ lw_tbl := lw_at lw_m7 16 rfl
theorem q1519 : (Jvm.Cond.instanceMethod ({ cls := "StaveScoreModel", name := "shifts", desc := "(II)V" } : Jvm.MethodName)) ∈ lw_all := lw_g (lw_at lw_m7 17 rfl) rfl
theorem q1520 : (Jvm.Cond.code ({ cls := "StaveScoreModel", name := "shifts", desc := "(II)V" } : Jvm.MethodName) prog_21_method_25_code (4 : Nat) (Option.none : Option Jvm.ClassFile.FieldType)) ∈ lw_all := lw_g (lw_at lw_m7 18 rfl) rfl
theorem q1522 : (Jvm.Cond.instanceMethod ({ cls := "StaveScoreModel", name := "transpose", desc := "(II)I" } : Jvm.MethodName)) ∈ lw_all := lw_g (lw_at lw_m7 20 rfl) rfl
theorem q1523 : (Jvm.Cond.selects "StaveScoreModel" ({ cls := "StaveScoreModel", name := "transpose", desc := "(II)I" } : Jvm.MethodName) ({ cls := "StaveScoreModel", name := "transpose", desc := "(II)I" } : Jvm.MethodName)) ∈ lw_all := lw_g (lw_at lw_m7 21 rfl) rfl
theorem q1524 : (Jvm.Cond.code ({ cls := "StaveScoreModel", name := "transpose", desc := "(II)I" } : Jvm.MethodName) prog_21_method_27_code (7 : Nat) (Option.some Jvm.ClassFile.FieldType.int)) ∈ lw_all := lw_g (lw_at lw_m7 22 rfl) rfl
theorem q1526 : (Jvm.Cond.instanceMethod ({ cls := "StaveScoreModel", name := "tie", desc := "(IZ)I" } : Jvm.MethodName)) ∈ lw_all := lw_g (lw_at lw_m7 24 rfl) rfl
theorem q1527 : (Jvm.Cond.selects "StaveScoreModel" ({ cls := "StaveScoreModel", name := "tie", desc := "(IZ)I" } : Jvm.MethodName) ({ cls := "StaveScoreModel", name := "tie", desc := "(IZ)I" } : Jvm.MethodName)) ∈ lw_all := lw_g (lw_at lw_m7 25 rfl) rfl
theorem q1528 : (Jvm.Cond.code ({ cls := "StaveScoreModel", name := "tie", desc := "(IZ)I" } : Jvm.MethodName) prog_21_method_28_code (4 : Nat) (Option.some Jvm.ClassFile.FieldType.int)) ∈ lw_all := lw_g (lw_at lw_m7 26 rfl) rfl
theorem q1530 : (Jvm.Cond.instanceMethod ({ cls := "StaveScoreModel", name := "value", desc := "(III)I" } : Jvm.MethodName)) ∈ lw_all := lw_g (lw_at lw_m7 28 rfl) rfl
theorem q1531 : (Jvm.Cond.selects "StaveScoreModel" ({ cls := "StaveScoreModel", name := "value", desc := "(III)I" } : Jvm.MethodName) ({ cls := "StaveScoreModel", name := "value", desc := "(III)I" } : Jvm.MethodName)) ∈ lw_all := lw_g (lw_at lw_m7 29 rfl) rfl
theorem q1532 : (Jvm.Cond.code ({ cls := "StaveScoreModel", name := "value", desc := "(III)I" } : Jvm.MethodName) prog_21_method_29_code (4 : Nat) (Option.some Jvm.ClassFile.FieldType.int)) ∈ lw_all := lw_g (lw_at lw_m7 30 rfl) rfl
theorem q1534 : (Jvm.Cond.instanceMethod ({ cls := "StaveScoreModel", name := "at", desc := "(II)I" } : Jvm.MethodName)) ∈ lw_all := lw_g (lw_at lw_m7 32 rfl) rfl
theorem q1535 : (Jvm.Cond.selects "StaveScoreModel" ({ cls := "StaveScoreModel", name := "at", desc := "(II)I" } : Jvm.MethodName) ({ cls := "StaveScoreModel", name := "at", desc := "(II)I" } : Jvm.MethodName)) ∈ lw_all := lw_g (lw_at lw_m7 33 rfl) rfl
theorem q1536 : (Jvm.Cond.code ({ cls := "StaveScoreModel", name := "at", desc := "(II)I" } : Jvm.MethodName) prog_21_method_39_code (3 : Nat) (Option.some Jvm.ClassFile.FieldType.int)) ∈ lw_all := lw_g (lw_at lw_m7 34 rfl) rfl
theorem q1537 : (Jvm.Cond.constantLong "StaveScoreModel" (253 : Nat) (8 : Int64)) ∈ lw_all := lw_g (lw_at lw_m7 35 rfl) rfl
theorem q1538 : (Jvm.Cond.methodLink "StaveScoreModel" (255 : Nat) ({ cls := "StaveScoreModel", name := "tupletsOf", desc := "(I)I" } : Jvm.MethodName)) ∈ lw_all := lw_g (lw_at lw_m7 36 rfl) rfl
theorem q1539 : (Jvm.Cond.privateMethod ({ cls := "StaveScoreModel", name := "tupletsOf", desc := "(I)I" } : Jvm.MethodName)) ∈ lw_tbl := lw_at lw_m7 37 rfl
theorem q1540 : (Jvm.Cond.instanceMethod ({ cls := "StaveScoreModel", name := "tupletsOf", desc := "(I)I" } : Jvm.MethodName)) ∈ lw_all := lw_g (lw_at lw_m7 38 rfl) rfl
theorem q1541 : (Jvm.Cond.code ({ cls := "StaveScoreModel", name := "tupletsOf", desc := "(I)I" } : Jvm.MethodName) prog_21_method_40_code (4 : Nat) (Option.some Jvm.ClassFile.FieldType.int)) ∈ lw_all := lw_g (lw_at lw_m7 39 rfl) rfl
theorem q1542 : (Jvm.Cond.methodLink "StaveScoreModel" (239 : Nat) ({ cls := "StaveScoreModel", name := "liesIn", desc := "(II)Z" } : Jvm.MethodName)) ∈ lw_all := lw_g (lw_at lw_m7 40 rfl) rfl
theorem q1543 : (Jvm.Cond.privateMethod ({ cls := "StaveScoreModel", name := "liesIn", desc := "(II)Z" } : Jvm.MethodName)) ∈ lw_tbl := lw_at lw_m7 41 rfl
theorem q1544 : (Jvm.Cond.instanceMethod ({ cls := "StaveScoreModel", name := "liesIn", desc := "(II)Z" } : Jvm.MethodName)) ∈ lw_all := lw_g (lw_at lw_m7 42 rfl) rfl
theorem q1545 : (Jvm.Cond.code ({ cls := "StaveScoreModel", name := "liesIn", desc := "(II)Z" } : Jvm.MethodName) prog_21_method_31_code (4 : Nat) (Option.some Jvm.ClassFile.FieldType.boolean)) ∈ lw_all := lw_g (lw_at lw_m7 43 rfl) rfl
theorem q1546 : (Jvm.Cond.methodLink "StaveScoreModel" (258 : Nat) ({ cls := "StaveScoreModel", name := "beginOf", desc := "(I)J" } : Jvm.MethodName)) ∈ lw_all := lw_g (lw_at lw_m7 44 rfl) rfl
theorem q1547 : (Jvm.Cond.privateMethod ({ cls := "StaveScoreModel", name := "beginOf", desc := "(I)J" } : Jvm.MethodName)) ∈ lw_tbl := lw_at lw_m7 45 rfl
theorem q1548 : (Jvm.Cond.instanceMethod ({ cls := "StaveScoreModel", name := "beginOf", desc := "(I)J" } : Jvm.MethodName)) ∈ lw_all := lw_g (lw_at lw_m7 46 rfl) rfl
theorem q1549 : (Jvm.Cond.code ({ cls := "StaveScoreModel", name := "beginOf", desc := "(I)J" } : Jvm.MethodName) prog_21_method_33_code (6 : Nat) (Option.some Jvm.ClassFile.FieldType.long)) ∈ lw_all := lw_g (lw_at lw_m7 47 rfl) rfl
theorem q1550 : (Jvm.Cond.methodLink "StaveScoreModel" (243 : Nat) ({ cls := "StaveScoreModel", name := "timeOf", desc := "(I)J" } : Jvm.MethodName)) ∈ lw_all := lw_g (lw_at lw_m7 48 rfl) rfl
theorem q1551 : (Jvm.Cond.privateMethod ({ cls := "StaveScoreModel", name := "timeOf", desc := "(I)J" } : Jvm.MethodName)) ∈ lw_tbl := lw_at lw_m7 49 rfl
theorem q1552 : (Jvm.Cond.instanceMethod ({ cls := "StaveScoreModel", name := "timeOf", desc := "(I)J" } : Jvm.MethodName)) ∈ lw_all := lw_g (lw_at lw_m7 50 rfl) rfl
theorem q1553 : (Jvm.Cond.code ({ cls := "StaveScoreModel", name := "timeOf", desc := "(I)J" } : Jvm.MethodName) prog_21_method_32_code (5 : Nat) (Option.some Jvm.ClassFile.FieldType.long)) ∈ lw_all := lw_g (lw_at lw_m7 51 rfl) rfl
theorem q1554 : (Jvm.Cond.methodLink "StaveScoreModel" (235 : Nat) ({ cls := "StaveScoreModel", name := "writtenOf", desc := "(I)J" } : Jvm.MethodName)) ∈ lw_all := lw_g (lw_at lw_m7 52 rfl) rfl
theorem q1555 : (Jvm.Cond.privateMethod ({ cls := "StaveScoreModel", name := "writtenOf", desc := "(I)J" } : Jvm.MethodName)) ∈ lw_tbl := lw_at lw_m7 53 rfl
theorem q1556 : (Jvm.Cond.instanceMethod ({ cls := "StaveScoreModel", name := "writtenOf", desc := "(I)J" } : Jvm.MethodName)) ∈ lw_all := lw_g (lw_at lw_m7 54 rfl) rfl
theorem q1557 : (Jvm.Cond.code ({ cls := "StaveScoreModel", name := "writtenOf", desc := "(I)J" } : Jvm.MethodName) prog_21_method_30_code (4 : Nat) (Option.some Jvm.ClassFile.FieldType.long)) ∈ lw_all := lw_g (lw_at lw_m7 55 rfl) rfl
theorem q1558 : (Jvm.Cond.constantLong "StaveScoreModel" (231 : Nat) (3 : Int64)) ∈ lw_all := lw_g (lw_at lw_m7 56 rfl) rfl
theorem q1559 : (Jvm.Cond.constantLong "StaveScoreModel" (233 : Nat) (7 : Int64)) ∈ lw_all := lw_g (lw_at lw_m7 57 rfl) rfl
theorem q1560 : (Jvm.Cond.methodLink "StaveScoreModel" (261 : Nat) ({ cls := "StaveScoreModel", name := "barOf", desc := "(J)I" } : Jvm.MethodName)) ∈ lw_all := lw_g (lw_at lw_m7 58 rfl) rfl
theorem q1561 : (Jvm.Cond.privateMethod ({ cls := "StaveScoreModel", name := "barOf", desc := "(J)I" } : Jvm.MethodName)) ∈ lw_tbl := lw_at lw_m7 59 rfl
theorem q1562 : (Jvm.Cond.instanceMethod ({ cls := "StaveScoreModel", name := "barOf", desc := "(J)I" } : Jvm.MethodName)) ∈ lw_all := lw_g (lw_at lw_m7 60 rfl) rfl
theorem q1563 : (Jvm.Cond.code ({ cls := "StaveScoreModel", name := "barOf", desc := "(J)I" } : Jvm.MethodName) prog_21_method_36_code (4 : Nat) (Option.some Jvm.ClassFile.FieldType.int)) ∈ lw_all := lw_g (lw_at lw_m7 61 rfl) rfl
theorem q1564 : (Jvm.Cond.methodLink "StaveScoreModel" (246 : Nat) ({ cls := "StaveScoreModel", name := "barAt", desc := "(I)J" } : Jvm.MethodName)) ∈ lw_all := lw_g (lw_at lw_m7 62 rfl) rfl
theorem q1565 : (Jvm.Cond.privateMethod ({ cls := "StaveScoreModel", name := "barAt", desc := "(I)J" } : Jvm.MethodName)) ∈ lw_tbl := lw_at lw_m7 63 rfl
theorem q1566 : (Jvm.Cond.instanceMethod ({ cls := "StaveScoreModel", name := "barAt", desc := "(I)J" } : Jvm.MethodName)) ∈ lw_all := lw_g (lw_at lw_m7 64 rfl) rfl
theorem q1567 : (Jvm.Cond.code ({ cls := "StaveScoreModel", name := "barAt", desc := "(I)J" } : Jvm.MethodName) prog_21_method_35_code (5 : Nat) (Option.some Jvm.ClassFile.FieldType.long)) ∈ lw_all := lw_g (lw_at lw_m7 65 rfl) rfl
theorem q1569 : (Jvm.Cond.instanceMethod ({ cls := "StaveScoreModel", name := "time", desc := "(II)J" } : Jvm.MethodName)) ∈ lw_all := lw_g (lw_at lw_m7 67 rfl) rfl
theorem q1570 : (Jvm.Cond.selects "StaveScoreModel" ({ cls := "StaveScoreModel", name := "time", desc := "(II)J" } : Jvm.MethodName) ({ cls := "StaveScoreModel", name := "time", desc := "(II)J" } : Jvm.MethodName)) ∈ lw_all := lw_g (lw_at lw_m7 68 rfl) rfl
theorem q1571 : (Jvm.Cond.code ({ cls := "StaveScoreModel", name := "time", desc := "(II)J" } : Jvm.MethodName) prog_21_method_41_code (8 : Nat) (Option.some Jvm.ClassFile.FieldType.long)) ∈ lw_all := lw_g (lw_at lw_m7 69 rfl) rfl
theorem q1572 : (Jvm.Cond.methodLink "StaveScoreModel" (265 : Nat) ({ cls := "StaveScoreModel", name := "fraction", desc := "(JZ)J" } : Jvm.MethodName)) ∈ lw_all := lw_g (lw_at lw_m7 70 rfl) rfl
theorem q1573 : (Jvm.Cond.static ({ cls := "StaveScoreModel", name := "fraction", desc := "(JZ)J" } : Jvm.MethodName)) ∈ lw_all := lw_g (lw_at lw_m7 71 rfl) rfl
theorem q1574 : (Jvm.Cond.code ({ cls := "StaveScoreModel", name := "fraction", desc := "(JZ)J" } : Jvm.MethodName) prog_21_method_38_code (5 : Nat) (Option.some Jvm.ClassFile.FieldType.long)) ∈ lw_all := lw_g (lw_at lw_m7 72 rfl) rfl
theorem q1575 : (Jvm.Cond.methodLink "StaveScoreModel" (249 : Nat) ({ cls := "StaveScoreModel", name := "divisor", desc := "(JJ)J" } : Jvm.MethodName)) ∈ lw_all := lw_g (lw_at lw_m7 73 rfl) rfl
theorem q1576 : (Jvm.Cond.static ({ cls := "StaveScoreModel", name := "divisor", desc := "(JJ)J" } : Jvm.MethodName)) ∈ lw_all := lw_g (lw_at lw_m7 74 rfl) rfl
theorem q1577 : (Jvm.Cond.code ({ cls := "StaveScoreModel", name := "divisor", desc := "(JJ)J" } : Jvm.MethodName) prog_21_method_37_code (10 : Nat) (Option.some Jvm.ClassFile.FieldType.long)) ∈ lw_all := lw_g (lw_at lw_m7 75 rfl) rfl
theorem q1579 : (Jvm.Cond.instanceMethod ({ cls := "StaveScoreModel", name := "length", desc := "(II)J" } : Jvm.MethodName)) ∈ lw_all := lw_g (lw_at lw_m7 77 rfl) rfl
theorem q1580 : (Jvm.Cond.selects "StaveScoreModel" ({ cls := "StaveScoreModel", name := "length", desc := "(II)J" } : Jvm.MethodName) ({ cls := "StaveScoreModel", name := "length", desc := "(II)J" } : Jvm.MethodName)) ∈ lw_all := lw_g (lw_at lw_m7 78 rfl) rfl
theorem q1581 : (Jvm.Cond.code ({ cls := "StaveScoreModel", name := "length", desc := "(II)J" } : Jvm.MethodName) prog_21_method_42_code (3 : Nat) (Option.some Jvm.ClassFile.FieldType.long)) ∈ lw_all := lw_g (lw_at lw_m7 79 rfl) rfl
theorem q1582 : (Jvm.Cond.methodLink "StaveScoreModel" (269 : Nat) ({ cls := "StaveScoreModel", name := "lengthOf", desc := "(I)J" } : Jvm.MethodName)) ∈ lw_all := lw_g (lw_at lw_m7 80 rfl) rfl
theorem q1583 : (Jvm.Cond.privateMethod ({ cls := "StaveScoreModel", name := "lengthOf", desc := "(I)J" } : Jvm.MethodName)) ∈ lw_tbl := lw_at lw_m7 81 rfl
theorem q1584 : (Jvm.Cond.instanceMethod ({ cls := "StaveScoreModel", name := "lengthOf", desc := "(I)J" } : Jvm.MethodName)) ∈ lw_all := lw_g (lw_at lw_m7 82 rfl) rfl
theorem q1585 : (Jvm.Cond.code ({ cls := "StaveScoreModel", name := "lengthOf", desc := "(I)J" } : Jvm.MethodName) prog_21_method_34_code (5 : Nat) (Option.some Jvm.ClassFile.FieldType.long)) ∈ lw_all := lw_g (lw_at lw_m7 83 rfl) rfl
theorem q1587 : (Jvm.Cond.instanceMethod ({ cls := "StaveScoreModel", name := "event", desc := "(II)I" } : Jvm.MethodName)) ∈ lw_all := lw_g (lw_at lw_m7 85 rfl) rfl
theorem q1588 : (Jvm.Cond.selects "StaveScoreModel" ({ cls := "StaveScoreModel", name := "event", desc := "(II)I" } : Jvm.MethodName) ({ cls := "StaveScoreModel", name := "event", desc := "(II)I" } : Jvm.MethodName)) ∈ lw_all := lw_g (lw_at lw_m7 86 rfl) rfl
theorem q1589 : (Jvm.Cond.code ({ cls := "StaveScoreModel", name := "event", desc := "(II)I" } : Jvm.MethodName) prog_21_method_43_code (3 : Nat) (Option.some Jvm.ClassFile.FieldType.int)) ∈ lw_all := lw_g (lw_at lw_m7 87 rfl) rfl
theorem q1591 : (Jvm.Cond.instanceMethod ({ cls := "StaveScoreModel", name := "tuplet", desc := "(IIIIII)I" } : Jvm.MethodName)) ∈ lw_all := lw_g (lw_at lw_m7 89 rfl) rfl
theorem q1592 : (Jvm.Cond.selects "StaveScoreModel" ({ cls := "StaveScoreModel", name := "tuplet", desc := "(IIIIII)I" } : Jvm.MethodName) ({ cls := "StaveScoreModel", name := "tuplet", desc := "(IIIIII)I" } : Jvm.MethodName)) ∈ lw_all := lw_g (lw_at lw_m7 90 rfl) rfl
theorem q1593 : (Jvm.Cond.code ({ cls := "StaveScoreModel", name := "tuplet", desc := "(IIIIII)I" } : Jvm.MethodName) prog_21_method_44_code (13 : Nat) (Option.some Jvm.ClassFile.FieldType.int)) ∈ lw_all := lw_g (lw_at lw_m7 91 rfl) rfl
theorem q1595 : (Jvm.Cond.instanceMethod ({ cls := "StaveScoreModel", name := "untuplet", desc := "(I)I" } : Jvm.MethodName)) ∈ lw_all := lw_g (lw_at lw_m7 93 rfl) rfl
theorem q1596 : (Jvm.Cond.selects "StaveScoreModel" ({ cls := "StaveScoreModel", name := "untuplet", desc := "(I)I" } : Jvm.MethodName) ({ cls := "StaveScoreModel", name := "untuplet", desc := "(I)I" } : Jvm.MethodName)) ∈ lw_all := lw_g (lw_at lw_m7 94 rfl) rfl
theorem q1597 : (Jvm.Cond.code ({ cls := "StaveScoreModel", name := "untuplet", desc := "(I)I" } : Jvm.MethodName) prog_21_method_47_code (3 : Nat) (Option.some Jvm.ClassFile.FieldType.int)) ∈ lw_all := lw_g (lw_at lw_m7 95 rfl) rfl
theorem q1598 : (Jvm.Cond.methodLink "StaveScoreModel" (272 : Nat) ({ cls := "StaveScoreModel", name := "hasTuplet", desc := "(I)Z" } : Jvm.MethodName)) ∈ lw_all := lw_g (lw_at lw_m7 96 rfl) rfl
theorem q1599 : (Jvm.Cond.privateMethod ({ cls := "StaveScoreModel", name := "hasTuplet", desc := "(I)Z" } : Jvm.MethodName)) ∈ lw_tbl := lw_at lw_m7 97 rfl
theorem q1600 : (Jvm.Cond.instanceMethod ({ cls := "StaveScoreModel", name := "hasTuplet", desc := "(I)Z" } : Jvm.MethodName)) ∈ lw_all := lw_g (lw_at lw_m7 98 rfl) rfl
theorem q1601 : (Jvm.Cond.code ({ cls := "StaveScoreModel", name := "hasTuplet", desc := "(I)Z" } : Jvm.MethodName) prog_21_method_45_code (2 : Nat) (Option.some Jvm.ClassFile.FieldType.boolean)) ∈ lw_all := lw_g (lw_at lw_m7 99 rfl) rfl
theorem q1602 : (Jvm.Cond.methodLink "StaveScoreModel" (275 : Nat) ({ cls := "StaveScoreModel", name := "sizeOf", desc := "(I)I" } : Jvm.MethodName)) ∈ lw_all := lw_g (lw_at lw_m7 100 rfl) rfl
theorem q1603 : (Jvm.Cond.privateMethod ({ cls := "StaveScoreModel", name := "sizeOf", desc := "(I)I" } : Jvm.MethodName)) ∈ lw_tbl := lw_at lw_m7 101 rfl
theorem q1604 : (Jvm.Cond.instanceMethod ({ cls := "StaveScoreModel", name := "sizeOf", desc := "(I)I" } : Jvm.MethodName)) ∈ lw_all := lw_g (lw_at lw_m7 102 rfl) rfl
theorem q1605 : (Jvm.Cond.code ({ cls := "StaveScoreModel", name := "sizeOf", desc := "(I)I" } : Jvm.MethodName) prog_21_method_46_code (2 : Nat) (Option.some Jvm.ClassFile.FieldType.int)) ∈ lw_all := lw_g (lw_at lw_m7 103 rfl) rfl
theorem q1607 : (Jvm.Cond.instanceMethod ({ cls := "StaveScoreModel", name := "tupletAt", desc := "(II)I" } : Jvm.MethodName)) ∈ lw_all := lw_g (lw_at lw_m7 105 rfl) rfl
theorem q1608 : (Jvm.Cond.selects "StaveScoreModel" ({ cls := "StaveScoreModel", name := "tupletAt", desc := "(II)I" } : Jvm.MethodName) ({ cls := "StaveScoreModel", name := "tupletAt", desc := "(II)I" } : Jvm.MethodName)) ∈ lw_all := lw_g (lw_at lw_m7 106 rfl) rfl
theorem q1609 : (Jvm.Cond.code ({ cls := "StaveScoreModel", name := "tupletAt", desc := "(II)I" } : Jvm.MethodName) prog_21_method_49_code (5 : Nat) (Option.some Jvm.ClassFile.FieldType.int)) ∈ lw_all := lw_g (lw_at lw_m7 107 rfl) rfl
theorem q1610 : (Jvm.Cond.constantLong "StaveScoreModel" (278 : Nat) (6 : Int64)) ∈ lw_all := lw_g (lw_at lw_m7 108 rfl) rfl
theorem q1611 : (Jvm.Cond.methodLink "StaveScoreModel" (280 : Nat) ({ cls := "StaveScoreModel", name := "isInner", desc := "(II)Z" } : Jvm.MethodName)) ∈ lw_all := lw_g (lw_at lw_m7 109 rfl) rfl
theorem q1612 : (Jvm.Cond.privateMethod ({ cls := "StaveScoreModel", name := "isInner", desc := "(II)Z" } : Jvm.MethodName)) ∈ lw_tbl := lw_at lw_m7 110 rfl
theorem q1613 : (Jvm.Cond.instanceMethod ({ cls := "StaveScoreModel", name := "isInner", desc := "(II)Z" } : Jvm.MethodName)) ∈ lw_all := lw_g (lw_at lw_m7 111 rfl) rfl
theorem q1614 : (Jvm.Cond.code ({ cls := "StaveScoreModel", name := "isInner", desc := "(II)Z" } : Jvm.MethodName) prog_21_method_48_code (4 : Nat) (Option.some Jvm.ClassFile.FieldType.boolean)) ∈ lw_all := lw_g (lw_at lw_m7 112 rfl) rfl
theorem q1616 : (Jvm.Cond.instanceMethod ({ cls := "StaveScoreModel", name := "line", desc := "(III)I" } : Jvm.MethodName)) ∈ lw_all := lw_g (lw_at lw_m7 114 rfl) rfl
theorem q1617 : (Jvm.Cond.selects "StaveScoreModel" ({ cls := "StaveScoreModel", name := "line", desc := "(III)I" } : Jvm.MethodName) ({ cls := "StaveScoreModel", name := "line", desc := "(III)I" } : Jvm.MethodName)) ∈ lw_all := lw_g (lw_at lw_m7 115 rfl) rfl
theorem q1618 : (Jvm.Cond.code ({ cls := "StaveScoreModel", name := "line", desc := "(III)I" } : Jvm.MethodName) prog_21_method_51_code (4 : Nat) (Option.some Jvm.ClassFile.FieldType.int)) ∈ lw_all := lw_g (lw_at lw_m7 116 rfl) rfl
theorem q1620 : (Jvm.Cond.instanceMethod ({ cls := "StaveScoreModel", name := "end", desc := "(II)I" } : Jvm.MethodName)) ∈ lw_all := lw_g (lw_at lw_m7 118 rfl) rfl
theorem q1621 : (Jvm.Cond.selects "StaveScoreModel" ({ cls := "StaveScoreModel", name := "end", desc := "(II)I" } : Jvm.MethodName) ({ cls := "StaveScoreModel", name := "end", desc := "(II)I" } : Jvm.MethodName)) ∈ lw_all := lw_g (lw_at lw_m7 119 rfl) rfl
theorem q1622 : (Jvm.Cond.code ({ cls := "StaveScoreModel", name := "end", desc := "(II)I" } : Jvm.MethodName) prog_21_method_52_code (3 : Nat) (Option.some Jvm.ClassFile.FieldType.int)) ∈ lw_all := lw_g (lw_at lw_m7 120 rfl) rfl
theorem q1623 : (Jvm.Cond.methodLink "StaveScoreModel" (283 : Nat) ({ cls := "StaveScoreModel", name := "hasLine", desc := "(I)Z" } : Jvm.MethodName)) ∈ lw_all := lw_g (lw_at lw_m7 121 rfl) rfl
theorem q1624 : (Jvm.Cond.privateMethod ({ cls := "StaveScoreModel", name := "hasLine", desc := "(I)Z" } : Jvm.MethodName)) ∈ lw_tbl := lw_at lw_m7 122 rfl
theorem q1625 : (Jvm.Cond.instanceMethod ({ cls := "StaveScoreModel", name := "hasLine", desc := "(I)Z" } : Jvm.MethodName)) ∈ lw_all := lw_g (lw_at lw_m7 123 rfl) rfl
theorem q1626 : (Jvm.Cond.code ({ cls := "StaveScoreModel", name := "hasLine", desc := "(I)Z" } : Jvm.MethodName) prog_21_method_50_code (2 : Nat) (Option.some Jvm.ClassFile.FieldType.boolean)) ∈ lw_all := lw_g (lw_at lw_m7 124 rfl) rfl
theorem q1628 : (Jvm.Cond.instanceMethod ({ cls := "StaveScoreModel", name := "lineAt", desc := "(II)I" } : Jvm.MethodName)) ∈ lw_all := lw_g (lw_at lw_m7 126 rfl) rfl
theorem q1629 : (Jvm.Cond.selects "StaveScoreModel" ({ cls := "StaveScoreModel", name := "lineAt", desc := "(II)I" } : Jvm.MethodName) ({ cls := "StaveScoreModel", name := "lineAt", desc := "(II)I" } : Jvm.MethodName)) ∈ lw_all := lw_g (lw_at lw_m7 127 rfl) rfl
theorem q1630 : (Jvm.Cond.code ({ cls := "StaveScoreModel", name := "lineAt", desc := "(II)I" } : Jvm.MethodName) prog_21_method_53_code (3 : Nat) (Option.some Jvm.ClassFile.FieldType.int)) ∈ lw_all := lw_g (lw_at lw_m7 128 rfl) rfl
theorem q1632 : (Jvm.Cond.instanceMethod ({ cls := "StaveScoreModel", name := "walk", desc := "()I" } : Jvm.MethodName)) ∈ lw_all := lw_g (lw_at lw_m7 130 rfl) rfl
theorem q1633 : (Jvm.Cond.selects "StaveScoreModel" ({ cls := "StaveScoreModel", name := "walk", desc := "()I" } : Jvm.MethodName) ({ cls := "StaveScoreModel", name := "walk", desc := "()I" } : Jvm.MethodName)) ∈ lw_all := lw_g (lw_at lw_m7 131 rfl) rfl
theorem q1634 : (Jvm.Cond.code ({ cls := "StaveScoreModel", name := "walk", desc := "()I" } : Jvm.MethodName) prog_21_method_54_code (7 : Nat) (Option.some Jvm.ClassFile.FieldType.int)) ∈ lw_all := lw_g (lw_at lw_m7 132 rfl) rfl
theorem q1636 : (Jvm.Cond.instanceMethod ({ cls := "StaveScoreModel", name := "walked", desc := "(I)I" } : Jvm.MethodName)) ∈ lw_all := lw_g (lw_at lw_m7 134 rfl) rfl
theorem q1637 : (Jvm.Cond.selects "StaveScoreModel" ({ cls := "StaveScoreModel", name := "walked", desc := "(I)I" } : Jvm.MethodName) ({ cls := "StaveScoreModel", name := "walked", desc := "(I)I" } : Jvm.MethodName)) ∈ lw_all := lw_g (lw_at lw_m7 135 rfl) rfl
theorem q1638 : (Jvm.Cond.code ({ cls := "StaveScoreModel", name := "walked", desc := "(I)I" } : Jvm.MethodName) prog_21_method_55_code (2 : Nat) (Option.some Jvm.ClassFile.FieldType.int)) ∈ lw_all := lw_g (lw_at lw_m7 136 rfl) rfl
theorem q1640 : (Jvm.Cond.instanceMethod ({ cls := "StaveScoreModel", name := "check", desc := "()I" } : Jvm.MethodName)) ∈ lw_all := lw_g (lw_at lw_m7 138 rfl) rfl
theorem q1641 : (Jvm.Cond.selects "StaveScoreModel" ({ cls := "StaveScoreModel", name := "check", desc := "()I" } : Jvm.MethodName) ({ cls := "StaveScoreModel", name := "check", desc := "()I" } : Jvm.MethodName)) ∈ lw_all := lw_g (lw_at lw_m7 139 rfl) rfl
theorem q1642 : (Jvm.Cond.code ({ cls := "StaveScoreModel", name := "check", desc := "()I" } : Jvm.MethodName) prog_21_method_62_code (4 : Nat) (Option.some Jvm.ClassFile.FieldType.int)) ∈ lw_all := lw_g (lw_at lw_m7 140 rfl) rfl
theorem q1643 : (Jvm.Cond.methodLink "StaveScoreModel" (305 : Nat) ({ cls := "StaveScoreModel", name := "checkVoice", desc := "(IJ)V" } : Jvm.MethodName)) ∈ lw_all := lw_g (lw_at lw_m7 141 rfl) rfl
theorem q1644 : (Jvm.Cond.privateMethod ({ cls := "StaveScoreModel", name := "checkVoice", desc := "(IJ)V" } : Jvm.MethodName)) ∈ lw_tbl := lw_at lw_m7 142 rfl
theorem q1645 : (Jvm.Cond.instanceMethod ({ cls := "StaveScoreModel", name := "checkVoice", desc := "(IJ)V" } : Jvm.MethodName)) ∈ lw_all := lw_g (lw_at lw_m7 143 rfl) rfl
theorem q1646 : (Jvm.Cond.code ({ cls := "StaveScoreModel", name := "checkVoice", desc := "(IJ)V" } : Jvm.MethodName) prog_21_method_60_code (9 : Nat) (Option.none : Option Jvm.ClassFile.FieldType)) ∈ lw_all := lw_g (lw_at lw_m7 144 rfl) rfl
theorem q1647 : (Jvm.Cond.methodLink "StaveScoreModel" (295 : Nat) ({ cls := "StaveScoreModel", name := "finds", desc := "(III)V" } : Jvm.MethodName)) ∈ lw_all := lw_g (lw_at lw_m7 145 rfl) rfl
theorem q1648 : (Jvm.Cond.privateMethod ({ cls := "StaveScoreModel", name := "finds", desc := "(III)V" } : Jvm.MethodName)) ∈ lw_tbl := lw_at lw_m7 146 rfl
theorem q1649 : (Jvm.Cond.instanceMethod ({ cls := "StaveScoreModel", name := "finds", desc := "(III)V" } : Jvm.MethodName)) ∈ lw_all := lw_g (lw_at lw_m7 147 rfl) rfl
theorem q1650 : (Jvm.Cond.code ({ cls := "StaveScoreModel", name := "finds", desc := "(III)V" } : Jvm.MethodName) prog_21_method_56_code (4 : Nat) (Option.none : Option Jvm.ClassFile.FieldType)) ∈ lw_all := lw_g (lw_at lw_m7 148 rfl) rfl
theorem q1651 : (Jvm.Cond.methodLink "StaveScoreModel" (299 : Nat) ({ cls := "StaveScoreModel", name := "isTieWrong", desc := "(II)Z" } : Jvm.MethodName)) ∈ lw_all := lw_g (lw_at lw_m7 149 rfl) rfl
theorem q1652 : (Jvm.Cond.privateMethod ({ cls := "StaveScoreModel", name := "isTieWrong", desc := "(II)Z" } : Jvm.MethodName)) ∈ lw_tbl := lw_at lw_m7 150 rfl
theorem q1653 : (Jvm.Cond.instanceMethod ({ cls := "StaveScoreModel", name := "isTieWrong", desc := "(II)Z" } : Jvm.MethodName)) ∈ lw_all := lw_g (lw_at lw_m7 151 rfl) rfl
theorem q1654 : (Jvm.Cond.code ({ cls := "StaveScoreModel", name := "isTieWrong", desc := "(II)Z" } : Jvm.MethodName) prog_21_method_58_code (8 : Nat) (Option.some Jvm.ClassFile.FieldType.boolean)) ∈ lw_all := lw_g (lw_at lw_m7 152 rfl) rfl
theorem q1655 : (Jvm.Cond.methodLink "StaveScoreModel" (292 : Nat) ({ cls := "StaveScoreModel", name := "hasPitch", desc := "(II)Z" } : Jvm.MethodName)) ∈ lw_all := lw_g (lw_at lw_m7 153 rfl) rfl
theorem q1656 : (Jvm.Cond.privateMethod ({ cls := "StaveScoreModel", name := "hasPitch", desc := "(II)Z" } : Jvm.MethodName)) ∈ lw_tbl := lw_at lw_m7 154 rfl
theorem q1657 : (Jvm.Cond.instanceMethod ({ cls := "StaveScoreModel", name := "hasPitch", desc := "(II)Z" } : Jvm.MethodName)) ∈ lw_all := lw_g (lw_at lw_m7 155 rfl) rfl
theorem q1658 : (Jvm.Cond.code ({ cls := "StaveScoreModel", name := "hasPitch", desc := "(II)Z" } : Jvm.MethodName) prog_21_method_57_code (5 : Nat) (Option.some Jvm.ClassFile.FieldType.boolean)) ∈ lw_all := lw_g (lw_at lw_m7 156 rfl) rfl
theorem q1659 : (Jvm.Cond.methodLink "StaveScoreModel" (302 : Nat) ({ cls := "StaveScoreModel", name := "isOut", desc := "(I)Z" } : Jvm.MethodName)) ∈ lw_all := lw_g (lw_at lw_m7 157 rfl) rfl
theorem q1660 : (Jvm.Cond.privateMethod ({ cls := "StaveScoreModel", name := "isOut", desc := "(I)Z" } : Jvm.MethodName)) ∈ lw_tbl := lw_at lw_m7 158 rfl
theorem q1661 : (Jvm.Cond.instanceMethod ({ cls := "StaveScoreModel", name := "isOut", desc := "(I)Z" } : Jvm.MethodName)) ∈ lw_all := lw_g (lw_at lw_m7 159 rfl) rfl
theorem q1662 : (Jvm.Cond.code ({ cls := "StaveScoreModel", name := "isOut", desc := "(I)Z" } : Jvm.MethodName) prog_21_method_59_code (5 : Nat) (Option.some Jvm.ClassFile.FieldType.boolean)) ∈ lw_all := lw_g (lw_at lw_m7 160 rfl) rfl
theorem q1663 : (Jvm.Cond.methodLink "StaveScoreModel" (309 : Nat) ({ cls := "StaveScoreModel", name := "isSumWrong", desc := "(I)Z" } : Jvm.MethodName)) ∈ lw_all := lw_g (lw_at lw_m7 161 rfl) rfl
theorem q1664 : (Jvm.Cond.privateMethod ({ cls := "StaveScoreModel", name := "isSumWrong", desc := "(I)Z" } : Jvm.MethodName)) ∈ lw_tbl := lw_at lw_m7 162 rfl
theorem q1665 : (Jvm.Cond.instanceMethod ({ cls := "StaveScoreModel", name := "isSumWrong", desc := "(I)Z" } : Jvm.MethodName)) ∈ lw_all := lw_g (lw_at lw_m7 163 rfl) rfl
theorem q1666 : (Jvm.Cond.code ({ cls := "StaveScoreModel", name := "isSumWrong", desc := "(I)Z" } : Jvm.MethodName) prog_21_method_61_code (11 : Nat) (Option.some Jvm.ClassFile.FieldType.boolean)) ∈ lw_all := lw_g (lw_at lw_m7 164 rfl) rfl
theorem q1668 : (Jvm.Cond.instanceMethod ({ cls := "StaveScoreModel", name := "finding", desc := "(II)I" } : Jvm.MethodName)) ∈ lw_all := lw_g (lw_at lw_m7 166 rfl) rfl
theorem q1669 : (Jvm.Cond.selects "StaveScoreModel" ({ cls := "StaveScoreModel", name := "finding", desc := "(II)I" } : Jvm.MethodName) ({ cls := "StaveScoreModel", name := "finding", desc := "(II)I" } : Jvm.MethodName)) ∈ lw_all := lw_g (lw_at lw_m7 167 rfl) rfl
theorem q1670 : (Jvm.Cond.code ({ cls := "StaveScoreModel", name := "finding", desc := "(II)I" } : Jvm.MethodName) prog_21_method_63_code (3 : Nat) (Option.some Jvm.ClassFile.FieldType.int)) ∈ lw_all := lw_g (lw_at lw_m7 168 rfl) rfl
theorem q1672 : (Jvm.Cond.instanceMethod ({ cls := "StaveScoreModel", name := "equal", desc := "(II)I" } : Jvm.MethodName)) ∈ lw_all := lw_g (lw_at lw_m7 170 rfl) rfl
theorem q1673 : (Jvm.Cond.selects "StaveScoreModel" ({ cls := "StaveScoreModel", name := "equal", desc := "(II)I" } : Jvm.MethodName) ({ cls := "StaveScoreModel", name := "equal", desc := "(II)I" } : Jvm.MethodName)) ∈ lw_all := lw_g (lw_at lw_m7 171 rfl) rfl
theorem q1674 : (Jvm.Cond.code ({ cls := "StaveScoreModel", name := "equal", desc := "(II)I" } : Jvm.MethodName) prog_21_method_66_code (6 : Nat) (Option.some Jvm.ClassFile.FieldType.int)) ∈ lw_all := lw_g (lw_at lw_m7 172 rfl) rfl
theorem q1675 : (Jvm.Cond.methodLink "StaveScoreModel" (312 : Nat) ({ cls := "StaveScoreModel", name := "areAlike", desc := "(II)Z" } : Jvm.MethodName)) ∈ lw_all := lw_g (lw_at lw_m7 173 rfl) rfl
theorem q1676 : (Jvm.Cond.privateMethod ({ cls := "StaveScoreModel", name := "areAlike", desc := "(II)Z" } : Jvm.MethodName)) ∈ lw_tbl := lw_at lw_m7 174 rfl
theorem q1677 : (Jvm.Cond.instanceMethod ({ cls := "StaveScoreModel", name := "areAlike", desc := "(II)Z" } : Jvm.MethodName)) ∈ lw_all := lw_g (lw_at lw_m7 175 rfl) rfl
theorem q1678 : (Jvm.Cond.code ({ cls := "StaveScoreModel", name := "areAlike", desc := "(II)Z" } : Jvm.MethodName) prog_21_method_65_code (5 : Nat) (Option.some Jvm.ClassFile.FieldType.boolean)) ∈ lw_all := lw_g (lw_at lw_m7 176 rfl) rfl
theorem q1679 : (Jvm.Cond.methodLink "StaveScoreModel" (315 : Nat) ({ cls := "StaveScoreModel", name := "nextOf", desc := "(II)I" } : Jvm.MethodName)) ∈ lw_all := lw_g (lw_at lw_m7 177 rfl) rfl
theorem q1680 : (Jvm.Cond.privateMethod ({ cls := "StaveScoreModel", name := "nextOf", desc := "(II)I" } : Jvm.MethodName)) ∈ lw_tbl := lw_at lw_m7 178 rfl
theorem q1681 : (Jvm.Cond.instanceMethod ({ cls := "StaveScoreModel", name := "nextOf", desc := "(II)I" } : Jvm.MethodName)) ∈ lw_all := lw_g (lw_at lw_m7 179 rfl) rfl
theorem q1682 : (Jvm.Cond.code ({ cls := "StaveScoreModel", name := "nextOf", desc := "(II)I" } : Jvm.MethodName) prog_21_method_64_code (4 : Nat) (Option.some Jvm.ClassFile.FieldType.int)) ∈ lw_all := lw_g (lw_at lw_m7 180 rfl) rfl
theorem q1684 : (Jvm.Cond.instanceMethod ({ cls := "StaveScoreModel", name := "rack", desc := "(III)I" } : Jvm.MethodName)) ∈ lw_all := lw_g (lw_at lw_m7 182 rfl) rfl
theorem q1685 : (Jvm.Cond.selects "StaveScoreModel" ({ cls := "StaveScoreModel", name := "rack", desc := "(III)I" } : Jvm.MethodName) ({ cls := "StaveScoreModel", name := "rack", desc := "(III)I" } : Jvm.MethodName)) ∈ lw_all := lw_g (lw_at lw_m7 183 rfl) rfl
theorem q1686 : (Jvm.Cond.code ({ cls := "StaveScoreModel", name := "rack", desc := "(III)I" } : Jvm.MethodName) prog_21_method_67_code (5 : Nat) (Option.some Jvm.ClassFile.FieldType.int)) ∈ lw_all := lw_g (lw_at lw_m7 184 rfl) rfl
theorem q1688 : (Jvm.Cond.instanceMethod ({ cls := "StaveScoreModel", name := "hold", desc := "(III)I" } : Jvm.MethodName)) ∈ lw_all := lw_g (lw_at lw_m7 186 rfl) rfl
theorem q1689 : (Jvm.Cond.selects "StaveScoreModel" ({ cls := "StaveScoreModel", name := "hold", desc := "(III)I" } : Jvm.MethodName) ({ cls := "StaveScoreModel", name := "hold", desc := "(III)I" } : Jvm.MethodName)) ∈ lw_all := lw_g (lw_at lw_m7 187 rfl) rfl
theorem q1690 : (Jvm.Cond.code ({ cls := "StaveScoreModel", name := "hold", desc := "(III)I" } : Jvm.MethodName) prog_21_method_69_code (4 : Nat) (Option.some Jvm.ClassFile.FieldType.int)) ∈ lw_all := lw_g (lw_at lw_m7 188 rfl) rfl
theorem q1691 : (Jvm.Cond.methodLink "StaveScoreModel" (318 : Nat) ({ cls := "StaveScoreModel", name := "isOf", desc := "(II)Z" } : Jvm.MethodName)) ∈ lw_all := lw_g (lw_at lw_m7 189 rfl) rfl
theorem q1692 : (Jvm.Cond.privateMethod ({ cls := "StaveScoreModel", name := "isOf", desc := "(II)Z" } : Jvm.MethodName)) ∈ lw_tbl := lw_at lw_m7 190 rfl
theorem q1693 : (Jvm.Cond.instanceMethod ({ cls := "StaveScoreModel", name := "isOf", desc := "(II)Z" } : Jvm.MethodName)) ∈ lw_all := lw_g (lw_at lw_m7 191 rfl) rfl
theorem q1694 : (Jvm.Cond.code ({ cls := "StaveScoreModel", name := "isOf", desc := "(II)Z" } : Jvm.MethodName) prog_21_method_68_code (3 : Nat) (Option.some Jvm.ClassFile.FieldType.boolean)) ∈ lw_all := lw_g (lw_at lw_m7 192 rfl) rfl
theorem q1696 : (Jvm.Cond.instanceMethod ({ cls := "StaveScoreModel", name := "held", desc := "(II)I" } : Jvm.MethodName)) ∈ lw_all := lw_g (lw_at lw_m7 194 rfl) rfl
theorem q1697 : (Jvm.Cond.selects "StaveScoreModel" ({ cls := "StaveScoreModel", name := "held", desc := "(II)I" } : Jvm.MethodName) ({ cls := "StaveScoreModel", name := "held", desc := "(II)I" } : Jvm.MethodName)) ∈ lw_all := lw_g (lw_at lw_m7 195 rfl) rfl
theorem q1698 : (Jvm.Cond.code ({ cls := "StaveScoreModel", name := "held", desc := "(II)I" } : Jvm.MethodName) prog_21_method_70_code (4 : Nat) (Option.some Jvm.ClassFile.FieldType.int)) ∈ lw_all := lw_g (lw_at lw_m7 196 rfl) rfl
theorem q1700 : (Jvm.Cond.instanceMethod ({ cls := "StaveScoreModel", name := "slide", desc := "(IIII)I" } : Jvm.MethodName)) ∈ lw_all := lw_g (lw_at lw_m7 198 rfl) rfl
theorem q1701 : (Jvm.Cond.selects "StaveScoreModel" ({ cls := "StaveScoreModel", name := "slide", desc := "(IIII)I" } : Jvm.MethodName) ({ cls := "StaveScoreModel", name := "slide", desc := "(IIII)I" } : Jvm.MethodName)) ∈ lw_all := lw_g (lw_at lw_m7 199 rfl) rfl
theorem q1702 : (Jvm.Cond.code ({ cls := "StaveScoreModel", name := "slide", desc := "(IIII)I" } : Jvm.MethodName) prog_21_method_72_code (6 : Nat) (Option.some Jvm.ClassFile.FieldType.int)) ∈ lw_all := lw_g (lw_at lw_m7 200 rfl) rfl
theorem q1703 : (Jvm.Cond.methodLink "StaveScoreModel" (321 : Nat) ({ cls := "StaveScoreModel", name := "areThere", desc := "(III)Z" } : Jvm.MethodName)) ∈ lw_all := lw_g (lw_at lw_m7 201 rfl) rfl
theorem q1704 : (Jvm.Cond.static ({ cls := "StaveScoreModel", name := "areThere", desc := "(III)Z" } : Jvm.MethodName)) ∈ lw_all := lw_g (lw_at lw_m7 202 rfl) rfl
theorem q1705 : (Jvm.Cond.code ({ cls := "StaveScoreModel", name := "areThere", desc := "(III)Z" } : Jvm.MethodName) prog_21_method_71_code (3 : Nat) (Option.some Jvm.ClassFile.FieldType.boolean)) ∈ lw_all := lw_g (lw_at lw_m7 203 rfl) rfl
theorem q1707 : (Jvm.Cond.instanceMethod ({ cls := "StaveScoreModel", name := "shelf", desc := "(III)I" } : Jvm.MethodName)) ∈ lw_all := lw_g (lw_at lw_m7 205 rfl) rfl
theorem q1708 : (Jvm.Cond.selects "StaveScoreModel" ({ cls := "StaveScoreModel", name := "shelf", desc := "(III)I" } : Jvm.MethodName) ({ cls := "StaveScoreModel", name := "shelf", desc := "(III)I" } : Jvm.MethodName)) ∈ lw_all := lw_g (lw_at lw_m7 206 rfl) rfl
theorem q1709 : (Jvm.Cond.code ({ cls := "StaveScoreModel", name := "shelf", desc := "(III)I" } : Jvm.MethodName) prog_21_method_73_code (5 : Nat) (Option.some Jvm.ClassFile.FieldType.int)) ∈ lw_all := lw_g (lw_at lw_m7 207 rfl) rfl
theorem q1711 : (Jvm.Cond.instanceMethod ({ cls := "StaveScoreModel", name := "lay", desc := "(IZII)I" } : Jvm.MethodName)) ∈ lw_all := lw_g (lw_at lw_m7 209 rfl) rfl
theorem q1712 : (Jvm.Cond.selects "StaveScoreModel" ({ cls := "StaveScoreModel", name := "lay", desc := "(IZII)I" } : Jvm.MethodName) ({ cls := "StaveScoreModel", name := "lay", desc := "(IZII)I" } : Jvm.MethodName)) ∈ lw_all := lw_g (lw_at lw_m7 210 rfl) rfl
theorem q1713 : (Jvm.Cond.code ({ cls := "StaveScoreModel", name := "lay", desc := "(IZII)I" } : Jvm.MethodName) prog_21_method_75_code (7 : Nat) (Option.some Jvm.ClassFile.FieldType.int)) ∈ lw_all := lw_g (lw_at lw_m7 211 rfl) rfl
theorem q1714 : (Jvm.Cond.methodLink "StaveScoreModel" (328 : Nat) ({ cls := "StaveScoreModel", name := "lays", desc := "(IIJ)Z" } : Jvm.MethodName)) ∈ lw_all := lw_g (lw_at lw_m7 212 rfl) rfl
theorem q1715 : (Jvm.Cond.privateMethod ({ cls := "StaveScoreModel", name := "lays", desc := "(IIJ)Z" } : Jvm.MethodName)) ∈ lw_tbl := lw_at lw_m7 213 rfl
theorem q1716 : (Jvm.Cond.instanceMethod ({ cls := "StaveScoreModel", name := "lays", desc := "(IIJ)Z" } : Jvm.MethodName)) ∈ lw_all := lw_g (lw_at lw_m7 214 rfl) rfl
theorem q1717 : (Jvm.Cond.code ({ cls := "StaveScoreModel", name := "lays", desc := "(IIJ)Z" } : Jvm.MethodName) prog_21_method_74_code (5 : Nat) (Option.some Jvm.ClassFile.FieldType.boolean)) ∈ lw_all := lw_g (lw_at lw_m7 215 rfl) rfl
theorem q1719 : (Jvm.Cond.instanceMethod ({ cls := "StaveScoreModel", name := "item", desc := "(II)I" } : Jvm.MethodName)) ∈ lw_all := lw_g (lw_at lw_m7 217 rfl) rfl
theorem q1720 : (Jvm.Cond.selects "StaveScoreModel" ({ cls := "StaveScoreModel", name := "item", desc := "(II)I" } : Jvm.MethodName) ({ cls := "StaveScoreModel", name := "item", desc := "(II)I" } : Jvm.MethodName)) ∈ lw_all := lw_g (lw_at lw_m7 218 rfl) rfl
theorem q1721 : (Jvm.Cond.code ({ cls := "StaveScoreModel", name := "item", desc := "(II)I" } : Jvm.MethodName) prog_21_method_76_code (3 : Nat) (Option.some Jvm.ClassFile.FieldType.int)) ∈ lw_all := lw_g (lw_at lw_m7 219 rfl) rfl
theorem q1723 : (Jvm.Cond.instanceMethod ({ cls := "StaveScoreModel", name := "lift", desc := "(III)I" } : Jvm.MethodName)) ∈ lw_all := lw_g (lw_at lw_m7 221 rfl) rfl
theorem q1724 : (Jvm.Cond.selects "StaveScoreModel" ({ cls := "StaveScoreModel", name := "lift", desc := "(III)I" } : Jvm.MethodName) ({ cls := "StaveScoreModel", name := "lift", desc := "(III)I" } : Jvm.MethodName)) ∈ lw_all := lw_g (lw_at lw_m7 222 rfl) rfl
theorem q1725 : (Jvm.Cond.code ({ cls := "StaveScoreModel", name := "lift", desc := "(III)I" } : Jvm.MethodName) prog_21_method_77_code (5 : Nat) (Option.some Jvm.ClassFile.FieldType.int)) ∈ lw_all := lw_g (lw_at lw_m7 223 rfl) rfl
theorem q1726 : (Jvm.Cond.constant "StaveScoreModel" (332 : Nat) (65535 : Int32)) ∈ lw_all := lw_g (lw_at lw_m7 224 rfl) rfl
theorem q1728 : (Jvm.Cond.instanceMethod ({ cls := "StaveScoreModel", name := "copy", desc := "(IIIII)I" } : Jvm.MethodName)) ∈ lw_all := lw_g (lw_at lw_m7 226 rfl) rfl
theorem q1729 : (Jvm.Cond.selects "StaveScoreModel" ({ cls := "StaveScoreModel", name := "copy", desc := "(IIIII)I" } : Jvm.MethodName) ({ cls := "StaveScoreModel", name := "copy", desc := "(IIIII)I" } : Jvm.MethodName)) ∈ lw_all := lw_g (lw_at lw_m7 227 rfl) rfl
theorem q1730 : (Jvm.Cond.code ({ cls := "StaveScoreModel", name := "copy", desc := "(IIIII)I" } : Jvm.MethodName) prog_21_method_78_code (7 : Nat) (Option.some Jvm.ClassFile.FieldType.int)) ∈ lw_all := lw_g (lw_at lw_m7 228 rfl) rfl
theorem q1732 : (Jvm.Cond.instanceMethod ({ cls := "StaveScoreModel", name := "play", desc := "(II)I" } : Jvm.MethodName)) ∈ lw_all := lw_g (lw_at lw_m7 230 rfl) rfl
theorem q1733 : (Jvm.Cond.selects "StaveScoreModel" ({ cls := "StaveScoreModel", name := "play", desc := "(II)I" } : Jvm.MethodName) ({ cls := "StaveScoreModel", name := "play", desc := "(II)I" } : Jvm.MethodName)) ∈ lw_all := lw_g (lw_at lw_m7 231 rfl) rfl
theorem q1734 : (Jvm.Cond.code ({ cls := "StaveScoreModel", name := "play", desc := "(II)I" } : Jvm.MethodName) prog_21_method_79_code (8 : Nat) (Option.some Jvm.ClassFile.FieldType.int)) ∈ lw_all := lw_g (lw_at lw_m7 232 rfl) rfl
theorem q1736 : (Jvm.Cond.instanceMethod ({ cls := "StaveScoreModel", name := "failures", desc := "(I)I" } : Jvm.MethodName)) ∈ lw_all := lw_g (lw_at lw_m7 234 rfl) rfl
theorem q1737 : (Jvm.Cond.selects "StaveScoreModel" ({ cls := "StaveScoreModel", name := "failures", desc := "(I)I" } : Jvm.MethodName) ({ cls := "StaveScoreModel", name := "failures", desc := "(I)I" } : Jvm.MethodName)) ∈ lw_all := lw_g (lw_at lw_m7 235 rfl) rfl
theorem q1738 : (Jvm.Cond.code ({ cls := "StaveScoreModel", name := "failures", desc := "(I)I" } : Jvm.MethodName) prog_21_method_80_code (2 : Nat) (Option.some Jvm.ClassFile.FieldType.int)) ∈ lw_all := lw_g (lw_at lw_m7 236 rfl) rfl
theorem q1740 : (Jvm.Cond.instanceMethod ({ cls := "StaveScoreModel", name := "status", desc := "()I" } : Jvm.MethodName)) ∈ lw_all := lw_g (lw_at lw_m7 238 rfl) rfl
theorem q1741 : (Jvm.Cond.selects "StaveScoreModel" ({ cls := "StaveScoreModel", name := "status", desc := "()I" } : Jvm.MethodName) ({ cls := "StaveScoreModel", name := "status", desc := "()I" } : Jvm.MethodName)) ∈ lw_all := lw_g (lw_at lw_m7 239 rfl) rfl
theorem q1742 : (Jvm.Cond.code ({ cls := "StaveScoreModel", name := "status", desc := "()I" } : Jvm.MethodName) prog_21_method_81_code (1 : Nat) (Option.some Jvm.ClassFile.FieldType.int)) ∈ lw_all := lw_g (lw_at lw_m8 0 rfl) rfl
theorem q1744 : (Jvm.Cond.instanceMethod ({ cls := "StaveScoreModel", name := "trace", desc := "()J" } : Jvm.MethodName)) ∈ lw_all := lw_g (lw_at lw_m8 2 rfl) rfl
theorem q1745 : (Jvm.Cond.selects "StaveScoreModel" ({ cls := "StaveScoreModel", name := "trace", desc := "()J" } : Jvm.MethodName) ({ cls := "StaveScoreModel", name := "trace", desc := "()J" } : Jvm.MethodName)) ∈ lw_all := lw_g (lw_at lw_m8 3 rfl) rfl
theorem q1746 : (Jvm.Cond.code ({ cls := "StaveScoreModel", name := "trace", desc := "()J" } : Jvm.MethodName) prog_21_method_82_code (1 : Nat) (Option.some Jvm.ClassFile.FieldType.long)) ∈ lw_all := lw_g (lw_at lw_m8 4 rfl) rfl
theorem q1748 : (Jvm.Cond.instanceMethod ({ cls := "StaveScoreModel", name := "count", desc := "(I)I" } : Jvm.MethodName)) ∈ lw_all := lw_g (lw_at lw_m8 6 rfl) rfl
theorem q1749 : (Jvm.Cond.selects "StaveScoreModel" ({ cls := "StaveScoreModel", name := "count", desc := "(I)I" } : Jvm.MethodName) ({ cls := "StaveScoreModel", name := "count", desc := "(I)I" } : Jvm.MethodName)) ∈ lw_all := lw_g (lw_at lw_m8 7 rfl) rfl
theorem q1750 : (Jvm.Cond.code ({ cls := "StaveScoreModel", name := "count", desc := "(I)I" } : Jvm.MethodName) prog_21_method_83_code (2 : Nat) (Option.some Jvm.ClassFile.FieldType.int)) ∈ lw_all := lw_g (lw_at lw_m8 8 rfl) rfl
theorem in_X4 : ∀ w ∈ wsX40, w ∈ lw_all := lw_in wsX40 [1311, 1313, 1315, 1317, 1319, 1321, 1323, 1325, 1327, 1329, 1331, 1333, 1335, 1337, 1339, 1341, 1343, 1345, 1347, 1349, 1351, 1353, 1355, 1357, 1359, 1361, 1363, 1365, 1367, 1369, 1371, 1373, 1375, 1377, 1379, 1381, 1383, 1385, 1387, 1389, 1391, 1393, 1395, 1397, 1399, 1401, 1403, 1405, 1407, 1409, 1411] (by decide +kernel) (by decide +kernel)
