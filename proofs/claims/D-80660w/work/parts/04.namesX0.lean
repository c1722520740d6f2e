/-! StaveScore -/
set_option maxRecDepth 100000
def RX0 : String := "StaveScore"
def TX0 : u_T := fun k => match k with
  | 0 => ("StaveScore", "part", "[LStaveScore$Hears;", true)
  | 1 => ("StaveScore", "parts", "I", false)
  | 2 => ("StaveScore", "barBegin", "[LStaveScore$Fraction;", true)
  | 3 => ("StaveScore", "bars", "I", false)
  | 4 => ("StaveScore", "voice", "[LStaveScore$Voice;", true)
  | 5 => ("StaveScore", "event", "[LStaveScore$Event;", true)
  | 6 => ("StaveScore", "ever", "I", false)
  | 7 => ("StaveScore", "there", "I", false)
  | 8 => ("StaveScore", "tuplet", "[LStaveScore$Tuplet;", true)
  | 9 => ("StaveScore", "tuplets", "I", false)
  | 10 => ("StaveScore", "line", "[LStaveScore$Line;", true)
  | 11 => ("StaveScore", "lines", "I", false)
  | 12 => ("StaveScore", "racks", "[[LStaveScore$Event;", true)
  | 13 => ("StaveScore", "shelves", "[LStaveScore$Shelf;", true)
  | 14 => ("StaveScore", "walk", "[I", true)
  | 15 => ("StaveScore", "walked", "I", false)
  | 16 => ("StaveScore", "found", "[I", true)
  | 17 => ("StaveScore", "findings", "I", false)
  | 18 => ("StaveScore", "failures", "[I", true)
  | 19 => ("StaveScore", "status", "I", false)
  | 20 => ("StaveScore", "trace", "J", false)
  | 21 => ("StaveScore", "scale", "[B", true)
  | 22 => ("StaveScore", "part1", "LStaveScore$Fraction;", true)
  | _ => ("StaveScore", "sum", "LStaveScore$Fraction;", true)
def tyX0 : Nat → FieldType := fun k => match k with
  | 0 => .array (.object "StaveScore$Hears")
  | 1 => .int
  | 2 => .array (.object "StaveScore$Fraction")
  | 3 => .int
  | 4 => .array (.object "StaveScore$Voice")
  | 5 => .array (.object "StaveScore$Event")
  | 6 => .int
  | 7 => .int
  | 8 => .array (.object "StaveScore$Tuplet")
  | 9 => .int
  | 10 => .array (.object "StaveScore$Line")
  | 11 => .int
  | 12 => .array (.array (.object "StaveScore$Event"))
  | 13 => .array (.object "StaveScore$Shelf")
  | 14 => .array .int
  | 15 => .int
  | 16 => .array .int
  | 17 => .int
  | 18 => .array .int
  | 19 => .int
  | 20 => .long
  | 21 => .array .byte
  | 22 => .object "StaveScore$Fraction"
  | _ => .object "StaveScore$Fraction"
abbrev wsX00 : List Cond := u_ws RX0 TX0 24
set_option maxRecDepth 100000 in
theorem nmX0 : ∀ a, a < 24 → ∀ b, b < 24 → a ≠ b → (TX0 a).2.1 ≠ (TX0 b).2.1 := by decide +kernel
set_option maxRecDepth 100000 in
theorem tyX0_ok : ∀ k, k < 24 → parseFieldDescriptor (TX0 k).2.2.1 = some (tyX0 k) := by decide +kernel
abbrev cX0_init : ByteArray := prog_1_method_2_code
def yX0_init : MethodName := ⟨RX0, "<init>", "()V"⟩
def dkwX0_init_9 : List UInt8 := [132, 1, 1, 167, 255, 235, 177]
abbrev dktX0_init_9 : List UInt8 := dkwX0_init_9 ++ []
def dkwX0_init_8 : List UInt8 := [167, 255, 231, 3, 60, 27, 7, 162, 0, 22, 42, 180, 0, 72, 27, 187, 0, 70, 89, 183, 0, 99, 83]
abbrev dktX0_init_8 : List UInt8 := dkwX0_init_8 ++ dktX0_init_9
def dkwX0_init_7 : List UInt8 := [180, 0, 43, 190, 162, 0, 22, 42, 180, 0, 43, 27, 187, 0, 41, 89, 183, 0, 98, 83, 132, 1, 1]
abbrev dktX0_init_7 : List UInt8 := dkwX0_init_7 ++ dktX0_init_8
def dkwX0_init_6 : List UInt8 := [180, 0, 37, 27, 187, 0, 35, 89, 183, 0, 90, 83, 132, 1, 1, 167, 255, 234, 3, 60, 27, 42]
abbrev dktX0_init_6 : List UInt8 := dkwX0_init_6 ++ dktX0_init_7
def dkwX0_init_5 : List UInt8 := [181, 0, 91, 42, 187, 0, 35, 89, 183, 0, 90, 181, 0, 95, 3, 60, 27, 16, 24, 163, 0, 22, 42]
abbrev dktX0_init_5 : List UInt8 := dkwX0_init_5 ++ dktX0_init_6
def dkwX0_init_4 : List UInt8 := [42, 8, 188, 10, 181, 0, 83, 42, 17, 0, 128, 188, 8, 181, 0, 86, 42, 187, 0, 35, 89, 183, 0, 90]
abbrev dktX0_init_4 : List UInt8 := dkwX0_init_4 ++ dktX0_init_5
def dkwX0_init_3 : List UInt8 := [189, 0, 70, 181, 0, 72, 42, 17, 0, 150, 188, 10, 181, 0, 76, 42, 17, 1, 44, 188, 10, 181, 0, 80]
abbrev dktX0_init_3 : List UInt8 := dkwX0_init_3 ++ dktX0_init_4
def dkwX0_init_2 : List UInt8 := [181, 0, 55, 42, 16, 30, 189, 0, 59, 181, 0, 61, 42, 7, 189, 0, 65, 181, 0, 66, 42, 7]
abbrev dktX0_init_2 : List UInt8 := dkwX0_init_2 ++ dktX0_init_3
def dkwX0_init_1 : List UInt8 := [16, 18, 189, 0, 41, 181, 0, 43, 42, 17, 0, 150, 189, 0, 47, 181, 0, 49, 42, 16, 20, 189, 0, 53]
abbrev dktX0_init_1 : List UInt8 := dkwX0_init_1 ++ dktX0_init_2
def dkwX0_init_0 : List UInt8 := [42, 183, 0, 22, 42, 16, 6, 189, 0, 29, 181, 0, 31, 42, 16, 25, 189, 0, 35, 181, 0, 37, 42]
abbrev dktX0_init_0 : List UInt8 := dkwX0_init_0 ++ dktX0_init_1
theorem dksX0_init_0 : cX0_init.data.toList.drop 0 = dktX0_init_0 := by decide +kernel
theorem dksX0_init_1 : cX0_init.data.toList.drop 23 = dktX0_init_1 := dk_seg dksX0_init_0 23 rfl rfl
theorem dksX0_init_2 : cX0_init.data.toList.drop 47 = dktX0_init_2 := dk_seg dksX0_init_1 24 rfl rfl
theorem dksX0_init_3 : cX0_init.data.toList.drop 69 = dktX0_init_3 := dk_seg dksX0_init_2 22 rfl rfl
theorem dksX0_init_4 : cX0_init.data.toList.drop 93 = dktX0_init_4 := dk_seg dksX0_init_3 24 rfl rfl
theorem dksX0_init_5 : cX0_init.data.toList.drop 117 = dktX0_init_5 := dk_seg dksX0_init_4 24 rfl rfl
theorem dksX0_init_6 : cX0_init.data.toList.drop 140 = dktX0_init_6 := dk_seg dksX0_init_5 23 rfl rfl
theorem dksX0_init_7 : cX0_init.data.toList.drop 162 = dktX0_init_7 := dk_seg dksX0_init_6 22 rfl rfl
theorem dksX0_init_8 : cX0_init.data.toList.drop 185 = dktX0_init_8 := dk_seg dksX0_init_7 23 rfl rfl
theorem dksX0_init_9 : cX0_init.data.toList.drop 208 = dktX0_init_9 := dk_seg dksX0_init_8 23 rfl rfl
theorem dX0_init_0 : decode cX0_init 0 = .ok (.aload_n 0, 1) := dk_42 (dk_at dksX0_init_0 0 rfl rfl)
theorem dX0_init_1 : decode cX0_init 1 = .ok (.invokespecial 22, 3) := dk_183 0 22 (dk_at dksX0_init_0 1 rfl rfl)
theorem dX0_init_4 : decode cX0_init 4 = .ok (.aload_n 0, 1) := dk_42 (dk_at dksX0_init_0 4 rfl rfl)
theorem dX0_init_5 : decode cX0_init 5 = .ok (.bipush 6, 2) := dk_16 6 (dk_at dksX0_init_0 5 rfl rfl)
theorem dX0_init_7 : decode cX0_init 7 = .ok (.anewarray 29, 3) := dk_189 0 29 (dk_at dksX0_init_0 7 rfl rfl)
theorem dX0_init_10 : decode cX0_init 10 = .ok (.putfield 31, 3) := dk_181 0 31 (dk_at dksX0_init_0 10 rfl rfl)
theorem dX0_init_13 : decode cX0_init 13 = .ok (.aload_n 0, 1) := dk_42 (dk_at dksX0_init_0 13 rfl rfl)
theorem dX0_init_14 : decode cX0_init 14 = .ok (.bipush 25, 2) := dk_16 25 (dk_at dksX0_init_0 14 rfl rfl)
theorem dX0_init_16 : decode cX0_init 16 = .ok (.anewarray 35, 3) := dk_189 0 35 (dk_at dksX0_init_0 16 rfl rfl)
theorem dX0_init_19 : decode cX0_init 19 = .ok (.putfield 37, 3) := dk_181 0 37 (dk_at dksX0_init_0 19 rfl rfl)
theorem dX0_init_22 : decode cX0_init 22 = .ok (.aload_n 0, 1) := dk_42 (dk_at dksX0_init_0 22 rfl rfl)
theorem dX0_init_23 : decode cX0_init 23 = .ok (.bipush 18, 2) := dk_16 18 (dk_at dksX0_init_1 0 rfl rfl)
theorem dX0_init_25 : decode cX0_init 25 = .ok (.anewarray 41, 3) := dk_189 0 41 (dk_at dksX0_init_1 2 rfl rfl)
theorem dX0_init_28 : decode cX0_init 28 = .ok (.putfield 43, 3) := dk_181 0 43 (dk_at dksX0_init_1 5 rfl rfl)
theorem dX0_init_31 : decode cX0_init 31 = .ok (.aload_n 0, 1) := dk_42 (dk_at dksX0_init_1 8 rfl rfl)
theorem dX0_init_32 : decode cX0_init 32 = .ok (.sipush 150, 3) := dk_17 0 150 (dk_at dksX0_init_1 9 rfl rfl)
theorem dX0_init_35 : decode cX0_init 35 = .ok (.anewarray 47, 3) := dk_189 0 47 (dk_at dksX0_init_1 12 rfl rfl)
theorem dX0_init_38 : decode cX0_init 38 = .ok (.putfield 49, 3) := dk_181 0 49 (dk_at dksX0_init_1 15 rfl rfl)
theorem dX0_init_41 : decode cX0_init 41 = .ok (.aload_n 0, 1) := dk_42 (dk_at dksX0_init_1 18 rfl rfl)
theorem dX0_init_42 : decode cX0_init 42 = .ok (.bipush 20, 2) := dk_16 20 (dk_at dksX0_init_1 19 rfl rfl)
theorem dX0_init_44 : decode cX0_init 44 = .ok (.anewarray 53, 3) := dk_189 0 53 (dk_at dksX0_init_1 21 rfl rfl)
theorem dX0_init_47 : decode cX0_init 47 = .ok (.putfield 55, 3) := dk_181 0 55 (dk_at dksX0_init_2 0 rfl rfl)
theorem dX0_init_50 : decode cX0_init 50 = .ok (.aload_n 0, 1) := dk_42 (dk_at dksX0_init_2 3 rfl rfl)
theorem dX0_init_51 : decode cX0_init 51 = .ok (.bipush 30, 2) := dk_16 30 (dk_at dksX0_init_2 4 rfl rfl)
theorem dX0_init_53 : decode cX0_init 53 = .ok (.anewarray 59, 3) := dk_189 0 59 (dk_at dksX0_init_2 6 rfl rfl)
theorem dX0_init_56 : decode cX0_init 56 = .ok (.putfield 61, 3) := dk_181 0 61 (dk_at dksX0_init_2 9 rfl rfl)
theorem dX0_init_59 : decode cX0_init 59 = .ok (.aload_n 0, 1) := dk_42 (dk_at dksX0_init_2 12 rfl rfl)
theorem dX0_init_60 : decode cX0_init 60 = .ok (.iconst 4, 1) := dk_7 (dk_at dksX0_init_2 13 rfl rfl)
theorem dX0_init_61 : decode cX0_init 61 = .ok (.anewarray 65, 3) := dk_189 0 65 (dk_at dksX0_init_2 14 rfl rfl)
theorem dX0_init_64 : decode cX0_init 64 = .ok (.putfield 66, 3) := dk_181 0 66 (dk_at dksX0_init_2 17 rfl rfl)
theorem dX0_init_67 : decode cX0_init 67 = .ok (.aload_n 0, 1) := dk_42 (dk_at dksX0_init_2 20 rfl rfl)
theorem dX0_init_68 : decode cX0_init 68 = .ok (.iconst 4, 1) := dk_7 (dk_at dksX0_init_2 21 rfl rfl)
theorem dX0_init_69 : decode cX0_init 69 = .ok (.anewarray 70, 3) := dk_189 0 70 (dk_at dksX0_init_3 0 rfl rfl)
theorem dX0_init_72 : decode cX0_init 72 = .ok (.putfield 72, 3) := dk_181 0 72 (dk_at dksX0_init_3 3 rfl rfl)
theorem dX0_init_75 : decode cX0_init 75 = .ok (.aload_n 0, 1) := dk_42 (dk_at dksX0_init_3 6 rfl rfl)
theorem dX0_init_76 : decode cX0_init 76 = .ok (.sipush 150, 3) := dk_17 0 150 (dk_at dksX0_init_3 7 rfl rfl)
theorem dX0_init_79 : decode cX0_init 79 = .ok (.newarray .int, 2) := dk_188_10 (dk_at dksX0_init_3 10 rfl rfl)
theorem dX0_init_81 : decode cX0_init 81 = .ok (.putfield 76, 3) := dk_181 0 76 (dk_at dksX0_init_3 12 rfl rfl)
theorem dX0_init_84 : decode cX0_init 84 = .ok (.aload_n 0, 1) := dk_42 (dk_at dksX0_init_3 15 rfl rfl)
theorem dX0_init_85 : decode cX0_init 85 = .ok (.sipush 300, 3) := dk_17 1 44 (dk_at dksX0_init_3 16 rfl rfl)
theorem dX0_init_88 : decode cX0_init 88 = .ok (.newarray .int, 2) := dk_188_10 (dk_at dksX0_init_3 19 rfl rfl)
theorem dX0_init_90 : decode cX0_init 90 = .ok (.putfield 80, 3) := dk_181 0 80 (dk_at dksX0_init_3 21 rfl rfl)
theorem dX0_init_93 : decode cX0_init 93 = .ok (.aload_n 0, 1) := dk_42 (dk_at dksX0_init_4 0 rfl rfl)
theorem dX0_init_94 : decode cX0_init 94 = .ok (.iconst 5, 1) := dk_8 (dk_at dksX0_init_4 1 rfl rfl)
theorem dX0_init_95 : decode cX0_init 95 = .ok (.newarray .int, 2) := dk_188_10 (dk_at dksX0_init_4 2 rfl rfl)
theorem dX0_init_97 : decode cX0_init 97 = .ok (.putfield 83, 3) := dk_181 0 83 (dk_at dksX0_init_4 4 rfl rfl)
theorem dX0_init_100 : decode cX0_init 100 = .ok (.aload_n 0, 1) := dk_42 (dk_at dksX0_init_4 7 rfl rfl)
theorem dX0_init_101 : decode cX0_init 101 = .ok (.sipush 128, 3) := dk_17 0 128 (dk_at dksX0_init_4 8 rfl rfl)
theorem dX0_init_104 : decode cX0_init 104 = .ok (.newarray .byte, 2) := dk_188_8 (dk_at dksX0_init_4 11 rfl rfl)
theorem dX0_init_106 : decode cX0_init 106 = .ok (.putfield 86, 3) := dk_181 0 86 (dk_at dksX0_init_4 13 rfl rfl)
theorem dX0_init_109 : decode cX0_init 109 = .ok (.aload_n 0, 1) := dk_42 (dk_at dksX0_init_4 16 rfl rfl)
theorem dX0_init_110 : decode cX0_init 110 = .ok (.new 35, 3) := dk_187 0 35 (dk_at dksX0_init_4 17 rfl rfl)
theorem dX0_init_113 : decode cX0_init 113 = .ok (.dup, 1) := dk_89 (dk_at dksX0_init_4 20 rfl rfl)
theorem dX0_init_114 : decode cX0_init 114 = .ok (.invokespecial 90, 3) := dk_183 0 90 (dk_at dksX0_init_4 21 rfl rfl)
theorem dX0_init_117 : decode cX0_init 117 = .ok (.putfield 91, 3) := dk_181 0 91 (dk_at dksX0_init_5 0 rfl rfl)
theorem dX0_init_120 : decode cX0_init 120 = .ok (.aload_n 0, 1) := dk_42 (dk_at dksX0_init_5 3 rfl rfl)
theorem dX0_init_121 : decode cX0_init 121 = .ok (.new 35, 3) := dk_187 0 35 (dk_at dksX0_init_5 4 rfl rfl)
theorem dX0_init_124 : decode cX0_init 124 = .ok (.dup, 1) := dk_89 (dk_at dksX0_init_5 7 rfl rfl)
theorem dX0_init_125 : decode cX0_init 125 = .ok (.invokespecial 90, 3) := dk_183 0 90 (dk_at dksX0_init_5 8 rfl rfl)
theorem dX0_init_128 : decode cX0_init 128 = .ok (.putfield 95, 3) := dk_181 0 95 (dk_at dksX0_init_5 11 rfl rfl)
theorem dX0_init_131 : decode cX0_init 131 = .ok (.iconst 0, 1) := dk_3 (dk_at dksX0_init_5 14 rfl rfl)
theorem dX0_init_132 : decode cX0_init 132 = .ok (.istore_n 1, 1) := dk_60 (dk_at dksX0_init_5 15 rfl rfl)
theorem dX0_init_133 : decode cX0_init 133 = .ok (.iload_n 1, 1) := dk_27 (dk_at dksX0_init_5 16 rfl rfl)
theorem dX0_init_134 : decode cX0_init 134 = .ok (.bipush 24, 2) := dk_16 24 (dk_at dksX0_init_5 17 rfl rfl)
theorem dX0_init_136 : decode cX0_init 136 = .ok (.if_icmp .gt 22, 3) := dk_163 0 22 (dk_at dksX0_init_5 19 rfl rfl)
theorem dX0_init_139 : decode cX0_init 139 = .ok (.aload_n 0, 1) := dk_42 (dk_at dksX0_init_5 22 rfl rfl)
theorem dX0_init_140 : decode cX0_init 140 = .ok (.getfield 37, 3) := dk_180 0 37 (dk_at dksX0_init_6 0 rfl rfl)
theorem dX0_init_143 : decode cX0_init 143 = .ok (.iload_n 1, 1) := dk_27 (dk_at dksX0_init_6 3 rfl rfl)
theorem dX0_init_144 : decode cX0_init 144 = .ok (.new 35, 3) := dk_187 0 35 (dk_at dksX0_init_6 4 rfl rfl)
theorem dX0_init_147 : decode cX0_init 147 = .ok (.dup, 1) := dk_89 (dk_at dksX0_init_6 7 rfl rfl)
theorem dX0_init_148 : decode cX0_init 148 = .ok (.invokespecial 90, 3) := dk_183 0 90 (dk_at dksX0_init_6 8 rfl rfl)
theorem dX0_init_151 : decode cX0_init 151 = .ok (.aastore, 1) := dk_83 (dk_at dksX0_init_6 11 rfl rfl)
theorem dX0_init_152 : decode cX0_init 152 = .ok (.iinc 1 1, 3) := dk_132 1 1 (dk_at dksX0_init_6 12 rfl rfl)
theorem dX0_init_155 : decode cX0_init 155 = .ok (.goto (-22), 3) := dk_167 255 234 (dk_at dksX0_init_6 15 rfl rfl)
theorem dX0_init_158 : decode cX0_init 158 = .ok (.iconst 0, 1) := dk_3 (dk_at dksX0_init_6 18 rfl rfl)
theorem dX0_init_159 : decode cX0_init 159 = .ok (.istore_n 1, 1) := dk_60 (dk_at dksX0_init_6 19 rfl rfl)
theorem dX0_init_160 : decode cX0_init 160 = .ok (.iload_n 1, 1) := dk_27 (dk_at dksX0_init_6 20 rfl rfl)
theorem dX0_init_161 : decode cX0_init 161 = .ok (.aload_n 0, 1) := dk_42 (dk_at dksX0_init_6 21 rfl rfl)
theorem dX0_init_162 : decode cX0_init 162 = .ok (.getfield 43, 3) := dk_180 0 43 (dk_at dksX0_init_7 0 rfl rfl)
theorem dX0_init_165 : decode cX0_init 165 = .ok (.arraylength, 1) := dk_190 (dk_at dksX0_init_7 3 rfl rfl)
theorem dX0_init_166 : decode cX0_init 166 = .ok (.if_icmp .ge 22, 3) := dk_162 0 22 (dk_at dksX0_init_7 4 rfl rfl)
theorem dX0_init_169 : decode cX0_init 169 = .ok (.aload_n 0, 1) := dk_42 (dk_at dksX0_init_7 7 rfl rfl)
theorem dX0_init_170 : decode cX0_init 170 = .ok (.getfield 43, 3) := dk_180 0 43 (dk_at dksX0_init_7 8 rfl rfl)
theorem dX0_init_173 : decode cX0_init 173 = .ok (.iload_n 1, 1) := dk_27 (dk_at dksX0_init_7 11 rfl rfl)
theorem dX0_init_174 : decode cX0_init 174 = .ok (.new 41, 3) := dk_187 0 41 (dk_at dksX0_init_7 12 rfl rfl)
theorem dX0_init_177 : decode cX0_init 177 = .ok (.dup, 1) := dk_89 (dk_at dksX0_init_7 15 rfl rfl)
theorem dX0_init_178 : decode cX0_init 178 = .ok (.invokespecial 98, 3) := dk_183 0 98 (dk_at dksX0_init_7 16 rfl rfl)
theorem dX0_init_181 : decode cX0_init 181 = .ok (.aastore, 1) := dk_83 (dk_at dksX0_init_7 19 rfl rfl)
theorem dX0_init_182 : decode cX0_init 182 = .ok (.iinc 1 1, 3) := dk_132 1 1 (dk_at dksX0_init_7 20 rfl rfl)
theorem dX0_init_185 : decode cX0_init 185 = .ok (.goto (-25), 3) := dk_167 255 231 (dk_at dksX0_init_8 0 rfl rfl)
theorem dX0_init_188 : decode cX0_init 188 = .ok (.iconst 0, 1) := dk_3 (dk_at dksX0_init_8 3 rfl rfl)
theorem dX0_init_189 : decode cX0_init 189 = .ok (.istore_n 1, 1) := dk_60 (dk_at dksX0_init_8 4 rfl rfl)
theorem dX0_init_190 : decode cX0_init 190 = .ok (.iload_n 1, 1) := dk_27 (dk_at dksX0_init_8 5 rfl rfl)
theorem dX0_init_191 : decode cX0_init 191 = .ok (.iconst 4, 1) := dk_7 (dk_at dksX0_init_8 6 rfl rfl)
theorem dX0_init_192 : decode cX0_init 192 = .ok (.if_icmp .ge 22, 3) := dk_162 0 22 (dk_at dksX0_init_8 7 rfl rfl)
theorem dX0_init_195 : decode cX0_init 195 = .ok (.aload_n 0, 1) := dk_42 (dk_at dksX0_init_8 10 rfl rfl)
theorem dX0_init_196 : decode cX0_init 196 = .ok (.getfield 72, 3) := dk_180 0 72 (dk_at dksX0_init_8 11 rfl rfl)
theorem dX0_init_199 : decode cX0_init 199 = .ok (.iload_n 1, 1) := dk_27 (dk_at dksX0_init_8 14 rfl rfl)
theorem dX0_init_200 : decode cX0_init 200 = .ok (.new 70, 3) := dk_187 0 70 (dk_at dksX0_init_8 15 rfl rfl)
theorem dX0_init_203 : decode cX0_init 203 = .ok (.dup, 1) := dk_89 (dk_at dksX0_init_8 18 rfl rfl)
theorem dX0_init_204 : decode cX0_init 204 = .ok (.invokespecial 99, 3) := dk_183 0 99 (dk_at dksX0_init_8 19 rfl rfl)
theorem dX0_init_207 : decode cX0_init 207 = .ok (.aastore, 1) := dk_83 (dk_at dksX0_init_8 22 rfl rfl)
theorem dX0_init_208 : decode cX0_init 208 = .ok (.iinc 1 1, 3) := dk_132 1 1 (dk_at dksX0_init_9 0 rfl rfl)
theorem dX0_init_211 : decode cX0_init 211 = .ok (.goto (-21), 3) := dk_167 255 235 (dk_at dksX0_init_9 3 rfl rfl)
theorem dX0_init_214 : decode cX0_init 214 = .ok (.return_, 1) := dk_177 (dk_at dksX0_init_9 6 rfl rfl)
abbrev cX0_part : ByteArray := prog_1_method_11_code
def yX0_part : MethodName := ⟨RX0, "part", "(I)I"⟩
def dkwX0_part_2 : List UInt8 := [42, 89, 180, 0, 104, 4, 96, 181, 0, 104, 42, 42, 180, 0, 104, 4, 100, 182, 0, 128, 172]
abbrev dktX0_part_2 : List UInt8 := dkwX0_part_2 ++ []
def dkwX0_part_1 : List UInt8 := [160, 0, 10, 42, 16, 252, 182, 0, 120, 172, 42, 180, 0, 31, 42, 180, 0, 104, 42, 27, 182, 0, 124, 83]
abbrev dktX0_part_1 : List UInt8 := dkwX0_part_1 ++ dktX0_part_2
def dkwX0_part_0 : List UInt8 := [27, 3, 8, 184, 0, 107, 154, 0, 10, 42, 16, 254, 182, 0, 120, 172, 42, 180, 0, 104, 16, 6]
abbrev dktX0_part_0 : List UInt8 := dkwX0_part_0 ++ dktX0_part_1
theorem dksX0_part_0 : cX0_part.data.toList.drop 0 = dktX0_part_0 := by decide +kernel
theorem dksX0_part_1 : cX0_part.data.toList.drop 22 = dktX0_part_1 := dk_seg dksX0_part_0 22 rfl rfl
theorem dksX0_part_2 : cX0_part.data.toList.drop 46 = dktX0_part_2 := dk_seg dksX0_part_1 24 rfl rfl
theorem dX0_part_0 : decode cX0_part 0 = .ok (.iload_n 1, 1) := dk_27 (dk_at dksX0_part_0 0 rfl rfl)
theorem dX0_part_1 : decode cX0_part 1 = .ok (.iconst 0, 1) := dk_3 (dk_at dksX0_part_0 1 rfl rfl)
theorem dX0_part_2 : decode cX0_part 2 = .ok (.iconst 5, 1) := dk_8 (dk_at dksX0_part_0 2 rfl rfl)
theorem dX0_part_3 : decode cX0_part 3 = .ok (.invokestatic 107, 3) := dk_184 0 107 (dk_at dksX0_part_0 3 rfl rfl)
theorem dX0_part_6 : decode cX0_part 6 = .ok (.ifCond .ne 10, 3) := dk_154 0 10 (dk_at dksX0_part_0 6 rfl rfl)
theorem dX0_part_9 : decode cX0_part 9 = .ok (.aload_n 0, 1) := dk_42 (dk_at dksX0_part_0 9 rfl rfl)
theorem dX0_part_10 : decode cX0_part 10 = .ok (.bipush (-2), 2) := dk_16 254 (dk_at dksX0_part_0 10 rfl rfl)
theorem dX0_part_12 : decode cX0_part 12 = .ok (.invokevirtual 120, 3) := dk_182 0 120 (dk_at dksX0_part_0 12 rfl rfl)
theorem dX0_part_15 : decode cX0_part 15 = .ok (.ireturn, 1) := dk_172 (dk_at dksX0_part_0 15 rfl rfl)
theorem dX0_part_16 : decode cX0_part 16 = .ok (.aload_n 0, 1) := dk_42 (dk_at dksX0_part_0 16 rfl rfl)
theorem dX0_part_17 : decode cX0_part 17 = .ok (.getfield 104, 3) := dk_180 0 104 (dk_at dksX0_part_0 17 rfl rfl)
theorem dX0_part_20 : decode cX0_part 20 = .ok (.bipush 6, 2) := dk_16 6 (dk_at dksX0_part_0 20 rfl rfl)
theorem dX0_part_22 : decode cX0_part 22 = .ok (.if_icmp .ne 10, 3) := dk_160 0 10 (dk_at dksX0_part_1 0 rfl rfl)
theorem dX0_part_25 : decode cX0_part 25 = .ok (.aload_n 0, 1) := dk_42 (dk_at dksX0_part_1 3 rfl rfl)
theorem dX0_part_26 : decode cX0_part 26 = .ok (.bipush (-4), 2) := dk_16 252 (dk_at dksX0_part_1 4 rfl rfl)
theorem dX0_part_28 : decode cX0_part 28 = .ok (.invokevirtual 120, 3) := dk_182 0 120 (dk_at dksX0_part_1 6 rfl rfl)
theorem dX0_part_31 : decode cX0_part 31 = .ok (.ireturn, 1) := dk_172 (dk_at dksX0_part_1 9 rfl rfl)
theorem dX0_part_32 : decode cX0_part 32 = .ok (.aload_n 0, 1) := dk_42 (dk_at dksX0_part_1 10 rfl rfl)
theorem dX0_part_33 : decode cX0_part 33 = .ok (.getfield 31, 3) := dk_180 0 31 (dk_at dksX0_part_1 11 rfl rfl)
theorem dX0_part_36 : decode cX0_part 36 = .ok (.aload_n 0, 1) := dk_42 (dk_at dksX0_part_1 14 rfl rfl)
theorem dX0_part_37 : decode cX0_part 37 = .ok (.getfield 104, 3) := dk_180 0 104 (dk_at dksX0_part_1 15 rfl rfl)
theorem dX0_part_40 : decode cX0_part 40 = .ok (.aload_n 0, 1) := dk_42 (dk_at dksX0_part_1 18 rfl rfl)
theorem dX0_part_41 : decode cX0_part 41 = .ok (.iload_n 1, 1) := dk_27 (dk_at dksX0_part_1 19 rfl rfl)
theorem dX0_part_42 : decode cX0_part 42 = .ok (.invokevirtual 124, 3) := dk_182 0 124 (dk_at dksX0_part_1 20 rfl rfl)
theorem dX0_part_45 : decode cX0_part 45 = .ok (.aastore, 1) := dk_83 (dk_at dksX0_part_1 23 rfl rfl)
theorem dX0_part_46 : decode cX0_part 46 = .ok (.aload_n 0, 1) := dk_42 (dk_at dksX0_part_2 0 rfl rfl)
theorem dX0_part_47 : decode cX0_part 47 = .ok (.dup, 1) := dk_89 (dk_at dksX0_part_2 1 rfl rfl)
theorem dX0_part_48 : decode cX0_part 48 = .ok (.getfield 104, 3) := dk_180 0 104 (dk_at dksX0_part_2 2 rfl rfl)
theorem dX0_part_51 : decode cX0_part 51 = .ok (.iconst 1, 1) := dk_4 (dk_at dksX0_part_2 5 rfl rfl)
theorem dX0_part_52 : decode cX0_part 52 = .ok (.iadd, 1) := dk_96 (dk_at dksX0_part_2 6 rfl rfl)
theorem dX0_part_53 : decode cX0_part 53 = .ok (.putfield 104, 3) := dk_181 0 104 (dk_at dksX0_part_2 7 rfl rfl)
theorem dX0_part_56 : decode cX0_part 56 = .ok (.aload_n 0, 1) := dk_42 (dk_at dksX0_part_2 10 rfl rfl)
theorem dX0_part_57 : decode cX0_part 57 = .ok (.aload_n 0, 1) := dk_42 (dk_at dksX0_part_2 11 rfl rfl)
theorem dX0_part_58 : decode cX0_part 58 = .ok (.getfield 104, 3) := dk_180 0 104 (dk_at dksX0_part_2 12 rfl rfl)
theorem dX0_part_61 : decode cX0_part 61 = .ok (.iconst 1, 1) := dk_4 (dk_at dksX0_part_2 15 rfl rfl)
theorem dX0_part_62 : decode cX0_part 62 = .ok (.isub, 1) := dk_100 (dk_at dksX0_part_2 16 rfl rfl)
theorem dX0_part_63 : decode cX0_part 63 = .ok (.invokevirtual 128, 3) := dk_182 0 128 (dk_at dksX0_part_2 17 rfl rfl)
theorem dX0_part_66 : decode cX0_part 66 = .ok (.ireturn, 1) := dk_172 (dk_at dksX0_part_2 20 rfl rfl)
abbrev cX0_in : ByteArray := prog_1_method_3_code
def yX0_in : MethodName := ⟨RX0, "in", "(III)Z"⟩
def dkwX0_in_0 : List UInt8 := [26, 27, 161, 0, 12, 26, 28, 163, 0, 7, 4, 167, 0, 4, 3, 172]
abbrev dktX0_in_0 : List UInt8 := dkwX0_in_0 ++ []
theorem dksX0_in_0 : cX0_in.data.toList.drop 0 = dktX0_in_0 := by decide +kernel
theorem dX0_in_0 : decode cX0_in 0 = .ok (.iload_n 0, 1) := dk_26 (dk_at dksX0_in_0 0 rfl rfl)
theorem dX0_in_1 : decode cX0_in 1 = .ok (.iload_n 1, 1) := dk_27 (dk_at dksX0_in_0 1 rfl rfl)
theorem dX0_in_2 : decode cX0_in 2 = .ok (.if_icmp .lt 12, 3) := dk_161 0 12 (dk_at dksX0_in_0 2 rfl rfl)
theorem dX0_in_5 : decode cX0_in 5 = .ok (.iload_n 0, 1) := dk_26 (dk_at dksX0_in_0 5 rfl rfl)
theorem dX0_in_6 : decode cX0_in 6 = .ok (.iload_n 2, 1) := dk_28 (dk_at dksX0_in_0 6 rfl rfl)
theorem dX0_in_7 : decode cX0_in 7 = .ok (.if_icmp .gt 7, 3) := dk_163 0 7 (dk_at dksX0_in_0 7 rfl rfl)
theorem dX0_in_10 : decode cX0_in 10 = .ok (.iconst 1, 1) := dk_4 (dk_at dksX0_in_0 10 rfl rfl)
theorem dX0_in_11 : decode cX0_in 11 = .ok (.goto 4, 3) := dk_167 0 4 (dk_at dksX0_in_0 11 rfl rfl)
theorem dX0_in_14 : decode cX0_in 14 = .ok (.iconst 0, 1) := dk_3 (dk_at dksX0_in_0 14 rfl rfl)
theorem dX0_in_15 : decode cX0_in 15 = .ok (.ireturn, 1) := dk_172 (dk_at dksX0_in_0 15 rfl rfl)
abbrev cX0_refuses : ByteArray := prog_1_method_5_code
def yX0_refuses : MethodName := ⟨RX0, "refuses", "(I)I"⟩
def dkwX0_refuses_0 : List UInt8 := [42, 27, 181, 0, 100, 27, 172]
abbrev dktX0_refuses_0 : List UInt8 := dkwX0_refuses_0 ++ []
theorem dksX0_refuses_0 : cX0_refuses.data.toList.drop 0 = dktX0_refuses_0 := by decide +kernel
theorem dX0_refuses_0 : decode cX0_refuses 0 = .ok (.aload_n 0, 1) := dk_42 (dk_at dksX0_refuses_0 0 rfl rfl)
theorem dX0_refuses_1 : decode cX0_refuses 1 = .ok (.iload_n 1, 1) := dk_27 (dk_at dksX0_refuses_0 1 rfl rfl)
theorem dX0_refuses_2 : decode cX0_refuses 2 = .ok (.putfield 100, 3) := dk_181 0 100 (dk_at dksX0_refuses_0 2 rfl rfl)
theorem dX0_refuses_5 : decode cX0_refuses 5 = .ok (.iload_n 1, 1) := dk_27 (dk_at dksX0_refuses_0 5 rfl rfl)
theorem dX0_refuses_6 : decode cX0_refuses 6 = .ok (.ireturn, 1) := dk_172 (dk_at dksX0_refuses_0 6 rfl rfl)
abbrev cX0_made : ByteArray := prog_1_method_1_code
def yX0_made : MethodName := ⟨RX0, "made", "(I)LStaveScore$Hears;"⟩
def dkwX0_made_4 : List UInt8 := [187, 0, 19, 89, 42, 183, 0, 21, 176]
abbrev dktX0_made_4 : List UInt8 := dkwX0_made_4 ++ []
def dkwX0_made_3 : List UInt8 := [183, 0, 12, 176, 187, 0, 13, 89, 42, 183, 0, 15, 176, 187, 0, 16, 89, 42, 183, 0, 18, 176]
abbrev dktX0_made_3 : List UInt8 := dkwX0_made_3 ++ dktX0_made_4
def dkwX0_made_2 : List UInt8 := [187, 0, 1, 89, 42, 183, 0, 3, 176, 187, 0, 7, 89, 42, 183, 0, 9, 176, 187, 0, 10, 89, 42]
abbrev dktX0_made_2 : List UInt8 := dkwX0_made_2 ++ dktX0_made_3
def dkwX0_made_1 : List UInt8 := [170, 0, 0, 0, 0, 0, 80, 0, 0, 0, 0, 0, 0, 0, 4, 0, 0, 0, 35, 0, 0, 0, 44, 0, 0, 0, 53, 0, 0, 0, 62, 0, 0, 0, 71]
abbrev dktX0_made_1 : List UInt8 := dkwX0_made_1 ++ dktX0_made_2
def dkwX0_made_0 : List UInt8 := [27]
abbrev dktX0_made_0 : List UInt8 := dkwX0_made_0 ++ dktX0_made_1
theorem dksX0_made_0 : cX0_made.data.toList.drop 0 = dktX0_made_0 := by decide +kernel
theorem dksX0_made_1 : cX0_made.data.toList.drop 1 = dktX0_made_1 := dk_seg dksX0_made_0 1 rfl rfl
theorem dksX0_made_2 : cX0_made.data.toList.drop 36 = dktX0_made_2 := dk_seg dksX0_made_1 35 rfl rfl
theorem dksX0_made_3 : cX0_made.data.toList.drop 59 = dktX0_made_3 := dk_seg dksX0_made_2 23 rfl rfl
theorem dksX0_made_4 : cX0_made.data.toList.drop 81 = dktX0_made_4 := dk_seg dksX0_made_3 22 rfl rfl
theorem dX0_made_0 : decode cX0_made 0 = .ok (.iload_n 1, 1) := dk_27 (dk_at dksX0_made_0 0 rfl rfl)
theorem dX0_made_1 : decode cX0_made 1 = .ok (.tableswitch 80 0 4 #[35, 44, 53, 62, 71], 35) := by decide +kernel
theorem dX0_made_36 : decode cX0_made 36 = .ok (.new 1, 3) := dk_187 0 1 (dk_at dksX0_made_2 0 rfl rfl)
theorem dX0_made_39 : decode cX0_made 39 = .ok (.dup, 1) := dk_89 (dk_at dksX0_made_2 3 rfl rfl)
theorem dX0_made_40 : decode cX0_made 40 = .ok (.aload_n 0, 1) := dk_42 (dk_at dksX0_made_2 4 rfl rfl)
theorem dX0_made_41 : decode cX0_made 41 = .ok (.invokespecial 3, 3) := dk_183 0 3 (dk_at dksX0_made_2 5 rfl rfl)
theorem dX0_made_44 : decode cX0_made 44 = .ok (.areturn, 1) := dk_176 (dk_at dksX0_made_2 8 rfl rfl)
theorem dX0_made_45 : decode cX0_made 45 = .ok (.new 7, 3) := dk_187 0 7 (dk_at dksX0_made_2 9 rfl rfl)
theorem dX0_made_48 : decode cX0_made 48 = .ok (.dup, 1) := dk_89 (dk_at dksX0_made_2 12 rfl rfl)
theorem dX0_made_49 : decode cX0_made 49 = .ok (.aload_n 0, 1) := dk_42 (dk_at dksX0_made_2 13 rfl rfl)
theorem dX0_made_50 : decode cX0_made 50 = .ok (.invokespecial 9, 3) := dk_183 0 9 (dk_at dksX0_made_2 14 rfl rfl)
theorem dX0_made_53 : decode cX0_made 53 = .ok (.areturn, 1) := dk_176 (dk_at dksX0_made_2 17 rfl rfl)
theorem dX0_made_54 : decode cX0_made 54 = .ok (.new 10, 3) := dk_187 0 10 (dk_at dksX0_made_2 18 rfl rfl)
theorem dX0_made_57 : decode cX0_made 57 = .ok (.dup, 1) := dk_89 (dk_at dksX0_made_2 21 rfl rfl)
theorem dX0_made_58 : decode cX0_made 58 = .ok (.aload_n 0, 1) := dk_42 (dk_at dksX0_made_2 22 rfl rfl)
theorem dX0_made_59 : decode cX0_made 59 = .ok (.invokespecial 12, 3) := dk_183 0 12 (dk_at dksX0_made_3 0 rfl rfl)
theorem dX0_made_62 : decode cX0_made 62 = .ok (.areturn, 1) := dk_176 (dk_at dksX0_made_3 3 rfl rfl)
theorem dX0_made_63 : decode cX0_made 63 = .ok (.new 13, 3) := dk_187 0 13 (dk_at dksX0_made_3 4 rfl rfl)
theorem dX0_made_66 : decode cX0_made 66 = .ok (.dup, 1) := dk_89 (dk_at dksX0_made_3 7 rfl rfl)
theorem dX0_made_67 : decode cX0_made 67 = .ok (.aload_n 0, 1) := dk_42 (dk_at dksX0_made_3 8 rfl rfl)
theorem dX0_made_68 : decode cX0_made 68 = .ok (.invokespecial 15, 3) := dk_183 0 15 (dk_at dksX0_made_3 9 rfl rfl)
theorem dX0_made_71 : decode cX0_made 71 = .ok (.areturn, 1) := dk_176 (dk_at dksX0_made_3 12 rfl rfl)
theorem dX0_made_72 : decode cX0_made 72 = .ok (.new 16, 3) := dk_187 0 16 (dk_at dksX0_made_3 13 rfl rfl)
theorem dX0_made_75 : decode cX0_made 75 = .ok (.dup, 1) := dk_89 (dk_at dksX0_made_3 16 rfl rfl)
theorem dX0_made_76 : decode cX0_made 76 = .ok (.aload_n 0, 1) := dk_42 (dk_at dksX0_made_3 17 rfl rfl)
theorem dX0_made_77 : decode cX0_made 77 = .ok (.invokespecial 18, 3) := dk_183 0 18 (dk_at dksX0_made_3 18 rfl rfl)
theorem dX0_made_80 : decode cX0_made 80 = .ok (.areturn, 1) := dk_176 (dk_at dksX0_made_3 21 rfl rfl)
theorem dX0_made_81 : decode cX0_made 81 = .ok (.new 19, 3) := dk_187 0 19 (dk_at dksX0_made_4 0 rfl rfl)
theorem dX0_made_84 : decode cX0_made 84 = .ok (.dup, 1) := dk_89 (dk_at dksX0_made_4 3 rfl rfl)
theorem dX0_made_85 : decode cX0_made 85 = .ok (.aload_n 0, 1) := dk_42 (dk_at dksX0_made_4 4 rfl rfl)
theorem dX0_made_86 : decode cX0_made 86 = .ok (.invokespecial 21, 3) := dk_183 0 21 (dk_at dksX0_made_4 5 rfl rfl)
theorem dX0_made_89 : decode cX0_made 89 = .ok (.areturn, 1) := dk_176 (dk_at dksX0_made_4 8 rfl rfl)
abbrev cX0_says : ByteArray := prog_1_method_4_code
def yX0_says : MethodName := ⟨RX0, "says", "(I)I"⟩
def dkwX0_says_0 : List UInt8 := [42, 3, 181, 0, 100, 27, 172]
abbrev dktX0_says_0 : List UInt8 := dkwX0_says_0 ++ []
theorem dksX0_says_0 : cX0_says.data.toList.drop 0 = dktX0_says_0 := by decide +kernel
theorem dX0_says_0 : decode cX0_says 0 = .ok (.aload_n 0, 1) := dk_42 (dk_at dksX0_says_0 0 rfl rfl)
theorem dX0_says_1 : decode cX0_says 1 = .ok (.iconst 0, 1) := dk_3 (dk_at dksX0_says_0 1 rfl rfl)
theorem dX0_says_2 : decode cX0_says 2 = .ok (.putfield 100, 3) := dk_181 0 100 (dk_at dksX0_says_0 2 rfl rfl)
theorem dX0_says_5 : decode cX0_says 5 = .ok (.iload_n 1, 1) := dk_27 (dk_at dksX0_says_0 5 rfl rfl)
theorem dX0_says_6 : decode cX0_says 6 = .ok (.ireturn, 1) := dk_172 (dk_at dksX0_says_0 6 rfl rfl)
abbrev cX0_bar : ByteArray := prog_1_method_12_code
def yX0_bar : MethodName := ⟨RX0, "bar", "(II)I"⟩
def dkwX0_bar_4 : List UInt8 := [180, 0, 131, 4, 96, 181, 0, 131, 42, 42, 180, 0, 131, 4, 100, 182, 0, 128, 172]
abbrev dktX0_bar_4 : List UInt8 := dkwX0_bar_4 ++ []
def dkwX0_bar_3 : List UInt8 := [180, 0, 37, 42, 180, 0, 131, 4, 96, 50, 42, 180, 0, 37, 42, 180, 0, 131, 50, 182, 0, 138, 42, 89]
abbrev dktX0_bar_3 : List UInt8 := dkwX0_bar_3 ++ dktX0_bar_4
def dkwX0_bar_2 : List UInt8 := [182, 0, 120, 172, 42, 180, 0, 37, 42, 180, 0, 131, 4, 96, 50, 27, 133, 28, 133, 182, 0, 134, 42]
abbrev dktX0_bar_2 : List UInt8 := dkwX0_bar_2 ++ dktX0_bar_3
def dkwX0_bar_1 : List UInt8 := [126, 153, 0, 10, 42, 16, 254, 182, 0, 120, 172, 42, 180, 0, 131, 16, 24, 160, 0, 10, 42, 16, 252]
abbrev dktX0_bar_1 : List UInt8 := dkwX0_bar_1 ++ dktX0_bar_2
def dkwX0_bar_0 : List UInt8 := [27, 4, 16, 64, 184, 0, 107, 153, 0, 21, 28, 4, 16, 32, 184, 0, 107, 153, 0, 11, 28, 28, 4, 100]
abbrev dktX0_bar_0 : List UInt8 := dkwX0_bar_0 ++ dktX0_bar_1
theorem dksX0_bar_0 : cX0_bar.data.toList.drop 0 = dktX0_bar_0 := by decide +kernel
theorem dksX0_bar_1 : cX0_bar.data.toList.drop 24 = dktX0_bar_1 := dk_seg dksX0_bar_0 24 rfl rfl
theorem dksX0_bar_2 : cX0_bar.data.toList.drop 47 = dktX0_bar_2 := dk_seg dksX0_bar_1 23 rfl rfl
theorem dksX0_bar_3 : cX0_bar.data.toList.drop 70 = dktX0_bar_3 := dk_seg dksX0_bar_2 23 rfl rfl
theorem dksX0_bar_4 : cX0_bar.data.toList.drop 94 = dktX0_bar_4 := dk_seg dksX0_bar_3 24 rfl rfl
theorem dX0_bar_0 : decode cX0_bar 0 = .ok (.iload_n 1, 1) := dk_27 (dk_at dksX0_bar_0 0 rfl rfl)
theorem dX0_bar_1 : decode cX0_bar 1 = .ok (.iconst 1, 1) := dk_4 (dk_at dksX0_bar_0 1 rfl rfl)
theorem dX0_bar_2 : decode cX0_bar 2 = .ok (.bipush 64, 2) := dk_16 64 (dk_at dksX0_bar_0 2 rfl rfl)
theorem dX0_bar_4 : decode cX0_bar 4 = .ok (.invokestatic 107, 3) := dk_184 0 107 (dk_at dksX0_bar_0 4 rfl rfl)
theorem dX0_bar_7 : decode cX0_bar 7 = .ok (.ifCond .eq 21, 3) := dk_153 0 21 (dk_at dksX0_bar_0 7 rfl rfl)
theorem dX0_bar_10 : decode cX0_bar 10 = .ok (.iload_n 2, 1) := dk_28 (dk_at dksX0_bar_0 10 rfl rfl)
theorem dX0_bar_11 : decode cX0_bar 11 = .ok (.iconst 1, 1) := dk_4 (dk_at dksX0_bar_0 11 rfl rfl)
theorem dX0_bar_12 : decode cX0_bar 12 = .ok (.bipush 32, 2) := dk_16 32 (dk_at dksX0_bar_0 12 rfl rfl)
theorem dX0_bar_14 : decode cX0_bar 14 = .ok (.invokestatic 107, 3) := dk_184 0 107 (dk_at dksX0_bar_0 14 rfl rfl)
theorem dX0_bar_17 : decode cX0_bar 17 = .ok (.ifCond .eq 11, 3) := dk_153 0 11 (dk_at dksX0_bar_0 17 rfl rfl)
theorem dX0_bar_20 : decode cX0_bar 20 = .ok (.iload_n 2, 1) := dk_28 (dk_at dksX0_bar_0 20 rfl rfl)
theorem dX0_bar_21 : decode cX0_bar 21 = .ok (.iload_n 2, 1) := dk_28 (dk_at dksX0_bar_0 21 rfl rfl)
theorem dX0_bar_22 : decode cX0_bar 22 = .ok (.iconst 1, 1) := dk_4 (dk_at dksX0_bar_0 22 rfl rfl)
theorem dX0_bar_23 : decode cX0_bar 23 = .ok (.isub, 1) := dk_100 (dk_at dksX0_bar_0 23 rfl rfl)
theorem dX0_bar_24 : decode cX0_bar 24 = .ok (.iand, 1) := dk_126 (dk_at dksX0_bar_1 0 rfl rfl)
theorem dX0_bar_25 : decode cX0_bar 25 = .ok (.ifCond .eq 10, 3) := dk_153 0 10 (dk_at dksX0_bar_1 1 rfl rfl)
theorem dX0_bar_28 : decode cX0_bar 28 = .ok (.aload_n 0, 1) := dk_42 (dk_at dksX0_bar_1 4 rfl rfl)
theorem dX0_bar_29 : decode cX0_bar 29 = .ok (.bipush (-2), 2) := dk_16 254 (dk_at dksX0_bar_1 5 rfl rfl)
theorem dX0_bar_31 : decode cX0_bar 31 = .ok (.invokevirtual 120, 3) := dk_182 0 120 (dk_at dksX0_bar_1 7 rfl rfl)
theorem dX0_bar_34 : decode cX0_bar 34 = .ok (.ireturn, 1) := dk_172 (dk_at dksX0_bar_1 10 rfl rfl)
theorem dX0_bar_35 : decode cX0_bar 35 = .ok (.aload_n 0, 1) := dk_42 (dk_at dksX0_bar_1 11 rfl rfl)
theorem dX0_bar_36 : decode cX0_bar 36 = .ok (.getfield 131, 3) := dk_180 0 131 (dk_at dksX0_bar_1 12 rfl rfl)
theorem dX0_bar_39 : decode cX0_bar 39 = .ok (.bipush 24, 2) := dk_16 24 (dk_at dksX0_bar_1 15 rfl rfl)
theorem dX0_bar_41 : decode cX0_bar 41 = .ok (.if_icmp .ne 10, 3) := dk_160 0 10 (dk_at dksX0_bar_1 17 rfl rfl)
theorem dX0_bar_44 : decode cX0_bar 44 = .ok (.aload_n 0, 1) := dk_42 (dk_at dksX0_bar_1 20 rfl rfl)
theorem dX0_bar_45 : decode cX0_bar 45 = .ok (.bipush (-4), 2) := dk_16 252 (dk_at dksX0_bar_1 21 rfl rfl)
theorem dX0_bar_47 : decode cX0_bar 47 = .ok (.invokevirtual 120, 3) := dk_182 0 120 (dk_at dksX0_bar_2 0 rfl rfl)
theorem dX0_bar_50 : decode cX0_bar 50 = .ok (.ireturn, 1) := dk_172 (dk_at dksX0_bar_2 3 rfl rfl)
theorem dX0_bar_51 : decode cX0_bar 51 = .ok (.aload_n 0, 1) := dk_42 (dk_at dksX0_bar_2 4 rfl rfl)
theorem dX0_bar_52 : decode cX0_bar 52 = .ok (.getfield 37, 3) := dk_180 0 37 (dk_at dksX0_bar_2 5 rfl rfl)
theorem dX0_bar_55 : decode cX0_bar 55 = .ok (.aload_n 0, 1) := dk_42 (dk_at dksX0_bar_2 8 rfl rfl)
theorem dX0_bar_56 : decode cX0_bar 56 = .ok (.getfield 131, 3) := dk_180 0 131 (dk_at dksX0_bar_2 9 rfl rfl)
theorem dX0_bar_59 : decode cX0_bar 59 = .ok (.iconst 1, 1) := dk_4 (dk_at dksX0_bar_2 12 rfl rfl)
theorem dX0_bar_60 : decode cX0_bar 60 = .ok (.iadd, 1) := dk_96 (dk_at dksX0_bar_2 13 rfl rfl)
theorem dX0_bar_61 : decode cX0_bar 61 = .ok (.aaload, 1) := dk_50 (dk_at dksX0_bar_2 14 rfl rfl)
theorem dX0_bar_62 : decode cX0_bar 62 = .ok (.iload_n 1, 1) := dk_27 (dk_at dksX0_bar_2 15 rfl rfl)
theorem dX0_bar_63 : decode cX0_bar 63 = .ok (.i2l, 1) := dk_133 (dk_at dksX0_bar_2 16 rfl rfl)
theorem dX0_bar_64 : decode cX0_bar 64 = .ok (.iload_n 2, 1) := dk_28 (dk_at dksX0_bar_2 17 rfl rfl)
theorem dX0_bar_65 : decode cX0_bar 65 = .ok (.i2l, 1) := dk_133 (dk_at dksX0_bar_2 18 rfl rfl)
theorem dX0_bar_66 : decode cX0_bar 66 = .ok (.invokevirtual 134, 3) := dk_182 0 134 (dk_at dksX0_bar_2 19 rfl rfl)
theorem dX0_bar_69 : decode cX0_bar 69 = .ok (.aload_n 0, 1) := dk_42 (dk_at dksX0_bar_2 22 rfl rfl)
theorem dX0_bar_70 : decode cX0_bar 70 = .ok (.getfield 37, 3) := dk_180 0 37 (dk_at dksX0_bar_3 0 rfl rfl)
theorem dX0_bar_73 : decode cX0_bar 73 = .ok (.aload_n 0, 1) := dk_42 (dk_at dksX0_bar_3 3 rfl rfl)
theorem dX0_bar_74 : decode cX0_bar 74 = .ok (.getfield 131, 3) := dk_180 0 131 (dk_at dksX0_bar_3 4 rfl rfl)
theorem dX0_bar_77 : decode cX0_bar 77 = .ok (.iconst 1, 1) := dk_4 (dk_at dksX0_bar_3 7 rfl rfl)
theorem dX0_bar_78 : decode cX0_bar 78 = .ok (.iadd, 1) := dk_96 (dk_at dksX0_bar_3 8 rfl rfl)
theorem dX0_bar_79 : decode cX0_bar 79 = .ok (.aaload, 1) := dk_50 (dk_at dksX0_bar_3 9 rfl rfl)
theorem dX0_bar_80 : decode cX0_bar 80 = .ok (.aload_n 0, 1) := dk_42 (dk_at dksX0_bar_3 10 rfl rfl)
theorem dX0_bar_81 : decode cX0_bar 81 = .ok (.getfield 37, 3) := dk_180 0 37 (dk_at dksX0_bar_3 11 rfl rfl)
theorem dX0_bar_84 : decode cX0_bar 84 = .ok (.aload_n 0, 1) := dk_42 (dk_at dksX0_bar_3 14 rfl rfl)
theorem dX0_bar_85 : decode cX0_bar 85 = .ok (.getfield 131, 3) := dk_180 0 131 (dk_at dksX0_bar_3 15 rfl rfl)
theorem dX0_bar_88 : decode cX0_bar 88 = .ok (.aaload, 1) := dk_50 (dk_at dksX0_bar_3 18 rfl rfl)
theorem dX0_bar_89 : decode cX0_bar 89 = .ok (.invokevirtual 138, 3) := dk_182 0 138 (dk_at dksX0_bar_3 19 rfl rfl)
theorem dX0_bar_92 : decode cX0_bar 92 = .ok (.aload_n 0, 1) := dk_42 (dk_at dksX0_bar_3 22 rfl rfl)
theorem dX0_bar_93 : decode cX0_bar 93 = .ok (.dup, 1) := dk_89 (dk_at dksX0_bar_3 23 rfl rfl)
theorem dX0_bar_94 : decode cX0_bar 94 = .ok (.getfield 131, 3) := dk_180 0 131 (dk_at dksX0_bar_4 0 rfl rfl)
theorem dX0_bar_97 : decode cX0_bar 97 = .ok (.iconst 1, 1) := dk_4 (dk_at dksX0_bar_4 3 rfl rfl)
theorem dX0_bar_98 : decode cX0_bar 98 = .ok (.iadd, 1) := dk_96 (dk_at dksX0_bar_4 4 rfl rfl)
theorem dX0_bar_99 : decode cX0_bar 99 = .ok (.putfield 131, 3) := dk_181 0 131 (dk_at dksX0_bar_4 5 rfl rfl)
theorem dX0_bar_102 : decode cX0_bar 102 = .ok (.aload_n 0, 1) := dk_42 (dk_at dksX0_bar_4 8 rfl rfl)
theorem dX0_bar_103 : decode cX0_bar 103 = .ok (.aload_n 0, 1) := dk_42 (dk_at dksX0_bar_4 9 rfl rfl)
theorem dX0_bar_104 : decode cX0_bar 104 = .ok (.getfield 131, 3) := dk_180 0 131 (dk_at dksX0_bar_4 10 rfl rfl)
theorem dX0_bar_107 : decode cX0_bar 107 = .ok (.iconst 1, 1) := dk_4 (dk_at dksX0_bar_4 13 rfl rfl)
theorem dX0_bar_108 : decode cX0_bar 108 = .ok (.isub, 1) := dk_100 (dk_at dksX0_bar_4 14 rfl rfl)
theorem dX0_bar_109 : decode cX0_bar 109 = .ok (.invokevirtual 128, 3) := dk_182 0 128 (dk_at dksX0_bar_4 15 rfl rfl)
theorem dX0_bar_112 : decode cX0_bar 112 = .ok (.ireturn, 1) := dk_172 (dk_at dksX0_bar_4 18 rfl rfl)
abbrev cX0_put : ByteArray := prog_1_method_15_code
def yX0_put : MethodName := ⟨RX0, "put", "(IIIIII)I"⟩
def dkwX0_put_15 : List UInt8 := [180, 0, 204, 4, 96, 181, 0, 204, 42, 42, 180, 0, 111, 4, 100, 182, 0, 128, 172]
abbrev dktX0_put_15 : List UInt8 := dkwX0_put_15 ++ []
def dkwX0_put_14 : List UInt8 := [180, 0, 49, 42, 180, 0, 111, 25, 8, 83, 42, 89, 180, 0, 111, 4, 96, 181, 0, 111, 42, 89]
abbrev dktX0_put_14 : List UInt8 := dkwX0_put_14 ++ dktX0_put_15
def dkwX0_put_13 : List UInt8 := [180, 0, 201, 163, 0, 7, 4, 167, 0, 4, 3, 96, 181, 0, 201, 132, 9, 1, 167, 255, 152, 42]
abbrev dktX0_put_13 : List UInt8 := dkwX0_put_13 ++ dktX0_put_14
def dkwX0_put_12 : List UInt8 := [181, 0, 198, 42, 180, 0, 55, 21, 9, 50, 89, 180, 0, 201, 28, 42, 180, 0, 55, 21, 9, 50]
abbrev dktX0_put_12 : List UInt8 := dkwX0_put_12 ++ dktX0_put_13
def dkwX0_put_11 : List UInt8 := [89, 180, 0, 198, 28, 42, 180, 0, 55, 21, 9, 50, 180, 0, 198, 163, 0, 7, 4, 167, 0, 4, 3, 96]
abbrev dktX0_put_11 : List UInt8 := dkwX0_put_11 ++ dktX0_put_12
def dkwX0_put_10 : List UInt8 := [198, 0, 85, 42, 180, 0, 55, 21, 9, 50, 180, 0, 197, 27, 160, 0, 71, 42, 180, 0, 55, 21, 9, 50]
abbrev dktX0_put_10 : List UInt8 := dkwX0_put_10 ++ dktX0_put_11
def dkwX0_put_9 : List UInt8 := [182, 0, 193, 3, 54, 9, 21, 9, 42, 180, 0, 114, 162, 0, 101, 42, 180, 0, 55, 21, 9, 50]
abbrev dktX0_put_9 : List UInt8 := dkwX0_put_9 ++ dktX0_put_10
def dkwX0_put_8 : List UInt8 := [25, 7, 180, 0, 162, 28, 25, 8, 83, 25, 7, 89, 180, 0, 159, 4, 96, 181, 0, 159, 42, 25, 7, 28]
abbrev dktX0_put_8 : List UInt8 := dkwX0_put_8 ++ dktX0_put_9
def dkwX0_put_7 : List UInt8 := [25, 7, 180, 0, 162, 28, 25, 7, 180, 0, 162, 28, 4, 96, 25, 7, 180, 0, 159, 28, 100, 184, 0, 187]
abbrev dktX0_put_7 : List UInt8 := dkwX0_put_7 ++ dktX0_put_8
def dkwX0_put_6 : List UInt8 := [21, 6, 181, 0, 181, 25, 8, 193, 0, 142, 153, 0, 13, 25, 8, 192, 0, 142, 21, 4, 181, 0, 184]
abbrev dktX0_put_6 : List UInt8 := dkwX0_put_6 ++ dktX0_put_7
def dkwX0_put_5 : List UInt8 := [42, 180, 0, 111, 184, 0, 172, 58, 8, 25, 8, 27, 181, 0, 176, 25, 8, 21, 5, 181, 0, 178, 25, 8]
abbrev dktX0_put_5 : List UInt8 := dkwX0_put_5 ++ dktX0_put_6
def dkwX0_put_4 : List UInt8 := [17, 0, 150, 159, 0, 13, 25, 7, 180, 0, 159, 16, 40, 160, 0, 10, 42, 16, 252, 182, 0, 120, 172, 29]
abbrev dktX0_put_4 : List UInt8 := dkwX0_put_4 ++ dktX0_put_5
def dkwX0_put_3 : List UInt8 := [154, 0, 10, 42, 16, 254, 182, 0, 120, 172, 42, 180, 0, 43, 27, 50, 58, 7, 42, 180, 0, 111]
abbrev dktX0_put_3 : List UInt8 := dkwX0_put_3 ++ dktX0_put_4
def dkwX0_put_2 : List UInt8 := [184, 0, 107, 153, 0, 23, 21, 5, 3, 8, 184, 0, 107, 153, 0, 13, 21, 6, 3, 5, 184, 0, 107]
abbrev dktX0_put_2 : List UInt8 := dkwX0_put_2 ++ dktX0_put_3
def dkwX0_put_1 : List UInt8 := [153, 0, 48, 29, 3, 7, 184, 0, 107, 153, 0, 39, 29, 6, 162, 0, 14, 21, 4, 3, 16, 127]
abbrev dktX0_put_1 : List UInt8 := dkwX0_put_1 ++ dktX0_put_2
def dkwX0_put_0 : List UInt8 := [42, 27, 182, 0, 168, 153, 0, 65, 28, 3, 42, 180, 0, 43, 27, 50, 180, 0, 159, 184, 0, 107]
abbrev dktX0_put_0 : List UInt8 := dkwX0_put_0 ++ dktX0_put_1
theorem dksX0_put_0 : cX0_put.data.toList.drop 0 = dktX0_put_0 := by decide +kernel
theorem dksX0_put_1 : cX0_put.data.toList.drop 22 = dktX0_put_1 := dk_seg dksX0_put_0 22 rfl rfl
theorem dksX0_put_2 : cX0_put.data.toList.drop 44 = dktX0_put_2 := dk_seg dksX0_put_1 22 rfl rfl
theorem dksX0_put_3 : cX0_put.data.toList.drop 67 = dktX0_put_3 := dk_seg dksX0_put_2 23 rfl rfl
theorem dksX0_put_4 : cX0_put.data.toList.drop 89 = dktX0_put_4 := dk_seg dksX0_put_3 22 rfl rfl
theorem dksX0_put_5 : cX0_put.data.toList.drop 113 = dktX0_put_5 := dk_seg dksX0_put_4 24 rfl rfl
theorem dksX0_put_6 : cX0_put.data.toList.drop 137 = dktX0_put_6 := dk_seg dksX0_put_5 24 rfl rfl
theorem dksX0_put_7 : cX0_put.data.toList.drop 160 = dktX0_put_7 := dk_seg dksX0_put_6 23 rfl rfl
theorem dksX0_put_8 : cX0_put.data.toList.drop 184 = dktX0_put_8 := dk_seg dksX0_put_7 24 rfl rfl
theorem dksX0_put_9 : cX0_put.data.toList.drop 208 = dktX0_put_9 := dk_seg dksX0_put_8 24 rfl rfl
theorem dksX0_put_10 : cX0_put.data.toList.drop 230 = dktX0_put_10 := dk_seg dksX0_put_9 22 rfl rfl
theorem dksX0_put_11 : cX0_put.data.toList.drop 254 = dktX0_put_11 := dk_seg dksX0_put_10 24 rfl rfl
theorem dksX0_put_12 : cX0_put.data.toList.drop 278 = dktX0_put_12 := dk_seg dksX0_put_11 24 rfl rfl
theorem dksX0_put_13 : cX0_put.data.toList.drop 300 = dktX0_put_13 := dk_seg dksX0_put_12 22 rfl rfl
theorem dksX0_put_14 : cX0_put.data.toList.drop 322 = dktX0_put_14 := dk_seg dksX0_put_13 22 rfl rfl
theorem dksX0_put_15 : cX0_put.data.toList.drop 344 = dktX0_put_15 := dk_seg dksX0_put_14 22 rfl rfl
theorem dX0_put_0 : decode cX0_put 0 = .ok (.aload_n 0, 1) := dk_42 (dk_at dksX0_put_0 0 rfl rfl)
theorem dX0_put_1 : decode cX0_put 1 = .ok (.iload_n 1, 1) := dk_27 (dk_at dksX0_put_0 1 rfl rfl)
theorem dX0_put_2 : decode cX0_put 2 = .ok (.invokevirtual 168, 3) := dk_182 0 168 (dk_at dksX0_put_0 2 rfl rfl)
theorem dX0_put_5 : decode cX0_put 5 = .ok (.ifCond .eq 65, 3) := dk_153 0 65 (dk_at dksX0_put_0 5 rfl rfl)
theorem dX0_put_8 : decode cX0_put 8 = .ok (.iload_n 2, 1) := dk_28 (dk_at dksX0_put_0 8 rfl rfl)
theorem dX0_put_9 : decode cX0_put 9 = .ok (.iconst 0, 1) := dk_3 (dk_at dksX0_put_0 9 rfl rfl)
theorem dX0_put_10 : decode cX0_put 10 = .ok (.aload_n 0, 1) := dk_42 (dk_at dksX0_put_0 10 rfl rfl)
theorem dX0_put_11 : decode cX0_put 11 = .ok (.getfield 43, 3) := dk_180 0 43 (dk_at dksX0_put_0 11 rfl rfl)
theorem dX0_put_14 : decode cX0_put 14 = .ok (.iload_n 1, 1) := dk_27 (dk_at dksX0_put_0 14 rfl rfl)
theorem dX0_put_15 : decode cX0_put 15 = .ok (.aaload, 1) := dk_50 (dk_at dksX0_put_0 15 rfl rfl)
theorem dX0_put_16 : decode cX0_put 16 = .ok (.getfield 159, 3) := dk_180 0 159 (dk_at dksX0_put_0 16 rfl rfl)
theorem dX0_put_19 : decode cX0_put 19 = .ok (.invokestatic 107, 3) := dk_184 0 107 (dk_at dksX0_put_0 19 rfl rfl)
theorem dX0_put_22 : decode cX0_put 22 = .ok (.ifCond .eq 48, 3) := dk_153 0 48 (dk_at dksX0_put_1 0 rfl rfl)
theorem dX0_put_25 : decode cX0_put 25 = .ok (.iload_n 3, 1) := dk_29 (dk_at dksX0_put_1 3 rfl rfl)
theorem dX0_put_26 : decode cX0_put 26 = .ok (.iconst 0, 1) := dk_3 (dk_at dksX0_put_1 4 rfl rfl)
theorem dX0_put_27 : decode cX0_put 27 = .ok (.iconst 4, 1) := dk_7 (dk_at dksX0_put_1 5 rfl rfl)
theorem dX0_put_28 : decode cX0_put 28 = .ok (.invokestatic 107, 3) := dk_184 0 107 (dk_at dksX0_put_1 6 rfl rfl)
theorem dX0_put_31 : decode cX0_put 31 = .ok (.ifCond .eq 39, 3) := dk_153 0 39 (dk_at dksX0_put_1 9 rfl rfl)
theorem dX0_put_34 : decode cX0_put 34 = .ok (.iload_n 3, 1) := dk_29 (dk_at dksX0_put_1 12 rfl rfl)
theorem dX0_put_35 : decode cX0_put 35 = .ok (.iconst 3, 1) := dk_6 (dk_at dksX0_put_1 13 rfl rfl)
theorem dX0_put_36 : decode cX0_put 36 = .ok (.if_icmp .ge 14, 3) := dk_162 0 14 (dk_at dksX0_put_1 14 rfl rfl)
theorem dX0_put_39 : decode cX0_put 39 = .ok (.iload 4, 2) := dk_21 4 (dk_at dksX0_put_1 17 rfl rfl)
theorem dX0_put_41 : decode cX0_put 41 = .ok (.iconst 0, 1) := dk_3 (dk_at dksX0_put_1 19 rfl rfl)
theorem dX0_put_42 : decode cX0_put 42 = .ok (.bipush 127, 2) := dk_16 127 (dk_at dksX0_put_1 20 rfl rfl)
theorem dX0_put_44 : decode cX0_put 44 = .ok (.invokestatic 107, 3) := dk_184 0 107 (dk_at dksX0_put_2 0 rfl rfl)
theorem dX0_put_47 : decode cX0_put 47 = .ok (.ifCond .eq 23, 3) := dk_153 0 23 (dk_at dksX0_put_2 3 rfl rfl)
theorem dX0_put_50 : decode cX0_put 50 = .ok (.iload 5, 2) := dk_21 5 (dk_at dksX0_put_2 6 rfl rfl)
theorem dX0_put_52 : decode cX0_put 52 = .ok (.iconst 0, 1) := dk_3 (dk_at dksX0_put_2 8 rfl rfl)
theorem dX0_put_53 : decode cX0_put 53 = .ok (.iconst 5, 1) := dk_8 (dk_at dksX0_put_2 9 rfl rfl)
theorem dX0_put_54 : decode cX0_put 54 = .ok (.invokestatic 107, 3) := dk_184 0 107 (dk_at dksX0_put_2 10 rfl rfl)
theorem dX0_put_57 : decode cX0_put 57 = .ok (.ifCond .eq 13, 3) := dk_153 0 13 (dk_at dksX0_put_2 13 rfl rfl)
theorem dX0_put_60 : decode cX0_put 60 = .ok (.iload 6, 2) := dk_21 6 (dk_at dksX0_put_2 16 rfl rfl)
theorem dX0_put_62 : decode cX0_put 62 = .ok (.iconst 0, 1) := dk_3 (dk_at dksX0_put_2 18 rfl rfl)
theorem dX0_put_63 : decode cX0_put 63 = .ok (.iconst 2, 1) := dk_5 (dk_at dksX0_put_2 19 rfl rfl)
theorem dX0_put_64 : decode cX0_put 64 = .ok (.invokestatic 107, 3) := dk_184 0 107 (dk_at dksX0_put_2 20 rfl rfl)
theorem dX0_put_67 : decode cX0_put 67 = .ok (.ifCond .ne 10, 3) := dk_154 0 10 (dk_at dksX0_put_3 0 rfl rfl)
theorem dX0_put_70 : decode cX0_put 70 = .ok (.aload_n 0, 1) := dk_42 (dk_at dksX0_put_3 3 rfl rfl)
theorem dX0_put_71 : decode cX0_put 71 = .ok (.bipush (-2), 2) := dk_16 254 (dk_at dksX0_put_3 4 rfl rfl)
theorem dX0_put_73 : decode cX0_put 73 = .ok (.invokevirtual 120, 3) := dk_182 0 120 (dk_at dksX0_put_3 6 rfl rfl)
theorem dX0_put_76 : decode cX0_put 76 = .ok (.ireturn, 1) := dk_172 (dk_at dksX0_put_3 9 rfl rfl)
theorem dX0_put_77 : decode cX0_put 77 = .ok (.aload_n 0, 1) := dk_42 (dk_at dksX0_put_3 10 rfl rfl)
theorem dX0_put_78 : decode cX0_put 78 = .ok (.getfield 43, 3) := dk_180 0 43 (dk_at dksX0_put_3 11 rfl rfl)
theorem dX0_put_81 : decode cX0_put 81 = .ok (.iload_n 1, 1) := dk_27 (dk_at dksX0_put_3 14 rfl rfl)
theorem dX0_put_82 : decode cX0_put 82 = .ok (.aaload, 1) := dk_50 (dk_at dksX0_put_3 15 rfl rfl)
theorem dX0_put_83 : decode cX0_put 83 = .ok (.astore 7, 2) := dk_58 7 (dk_at dksX0_put_3 16 rfl rfl)
theorem dX0_put_85 : decode cX0_put 85 = .ok (.aload_n 0, 1) := dk_42 (dk_at dksX0_put_3 18 rfl rfl)
theorem dX0_put_86 : decode cX0_put 86 = .ok (.getfield 111, 3) := dk_180 0 111 (dk_at dksX0_put_3 19 rfl rfl)
theorem dX0_put_89 : decode cX0_put 89 = .ok (.sipush 150, 3) := dk_17 0 150 (dk_at dksX0_put_4 0 rfl rfl)
theorem dX0_put_92 : decode cX0_put 92 = .ok (.if_icmp .eq 13, 3) := dk_159 0 13 (dk_at dksX0_put_4 3 rfl rfl)
theorem dX0_put_95 : decode cX0_put 95 = .ok (.aload 7, 2) := dk_25 7 (dk_at dksX0_put_4 6 rfl rfl)
theorem dX0_put_97 : decode cX0_put 97 = .ok (.getfield 159, 3) := dk_180 0 159 (dk_at dksX0_put_4 8 rfl rfl)
theorem dX0_put_100 : decode cX0_put 100 = .ok (.bipush 40, 2) := dk_16 40 (dk_at dksX0_put_4 11 rfl rfl)
theorem dX0_put_102 : decode cX0_put 102 = .ok (.if_icmp .ne 10, 3) := dk_160 0 10 (dk_at dksX0_put_4 13 rfl rfl)
theorem dX0_put_105 : decode cX0_put 105 = .ok (.aload_n 0, 1) := dk_42 (dk_at dksX0_put_4 16 rfl rfl)
theorem dX0_put_106 : decode cX0_put 106 = .ok (.bipush (-4), 2) := dk_16 252 (dk_at dksX0_put_4 17 rfl rfl)
theorem dX0_put_108 : decode cX0_put 108 = .ok (.invokevirtual 120, 3) := dk_182 0 120 (dk_at dksX0_put_4 19 rfl rfl)
theorem dX0_put_111 : decode cX0_put 111 = .ok (.ireturn, 1) := dk_172 (dk_at dksX0_put_4 22 rfl rfl)
theorem dX0_put_112 : decode cX0_put 112 = .ok (.iload_n 3, 1) := dk_29 (dk_at dksX0_put_4 23 rfl rfl)
theorem dX0_put_113 : decode cX0_put 113 = .ok (.aload_n 0, 1) := dk_42 (dk_at dksX0_put_5 0 rfl rfl)
theorem dX0_put_114 : decode cX0_put 114 = .ok (.getfield 111, 3) := dk_180 0 111 (dk_at dksX0_put_5 1 rfl rfl)
theorem dX0_put_117 : decode cX0_put 117 = .ok (.invokestatic 172, 3) := dk_184 0 172 (dk_at dksX0_put_5 4 rfl rfl)
theorem dX0_put_120 : decode cX0_put 120 = .ok (.astore 8, 2) := dk_58 8 (dk_at dksX0_put_5 7 rfl rfl)
theorem dX0_put_122 : decode cX0_put 122 = .ok (.aload 8, 2) := dk_25 8 (dk_at dksX0_put_5 9 rfl rfl)
theorem dX0_put_124 : decode cX0_put 124 = .ok (.iload_n 1, 1) := dk_27 (dk_at dksX0_put_5 11 rfl rfl)
theorem dX0_put_125 : decode cX0_put 125 = .ok (.putfield 176, 3) := dk_181 0 176 (dk_at dksX0_put_5 12 rfl rfl)
theorem dX0_put_128 : decode cX0_put 128 = .ok (.aload 8, 2) := dk_25 8 (dk_at dksX0_put_5 15 rfl rfl)
theorem dX0_put_130 : decode cX0_put 130 = .ok (.iload 5, 2) := dk_21 5 (dk_at dksX0_put_5 17 rfl rfl)
theorem dX0_put_132 : decode cX0_put 132 = .ok (.putfield 178, 3) := dk_181 0 178 (dk_at dksX0_put_5 19 rfl rfl)
theorem dX0_put_135 : decode cX0_put 135 = .ok (.aload 8, 2) := dk_25 8 (dk_at dksX0_put_5 22 rfl rfl)
theorem dX0_put_137 : decode cX0_put 137 = .ok (.iload 6, 2) := dk_21 6 (dk_at dksX0_put_6 0 rfl rfl)
theorem dX0_put_139 : decode cX0_put 139 = .ok (.putfield 181, 3) := dk_181 0 181 (dk_at dksX0_put_6 2 rfl rfl)
theorem dX0_put_142 : decode cX0_put 142 = .ok (.aload 8, 2) := dk_25 8 (dk_at dksX0_put_6 5 rfl rfl)
theorem dX0_put_144 : decode cX0_put 144 = .ok (.instanceof 142, 3) := dk_193 0 142 (dk_at dksX0_put_6 7 rfl rfl)
theorem dX0_put_147 : decode cX0_put 147 = .ok (.ifCond .eq 13, 3) := dk_153 0 13 (dk_at dksX0_put_6 10 rfl rfl)
theorem dX0_put_150 : decode cX0_put 150 = .ok (.aload 8, 2) := dk_25 8 (dk_at dksX0_put_6 13 rfl rfl)
theorem dX0_put_152 : decode cX0_put 152 = .ok (.checkcast 142, 3) := dk_192 0 142 (dk_at dksX0_put_6 15 rfl rfl)
theorem dX0_put_155 : decode cX0_put 155 = .ok (.iload 4, 2) := dk_21 4 (dk_at dksX0_put_6 18 rfl rfl)
theorem dX0_put_157 : decode cX0_put 157 = .ok (.putfield 184, 3) := dk_181 0 184 (dk_at dksX0_put_6 20 rfl rfl)
theorem dX0_put_160 : decode cX0_put 160 = .ok (.aload 7, 2) := dk_25 7 (dk_at dksX0_put_7 0 rfl rfl)
theorem dX0_put_162 : decode cX0_put 162 = .ok (.getfield 162, 3) := dk_180 0 162 (dk_at dksX0_put_7 2 rfl rfl)
theorem dX0_put_165 : decode cX0_put 165 = .ok (.iload_n 2, 1) := dk_28 (dk_at dksX0_put_7 5 rfl rfl)
theorem dX0_put_166 : decode cX0_put 166 = .ok (.aload 7, 2) := dk_25 7 (dk_at dksX0_put_7 6 rfl rfl)
theorem dX0_put_168 : decode cX0_put 168 = .ok (.getfield 162, 3) := dk_180 0 162 (dk_at dksX0_put_7 8 rfl rfl)
theorem dX0_put_171 : decode cX0_put 171 = .ok (.iload_n 2, 1) := dk_28 (dk_at dksX0_put_7 11 rfl rfl)
theorem dX0_put_172 : decode cX0_put 172 = .ok (.iconst 1, 1) := dk_4 (dk_at dksX0_put_7 12 rfl rfl)
theorem dX0_put_173 : decode cX0_put 173 = .ok (.iadd, 1) := dk_96 (dk_at dksX0_put_7 13 rfl rfl)
theorem dX0_put_174 : decode cX0_put 174 = .ok (.aload 7, 2) := dk_25 7 (dk_at dksX0_put_7 14 rfl rfl)
theorem dX0_put_176 : decode cX0_put 176 = .ok (.getfield 159, 3) := dk_180 0 159 (dk_at dksX0_put_7 16 rfl rfl)
theorem dX0_put_179 : decode cX0_put 179 = .ok (.iload_n 2, 1) := dk_28 (dk_at dksX0_put_7 19 rfl rfl)
theorem dX0_put_180 : decode cX0_put 180 = .ok (.isub, 1) := dk_100 (dk_at dksX0_put_7 20 rfl rfl)
theorem dX0_put_181 : decode cX0_put 181 = .ok (.invokestatic 187, 3) := dk_184 0 187 (dk_at dksX0_put_7 21 rfl rfl)
theorem dX0_put_184 : decode cX0_put 184 = .ok (.aload 7, 2) := dk_25 7 (dk_at dksX0_put_8 0 rfl rfl)
theorem dX0_put_186 : decode cX0_put 186 = .ok (.getfield 162, 3) := dk_180 0 162 (dk_at dksX0_put_8 2 rfl rfl)
theorem dX0_put_189 : decode cX0_put 189 = .ok (.iload_n 2, 1) := dk_28 (dk_at dksX0_put_8 5 rfl rfl)
theorem dX0_put_190 : decode cX0_put 190 = .ok (.aload 8, 2) := dk_25 8 (dk_at dksX0_put_8 6 rfl rfl)
theorem dX0_put_192 : decode cX0_put 192 = .ok (.aastore, 1) := dk_83 (dk_at dksX0_put_8 8 rfl rfl)
theorem dX0_put_193 : decode cX0_put 193 = .ok (.aload 7, 2) := dk_25 7 (dk_at dksX0_put_8 9 rfl rfl)
theorem dX0_put_195 : decode cX0_put 195 = .ok (.dup, 1) := dk_89 (dk_at dksX0_put_8 11 rfl rfl)
theorem dX0_put_196 : decode cX0_put 196 = .ok (.getfield 159, 3) := dk_180 0 159 (dk_at dksX0_put_8 12 rfl rfl)
theorem dX0_put_199 : decode cX0_put 199 = .ok (.iconst 1, 1) := dk_4 (dk_at dksX0_put_8 15 rfl rfl)
theorem dX0_put_200 : decode cX0_put 200 = .ok (.iadd, 1) := dk_96 (dk_at dksX0_put_8 16 rfl rfl)
theorem dX0_put_201 : decode cX0_put 201 = .ok (.putfield 159, 3) := dk_181 0 159 (dk_at dksX0_put_8 17 rfl rfl)
theorem dX0_put_204 : decode cX0_put 204 = .ok (.aload_n 0, 1) := dk_42 (dk_at dksX0_put_8 20 rfl rfl)
theorem dX0_put_205 : decode cX0_put 205 = .ok (.aload 7, 2) := dk_25 7 (dk_at dksX0_put_8 21 rfl rfl)
theorem dX0_put_207 : decode cX0_put 207 = .ok (.iload_n 2, 1) := dk_28 (dk_at dksX0_put_8 23 rfl rfl)
theorem dX0_put_208 : decode cX0_put 208 = .ok (.invokevirtual 193, 3) := dk_182 0 193 (dk_at dksX0_put_9 0 rfl rfl)
theorem dX0_put_211 : decode cX0_put 211 = .ok (.iconst 0, 1) := dk_3 (dk_at dksX0_put_9 3 rfl rfl)
theorem dX0_put_212 : decode cX0_put 212 = .ok (.istore 9, 2) := dk_54 9 (dk_at dksX0_put_9 4 rfl rfl)
theorem dX0_put_214 : decode cX0_put 214 = .ok (.iload 9, 2) := dk_21 9 (dk_at dksX0_put_9 6 rfl rfl)
theorem dX0_put_216 : decode cX0_put 216 = .ok (.aload_n 0, 1) := dk_42 (dk_at dksX0_put_9 8 rfl rfl)
theorem dX0_put_217 : decode cX0_put 217 = .ok (.getfield 114, 3) := dk_180 0 114 (dk_at dksX0_put_9 9 rfl rfl)
theorem dX0_put_220 : decode cX0_put 220 = .ok (.if_icmp .ge 101, 3) := dk_162 0 101 (dk_at dksX0_put_9 12 rfl rfl)
theorem dX0_put_223 : decode cX0_put 223 = .ok (.aload_n 0, 1) := dk_42 (dk_at dksX0_put_9 15 rfl rfl)
theorem dX0_put_224 : decode cX0_put 224 = .ok (.getfield 55, 3) := dk_180 0 55 (dk_at dksX0_put_9 16 rfl rfl)
theorem dX0_put_227 : decode cX0_put 227 = .ok (.iload 9, 2) := dk_21 9 (dk_at dksX0_put_9 19 rfl rfl)
theorem dX0_put_229 : decode cX0_put 229 = .ok (.aaload, 1) := dk_50 (dk_at dksX0_put_9 21 rfl rfl)
theorem dX0_put_230 : decode cX0_put 230 = .ok (.ifnull 85, 3) := dk_198 0 85 (dk_at dksX0_put_10 0 rfl rfl)
theorem dX0_put_233 : decode cX0_put 233 = .ok (.aload_n 0, 1) := dk_42 (dk_at dksX0_put_10 3 rfl rfl)
theorem dX0_put_234 : decode cX0_put 234 = .ok (.getfield 55, 3) := dk_180 0 55 (dk_at dksX0_put_10 4 rfl rfl)
theorem dX0_put_237 : decode cX0_put 237 = .ok (.iload 9, 2) := dk_21 9 (dk_at dksX0_put_10 7 rfl rfl)
theorem dX0_put_239 : decode cX0_put 239 = .ok (.aaload, 1) := dk_50 (dk_at dksX0_put_10 9 rfl rfl)
theorem dX0_put_240 : decode cX0_put 240 = .ok (.getfield 197, 3) := dk_180 0 197 (dk_at dksX0_put_10 10 rfl rfl)
theorem dX0_put_243 : decode cX0_put 243 = .ok (.iload_n 1, 1) := dk_27 (dk_at dksX0_put_10 13 rfl rfl)
theorem dX0_put_244 : decode cX0_put 244 = .ok (.if_icmp .ne 71, 3) := dk_160 0 71 (dk_at dksX0_put_10 14 rfl rfl)
theorem dX0_put_247 : decode cX0_put 247 = .ok (.aload_n 0, 1) := dk_42 (dk_at dksX0_put_10 17 rfl rfl)
theorem dX0_put_248 : decode cX0_put 248 = .ok (.getfield 55, 3) := dk_180 0 55 (dk_at dksX0_put_10 18 rfl rfl)
theorem dX0_put_251 : decode cX0_put 251 = .ok (.iload 9, 2) := dk_21 9 (dk_at dksX0_put_10 21 rfl rfl)
theorem dX0_put_253 : decode cX0_put 253 = .ok (.aaload, 1) := dk_50 (dk_at dksX0_put_10 23 rfl rfl)
theorem dX0_put_254 : decode cX0_put 254 = .ok (.dup, 1) := dk_89 (dk_at dksX0_put_11 0 rfl rfl)
theorem dX0_put_255 : decode cX0_put 255 = .ok (.getfield 198, 3) := dk_180 0 198 (dk_at dksX0_put_11 1 rfl rfl)
theorem dX0_put_258 : decode cX0_put 258 = .ok (.iload_n 2, 1) := dk_28 (dk_at dksX0_put_11 4 rfl rfl)
theorem dX0_put_259 : decode cX0_put 259 = .ok (.aload_n 0, 1) := dk_42 (dk_at dksX0_put_11 5 rfl rfl)
theorem dX0_put_260 : decode cX0_put 260 = .ok (.getfield 55, 3) := dk_180 0 55 (dk_at dksX0_put_11 6 rfl rfl)
theorem dX0_put_263 : decode cX0_put 263 = .ok (.iload 9, 2) := dk_21 9 (dk_at dksX0_put_11 9 rfl rfl)
theorem dX0_put_265 : decode cX0_put 265 = .ok (.aaload, 1) := dk_50 (dk_at dksX0_put_11 11 rfl rfl)
theorem dX0_put_266 : decode cX0_put 266 = .ok (.getfield 198, 3) := dk_180 0 198 (dk_at dksX0_put_11 12 rfl rfl)
theorem dX0_put_269 : decode cX0_put 269 = .ok (.if_icmp .gt 7, 3) := dk_163 0 7 (dk_at dksX0_put_11 15 rfl rfl)
theorem dX0_put_272 : decode cX0_put 272 = .ok (.iconst 1, 1) := dk_4 (dk_at dksX0_put_11 18 rfl rfl)
theorem dX0_put_273 : decode cX0_put 273 = .ok (.goto 4, 3) := dk_167 0 4 (dk_at dksX0_put_11 19 rfl rfl)
theorem dX0_put_276 : decode cX0_put 276 = .ok (.iconst 0, 1) := dk_3 (dk_at dksX0_put_11 22 rfl rfl)
theorem dX0_put_277 : decode cX0_put 277 = .ok (.iadd, 1) := dk_96 (dk_at dksX0_put_11 23 rfl rfl)
theorem dX0_put_278 : decode cX0_put 278 = .ok (.putfield 198, 3) := dk_181 0 198 (dk_at dksX0_put_12 0 rfl rfl)
theorem dX0_put_281 : decode cX0_put 281 = .ok (.aload_n 0, 1) := dk_42 (dk_at dksX0_put_12 3 rfl rfl)
theorem dX0_put_282 : decode cX0_put 282 = .ok (.getfield 55, 3) := dk_180 0 55 (dk_at dksX0_put_12 4 rfl rfl)
theorem dX0_put_285 : decode cX0_put 285 = .ok (.iload 9, 2) := dk_21 9 (dk_at dksX0_put_12 7 rfl rfl)
theorem dX0_put_287 : decode cX0_put 287 = .ok (.aaload, 1) := dk_50 (dk_at dksX0_put_12 9 rfl rfl)
theorem dX0_put_288 : decode cX0_put 288 = .ok (.dup, 1) := dk_89 (dk_at dksX0_put_12 10 rfl rfl)
theorem dX0_put_289 : decode cX0_put 289 = .ok (.getfield 201, 3) := dk_180 0 201 (dk_at dksX0_put_12 11 rfl rfl)
theorem dX0_put_292 : decode cX0_put 292 = .ok (.iload_n 2, 1) := dk_28 (dk_at dksX0_put_12 14 rfl rfl)
theorem dX0_put_293 : decode cX0_put 293 = .ok (.aload_n 0, 1) := dk_42 (dk_at dksX0_put_12 15 rfl rfl)
theorem dX0_put_294 : decode cX0_put 294 = .ok (.getfield 55, 3) := dk_180 0 55 (dk_at dksX0_put_12 16 rfl rfl)
theorem dX0_put_297 : decode cX0_put 297 = .ok (.iload 9, 2) := dk_21 9 (dk_at dksX0_put_12 19 rfl rfl)
theorem dX0_put_299 : decode cX0_put 299 = .ok (.aaload, 1) := dk_50 (dk_at dksX0_put_12 21 rfl rfl)
theorem dX0_put_300 : decode cX0_put 300 = .ok (.getfield 201, 3) := dk_180 0 201 (dk_at dksX0_put_13 0 rfl rfl)
theorem dX0_put_303 : decode cX0_put 303 = .ok (.if_icmp .gt 7, 3) := dk_163 0 7 (dk_at dksX0_put_13 3 rfl rfl)
theorem dX0_put_306 : decode cX0_put 306 = .ok (.iconst 1, 1) := dk_4 (dk_at dksX0_put_13 6 rfl rfl)
theorem dX0_put_307 : decode cX0_put 307 = .ok (.goto 4, 3) := dk_167 0 4 (dk_at dksX0_put_13 7 rfl rfl)
theorem dX0_put_310 : decode cX0_put 310 = .ok (.iconst 0, 1) := dk_3 (dk_at dksX0_put_13 10 rfl rfl)
theorem dX0_put_311 : decode cX0_put 311 = .ok (.iadd, 1) := dk_96 (dk_at dksX0_put_13 11 rfl rfl)
theorem dX0_put_312 : decode cX0_put 312 = .ok (.putfield 201, 3) := dk_181 0 201 (dk_at dksX0_put_13 12 rfl rfl)
theorem dX0_put_315 : decode cX0_put 315 = .ok (.iinc 9 1, 3) := dk_132 9 1 (dk_at dksX0_put_13 15 rfl rfl)
theorem dX0_put_318 : decode cX0_put 318 = .ok (.goto (-104), 3) := dk_167 255 152 (dk_at dksX0_put_13 18 rfl rfl)
theorem dX0_put_321 : decode cX0_put 321 = .ok (.aload_n 0, 1) := dk_42 (dk_at dksX0_put_13 21 rfl rfl)
theorem dX0_put_322 : decode cX0_put 322 = .ok (.getfield 49, 3) := dk_180 0 49 (dk_at dksX0_put_14 0 rfl rfl)
theorem dX0_put_325 : decode cX0_put 325 = .ok (.aload_n 0, 1) := dk_42 (dk_at dksX0_put_14 3 rfl rfl)
theorem dX0_put_326 : decode cX0_put 326 = .ok (.getfield 111, 3) := dk_180 0 111 (dk_at dksX0_put_14 4 rfl rfl)
theorem dX0_put_329 : decode cX0_put 329 = .ok (.aload 8, 2) := dk_25 8 (dk_at dksX0_put_14 7 rfl rfl)
theorem dX0_put_331 : decode cX0_put 331 = .ok (.aastore, 1) := dk_83 (dk_at dksX0_put_14 9 rfl rfl)
theorem dX0_put_332 : decode cX0_put 332 = .ok (.aload_n 0, 1) := dk_42 (dk_at dksX0_put_14 10 rfl rfl)
theorem dX0_put_333 : decode cX0_put 333 = .ok (.dup, 1) := dk_89 (dk_at dksX0_put_14 11 rfl rfl)
theorem dX0_put_334 : decode cX0_put 334 = .ok (.getfield 111, 3) := dk_180 0 111 (dk_at dksX0_put_14 12 rfl rfl)
theorem dX0_put_337 : decode cX0_put 337 = .ok (.iconst 1, 1) := dk_4 (dk_at dksX0_put_14 15 rfl rfl)
theorem dX0_put_338 : decode cX0_put 338 = .ok (.iadd, 1) := dk_96 (dk_at dksX0_put_14 16 rfl rfl)
theorem dX0_put_339 : decode cX0_put 339 = .ok (.putfield 111, 3) := dk_181 0 111 (dk_at dksX0_put_14 17 rfl rfl)
theorem dX0_put_342 : decode cX0_put 342 = .ok (.aload_n 0, 1) := dk_42 (dk_at dksX0_put_14 20 rfl rfl)
theorem dX0_put_343 : decode cX0_put 343 = .ok (.dup, 1) := dk_89 (dk_at dksX0_put_14 21 rfl rfl)
theorem dX0_put_344 : decode cX0_put 344 = .ok (.getfield 204, 3) := dk_180 0 204 (dk_at dksX0_put_15 0 rfl rfl)
theorem dX0_put_347 : decode cX0_put 347 = .ok (.iconst 1, 1) := dk_4 (dk_at dksX0_put_15 3 rfl rfl)
theorem dX0_put_348 : decode cX0_put 348 = .ok (.iadd, 1) := dk_96 (dk_at dksX0_put_15 4 rfl rfl)
theorem dX0_put_349 : decode cX0_put 349 = .ok (.putfield 204, 3) := dk_181 0 204 (dk_at dksX0_put_15 5 rfl rfl)
theorem dX0_put_352 : decode cX0_put 352 = .ok (.aload_n 0, 1) := dk_42 (dk_at dksX0_put_15 8 rfl rfl)
theorem dX0_put_353 : decode cX0_put 353 = .ok (.aload_n 0, 1) := dk_42 (dk_at dksX0_put_15 9 rfl rfl)
theorem dX0_put_354 : decode cX0_put 354 = .ok (.getfield 111, 3) := dk_180 0 111 (dk_at dksX0_put_15 10 rfl rfl)
theorem dX0_put_357 : decode cX0_put 357 = .ok (.iconst 1, 1) := dk_4 (dk_at dksX0_put_15 13 rfl rfl)
theorem dX0_put_358 : decode cX0_put 358 = .ok (.isub, 1) := dk_100 (dk_at dksX0_put_15 14 rfl rfl)
theorem dX0_put_359 : decode cX0_put 359 = .ok (.invokevirtual 128, 3) := dk_182 0 128 (dk_at dksX0_put_15 15 rfl rfl)
theorem dX0_put_362 : decode cX0_put 362 = .ok (.ireturn, 1) := dk_172 (dk_at dksX0_put_15 18 rfl rfl)
abbrev cX0_isVoice : ByteArray := prog_1_method_7_code
def yX0_isVoice : MethodName := ⟨RX0, "isVoice", "(I)Z"⟩
def dkwX0_isVoice_0 : List UInt8 := [27, 3, 6, 42, 180, 0, 104, 104, 4, 100, 184, 0, 107, 172]
abbrev dktX0_isVoice_0 : List UInt8 := dkwX0_isVoice_0 ++ []
theorem dksX0_isVoice_0 : cX0_isVoice.data.toList.drop 0 = dktX0_isVoice_0 := by decide +kernel
theorem dX0_isVoice_0 : decode cX0_isVoice 0 = .ok (.iload_n 1, 1) := dk_27 (dk_at dksX0_isVoice_0 0 rfl rfl)
theorem dX0_isVoice_1 : decode cX0_isVoice 1 = .ok (.iconst 0, 1) := dk_3 (dk_at dksX0_isVoice_0 1 rfl rfl)
theorem dX0_isVoice_2 : decode cX0_isVoice 2 = .ok (.iconst 3, 1) := dk_6 (dk_at dksX0_isVoice_0 2 rfl rfl)
theorem dX0_isVoice_3 : decode cX0_isVoice 3 = .ok (.aload_n 0, 1) := dk_42 (dk_at dksX0_isVoice_0 3 rfl rfl)
theorem dX0_isVoice_4 : decode cX0_isVoice 4 = .ok (.getfield 104, 3) := dk_180 0 104 (dk_at dksX0_isVoice_0 4 rfl rfl)
theorem dX0_isVoice_7 : decode cX0_isVoice 7 = .ok (.imul, 1) := dk_104 (dk_at dksX0_isVoice_0 7 rfl rfl)
theorem dX0_isVoice_8 : decode cX0_isVoice 8 = .ok (.iconst 1, 1) := dk_4 (dk_at dksX0_isVoice_0 8 rfl rfl)
theorem dX0_isVoice_9 : decode cX0_isVoice 9 = .ok (.isub, 1) := dk_100 (dk_at dksX0_isVoice_0 9 rfl rfl)
theorem dX0_isVoice_10 : decode cX0_isVoice 10 = .ok (.invokestatic 107, 3) := dk_184 0 107 (dk_at dksX0_isVoice_0 10 rfl rfl)
theorem dX0_isVoice_13 : decode cX0_isVoice 13 = .ok (.ireturn, 1) := dk_172 (dk_at dksX0_isVoice_0 13 rfl rfl)
abbrev cX0_ofKind : ByteArray := prog_1_method_13_code
def yX0_ofKind : MethodName := ⟨RX0, "ofKind", "(II)LStaveScore$Event;"⟩
def dkwX0_ofKind_3 : List UInt8 := [183, 0, 152, 176, 187, 0, 153, 89, 27, 183, 0, 155, 176, 187, 0, 156, 89, 27, 183, 0, 158, 176]
abbrev dktX0_ofKind_3 : List UInt8 := dkwX0_ofKind_3 ++ []
def dkwX0_ofKind_2 : List UInt8 := [187, 0, 142, 89, 27, 183, 0, 144, 176, 187, 0, 147, 89, 27, 183, 0, 149, 176, 187, 0, 150, 89, 27]
abbrev dktX0_ofKind_2 : List UInt8 := dkwX0_ofKind_2 ++ dktX0_ofKind_3
def dkwX0_ofKind_1 : List UInt8 := [170, 0, 0, 0, 0, 0, 67, 0, 0, 0, 0, 0, 0, 0, 3, 0, 0, 0, 31, 0, 0, 0, 40, 0, 0, 0, 49, 0, 0, 0, 58]
abbrev dktX0_ofKind_1 : List UInt8 := dkwX0_ofKind_1 ++ dktX0_ofKind_2
def dkwX0_ofKind_0 : List UInt8 := [26]
abbrev dktX0_ofKind_0 : List UInt8 := dkwX0_ofKind_0 ++ dktX0_ofKind_1
theorem dksX0_ofKind_0 : cX0_ofKind.data.toList.drop 0 = dktX0_ofKind_0 := by decide +kernel
theorem dksX0_ofKind_1 : cX0_ofKind.data.toList.drop 1 = dktX0_ofKind_1 := dk_seg dksX0_ofKind_0 1 rfl rfl
theorem dksX0_ofKind_2 : cX0_ofKind.data.toList.drop 32 = dktX0_ofKind_2 := dk_seg dksX0_ofKind_1 31 rfl rfl
theorem dksX0_ofKind_3 : cX0_ofKind.data.toList.drop 55 = dktX0_ofKind_3 := dk_seg dksX0_ofKind_2 23 rfl rfl
theorem dX0_ofKind_0 : decode cX0_ofKind 0 = .ok (.iload_n 0, 1) := dk_26 (dk_at dksX0_ofKind_0 0 rfl rfl)
theorem dX0_ofKind_1 : decode cX0_ofKind 1 = .ok (.tableswitch 67 0 3 #[31, 40, 49, 58], 31) := by decide +kernel
theorem dX0_ofKind_32 : decode cX0_ofKind 32 = .ok (.new 142, 3) := dk_187 0 142 (dk_at dksX0_ofKind_2 0 rfl rfl)
theorem dX0_ofKind_35 : decode cX0_ofKind 35 = .ok (.dup, 1) := dk_89 (dk_at dksX0_ofKind_2 3 rfl rfl)
theorem dX0_ofKind_36 : decode cX0_ofKind 36 = .ok (.iload_n 1, 1) := dk_27 (dk_at dksX0_ofKind_2 4 rfl rfl)
theorem dX0_ofKind_37 : decode cX0_ofKind 37 = .ok (.invokespecial 144, 3) := dk_183 0 144 (dk_at dksX0_ofKind_2 5 rfl rfl)
theorem dX0_ofKind_40 : decode cX0_ofKind 40 = .ok (.areturn, 1) := dk_176 (dk_at dksX0_ofKind_2 8 rfl rfl)
theorem dX0_ofKind_41 : decode cX0_ofKind 41 = .ok (.new 147, 3) := dk_187 0 147 (dk_at dksX0_ofKind_2 9 rfl rfl)
theorem dX0_ofKind_44 : decode cX0_ofKind 44 = .ok (.dup, 1) := dk_89 (dk_at dksX0_ofKind_2 12 rfl rfl)
theorem dX0_ofKind_45 : decode cX0_ofKind 45 = .ok (.iload_n 1, 1) := dk_27 (dk_at dksX0_ofKind_2 13 rfl rfl)
theorem dX0_ofKind_46 : decode cX0_ofKind 46 = .ok (.invokespecial 149, 3) := dk_183 0 149 (dk_at dksX0_ofKind_2 14 rfl rfl)
theorem dX0_ofKind_49 : decode cX0_ofKind 49 = .ok (.areturn, 1) := dk_176 (dk_at dksX0_ofKind_2 17 rfl rfl)
theorem dX0_ofKind_50 : decode cX0_ofKind 50 = .ok (.new 150, 3) := dk_187 0 150 (dk_at dksX0_ofKind_2 18 rfl rfl)
theorem dX0_ofKind_53 : decode cX0_ofKind 53 = .ok (.dup, 1) := dk_89 (dk_at dksX0_ofKind_2 21 rfl rfl)
theorem dX0_ofKind_54 : decode cX0_ofKind 54 = .ok (.iload_n 1, 1) := dk_27 (dk_at dksX0_ofKind_2 22 rfl rfl)
theorem dX0_ofKind_55 : decode cX0_ofKind 55 = .ok (.invokespecial 152, 3) := dk_183 0 152 (dk_at dksX0_ofKind_3 0 rfl rfl)
theorem dX0_ofKind_58 : decode cX0_ofKind 58 = .ok (.areturn, 1) := dk_176 (dk_at dksX0_ofKind_3 3 rfl rfl)
theorem dX0_ofKind_59 : decode cX0_ofKind 59 = .ok (.new 153, 3) := dk_187 0 153 (dk_at dksX0_ofKind_3 4 rfl rfl)
theorem dX0_ofKind_62 : decode cX0_ofKind 62 = .ok (.dup, 1) := dk_89 (dk_at dksX0_ofKind_3 7 rfl rfl)
theorem dX0_ofKind_63 : decode cX0_ofKind 63 = .ok (.iload_n 1, 1) := dk_27 (dk_at dksX0_ofKind_3 8 rfl rfl)
theorem dX0_ofKind_64 : decode cX0_ofKind 64 = .ok (.invokespecial 155, 3) := dk_183 0 155 (dk_at dksX0_ofKind_3 9 rfl rfl)
theorem dX0_ofKind_67 : decode cX0_ofKind 67 = .ok (.areturn, 1) := dk_176 (dk_at dksX0_ofKind_3 12 rfl rfl)
theorem dX0_ofKind_68 : decode cX0_ofKind 68 = .ok (.new 156, 3) := dk_187 0 156 (dk_at dksX0_ofKind_3 13 rfl rfl)
theorem dX0_ofKind_71 : decode cX0_ofKind 71 = .ok (.dup, 1) := dk_89 (dk_at dksX0_ofKind_3 16 rfl rfl)
theorem dX0_ofKind_72 : decode cX0_ofKind 72 = .ok (.iload_n 1, 1) := dk_27 (dk_at dksX0_ofKind_3 17 rfl rfl)
theorem dX0_ofKind_73 : decode cX0_ofKind 73 = .ok (.invokespecial 158, 3) := dk_183 0 158 (dk_at dksX0_ofKind_3 18 rfl rfl)
theorem dX0_ofKind_76 : decode cX0_ofKind 76 = .ok (.areturn, 1) := dk_176 (dk_at dksX0_ofKind_3 21 rfl rfl)
abbrev cX0_number : ByteArray := prog_1_method_14_code
def yX0_number : MethodName := ⟨RX0, "number", "(LStaveScore$Voice;I)V"⟩
def dkwX0_number_1 : List UInt8 := [167, 255, 235, 177]
abbrev dktX0_number_1 : List UInt8 := dkwX0_number_1 ++ []
def dkwX0_number_0 : List UInt8 := [28, 62, 29, 43, 180, 0, 159, 162, 0, 19, 43, 180, 0, 162, 29, 50, 29, 181, 0, 165, 132, 3, 1]
abbrev dktX0_number_0 : List UInt8 := dkwX0_number_0 ++ dktX0_number_1
theorem dksX0_number_0 : cX0_number.data.toList.drop 0 = dktX0_number_0 := by decide +kernel
theorem dksX0_number_1 : cX0_number.data.toList.drop 23 = dktX0_number_1 := dk_seg dksX0_number_0 23 rfl rfl
theorem dX0_number_0 : decode cX0_number 0 = .ok (.iload_n 2, 1) := dk_28 (dk_at dksX0_number_0 0 rfl rfl)
theorem dX0_number_1 : decode cX0_number 1 = .ok (.istore_n 3, 1) := dk_62 (dk_at dksX0_number_0 1 rfl rfl)
theorem dX0_number_2 : decode cX0_number 2 = .ok (.iload_n 3, 1) := dk_29 (dk_at dksX0_number_0 2 rfl rfl)
theorem dX0_number_3 : decode cX0_number 3 = .ok (.aload_n 1, 1) := dk_43 (dk_at dksX0_number_0 3 rfl rfl)
theorem dX0_number_4 : decode cX0_number 4 = .ok (.getfield 159, 3) := dk_180 0 159 (dk_at dksX0_number_0 4 rfl rfl)
theorem dX0_number_7 : decode cX0_number 7 = .ok (.if_icmp .ge 19, 3) := dk_162 0 19 (dk_at dksX0_number_0 7 rfl rfl)
theorem dX0_number_10 : decode cX0_number 10 = .ok (.aload_n 1, 1) := dk_43 (dk_at dksX0_number_0 10 rfl rfl)
theorem dX0_number_11 : decode cX0_number 11 = .ok (.getfield 162, 3) := dk_180 0 162 (dk_at dksX0_number_0 11 rfl rfl)
theorem dX0_number_14 : decode cX0_number 14 = .ok (.iload_n 3, 1) := dk_29 (dk_at dksX0_number_0 14 rfl rfl)
theorem dX0_number_15 : decode cX0_number 15 = .ok (.aaload, 1) := dk_50 (dk_at dksX0_number_0 15 rfl rfl)
theorem dX0_number_16 : decode cX0_number 16 = .ok (.iload_n 3, 1) := dk_29 (dk_at dksX0_number_0 16 rfl rfl)
theorem dX0_number_17 : decode cX0_number 17 = .ok (.putfield 165, 3) := dk_181 0 165 (dk_at dksX0_number_0 17 rfl rfl)
theorem dX0_number_20 : decode cX0_number 20 = .ok (.iinc 3 1, 3) := dk_132 3 1 (dk_at dksX0_number_0 20 rfl rfl)
theorem dX0_number_23 : decode cX0_number 23 = .ok (.goto (-21), 3) := dk_167 255 235 (dk_at dksX0_number_1 0 rfl rfl)
theorem dX0_number_26 : decode cX0_number 26 = .ok (.return_, 1) := dk_177 (dk_at dksX0_number_1 3 rfl rfl)
abbrev cX0_drop : ByteArray := prog_1_method_16_code
def yX0_drop : MethodName := ⟨RX0, "drop", "(I)I"⟩
def dkwX0_drop_15 : List UInt8 := [180, 0, 49, 27, 1, 83, 42, 89, 180, 0, 204, 4, 100, 181, 0, 204, 42, 21, 4, 182, 0, 128, 172]
abbrev dktX0_drop_15 : List UInt8 := dkwX0_drop_15 ++ []
def dkwX0_drop_14 : List UInt8 := [167, 0, 10, 42, 180, 0, 61, 21, 5, 50, 83, 132, 5, 1, 167, 255, 164, 42, 44, 182, 0, 217, 42]
abbrev dktX0_drop_14 : List UInt8 := dkwX0_drop_14 ++ dktX0_drop_15
def dkwX0_drop_13 : List UInt8 := [181, 0, 210, 42, 180, 0, 61, 21, 5, 42, 180, 0, 61, 21, 5, 50, 180, 0, 214, 44, 166, 0, 7, 1]
abbrev dktX0_drop_13 : List UInt8 := dkwX0_drop_13 ++ dktX0_drop_14
def dkwX0_drop_12 : List UInt8 := [21, 5, 50, 180, 0, 210, 44, 166, 0, 7, 1, 167, 0, 13, 42, 180, 0, 61, 21, 5, 50, 180, 0, 210]
abbrev dktX0_drop_12 : List UInt8 := dkwX0_drop_12 ++ dktX0_drop_13
def dkwX0_drop_11 : List UInt8 := [162, 0, 89, 42, 180, 0, 61, 21, 5, 50, 198, 0, 73, 42, 180, 0, 61, 21, 5, 50, 42, 180, 0, 61]
abbrev dktX0_drop_11 : List UInt8 := dkwX0_drop_11 ++ dktX0_drop_12
def dkwX0_drop_10 : List UInt8 := [180, 0, 55, 21, 5, 50, 83, 132, 5, 1, 167, 255, 106, 3, 54, 5, 21, 5, 42, 180, 0, 117]
abbrev dktX0_drop_10 : List UInt8 := dkwX0_drop_10 ++ dktX0_drop_11
def dkwX0_drop_9 : List UInt8 := [50, 180, 0, 198, 42, 180, 0, 55, 21, 5, 50, 180, 0, 201, 162, 0, 7, 1, 167, 0, 10, 42]
abbrev dktX0_drop_9 : List UInt8 := dkwX0_drop_9 ++ dktX0_drop_10
def dkwX0_drop_8 : List UInt8 := [163, 0, 7, 4, 167, 0, 4, 3, 100, 181, 0, 198, 42, 180, 0, 55, 21, 5, 42, 180, 0, 55, 21, 5]
abbrev dktX0_drop_8 : List UInt8 := dkwX0_drop_8 ++ dktX0_drop_9
def dkwX0_drop_7 : List UInt8 := [42, 180, 0, 55, 21, 5, 50, 89, 180, 0, 198, 21, 4, 42, 180, 0, 55, 21, 5, 50, 180, 0, 198]
abbrev dktX0_drop_7 : List UInt8 := dkwX0_drop_7 ++ dktX0_drop_8
def dkwX0_drop_6 : List UInt8 := [21, 4, 42, 180, 0, 55, 21, 5, 50, 180, 0, 201, 162, 0, 7, 4, 167, 0, 4, 3, 100, 181, 0, 201]
abbrev dktX0_drop_6 : List UInt8 := dkwX0_drop_6 ++ dktX0_drop_7
def dkwX0_drop_5 : List UInt8 := [21, 5, 50, 180, 0, 197, 44, 180, 0, 176, 160, 0, 114, 42, 180, 0, 55, 21, 5, 50, 89, 180, 0, 201]
abbrev dktX0_drop_5 : List UInt8 := dkwX0_drop_5 ++ dktX0_drop_6
def dkwX0_drop_4 : List UInt8 := [21, 5, 42, 180, 0, 114, 162, 0, 147, 42, 180, 0, 55, 21, 5, 50, 198, 0, 131, 42, 180, 0, 55]
abbrev dktX0_drop_4 : List UInt8 := dkwX0_drop_4 ++ dktX0_drop_5
def dkwX0_drop_3 : List UInt8 := [184, 0, 187, 45, 180, 0, 162, 45, 180, 0, 159, 1, 83, 42, 45, 21, 4, 182, 0, 193, 3, 54, 5]
abbrev dktX0_drop_3 : List UInt8 := dkwX0_drop_3 ++ dktX0_drop_4
def dkwX0_drop_2 : List UInt8 := [181, 0, 159, 45, 180, 0, 162, 21, 4, 4, 96, 45, 180, 0, 162, 21, 4, 45, 180, 0, 159, 21, 4, 100]
abbrev dktX0_drop_2 : List UInt8 := dkwX0_drop_2 ++ dktX0_drop_3
def dkwX0_drop_1 : List UInt8 := [180, 0, 43, 44, 180, 0, 176, 50, 78, 44, 180, 0, 165, 54, 4, 45, 89, 180, 0, 159, 4, 100]
abbrev dktX0_drop_1 : List UInt8 := dkwX0_drop_1 ++ dktX0_drop_2
def dkwX0_drop_0 : List UInt8 := [42, 27, 182, 0, 207, 154, 0, 10, 42, 16, 254, 182, 0, 120, 172, 42, 180, 0, 49, 27, 50, 77, 42]
abbrev dktX0_drop_0 : List UInt8 := dkwX0_drop_0 ++ dktX0_drop_1
theorem dksX0_drop_0 : cX0_drop.data.toList.drop 0 = dktX0_drop_0 := by decide +kernel
theorem dksX0_drop_1 : cX0_drop.data.toList.drop 23 = dktX0_drop_1 := dk_seg dksX0_drop_0 23 rfl rfl
theorem dksX0_drop_2 : cX0_drop.data.toList.drop 45 = dktX0_drop_2 := dk_seg dksX0_drop_1 22 rfl rfl
theorem dksX0_drop_3 : cX0_drop.data.toList.drop 69 = dktX0_drop_3 := dk_seg dksX0_drop_2 24 rfl rfl
theorem dksX0_drop_4 : cX0_drop.data.toList.drop 92 = dktX0_drop_4 := dk_seg dksX0_drop_3 23 rfl rfl
theorem dksX0_drop_5 : cX0_drop.data.toList.drop 115 = dktX0_drop_5 := dk_seg dksX0_drop_4 23 rfl rfl
theorem dksX0_drop_6 : cX0_drop.data.toList.drop 139 = dktX0_drop_6 := dk_seg dksX0_drop_5 24 rfl rfl
theorem dksX0_drop_7 : cX0_drop.data.toList.drop 163 = dktX0_drop_7 := dk_seg dksX0_drop_6 24 rfl rfl
theorem dksX0_drop_8 : cX0_drop.data.toList.drop 186 = dktX0_drop_8 := dk_seg dksX0_drop_7 23 rfl rfl
theorem dksX0_drop_9 : cX0_drop.data.toList.drop 210 = dktX0_drop_9 := dk_seg dksX0_drop_8 24 rfl rfl
theorem dksX0_drop_10 : cX0_drop.data.toList.drop 232 = dktX0_drop_10 := dk_seg dksX0_drop_9 22 rfl rfl
theorem dksX0_drop_11 : cX0_drop.data.toList.drop 254 = dktX0_drop_11 := dk_seg dksX0_drop_10 22 rfl rfl
theorem dksX0_drop_12 : cX0_drop.data.toList.drop 278 = dktX0_drop_12 := dk_seg dksX0_drop_11 24 rfl rfl
theorem dksX0_drop_13 : cX0_drop.data.toList.drop 302 = dktX0_drop_13 := dk_seg dksX0_drop_12 24 rfl rfl
theorem dksX0_drop_14 : cX0_drop.data.toList.drop 326 = dktX0_drop_14 := dk_seg dksX0_drop_13 24 rfl rfl
theorem dksX0_drop_15 : cX0_drop.data.toList.drop 349 = dktX0_drop_15 := dk_seg dksX0_drop_14 23 rfl rfl
theorem dX0_drop_0 : decode cX0_drop 0 = .ok (.aload_n 0, 1) := dk_42 (dk_at dksX0_drop_0 0 rfl rfl)
theorem dX0_drop_1 : decode cX0_drop 1 = .ok (.iload_n 1, 1) := dk_27 (dk_at dksX0_drop_0 1 rfl rfl)
theorem dX0_drop_2 : decode cX0_drop 2 = .ok (.invokevirtual 207, 3) := dk_182 0 207 (dk_at dksX0_drop_0 2 rfl rfl)
theorem dX0_drop_5 : decode cX0_drop 5 = .ok (.ifCond .ne 10, 3) := dk_154 0 10 (dk_at dksX0_drop_0 5 rfl rfl)
theorem dX0_drop_8 : decode cX0_drop 8 = .ok (.aload_n 0, 1) := dk_42 (dk_at dksX0_drop_0 8 rfl rfl)
theorem dX0_drop_9 : decode cX0_drop 9 = .ok (.bipush (-2), 2) := dk_16 254 (dk_at dksX0_drop_0 9 rfl rfl)
theorem dX0_drop_11 : decode cX0_drop 11 = .ok (.invokevirtual 120, 3) := dk_182 0 120 (dk_at dksX0_drop_0 11 rfl rfl)
theorem dX0_drop_14 : decode cX0_drop 14 = .ok (.ireturn, 1) := dk_172 (dk_at dksX0_drop_0 14 rfl rfl)
theorem dX0_drop_15 : decode cX0_drop 15 = .ok (.aload_n 0, 1) := dk_42 (dk_at dksX0_drop_0 15 rfl rfl)
theorem dX0_drop_16 : decode cX0_drop 16 = .ok (.getfield 49, 3) := dk_180 0 49 (dk_at dksX0_drop_0 16 rfl rfl)
theorem dX0_drop_19 : decode cX0_drop 19 = .ok (.iload_n 1, 1) := dk_27 (dk_at dksX0_drop_0 19 rfl rfl)
theorem dX0_drop_20 : decode cX0_drop 20 = .ok (.aaload, 1) := dk_50 (dk_at dksX0_drop_0 20 rfl rfl)
theorem dX0_drop_21 : decode cX0_drop 21 = .ok (.astore_n 2, 1) := dk_77 (dk_at dksX0_drop_0 21 rfl rfl)
theorem dX0_drop_22 : decode cX0_drop 22 = .ok (.aload_n 0, 1) := dk_42 (dk_at dksX0_drop_0 22 rfl rfl)
theorem dX0_drop_23 : decode cX0_drop 23 = .ok (.getfield 43, 3) := dk_180 0 43 (dk_at dksX0_drop_1 0 rfl rfl)
theorem dX0_drop_26 : decode cX0_drop 26 = .ok (.aload_n 2, 1) := dk_44 (dk_at dksX0_drop_1 3 rfl rfl)
theorem dX0_drop_27 : decode cX0_drop 27 = .ok (.getfield 176, 3) := dk_180 0 176 (dk_at dksX0_drop_1 4 rfl rfl)
theorem dX0_drop_30 : decode cX0_drop 30 = .ok (.aaload, 1) := dk_50 (dk_at dksX0_drop_1 7 rfl rfl)
theorem dX0_drop_31 : decode cX0_drop 31 = .ok (.astore_n 3, 1) := dk_78 (dk_at dksX0_drop_1 8 rfl rfl)
theorem dX0_drop_32 : decode cX0_drop 32 = .ok (.aload_n 2, 1) := dk_44 (dk_at dksX0_drop_1 9 rfl rfl)
theorem dX0_drop_33 : decode cX0_drop 33 = .ok (.getfield 165, 3) := dk_180 0 165 (dk_at dksX0_drop_1 10 rfl rfl)
theorem dX0_drop_36 : decode cX0_drop 36 = .ok (.istore 4, 2) := dk_54 4 (dk_at dksX0_drop_1 13 rfl rfl)
theorem dX0_drop_38 : decode cX0_drop 38 = .ok (.aload_n 3, 1) := dk_45 (dk_at dksX0_drop_1 15 rfl rfl)
theorem dX0_drop_39 : decode cX0_drop 39 = .ok (.dup, 1) := dk_89 (dk_at dksX0_drop_1 16 rfl rfl)
theorem dX0_drop_40 : decode cX0_drop 40 = .ok (.getfield 159, 3) := dk_180 0 159 (dk_at dksX0_drop_1 17 rfl rfl)
theorem dX0_drop_43 : decode cX0_drop 43 = .ok (.iconst 1, 1) := dk_4 (dk_at dksX0_drop_1 20 rfl rfl)
theorem dX0_drop_44 : decode cX0_drop 44 = .ok (.isub, 1) := dk_100 (dk_at dksX0_drop_1 21 rfl rfl)
theorem dX0_drop_45 : decode cX0_drop 45 = .ok (.putfield 159, 3) := dk_181 0 159 (dk_at dksX0_drop_2 0 rfl rfl)
theorem dX0_drop_48 : decode cX0_drop 48 = .ok (.aload_n 3, 1) := dk_45 (dk_at dksX0_drop_2 3 rfl rfl)
theorem dX0_drop_49 : decode cX0_drop 49 = .ok (.getfield 162, 3) := dk_180 0 162 (dk_at dksX0_drop_2 4 rfl rfl)
theorem dX0_drop_52 : decode cX0_drop 52 = .ok (.iload 4, 2) := dk_21 4 (dk_at dksX0_drop_2 7 rfl rfl)
theorem dX0_drop_54 : decode cX0_drop 54 = .ok (.iconst 1, 1) := dk_4 (dk_at dksX0_drop_2 9 rfl rfl)
theorem dX0_drop_55 : decode cX0_drop 55 = .ok (.iadd, 1) := dk_96 (dk_at dksX0_drop_2 10 rfl rfl)
theorem dX0_drop_56 : decode cX0_drop 56 = .ok (.aload_n 3, 1) := dk_45 (dk_at dksX0_drop_2 11 rfl rfl)
theorem dX0_drop_57 : decode cX0_drop 57 = .ok (.getfield 162, 3) := dk_180 0 162 (dk_at dksX0_drop_2 12 rfl rfl)
theorem dX0_drop_60 : decode cX0_drop 60 = .ok (.iload 4, 2) := dk_21 4 (dk_at dksX0_drop_2 15 rfl rfl)
theorem dX0_drop_62 : decode cX0_drop 62 = .ok (.aload_n 3, 1) := dk_45 (dk_at dksX0_drop_2 17 rfl rfl)
theorem dX0_drop_63 : decode cX0_drop 63 = .ok (.getfield 159, 3) := dk_180 0 159 (dk_at dksX0_drop_2 18 rfl rfl)
theorem dX0_drop_66 : decode cX0_drop 66 = .ok (.iload 4, 2) := dk_21 4 (dk_at dksX0_drop_2 21 rfl rfl)
theorem dX0_drop_68 : decode cX0_drop 68 = .ok (.isub, 1) := dk_100 (dk_at dksX0_drop_2 23 rfl rfl)
theorem dX0_drop_69 : decode cX0_drop 69 = .ok (.invokestatic 187, 3) := dk_184 0 187 (dk_at dksX0_drop_3 0 rfl rfl)
theorem dX0_drop_72 : decode cX0_drop 72 = .ok (.aload_n 3, 1) := dk_45 (dk_at dksX0_drop_3 3 rfl rfl)
theorem dX0_drop_73 : decode cX0_drop 73 = .ok (.getfield 162, 3) := dk_180 0 162 (dk_at dksX0_drop_3 4 rfl rfl)
theorem dX0_drop_76 : decode cX0_drop 76 = .ok (.aload_n 3, 1) := dk_45 (dk_at dksX0_drop_3 7 rfl rfl)
theorem dX0_drop_77 : decode cX0_drop 77 = .ok (.getfield 159, 3) := dk_180 0 159 (dk_at dksX0_drop_3 8 rfl rfl)
theorem dX0_drop_80 : decode cX0_drop 80 = .ok (.aconst_null, 1) := dk_1 (dk_at dksX0_drop_3 11 rfl rfl)
theorem dX0_drop_81 : decode cX0_drop 81 = .ok (.aastore, 1) := dk_83 (dk_at dksX0_drop_3 12 rfl rfl)
theorem dX0_drop_82 : decode cX0_drop 82 = .ok (.aload_n 0, 1) := dk_42 (dk_at dksX0_drop_3 13 rfl rfl)
theorem dX0_drop_83 : decode cX0_drop 83 = .ok (.aload_n 3, 1) := dk_45 (dk_at dksX0_drop_3 14 rfl rfl)
theorem dX0_drop_84 : decode cX0_drop 84 = .ok (.iload 4, 2) := dk_21 4 (dk_at dksX0_drop_3 15 rfl rfl)
theorem dX0_drop_86 : decode cX0_drop 86 = .ok (.invokevirtual 193, 3) := dk_182 0 193 (dk_at dksX0_drop_3 17 rfl rfl)
theorem dX0_drop_89 : decode cX0_drop 89 = .ok (.iconst 0, 1) := dk_3 (dk_at dksX0_drop_3 20 rfl rfl)
theorem dX0_drop_90 : decode cX0_drop 90 = .ok (.istore 5, 2) := dk_54 5 (dk_at dksX0_drop_3 21 rfl rfl)
theorem dX0_drop_92 : decode cX0_drop 92 = .ok (.iload 5, 2) := dk_21 5 (dk_at dksX0_drop_4 0 rfl rfl)
theorem dX0_drop_94 : decode cX0_drop 94 = .ok (.aload_n 0, 1) := dk_42 (dk_at dksX0_drop_4 2 rfl rfl)
theorem dX0_drop_95 : decode cX0_drop 95 = .ok (.getfield 114, 3) := dk_180 0 114 (dk_at dksX0_drop_4 3 rfl rfl)
theorem dX0_drop_98 : decode cX0_drop 98 = .ok (.if_icmp .ge 147, 3) := dk_162 0 147 (dk_at dksX0_drop_4 6 rfl rfl)
theorem dX0_drop_101 : decode cX0_drop 101 = .ok (.aload_n 0, 1) := dk_42 (dk_at dksX0_drop_4 9 rfl rfl)
theorem dX0_drop_102 : decode cX0_drop 102 = .ok (.getfield 55, 3) := dk_180 0 55 (dk_at dksX0_drop_4 10 rfl rfl)
theorem dX0_drop_105 : decode cX0_drop 105 = .ok (.iload 5, 2) := dk_21 5 (dk_at dksX0_drop_4 13 rfl rfl)
theorem dX0_drop_107 : decode cX0_drop 107 = .ok (.aaload, 1) := dk_50 (dk_at dksX0_drop_4 15 rfl rfl)
theorem dX0_drop_108 : decode cX0_drop 108 = .ok (.ifnull 131, 3) := dk_198 0 131 (dk_at dksX0_drop_4 16 rfl rfl)
theorem dX0_drop_111 : decode cX0_drop 111 = .ok (.aload_n 0, 1) := dk_42 (dk_at dksX0_drop_4 19 rfl rfl)
theorem dX0_drop_112 : decode cX0_drop 112 = .ok (.getfield 55, 3) := dk_180 0 55 (dk_at dksX0_drop_4 20 rfl rfl)
theorem dX0_drop_115 : decode cX0_drop 115 = .ok (.iload 5, 2) := dk_21 5 (dk_at dksX0_drop_5 0 rfl rfl)
theorem dX0_drop_117 : decode cX0_drop 117 = .ok (.aaload, 1) := dk_50 (dk_at dksX0_drop_5 2 rfl rfl)
theorem dX0_drop_118 : decode cX0_drop 118 = .ok (.getfield 197, 3) := dk_180 0 197 (dk_at dksX0_drop_5 3 rfl rfl)
theorem dX0_drop_121 : decode cX0_drop 121 = .ok (.aload_n 2, 1) := dk_44 (dk_at dksX0_drop_5 6 rfl rfl)
theorem dX0_drop_122 : decode cX0_drop 122 = .ok (.getfield 176, 3) := dk_180 0 176 (dk_at dksX0_drop_5 7 rfl rfl)
theorem dX0_drop_125 : decode cX0_drop 125 = .ok (.if_icmp .ne 114, 3) := dk_160 0 114 (dk_at dksX0_drop_5 10 rfl rfl)
theorem dX0_drop_128 : decode cX0_drop 128 = .ok (.aload_n 0, 1) := dk_42 (dk_at dksX0_drop_5 13 rfl rfl)
theorem dX0_drop_129 : decode cX0_drop 129 = .ok (.getfield 55, 3) := dk_180 0 55 (dk_at dksX0_drop_5 14 rfl rfl)
theorem dX0_drop_132 : decode cX0_drop 132 = .ok (.iload 5, 2) := dk_21 5 (dk_at dksX0_drop_5 17 rfl rfl)
theorem dX0_drop_134 : decode cX0_drop 134 = .ok (.aaload, 1) := dk_50 (dk_at dksX0_drop_5 19 rfl rfl)
theorem dX0_drop_135 : decode cX0_drop 135 = .ok (.dup, 1) := dk_89 (dk_at dksX0_drop_5 20 rfl rfl)
theorem dX0_drop_136 : decode cX0_drop 136 = .ok (.getfield 201, 3) := dk_180 0 201 (dk_at dksX0_drop_5 21 rfl rfl)
theorem dX0_drop_139 : decode cX0_drop 139 = .ok (.iload 4, 2) := dk_21 4 (dk_at dksX0_drop_6 0 rfl rfl)
theorem dX0_drop_141 : decode cX0_drop 141 = .ok (.aload_n 0, 1) := dk_42 (dk_at dksX0_drop_6 2 rfl rfl)
theorem dX0_drop_142 : decode cX0_drop 142 = .ok (.getfield 55, 3) := dk_180 0 55 (dk_at dksX0_drop_6 3 rfl rfl)
theorem dX0_drop_145 : decode cX0_drop 145 = .ok (.iload 5, 2) := dk_21 5 (dk_at dksX0_drop_6 6 rfl rfl)
theorem dX0_drop_147 : decode cX0_drop 147 = .ok (.aaload, 1) := dk_50 (dk_at dksX0_drop_6 8 rfl rfl)
theorem dX0_drop_148 : decode cX0_drop 148 = .ok (.getfield 201, 3) := dk_180 0 201 (dk_at dksX0_drop_6 9 rfl rfl)
theorem dX0_drop_151 : decode cX0_drop 151 = .ok (.if_icmp .ge 7, 3) := dk_162 0 7 (dk_at dksX0_drop_6 12 rfl rfl)
theorem dX0_drop_154 : decode cX0_drop 154 = .ok (.iconst 1, 1) := dk_4 (dk_at dksX0_drop_6 15 rfl rfl)
theorem dX0_drop_155 : decode cX0_drop 155 = .ok (.goto 4, 3) := dk_167 0 4 (dk_at dksX0_drop_6 16 rfl rfl)
theorem dX0_drop_158 : decode cX0_drop 158 = .ok (.iconst 0, 1) := dk_3 (dk_at dksX0_drop_6 19 rfl rfl)
theorem dX0_drop_159 : decode cX0_drop 159 = .ok (.isub, 1) := dk_100 (dk_at dksX0_drop_6 20 rfl rfl)
theorem dX0_drop_160 : decode cX0_drop 160 = .ok (.putfield 201, 3) := dk_181 0 201 (dk_at dksX0_drop_6 21 rfl rfl)
theorem dX0_drop_163 : decode cX0_drop 163 = .ok (.aload_n 0, 1) := dk_42 (dk_at dksX0_drop_7 0 rfl rfl)
theorem dX0_drop_164 : decode cX0_drop 164 = .ok (.getfield 55, 3) := dk_180 0 55 (dk_at dksX0_drop_7 1 rfl rfl)
theorem dX0_drop_167 : decode cX0_drop 167 = .ok (.iload 5, 2) := dk_21 5 (dk_at dksX0_drop_7 4 rfl rfl)
theorem dX0_drop_169 : decode cX0_drop 169 = .ok (.aaload, 1) := dk_50 (dk_at dksX0_drop_7 6 rfl rfl)
theorem dX0_drop_170 : decode cX0_drop 170 = .ok (.dup, 1) := dk_89 (dk_at dksX0_drop_7 7 rfl rfl)
theorem dX0_drop_171 : decode cX0_drop 171 = .ok (.getfield 198, 3) := dk_180 0 198 (dk_at dksX0_drop_7 8 rfl rfl)
theorem dX0_drop_174 : decode cX0_drop 174 = .ok (.iload 4, 2) := dk_21 4 (dk_at dksX0_drop_7 11 rfl rfl)
theorem dX0_drop_176 : decode cX0_drop 176 = .ok (.aload_n 0, 1) := dk_42 (dk_at dksX0_drop_7 13 rfl rfl)
theorem dX0_drop_177 : decode cX0_drop 177 = .ok (.getfield 55, 3) := dk_180 0 55 (dk_at dksX0_drop_7 14 rfl rfl)
theorem dX0_drop_180 : decode cX0_drop 180 = .ok (.iload 5, 2) := dk_21 5 (dk_at dksX0_drop_7 17 rfl rfl)
theorem dX0_drop_182 : decode cX0_drop 182 = .ok (.aaload, 1) := dk_50 (dk_at dksX0_drop_7 19 rfl rfl)
theorem dX0_drop_183 : decode cX0_drop 183 = .ok (.getfield 198, 3) := dk_180 0 198 (dk_at dksX0_drop_7 20 rfl rfl)
theorem dX0_drop_186 : decode cX0_drop 186 = .ok (.if_icmp .gt 7, 3) := dk_163 0 7 (dk_at dksX0_drop_8 0 rfl rfl)
theorem dX0_drop_189 : decode cX0_drop 189 = .ok (.iconst 1, 1) := dk_4 (dk_at dksX0_drop_8 3 rfl rfl)
theorem dX0_drop_190 : decode cX0_drop 190 = .ok (.goto 4, 3) := dk_167 0 4 (dk_at dksX0_drop_8 4 rfl rfl)
theorem dX0_drop_193 : decode cX0_drop 193 = .ok (.iconst 0, 1) := dk_3 (dk_at dksX0_drop_8 7 rfl rfl)
theorem dX0_drop_194 : decode cX0_drop 194 = .ok (.isub, 1) := dk_100 (dk_at dksX0_drop_8 8 rfl rfl)
theorem dX0_drop_195 : decode cX0_drop 195 = .ok (.putfield 198, 3) := dk_181 0 198 (dk_at dksX0_drop_8 9 rfl rfl)
theorem dX0_drop_198 : decode cX0_drop 198 = .ok (.aload_n 0, 1) := dk_42 (dk_at dksX0_drop_8 12 rfl rfl)
theorem dX0_drop_199 : decode cX0_drop 199 = .ok (.getfield 55, 3) := dk_180 0 55 (dk_at dksX0_drop_8 13 rfl rfl)
theorem dX0_drop_202 : decode cX0_drop 202 = .ok (.iload 5, 2) := dk_21 5 (dk_at dksX0_drop_8 16 rfl rfl)
theorem dX0_drop_204 : decode cX0_drop 204 = .ok (.aload_n 0, 1) := dk_42 (dk_at dksX0_drop_8 18 rfl rfl)
theorem dX0_drop_205 : decode cX0_drop 205 = .ok (.getfield 55, 3) := dk_180 0 55 (dk_at dksX0_drop_8 19 rfl rfl)
theorem dX0_drop_208 : decode cX0_drop 208 = .ok (.iload 5, 2) := dk_21 5 (dk_at dksX0_drop_8 22 rfl rfl)
theorem dX0_drop_210 : decode cX0_drop 210 = .ok (.aaload, 1) := dk_50 (dk_at dksX0_drop_9 0 rfl rfl)
theorem dX0_drop_211 : decode cX0_drop 211 = .ok (.getfield 198, 3) := dk_180 0 198 (dk_at dksX0_drop_9 1 rfl rfl)
theorem dX0_drop_214 : decode cX0_drop 214 = .ok (.aload_n 0, 1) := dk_42 (dk_at dksX0_drop_9 4 rfl rfl)
theorem dX0_drop_215 : decode cX0_drop 215 = .ok (.getfield 55, 3) := dk_180 0 55 (dk_at dksX0_drop_9 5 rfl rfl)
theorem dX0_drop_218 : decode cX0_drop 218 = .ok (.iload 5, 2) := dk_21 5 (dk_at dksX0_drop_9 8 rfl rfl)
theorem dX0_drop_220 : decode cX0_drop 220 = .ok (.aaload, 1) := dk_50 (dk_at dksX0_drop_9 10 rfl rfl)
theorem dX0_drop_221 : decode cX0_drop 221 = .ok (.getfield 201, 3) := dk_180 0 201 (dk_at dksX0_drop_9 11 rfl rfl)
theorem dX0_drop_224 : decode cX0_drop 224 = .ok (.if_icmp .ge 7, 3) := dk_162 0 7 (dk_at dksX0_drop_9 14 rfl rfl)
theorem dX0_drop_227 : decode cX0_drop 227 = .ok (.aconst_null, 1) := dk_1 (dk_at dksX0_drop_9 17 rfl rfl)
theorem dX0_drop_228 : decode cX0_drop 228 = .ok (.goto 10, 3) := dk_167 0 10 (dk_at dksX0_drop_9 18 rfl rfl)
theorem dX0_drop_231 : decode cX0_drop 231 = .ok (.aload_n 0, 1) := dk_42 (dk_at dksX0_drop_9 21 rfl rfl)
theorem dX0_drop_232 : decode cX0_drop 232 = .ok (.getfield 55, 3) := dk_180 0 55 (dk_at dksX0_drop_10 0 rfl rfl)
theorem dX0_drop_235 : decode cX0_drop 235 = .ok (.iload 5, 2) := dk_21 5 (dk_at dksX0_drop_10 3 rfl rfl)
theorem dX0_drop_237 : decode cX0_drop 237 = .ok (.aaload, 1) := dk_50 (dk_at dksX0_drop_10 5 rfl rfl)
theorem dX0_drop_238 : decode cX0_drop 238 = .ok (.aastore, 1) := dk_83 (dk_at dksX0_drop_10 6 rfl rfl)
theorem dX0_drop_239 : decode cX0_drop 239 = .ok (.iinc 5 1, 3) := dk_132 5 1 (dk_at dksX0_drop_10 7 rfl rfl)
theorem dX0_drop_242 : decode cX0_drop 242 = .ok (.goto (-150), 3) := dk_167 255 106 (dk_at dksX0_drop_10 10 rfl rfl)
theorem dX0_drop_245 : decode cX0_drop 245 = .ok (.iconst 0, 1) := dk_3 (dk_at dksX0_drop_10 13 rfl rfl)
theorem dX0_drop_246 : decode cX0_drop 246 = .ok (.istore 5, 2) := dk_54 5 (dk_at dksX0_drop_10 14 rfl rfl)
theorem dX0_drop_248 : decode cX0_drop 248 = .ok (.iload 5, 2) := dk_21 5 (dk_at dksX0_drop_10 16 rfl rfl)
theorem dX0_drop_250 : decode cX0_drop 250 = .ok (.aload_n 0, 1) := dk_42 (dk_at dksX0_drop_10 18 rfl rfl)
theorem dX0_drop_251 : decode cX0_drop 251 = .ok (.getfield 117, 3) := dk_180 0 117 (dk_at dksX0_drop_10 19 rfl rfl)
theorem dX0_drop_254 : decode cX0_drop 254 = .ok (.if_icmp .ge 89, 3) := dk_162 0 89 (dk_at dksX0_drop_11 0 rfl rfl)
theorem dX0_drop_257 : decode cX0_drop 257 = .ok (.aload_n 0, 1) := dk_42 (dk_at dksX0_drop_11 3 rfl rfl)
theorem dX0_drop_258 : decode cX0_drop 258 = .ok (.getfield 61, 3) := dk_180 0 61 (dk_at dksX0_drop_11 4 rfl rfl)
theorem dX0_drop_261 : decode cX0_drop 261 = .ok (.iload 5, 2) := dk_21 5 (dk_at dksX0_drop_11 7 rfl rfl)
theorem dX0_drop_263 : decode cX0_drop 263 = .ok (.aaload, 1) := dk_50 (dk_at dksX0_drop_11 9 rfl rfl)
theorem dX0_drop_264 : decode cX0_drop 264 = .ok (.ifnull 73, 3) := dk_198 0 73 (dk_at dksX0_drop_11 10 rfl rfl)
theorem dX0_drop_267 : decode cX0_drop 267 = .ok (.aload_n 0, 1) := dk_42 (dk_at dksX0_drop_11 13 rfl rfl)
theorem dX0_drop_268 : decode cX0_drop 268 = .ok (.getfield 61, 3) := dk_180 0 61 (dk_at dksX0_drop_11 14 rfl rfl)
theorem dX0_drop_271 : decode cX0_drop 271 = .ok (.iload 5, 2) := dk_21 5 (dk_at dksX0_drop_11 17 rfl rfl)
theorem dX0_drop_273 : decode cX0_drop 273 = .ok (.aaload, 1) := dk_50 (dk_at dksX0_drop_11 19 rfl rfl)
theorem dX0_drop_274 : decode cX0_drop 274 = .ok (.aload_n 0, 1) := dk_42 (dk_at dksX0_drop_11 20 rfl rfl)
theorem dX0_drop_275 : decode cX0_drop 275 = .ok (.getfield 61, 3) := dk_180 0 61 (dk_at dksX0_drop_11 21 rfl rfl)
theorem dX0_drop_278 : decode cX0_drop 278 = .ok (.iload 5, 2) := dk_21 5 (dk_at dksX0_drop_12 0 rfl rfl)
theorem dX0_drop_280 : decode cX0_drop 280 = .ok (.aaload, 1) := dk_50 (dk_at dksX0_drop_12 2 rfl rfl)
theorem dX0_drop_281 : decode cX0_drop 281 = .ok (.getfield 210, 3) := dk_180 0 210 (dk_at dksX0_drop_12 3 rfl rfl)
theorem dX0_drop_284 : decode cX0_drop 284 = .ok (.aload_n 2, 1) := dk_44 (dk_at dksX0_drop_12 6 rfl rfl)
theorem dX0_drop_285 : decode cX0_drop 285 = .ok (.if_acmp .ne 7, 3) := dk_166 0 7 (dk_at dksX0_drop_12 7 rfl rfl)
theorem dX0_drop_288 : decode cX0_drop 288 = .ok (.aconst_null, 1) := dk_1 (dk_at dksX0_drop_12 10 rfl rfl)
theorem dX0_drop_289 : decode cX0_drop 289 = .ok (.goto 13, 3) := dk_167 0 13 (dk_at dksX0_drop_12 11 rfl rfl)
theorem dX0_drop_292 : decode cX0_drop 292 = .ok (.aload_n 0, 1) := dk_42 (dk_at dksX0_drop_12 14 rfl rfl)
theorem dX0_drop_293 : decode cX0_drop 293 = .ok (.getfield 61, 3) := dk_180 0 61 (dk_at dksX0_drop_12 15 rfl rfl)
theorem dX0_drop_296 : decode cX0_drop 296 = .ok (.iload 5, 2) := dk_21 5 (dk_at dksX0_drop_12 18 rfl rfl)
theorem dX0_drop_298 : decode cX0_drop 298 = .ok (.aaload, 1) := dk_50 (dk_at dksX0_drop_12 20 rfl rfl)
theorem dX0_drop_299 : decode cX0_drop 299 = .ok (.getfield 210, 3) := dk_180 0 210 (dk_at dksX0_drop_12 21 rfl rfl)
theorem dX0_drop_302 : decode cX0_drop 302 = .ok (.putfield 210, 3) := dk_181 0 210 (dk_at dksX0_drop_13 0 rfl rfl)
theorem dX0_drop_305 : decode cX0_drop 305 = .ok (.aload_n 0, 1) := dk_42 (dk_at dksX0_drop_13 3 rfl rfl)
theorem dX0_drop_306 : decode cX0_drop 306 = .ok (.getfield 61, 3) := dk_180 0 61 (dk_at dksX0_drop_13 4 rfl rfl)
theorem dX0_drop_309 : decode cX0_drop 309 = .ok (.iload 5, 2) := dk_21 5 (dk_at dksX0_drop_13 7 rfl rfl)
theorem dX0_drop_311 : decode cX0_drop 311 = .ok (.aload_n 0, 1) := dk_42 (dk_at dksX0_drop_13 9 rfl rfl)
theorem dX0_drop_312 : decode cX0_drop 312 = .ok (.getfield 61, 3) := dk_180 0 61 (dk_at dksX0_drop_13 10 rfl rfl)
theorem dX0_drop_315 : decode cX0_drop 315 = .ok (.iload 5, 2) := dk_21 5 (dk_at dksX0_drop_13 13 rfl rfl)
theorem dX0_drop_317 : decode cX0_drop 317 = .ok (.aaload, 1) := dk_50 (dk_at dksX0_drop_13 15 rfl rfl)
theorem dX0_drop_318 : decode cX0_drop 318 = .ok (.getfield 214, 3) := dk_180 0 214 (dk_at dksX0_drop_13 16 rfl rfl)
theorem dX0_drop_321 : decode cX0_drop 321 = .ok (.aload_n 2, 1) := dk_44 (dk_at dksX0_drop_13 19 rfl rfl)
theorem dX0_drop_322 : decode cX0_drop 322 = .ok (.if_acmp .ne 7, 3) := dk_166 0 7 (dk_at dksX0_drop_13 20 rfl rfl)
theorem dX0_drop_325 : decode cX0_drop 325 = .ok (.aconst_null, 1) := dk_1 (dk_at dksX0_drop_13 23 rfl rfl)
theorem dX0_drop_326 : decode cX0_drop 326 = .ok (.goto 10, 3) := dk_167 0 10 (dk_at dksX0_drop_14 0 rfl rfl)
theorem dX0_drop_329 : decode cX0_drop 329 = .ok (.aload_n 0, 1) := dk_42 (dk_at dksX0_drop_14 3 rfl rfl)
theorem dX0_drop_330 : decode cX0_drop 330 = .ok (.getfield 61, 3) := dk_180 0 61 (dk_at dksX0_drop_14 4 rfl rfl)
theorem dX0_drop_333 : decode cX0_drop 333 = .ok (.iload 5, 2) := dk_21 5 (dk_at dksX0_drop_14 7 rfl rfl)
theorem dX0_drop_335 : decode cX0_drop 335 = .ok (.aaload, 1) := dk_50 (dk_at dksX0_drop_14 9 rfl rfl)
theorem dX0_drop_336 : decode cX0_drop 336 = .ok (.aastore, 1) := dk_83 (dk_at dksX0_drop_14 10 rfl rfl)
theorem dX0_drop_337 : decode cX0_drop 337 = .ok (.iinc 5 1, 3) := dk_132 5 1 (dk_at dksX0_drop_14 11 rfl rfl)
theorem dX0_drop_340 : decode cX0_drop 340 = .ok (.goto (-92), 3) := dk_167 255 164 (dk_at dksX0_drop_14 14 rfl rfl)
theorem dX0_drop_343 : decode cX0_drop 343 = .ok (.aload_n 0, 1) := dk_42 (dk_at dksX0_drop_14 17 rfl rfl)
theorem dX0_drop_344 : decode cX0_drop 344 = .ok (.aload_n 2, 1) := dk_44 (dk_at dksX0_drop_14 18 rfl rfl)
theorem dX0_drop_345 : decode cX0_drop 345 = .ok (.invokevirtual 217, 3) := dk_182 0 217 (dk_at dksX0_drop_14 19 rfl rfl)
theorem dX0_drop_348 : decode cX0_drop 348 = .ok (.aload_n 0, 1) := dk_42 (dk_at dksX0_drop_14 22 rfl rfl)
theorem dX0_drop_349 : decode cX0_drop 349 = .ok (.getfield 49, 3) := dk_180 0 49 (dk_at dksX0_drop_15 0 rfl rfl)
theorem dX0_drop_352 : decode cX0_drop 352 = .ok (.iload_n 1, 1) := dk_27 (dk_at dksX0_drop_15 3 rfl rfl)
theorem dX0_drop_353 : decode cX0_drop 353 = .ok (.aconst_null, 1) := dk_1 (dk_at dksX0_drop_15 4 rfl rfl)
theorem dX0_drop_354 : decode cX0_drop 354 = .ok (.aastore, 1) := dk_83 (dk_at dksX0_drop_15 5 rfl rfl)
theorem dX0_drop_355 : decode cX0_drop 355 = .ok (.aload_n 0, 1) := dk_42 (dk_at dksX0_drop_15 6 rfl rfl)
theorem dX0_drop_356 : decode cX0_drop 356 = .ok (.dup, 1) := dk_89 (dk_at dksX0_drop_15 7 rfl rfl)
theorem dX0_drop_357 : decode cX0_drop 357 = .ok (.getfield 204, 3) := dk_180 0 204 (dk_at dksX0_drop_15 8 rfl rfl)
theorem dX0_drop_360 : decode cX0_drop 360 = .ok (.iconst 1, 1) := dk_4 (dk_at dksX0_drop_15 11 rfl rfl)
theorem dX0_drop_361 : decode cX0_drop 361 = .ok (.isub, 1) := dk_100 (dk_at dksX0_drop_15 12 rfl rfl)
theorem dX0_drop_362 : decode cX0_drop 362 = .ok (.putfield 204, 3) := dk_181 0 204 (dk_at dksX0_drop_15 13 rfl rfl)
theorem dX0_drop_365 : decode cX0_drop 365 = .ok (.aload_n 0, 1) := dk_42 (dk_at dksX0_drop_15 16 rfl rfl)
theorem dX0_drop_366 : decode cX0_drop 366 = .ok (.iload 4, 2) := dk_21 4 (dk_at dksX0_drop_15 17 rfl rfl)
theorem dX0_drop_368 : decode cX0_drop 368 = .ok (.invokevirtual 128, 3) := dk_182 0 128 (dk_at dksX0_drop_15 19 rfl rfl)
theorem dX0_drop_371 : decode cX0_drop 371 = .ok (.ireturn, 1) := dk_172 (dk_at dksX0_drop_15 22 rfl rfl)
abbrev cX0_isEvent : ByteArray := prog_1_method_8_code
def yX0_isEvent : MethodName := ⟨RX0, "isEvent", "(I)Z"⟩
def dkwX0_isEvent_1 : List UInt8 := [167, 0, 4, 3, 172]
abbrev dktX0_isEvent_1 : List UInt8 := dkwX0_isEvent_1 ++ []
def dkwX0_isEvent_0 : List UInt8 := [27, 3, 42, 180, 0, 111, 4, 100, 184, 0, 107, 153, 0, 16, 42, 180, 0, 49, 27, 50, 198, 0, 7, 4]
abbrev dktX0_isEvent_0 : List UInt8 := dkwX0_isEvent_0 ++ dktX0_isEvent_1
theorem dksX0_isEvent_0 : cX0_isEvent.data.toList.drop 0 = dktX0_isEvent_0 := by decide +kernel
theorem dksX0_isEvent_1 : cX0_isEvent.data.toList.drop 24 = dktX0_isEvent_1 := dk_seg dksX0_isEvent_0 24 rfl rfl
theorem dX0_isEvent_0 : decode cX0_isEvent 0 = .ok (.iload_n 1, 1) := dk_27 (dk_at dksX0_isEvent_0 0 rfl rfl)
theorem dX0_isEvent_1 : decode cX0_isEvent 1 = .ok (.iconst 0, 1) := dk_3 (dk_at dksX0_isEvent_0 1 rfl rfl)
theorem dX0_isEvent_2 : decode cX0_isEvent 2 = .ok (.aload_n 0, 1) := dk_42 (dk_at dksX0_isEvent_0 2 rfl rfl)
theorem dX0_isEvent_3 : decode cX0_isEvent 3 = .ok (.getfield 111, 3) := dk_180 0 111 (dk_at dksX0_isEvent_0 3 rfl rfl)
theorem dX0_isEvent_6 : decode cX0_isEvent 6 = .ok (.iconst 1, 1) := dk_4 (dk_at dksX0_isEvent_0 6 rfl rfl)
theorem dX0_isEvent_7 : decode cX0_isEvent 7 = .ok (.isub, 1) := dk_100 (dk_at dksX0_isEvent_0 7 rfl rfl)
theorem dX0_isEvent_8 : decode cX0_isEvent 8 = .ok (.invokestatic 107, 3) := dk_184 0 107 (dk_at dksX0_isEvent_0 8 rfl rfl)
theorem dX0_isEvent_11 : decode cX0_isEvent 11 = .ok (.ifCond .eq 16, 3) := dk_153 0 16 (dk_at dksX0_isEvent_0 11 rfl rfl)
theorem dX0_isEvent_14 : decode cX0_isEvent 14 = .ok (.aload_n 0, 1) := dk_42 (dk_at dksX0_isEvent_0 14 rfl rfl)
theorem dX0_isEvent_15 : decode cX0_isEvent 15 = .ok (.getfield 49, 3) := dk_180 0 49 (dk_at dksX0_isEvent_0 15 rfl rfl)
theorem dX0_isEvent_18 : decode cX0_isEvent 18 = .ok (.iload_n 1, 1) := dk_27 (dk_at dksX0_isEvent_0 18 rfl rfl)
theorem dX0_isEvent_19 : decode cX0_isEvent 19 = .ok (.aaload, 1) := dk_50 (dk_at dksX0_isEvent_0 19 rfl rfl)
theorem dX0_isEvent_20 : decode cX0_isEvent 20 = .ok (.ifnull 7, 3) := dk_198 0 7 (dk_at dksX0_isEvent_0 20 rfl rfl)
theorem dX0_isEvent_23 : decode cX0_isEvent 23 = .ok (.iconst 1, 1) := dk_4 (dk_at dksX0_isEvent_0 23 rfl rfl)
theorem dX0_isEvent_24 : decode cX0_isEvent 24 = .ok (.goto 4, 3) := dk_167 0 4 (dk_at dksX0_isEvent_1 0 rfl rfl)
theorem dX0_isEvent_27 : decode cX0_isEvent 27 = .ok (.iconst 0, 1) := dk_3 (dk_at dksX0_isEvent_1 3 rfl rfl)
theorem dX0_isEvent_28 : decode cX0_isEvent 28 = .ok (.ireturn, 1) := dk_172 (dk_at dksX0_isEvent_1 4 rfl rfl)
abbrev cX0_leaves : ByteArray := prog_1_method_17_code
def yX0_leaves : MethodName := ⟨RX0, "leaves", "(LStaveScore$Event;)V"⟩
def dkwX0_leaves_3 : List UInt8 := [167, 255, 196, 177]
abbrev dktX0_leaves_3 : List UInt8 := dkwX0_leaves_3 ++ []
def dkwX0_leaves_2 : List UInt8 := [43, 166, 0, 7, 1, 167, 0, 8, 25, 5, 21, 6, 50, 83, 132, 6, 1, 167, 255, 217, 132, 4, 1]
abbrev dktX0_leaves_2 : List UInt8 := dkwX0_leaves_2 ++ dktX0_leaves_3
def dkwX0_leaves_1 : List UInt8 := [54, 6, 25, 5, 198, 0, 40, 21, 6, 25, 5, 190, 162, 0, 32, 25, 5, 21, 6, 25, 5, 21, 6, 50]
abbrev dktX0_leaves_1 : List UInt8 := dkwX0_leaves_1 ++ dktX0_leaves_2
def dkwX0_leaves_0 : List UInt8 := [42, 180, 0, 66, 77, 44, 190, 62, 3, 54, 4, 21, 4, 29, 162, 0, 60, 44, 21, 4, 50, 58, 5, 3]
abbrev dktX0_leaves_0 : List UInt8 := dkwX0_leaves_0 ++ dktX0_leaves_1
theorem dksX0_leaves_0 : cX0_leaves.data.toList.drop 0 = dktX0_leaves_0 := by decide +kernel
theorem dksX0_leaves_1 : cX0_leaves.data.toList.drop 24 = dktX0_leaves_1 := dk_seg dksX0_leaves_0 24 rfl rfl
theorem dksX0_leaves_2 : cX0_leaves.data.toList.drop 48 = dktX0_leaves_2 := dk_seg dksX0_leaves_1 24 rfl rfl
theorem dksX0_leaves_3 : cX0_leaves.data.toList.drop 71 = dktX0_leaves_3 := dk_seg dksX0_leaves_2 23 rfl rfl
theorem dX0_leaves_0 : decode cX0_leaves 0 = .ok (.aload_n 0, 1) := dk_42 (dk_at dksX0_leaves_0 0 rfl rfl)
theorem dX0_leaves_1 : decode cX0_leaves 1 = .ok (.getfield 66, 3) := dk_180 0 66 (dk_at dksX0_leaves_0 1 rfl rfl)
theorem dX0_leaves_4 : decode cX0_leaves 4 = .ok (.astore_n 2, 1) := dk_77 (dk_at dksX0_leaves_0 4 rfl rfl)
theorem dX0_leaves_5 : decode cX0_leaves 5 = .ok (.aload_n 2, 1) := dk_44 (dk_at dksX0_leaves_0 5 rfl rfl)
theorem dX0_leaves_6 : decode cX0_leaves 6 = .ok (.arraylength, 1) := dk_190 (dk_at dksX0_leaves_0 6 rfl rfl)
theorem dX0_leaves_7 : decode cX0_leaves 7 = .ok (.istore_n 3, 1) := dk_62 (dk_at dksX0_leaves_0 7 rfl rfl)
theorem dX0_leaves_8 : decode cX0_leaves 8 = .ok (.iconst 0, 1) := dk_3 (dk_at dksX0_leaves_0 8 rfl rfl)
theorem dX0_leaves_9 : decode cX0_leaves 9 = .ok (.istore 4, 2) := dk_54 4 (dk_at dksX0_leaves_0 9 rfl rfl)
theorem dX0_leaves_11 : decode cX0_leaves 11 = .ok (.iload 4, 2) := dk_21 4 (dk_at dksX0_leaves_0 11 rfl rfl)
theorem dX0_leaves_13 : decode cX0_leaves 13 = .ok (.iload_n 3, 1) := dk_29 (dk_at dksX0_leaves_0 13 rfl rfl)
theorem dX0_leaves_14 : decode cX0_leaves 14 = .ok (.if_icmp .ge 60, 3) := dk_162 0 60 (dk_at dksX0_leaves_0 14 rfl rfl)
theorem dX0_leaves_17 : decode cX0_leaves 17 = .ok (.aload_n 2, 1) := dk_44 (dk_at dksX0_leaves_0 17 rfl rfl)
theorem dX0_leaves_18 : decode cX0_leaves 18 = .ok (.iload 4, 2) := dk_21 4 (dk_at dksX0_leaves_0 18 rfl rfl)
theorem dX0_leaves_20 : decode cX0_leaves 20 = .ok (.aaload, 1) := dk_50 (dk_at dksX0_leaves_0 20 rfl rfl)
theorem dX0_leaves_21 : decode cX0_leaves 21 = .ok (.astore 5, 2) := dk_58 5 (dk_at dksX0_leaves_0 21 rfl rfl)
theorem dX0_leaves_23 : decode cX0_leaves 23 = .ok (.iconst 0, 1) := dk_3 (dk_at dksX0_leaves_0 23 rfl rfl)
theorem dX0_leaves_24 : decode cX0_leaves 24 = .ok (.istore 6, 2) := dk_54 6 (dk_at dksX0_leaves_1 0 rfl rfl)
theorem dX0_leaves_26 : decode cX0_leaves 26 = .ok (.aload 5, 2) := dk_25 5 (dk_at dksX0_leaves_1 2 rfl rfl)
theorem dX0_leaves_28 : decode cX0_leaves 28 = .ok (.ifnull 40, 3) := dk_198 0 40 (dk_at dksX0_leaves_1 4 rfl rfl)
theorem dX0_leaves_31 : decode cX0_leaves 31 = .ok (.iload 6, 2) := dk_21 6 (dk_at dksX0_leaves_1 7 rfl rfl)
theorem dX0_leaves_33 : decode cX0_leaves 33 = .ok (.aload 5, 2) := dk_25 5 (dk_at dksX0_leaves_1 9 rfl rfl)
theorem dX0_leaves_35 : decode cX0_leaves 35 = .ok (.arraylength, 1) := dk_190 (dk_at dksX0_leaves_1 11 rfl rfl)
theorem dX0_leaves_36 : decode cX0_leaves 36 = .ok (.if_icmp .ge 32, 3) := dk_162 0 32 (dk_at dksX0_leaves_1 12 rfl rfl)
theorem dX0_leaves_39 : decode cX0_leaves 39 = .ok (.aload 5, 2) := dk_25 5 (dk_at dksX0_leaves_1 15 rfl rfl)
theorem dX0_leaves_41 : decode cX0_leaves 41 = .ok (.iload 6, 2) := dk_21 6 (dk_at dksX0_leaves_1 17 rfl rfl)
theorem dX0_leaves_43 : decode cX0_leaves 43 = .ok (.aload 5, 2) := dk_25 5 (dk_at dksX0_leaves_1 19 rfl rfl)
theorem dX0_leaves_45 : decode cX0_leaves 45 = .ok (.iload 6, 2) := dk_21 6 (dk_at dksX0_leaves_1 21 rfl rfl)
theorem dX0_leaves_47 : decode cX0_leaves 47 = .ok (.aaload, 1) := dk_50 (dk_at dksX0_leaves_1 23 rfl rfl)
theorem dX0_leaves_48 : decode cX0_leaves 48 = .ok (.aload_n 1, 1) := dk_43 (dk_at dksX0_leaves_2 0 rfl rfl)
theorem dX0_leaves_49 : decode cX0_leaves 49 = .ok (.if_acmp .ne 7, 3) := dk_166 0 7 (dk_at dksX0_leaves_2 1 rfl rfl)
theorem dX0_leaves_52 : decode cX0_leaves 52 = .ok (.aconst_null, 1) := dk_1 (dk_at dksX0_leaves_2 4 rfl rfl)
theorem dX0_leaves_53 : decode cX0_leaves 53 = .ok (.goto 8, 3) := dk_167 0 8 (dk_at dksX0_leaves_2 5 rfl rfl)
theorem dX0_leaves_56 : decode cX0_leaves 56 = .ok (.aload 5, 2) := dk_25 5 (dk_at dksX0_leaves_2 8 rfl rfl)
theorem dX0_leaves_58 : decode cX0_leaves 58 = .ok (.iload 6, 2) := dk_21 6 (dk_at dksX0_leaves_2 10 rfl rfl)
theorem dX0_leaves_60 : decode cX0_leaves 60 = .ok (.aaload, 1) := dk_50 (dk_at dksX0_leaves_2 12 rfl rfl)
theorem dX0_leaves_61 : decode cX0_leaves 61 = .ok (.aastore, 1) := dk_83 (dk_at dksX0_leaves_2 13 rfl rfl)
theorem dX0_leaves_62 : decode cX0_leaves 62 = .ok (.iinc 6 1, 3) := dk_132 6 1 (dk_at dksX0_leaves_2 14 rfl rfl)
theorem dX0_leaves_65 : decode cX0_leaves 65 = .ok (.goto (-39), 3) := dk_167 255 217 (dk_at dksX0_leaves_2 17 rfl rfl)
theorem dX0_leaves_68 : decode cX0_leaves 68 = .ok (.iinc 4 1, 3) := dk_132 4 1 (dk_at dksX0_leaves_2 20 rfl rfl)
theorem dX0_leaves_71 : decode cX0_leaves 71 = .ok (.goto (-60), 3) := dk_167 255 196 (dk_at dksX0_leaves_3 0 rfl rfl)
theorem dX0_leaves_74 : decode cX0_leaves 74 = .ok (.return_, 1) := dk_177 (dk_at dksX0_leaves_3 3 rfl rfl)
abbrev cX0_chord : ByteArray := prog_1_method_18_code
def yX0_chord : MethodName := ⟨RX0, "chord", "(II)I"⟩
def dkwX0_chord_3 : List UInt8 := [182, 0, 120, 167, 0, 12, 42, 45, 28, 182, 0, 227, 182, 0, 128, 172, 78, 42, 16, 243, 182, 0, 231, 172]
abbrev dktX0_chord_3 : List UInt8 := dkwX0_chord_3 ++ []
def dkwX0_chord_2 : List UInt8 := [163, 0, 10, 42, 16, 253, 182, 0, 120, 172, 45, 182, 0, 221, 16, 6, 160, 0, 12, 42, 16, 252]
abbrev dktX0_chord_2 : List UInt8 := dkwX0_chord_2 ++ dktX0_chord_3
def dkwX0_chord_1 : List UInt8 := [172, 42, 180, 0, 49, 27, 50, 192, 0, 147, 78, 28, 45, 45, 182, 0, 221, 4, 100, 182, 0, 224]
abbrev dktX0_chord_1 : List UInt8 := dkwX0_chord_1 ++ dktX0_chord_2
def dkwX0_chord_0 : List UInt8 := [42, 27, 182, 0, 207, 153, 0, 13, 28, 3, 16, 127, 184, 0, 107, 154, 0, 10, 42, 16, 254, 182, 0, 120]
abbrev dktX0_chord_0 : List UInt8 := dkwX0_chord_0 ++ dktX0_chord_1
theorem dksX0_chord_0 : cX0_chord.data.toList.drop 0 = dktX0_chord_0 := by decide +kernel
theorem dksX0_chord_1 : cX0_chord.data.toList.drop 24 = dktX0_chord_1 := dk_seg dksX0_chord_0 24 rfl rfl
theorem dksX0_chord_2 : cX0_chord.data.toList.drop 46 = dktX0_chord_2 := dk_seg dksX0_chord_1 22 rfl rfl
theorem dksX0_chord_3 : cX0_chord.data.toList.drop 68 = dktX0_chord_3 := dk_seg dksX0_chord_2 22 rfl rfl
theorem dX0_chord_0 : decode cX0_chord 0 = .ok (.aload_n 0, 1) := dk_42 (dk_at dksX0_chord_0 0 rfl rfl)
theorem dX0_chord_1 : decode cX0_chord 1 = .ok (.iload_n 1, 1) := dk_27 (dk_at dksX0_chord_0 1 rfl rfl)
theorem dX0_chord_2 : decode cX0_chord 2 = .ok (.invokevirtual 207, 3) := dk_182 0 207 (dk_at dksX0_chord_0 2 rfl rfl)
theorem dX0_chord_5 : decode cX0_chord 5 = .ok (.ifCond .eq 13, 3) := dk_153 0 13 (dk_at dksX0_chord_0 5 rfl rfl)
theorem dX0_chord_8 : decode cX0_chord 8 = .ok (.iload_n 2, 1) := dk_28 (dk_at dksX0_chord_0 8 rfl rfl)
theorem dX0_chord_9 : decode cX0_chord 9 = .ok (.iconst 0, 1) := dk_3 (dk_at dksX0_chord_0 9 rfl rfl)
theorem dX0_chord_10 : decode cX0_chord 10 = .ok (.bipush 127, 2) := dk_16 127 (dk_at dksX0_chord_0 10 rfl rfl)
theorem dX0_chord_12 : decode cX0_chord 12 = .ok (.invokestatic 107, 3) := dk_184 0 107 (dk_at dksX0_chord_0 12 rfl rfl)
theorem dX0_chord_15 : decode cX0_chord 15 = .ok (.ifCond .ne 10, 3) := dk_154 0 10 (dk_at dksX0_chord_0 15 rfl rfl)
theorem dX0_chord_18 : decode cX0_chord 18 = .ok (.aload_n 0, 1) := dk_42 (dk_at dksX0_chord_0 18 rfl rfl)
theorem dX0_chord_19 : decode cX0_chord 19 = .ok (.bipush (-2), 2) := dk_16 254 (dk_at dksX0_chord_0 19 rfl rfl)
theorem dX0_chord_21 : decode cX0_chord 21 = .ok (.invokevirtual 120, 3) := dk_182 0 120 (dk_at dksX0_chord_0 21 rfl rfl)
theorem dX0_chord_24 : decode cX0_chord 24 = .ok (.ireturn, 1) := dk_172 (dk_at dksX0_chord_1 0 rfl rfl)
theorem dX0_chord_25 : decode cX0_chord 25 = .ok (.aload_n 0, 1) := dk_42 (dk_at dksX0_chord_1 1 rfl rfl)
theorem dX0_chord_26 : decode cX0_chord 26 = .ok (.getfield 49, 3) := dk_180 0 49 (dk_at dksX0_chord_1 2 rfl rfl)
theorem dX0_chord_29 : decode cX0_chord 29 = .ok (.iload_n 1, 1) := dk_27 (dk_at dksX0_chord_1 5 rfl rfl)
theorem dX0_chord_30 : decode cX0_chord 30 = .ok (.aaload, 1) := dk_50 (dk_at dksX0_chord_1 6 rfl rfl)
theorem dX0_chord_31 : decode cX0_chord 31 = .ok (.checkcast 147, 3) := dk_192 0 147 (dk_at dksX0_chord_1 7 rfl rfl)
theorem dX0_chord_34 : decode cX0_chord 34 = .ok (.astore_n 3, 1) := dk_78 (dk_at dksX0_chord_1 10 rfl rfl)
theorem dX0_chord_35 : decode cX0_chord 35 = .ok (.iload_n 2, 1) := dk_28 (dk_at dksX0_chord_1 11 rfl rfl)
theorem dX0_chord_36 : decode cX0_chord 36 = .ok (.aload_n 3, 1) := dk_45 (dk_at dksX0_chord_1 12 rfl rfl)
theorem dX0_chord_37 : decode cX0_chord 37 = .ok (.aload_n 3, 1) := dk_45 (dk_at dksX0_chord_1 13 rfl rfl)
theorem dX0_chord_38 : decode cX0_chord 38 = .ok (.invokevirtual 221, 3) := dk_182 0 221 (dk_at dksX0_chord_1 14 rfl rfl)
theorem dX0_chord_41 : decode cX0_chord 41 = .ok (.iconst 1, 1) := dk_4 (dk_at dksX0_chord_1 17 rfl rfl)
theorem dX0_chord_42 : decode cX0_chord 42 = .ok (.isub, 1) := dk_100 (dk_at dksX0_chord_1 18 rfl rfl)
theorem dX0_chord_43 : decode cX0_chord 43 = .ok (.invokevirtual 224, 3) := dk_182 0 224 (dk_at dksX0_chord_1 19 rfl rfl)
theorem dX0_chord_46 : decode cX0_chord 46 = .ok (.if_icmp .gt 10, 3) := dk_163 0 10 (dk_at dksX0_chord_2 0 rfl rfl)
theorem dX0_chord_49 : decode cX0_chord 49 = .ok (.aload_n 0, 1) := dk_42 (dk_at dksX0_chord_2 3 rfl rfl)
theorem dX0_chord_50 : decode cX0_chord 50 = .ok (.bipush (-3), 2) := dk_16 253 (dk_at dksX0_chord_2 4 rfl rfl)
theorem dX0_chord_52 : decode cX0_chord 52 = .ok (.invokevirtual 120, 3) := dk_182 0 120 (dk_at dksX0_chord_2 6 rfl rfl)
theorem dX0_chord_55 : decode cX0_chord 55 = .ok (.ireturn, 1) := dk_172 (dk_at dksX0_chord_2 9 rfl rfl)
theorem dX0_chord_56 : decode cX0_chord 56 = .ok (.aload_n 3, 1) := dk_45 (dk_at dksX0_chord_2 10 rfl rfl)
theorem dX0_chord_57 : decode cX0_chord 57 = .ok (.invokevirtual 221, 3) := dk_182 0 221 (dk_at dksX0_chord_2 11 rfl rfl)
theorem dX0_chord_60 : decode cX0_chord 60 = .ok (.bipush 6, 2) := dk_16 6 (dk_at dksX0_chord_2 14 rfl rfl)
theorem dX0_chord_62 : decode cX0_chord 62 = .ok (.if_icmp .ne 12, 3) := dk_160 0 12 (dk_at dksX0_chord_2 16 rfl rfl)
theorem dX0_chord_65 : decode cX0_chord 65 = .ok (.aload_n 0, 1) := dk_42 (dk_at dksX0_chord_2 19 rfl rfl)
theorem dX0_chord_66 : decode cX0_chord 66 = .ok (.bipush (-4), 2) := dk_16 252 (dk_at dksX0_chord_2 20 rfl rfl)
theorem dX0_chord_68 : decode cX0_chord 68 = .ok (.invokevirtual 120, 3) := dk_182 0 120 (dk_at dksX0_chord_3 0 rfl rfl)
theorem dX0_chord_71 : decode cX0_chord 71 = .ok (.goto 12, 3) := dk_167 0 12 (dk_at dksX0_chord_3 3 rfl rfl)
theorem dX0_chord_74 : decode cX0_chord 74 = .ok (.aload_n 0, 1) := dk_42 (dk_at dksX0_chord_3 6 rfl rfl)
theorem dX0_chord_75 : decode cX0_chord 75 = .ok (.aload_n 3, 1) := dk_45 (dk_at dksX0_chord_3 7 rfl rfl)
theorem dX0_chord_76 : decode cX0_chord 76 = .ok (.iload_n 2, 1) := dk_28 (dk_at dksX0_chord_3 8 rfl rfl)
theorem dX0_chord_77 : decode cX0_chord 77 = .ok (.invokevirtual 227, 3) := dk_182 0 227 (dk_at dksX0_chord_3 9 rfl rfl)
theorem dX0_chord_80 : decode cX0_chord 80 = .ok (.invokevirtual 128, 3) := dk_182 0 128 (dk_at dksX0_chord_3 12 rfl rfl)
theorem dX0_chord_83 : decode cX0_chord 83 = .ok (.ireturn, 1) := dk_172 (dk_at dksX0_chord_3 15 rfl rfl)
theorem dX0_chord_84 : decode cX0_chord 84 = .ok (.astore_n 3, 1) := dk_78 (dk_at dksX0_chord_3 16 rfl rfl)
theorem dX0_chord_85 : decode cX0_chord 85 = .ok (.aload_n 0, 1) := dk_42 (dk_at dksX0_chord_3 17 rfl rfl)
theorem dX0_chord_86 : decode cX0_chord 86 = .ok (.bipush (-13), 2) := dk_16 243 (dk_at dksX0_chord_3 18 rfl rfl)
theorem dX0_chord_88 : decode cX0_chord 88 = .ok (.invokevirtual 231, 3) := dk_182 0 231 (dk_at dksX0_chord_3 20 rfl rfl)
theorem dX0_chord_91 : decode cX0_chord 91 = .ok (.ireturn, 1) := dk_172 (dk_at dksX0_chord_3 23 rfl rfl)
abbrev cX0_fails : ByteArray := prog_1_method_6_code
def yX0_fails : MethodName := ⟨RX0, "fails", "(I)I"⟩
def dkwX0_fails_0 : List UInt8 := [42, 180, 0, 83, 16, 245, 27, 100, 92, 46, 4, 96, 79, 42, 27, 181, 0, 100, 27, 172]
abbrev dktX0_fails_0 : List UInt8 := dkwX0_fails_0 ++ []
theorem dksX0_fails_0 : cX0_fails.data.toList.drop 0 = dktX0_fails_0 := by decide +kernel
theorem dX0_fails_0 : decode cX0_fails 0 = .ok (.aload_n 0, 1) := dk_42 (dk_at dksX0_fails_0 0 rfl rfl)
theorem dX0_fails_1 : decode cX0_fails 1 = .ok (.getfield 83, 3) := dk_180 0 83 (dk_at dksX0_fails_0 1 rfl rfl)
theorem dX0_fails_4 : decode cX0_fails 4 = .ok (.bipush (-11), 2) := dk_16 245 (dk_at dksX0_fails_0 4 rfl rfl)
theorem dX0_fails_6 : decode cX0_fails 6 = .ok (.iload_n 1, 1) := dk_27 (dk_at dksX0_fails_0 6 rfl rfl)
theorem dX0_fails_7 : decode cX0_fails 7 = .ok (.isub, 1) := dk_100 (dk_at dksX0_fails_0 7 rfl rfl)
theorem dX0_fails_8 : decode cX0_fails 8 = .ok (.dup2, 1) := dk_92 (dk_at dksX0_fails_0 8 rfl rfl)
theorem dX0_fails_9 : decode cX0_fails 9 = .ok (.iaload, 1) := dk_46 (dk_at dksX0_fails_0 9 rfl rfl)
theorem dX0_fails_10 : decode cX0_fails 10 = .ok (.iconst 1, 1) := dk_4 (dk_at dksX0_fails_0 10 rfl rfl)
theorem dX0_fails_11 : decode cX0_fails 11 = .ok (.iadd, 1) := dk_96 (dk_at dksX0_fails_0 11 rfl rfl)
theorem dX0_fails_12 : decode cX0_fails 12 = .ok (.iastore, 1) := dk_79 (dk_at dksX0_fails_0 12 rfl rfl)
theorem dX0_fails_13 : decode cX0_fails 13 = .ok (.aload_n 0, 1) := dk_42 (dk_at dksX0_fails_0 13 rfl rfl)
theorem dX0_fails_14 : decode cX0_fails 14 = .ok (.iload_n 1, 1) := dk_27 (dk_at dksX0_fails_0 14 rfl rfl)
theorem dX0_fails_15 : decode cX0_fails 15 = .ok (.putfield 100, 3) := dk_181 0 100 (dk_at dksX0_fails_0 15 rfl rfl)
theorem dX0_fails_18 : decode cX0_fails 18 = .ok (.iload_n 1, 1) := dk_27 (dk_at dksX0_fails_0 18 rfl rfl)
theorem dX0_fails_19 : decode cX0_fails 19 = .ok (.ireturn, 1) := dk_172 (dk_at dksX0_fails_0 19 rfl rfl)
abbrev cX0_pitch : ByteArray := prog_1_method_19_code
def yX0_pitch : MethodName := ⟨RX0, "pitch", "(II)I"⟩
def dkwX0_pitch_2 : List UInt8 := [2, 182, 0, 128, 172, 78, 42, 16, 243, 182, 0, 231, 172]
abbrev dktX0_pitch_2 : List UInt8 := dkwX0_pitch_2 ++ []
def dkwX0_pitch_1 : List UInt8 := [78, 42, 28, 3, 45, 182, 0, 234, 4, 100, 184, 0, 107, 153, 0, 11, 45, 28, 182, 0, 235, 167, 0, 4]
abbrev dktX0_pitch_1 : List UInt8 := dkwX0_pitch_1 ++ dktX0_pitch_2
def dkwX0_pitch_0 : List UInt8 := [42, 27, 182, 0, 207, 154, 0, 10, 42, 16, 254, 182, 0, 120, 172, 42, 180, 0, 49, 27, 50, 192, 0, 142]
abbrev dktX0_pitch_0 : List UInt8 := dkwX0_pitch_0 ++ dktX0_pitch_1
theorem dksX0_pitch_0 : cX0_pitch.data.toList.drop 0 = dktX0_pitch_0 := by decide +kernel
theorem dksX0_pitch_1 : cX0_pitch.data.toList.drop 24 = dktX0_pitch_1 := dk_seg dksX0_pitch_0 24 rfl rfl
theorem dksX0_pitch_2 : cX0_pitch.data.toList.drop 48 = dktX0_pitch_2 := dk_seg dksX0_pitch_1 24 rfl rfl
theorem dX0_pitch_0 : decode cX0_pitch 0 = .ok (.aload_n 0, 1) := dk_42 (dk_at dksX0_pitch_0 0 rfl rfl)
theorem dX0_pitch_1 : decode cX0_pitch 1 = .ok (.iload_n 1, 1) := dk_27 (dk_at dksX0_pitch_0 1 rfl rfl)
theorem dX0_pitch_2 : decode cX0_pitch 2 = .ok (.invokevirtual 207, 3) := dk_182 0 207 (dk_at dksX0_pitch_0 2 rfl rfl)
theorem dX0_pitch_5 : decode cX0_pitch 5 = .ok (.ifCond .ne 10, 3) := dk_154 0 10 (dk_at dksX0_pitch_0 5 rfl rfl)
theorem dX0_pitch_8 : decode cX0_pitch 8 = .ok (.aload_n 0, 1) := dk_42 (dk_at dksX0_pitch_0 8 rfl rfl)
theorem dX0_pitch_9 : decode cX0_pitch 9 = .ok (.bipush (-2), 2) := dk_16 254 (dk_at dksX0_pitch_0 9 rfl rfl)
theorem dX0_pitch_11 : decode cX0_pitch 11 = .ok (.invokevirtual 120, 3) := dk_182 0 120 (dk_at dksX0_pitch_0 11 rfl rfl)
theorem dX0_pitch_14 : decode cX0_pitch 14 = .ok (.ireturn, 1) := dk_172 (dk_at dksX0_pitch_0 14 rfl rfl)
theorem dX0_pitch_15 : decode cX0_pitch 15 = .ok (.aload_n 0, 1) := dk_42 (dk_at dksX0_pitch_0 15 rfl rfl)
theorem dX0_pitch_16 : decode cX0_pitch 16 = .ok (.getfield 49, 3) := dk_180 0 49 (dk_at dksX0_pitch_0 16 rfl rfl)
theorem dX0_pitch_19 : decode cX0_pitch 19 = .ok (.iload_n 1, 1) := dk_27 (dk_at dksX0_pitch_0 19 rfl rfl)
theorem dX0_pitch_20 : decode cX0_pitch 20 = .ok (.aaload, 1) := dk_50 (dk_at dksX0_pitch_0 20 rfl rfl)
theorem dX0_pitch_21 : decode cX0_pitch 21 = .ok (.checkcast 142, 3) := dk_192 0 142 (dk_at dksX0_pitch_0 21 rfl rfl)
theorem dX0_pitch_24 : decode cX0_pitch 24 = .ok (.astore_n 3, 1) := dk_78 (dk_at dksX0_pitch_1 0 rfl rfl)
theorem dX0_pitch_25 : decode cX0_pitch 25 = .ok (.aload_n 0, 1) := dk_42 (dk_at dksX0_pitch_1 1 rfl rfl)
theorem dX0_pitch_26 : decode cX0_pitch 26 = .ok (.iload_n 2, 1) := dk_28 (dk_at dksX0_pitch_1 2 rfl rfl)
theorem dX0_pitch_27 : decode cX0_pitch 27 = .ok (.iconst 0, 1) := dk_3 (dk_at dksX0_pitch_1 3 rfl rfl)
theorem dX0_pitch_28 : decode cX0_pitch 28 = .ok (.aload_n 3, 1) := dk_45 (dk_at dksX0_pitch_1 4 rfl rfl)
theorem dX0_pitch_29 : decode cX0_pitch 29 = .ok (.invokevirtual 234, 3) := dk_182 0 234 (dk_at dksX0_pitch_1 5 rfl rfl)
theorem dX0_pitch_32 : decode cX0_pitch 32 = .ok (.iconst 1, 1) := dk_4 (dk_at dksX0_pitch_1 8 rfl rfl)
theorem dX0_pitch_33 : decode cX0_pitch 33 = .ok (.isub, 1) := dk_100 (dk_at dksX0_pitch_1 9 rfl rfl)
theorem dX0_pitch_34 : decode cX0_pitch 34 = .ok (.invokestatic 107, 3) := dk_184 0 107 (dk_at dksX0_pitch_1 10 rfl rfl)
theorem dX0_pitch_37 : decode cX0_pitch 37 = .ok (.ifCond .eq 11, 3) := dk_153 0 11 (dk_at dksX0_pitch_1 13 rfl rfl)
theorem dX0_pitch_40 : decode cX0_pitch 40 = .ok (.aload_n 3, 1) := dk_45 (dk_at dksX0_pitch_1 16 rfl rfl)
theorem dX0_pitch_41 : decode cX0_pitch 41 = .ok (.iload_n 2, 1) := dk_28 (dk_at dksX0_pitch_1 17 rfl rfl)
theorem dX0_pitch_42 : decode cX0_pitch 42 = .ok (.invokevirtual 235, 3) := dk_182 0 235 (dk_at dksX0_pitch_1 18 rfl rfl)
theorem dX0_pitch_45 : decode cX0_pitch 45 = .ok (.goto 4, 3) := dk_167 0 4 (dk_at dksX0_pitch_1 21 rfl rfl)
theorem dX0_pitch_48 : decode cX0_pitch 48 = .ok (.iconst (-1), 1) := dk_2 (dk_at dksX0_pitch_2 0 rfl rfl)
theorem dX0_pitch_49 : decode cX0_pitch 49 = .ok (.invokevirtual 128, 3) := dk_182 0 128 (dk_at dksX0_pitch_2 1 rfl rfl)
theorem dX0_pitch_52 : decode cX0_pitch 52 = .ok (.ireturn, 1) := dk_172 (dk_at dksX0_pitch_2 4 rfl rfl)
theorem dX0_pitch_53 : decode cX0_pitch 53 = .ok (.astore_n 3, 1) := dk_78 (dk_at dksX0_pitch_2 5 rfl rfl)
theorem dX0_pitch_54 : decode cX0_pitch 54 = .ok (.aload_n 0, 1) := dk_42 (dk_at dksX0_pitch_2 6 rfl rfl)
theorem dX0_pitch_55 : decode cX0_pitch 55 = .ok (.bipush (-13), 2) := dk_16 243 (dk_at dksX0_pitch_2 7 rfl rfl)
theorem dX0_pitch_57 : decode cX0_pitch 57 = .ok (.invokevirtual 231, 3) := dk_182 0 231 (dk_at dksX0_pitch_2 9 rfl rfl)
theorem dX0_pitch_60 : decode cX0_pitch 60 = .ok (.ireturn, 1) := dk_172 (dk_at dksX0_pitch_2 12 rfl rfl)
abbrev cX0_heard : ByteArray := prog_1_method_22_code
def yX0_heard : MethodName := ⟨RX0, "heard", "(II)I"⟩
def dkwX0_heard_3 : List UInt8 := [167, 0, 6, 17, 252, 24, 182, 0, 128, 172, 58, 4, 42, 16, 243, 182, 0, 231, 87, 17, 248, 47, 172]
abbrev dktX0_heard_3 : List UInt8 := dkwX0_heard_3 ++ []
def dkwX0_heard_2 : List UInt8 := [42, 45, 182, 0, 239, 25, 4, 28, 182, 0, 235, 185, 0, 243, 2, 0, 42, 45, 182, 0, 246, 96]
abbrev dktX0_heard_2 : List UInt8 := dkwX0_heard_2 ++ dktX0_heard_3
def dkwX0_heard_1 : List UInt8 := [50, 78, 45, 192, 0, 142, 58, 4, 42, 28, 3, 25, 4, 182, 0, 234, 4, 100, 184, 0, 107, 153, 0, 28]
abbrev dktX0_heard_1 : List UInt8 := dkwX0_heard_1 ++ dktX0_heard_2
def dkwX0_heard_0 : List UInt8 := [42, 27, 182, 0, 207, 154, 0, 14, 42, 16, 254, 182, 0, 120, 87, 17, 248, 48, 172, 42, 180, 0, 49, 27]
abbrev dktX0_heard_0 : List UInt8 := dkwX0_heard_0 ++ dktX0_heard_1
theorem dksX0_heard_0 : cX0_heard.data.toList.drop 0 = dktX0_heard_0 := by decide +kernel
theorem dksX0_heard_1 : cX0_heard.data.toList.drop 24 = dktX0_heard_1 := dk_seg dksX0_heard_0 24 rfl rfl
theorem dksX0_heard_2 : cX0_heard.data.toList.drop 48 = dktX0_heard_2 := dk_seg dksX0_heard_1 24 rfl rfl
theorem dksX0_heard_3 : cX0_heard.data.toList.drop 70 = dktX0_heard_3 := dk_seg dksX0_heard_2 22 rfl rfl
theorem dX0_heard_0 : decode cX0_heard 0 = .ok (.aload_n 0, 1) := dk_42 (dk_at dksX0_heard_0 0 rfl rfl)
theorem dX0_heard_1 : decode cX0_heard 1 = .ok (.iload_n 1, 1) := dk_27 (dk_at dksX0_heard_0 1 rfl rfl)
theorem dX0_heard_2 : decode cX0_heard 2 = .ok (.invokevirtual 207, 3) := dk_182 0 207 (dk_at dksX0_heard_0 2 rfl rfl)
theorem dX0_heard_5 : decode cX0_heard 5 = .ok (.ifCond .ne 14, 3) := dk_154 0 14 (dk_at dksX0_heard_0 5 rfl rfl)
theorem dX0_heard_8 : decode cX0_heard 8 = .ok (.aload_n 0, 1) := dk_42 (dk_at dksX0_heard_0 8 rfl rfl)
theorem dX0_heard_9 : decode cX0_heard 9 = .ok (.bipush (-2), 2) := dk_16 254 (dk_at dksX0_heard_0 9 rfl rfl)
theorem dX0_heard_11 : decode cX0_heard 11 = .ok (.invokevirtual 120, 3) := dk_182 0 120 (dk_at dksX0_heard_0 11 rfl rfl)
theorem dX0_heard_14 : decode cX0_heard 14 = .ok (.pop, 1) := dk_87 (dk_at dksX0_heard_0 14 rfl rfl)
theorem dX0_heard_15 : decode cX0_heard 15 = .ok (.sipush (-2000), 3) := dk_17 248 48 (dk_at dksX0_heard_0 15 rfl rfl)
theorem dX0_heard_18 : decode cX0_heard 18 = .ok (.ireturn, 1) := dk_172 (dk_at dksX0_heard_0 18 rfl rfl)
theorem dX0_heard_19 : decode cX0_heard 19 = .ok (.aload_n 0, 1) := dk_42 (dk_at dksX0_heard_0 19 rfl rfl)
theorem dX0_heard_20 : decode cX0_heard 20 = .ok (.getfield 49, 3) := dk_180 0 49 (dk_at dksX0_heard_0 20 rfl rfl)
theorem dX0_heard_23 : decode cX0_heard 23 = .ok (.iload_n 1, 1) := dk_27 (dk_at dksX0_heard_0 23 rfl rfl)
theorem dX0_heard_24 : decode cX0_heard 24 = .ok (.aaload, 1) := dk_50 (dk_at dksX0_heard_1 0 rfl rfl)
theorem dX0_heard_25 : decode cX0_heard 25 = .ok (.astore_n 3, 1) := dk_78 (dk_at dksX0_heard_1 1 rfl rfl)
theorem dX0_heard_26 : decode cX0_heard 26 = .ok (.aload_n 3, 1) := dk_45 (dk_at dksX0_heard_1 2 rfl rfl)
theorem dX0_heard_27 : decode cX0_heard 27 = .ok (.checkcast 142, 3) := dk_192 0 142 (dk_at dksX0_heard_1 3 rfl rfl)
theorem dX0_heard_30 : decode cX0_heard 30 = .ok (.astore 4, 2) := dk_58 4 (dk_at dksX0_heard_1 6 rfl rfl)
theorem dX0_heard_32 : decode cX0_heard 32 = .ok (.aload_n 0, 1) := dk_42 (dk_at dksX0_heard_1 8 rfl rfl)
theorem dX0_heard_33 : decode cX0_heard 33 = .ok (.iload_n 2, 1) := dk_28 (dk_at dksX0_heard_1 9 rfl rfl)
theorem dX0_heard_34 : decode cX0_heard 34 = .ok (.iconst 0, 1) := dk_3 (dk_at dksX0_heard_1 10 rfl rfl)
theorem dX0_heard_35 : decode cX0_heard 35 = .ok (.aload 4, 2) := dk_25 4 (dk_at dksX0_heard_1 11 rfl rfl)
theorem dX0_heard_37 : decode cX0_heard 37 = .ok (.invokevirtual 234, 3) := dk_182 0 234 (dk_at dksX0_heard_1 13 rfl rfl)
theorem dX0_heard_40 : decode cX0_heard 40 = .ok (.iconst 1, 1) := dk_4 (dk_at dksX0_heard_1 16 rfl rfl)
theorem dX0_heard_41 : decode cX0_heard 41 = .ok (.isub, 1) := dk_100 (dk_at dksX0_heard_1 17 rfl rfl)
theorem dX0_heard_42 : decode cX0_heard 42 = .ok (.invokestatic 107, 3) := dk_184 0 107 (dk_at dksX0_heard_1 18 rfl rfl)
theorem dX0_heard_45 : decode cX0_heard 45 = .ok (.ifCond .eq 28, 3) := dk_153 0 28 (dk_at dksX0_heard_1 21 rfl rfl)
theorem dX0_heard_48 : decode cX0_heard 48 = .ok (.aload_n 0, 1) := dk_42 (dk_at dksX0_heard_2 0 rfl rfl)
theorem dX0_heard_49 : decode cX0_heard 49 = .ok (.aload_n 3, 1) := dk_45 (dk_at dksX0_heard_2 1 rfl rfl)
theorem dX0_heard_50 : decode cX0_heard 50 = .ok (.invokevirtual 239, 3) := dk_182 0 239 (dk_at dksX0_heard_2 2 rfl rfl)
theorem dX0_heard_53 : decode cX0_heard 53 = .ok (.aload 4, 2) := dk_25 4 (dk_at dksX0_heard_2 5 rfl rfl)
theorem dX0_heard_55 : decode cX0_heard 55 = .ok (.iload_n 2, 1) := dk_28 (dk_at dksX0_heard_2 7 rfl rfl)
theorem dX0_heard_56 : decode cX0_heard 56 = .ok (.invokevirtual 235, 3) := dk_182 0 235 (dk_at dksX0_heard_2 8 rfl rfl)
theorem dX0_heard_59 : decode cX0_heard 59 = .ok (.invokeinterface 243 2, 5) := by decide +kernel
theorem dX0_heard_64 : decode cX0_heard 64 = .ok (.aload_n 0, 1) := dk_42 (dk_at dksX0_heard_2 16 rfl rfl)
theorem dX0_heard_65 : decode cX0_heard 65 = .ok (.aload_n 3, 1) := dk_45 (dk_at dksX0_heard_2 17 rfl rfl)
theorem dX0_heard_66 : decode cX0_heard 66 = .ok (.invokevirtual 246, 3) := dk_182 0 246 (dk_at dksX0_heard_2 18 rfl rfl)
theorem dX0_heard_69 : decode cX0_heard 69 = .ok (.iadd, 1) := dk_96 (dk_at dksX0_heard_2 21 rfl rfl)
theorem dX0_heard_70 : decode cX0_heard 70 = .ok (.goto 6, 3) := dk_167 0 6 (dk_at dksX0_heard_3 0 rfl rfl)
theorem dX0_heard_73 : decode cX0_heard 73 = .ok (.sipush (-1000), 3) := dk_17 252 24 (dk_at dksX0_heard_3 3 rfl rfl)
theorem dX0_heard_76 : decode cX0_heard 76 = .ok (.invokevirtual 128, 3) := dk_182 0 128 (dk_at dksX0_heard_3 6 rfl rfl)
theorem dX0_heard_79 : decode cX0_heard 79 = .ok (.ireturn, 1) := dk_172 (dk_at dksX0_heard_3 9 rfl rfl)
theorem dX0_heard_80 : decode cX0_heard 80 = .ok (.astore 4, 2) := dk_58 4 (dk_at dksX0_heard_3 10 rfl rfl)
theorem dX0_heard_82 : decode cX0_heard 82 = .ok (.aload_n 0, 1) := dk_42 (dk_at dksX0_heard_3 12 rfl rfl)
theorem dX0_heard_83 : decode cX0_heard 83 = .ok (.bipush (-13), 2) := dk_16 243 (dk_at dksX0_heard_3 13 rfl rfl)
theorem dX0_heard_85 : decode cX0_heard 85 = .ok (.invokevirtual 231, 3) := dk_182 0 231 (dk_at dksX0_heard_3 15 rfl rfl)
theorem dX0_heard_88 : decode cX0_heard 88 = .ok (.pop, 1) := dk_87 (dk_at dksX0_heard_3 18 rfl rfl)
theorem dX0_heard_89 : decode cX0_heard 89 = .ok (.sipush (-2001), 3) := dk_17 248 47 (dk_at dksX0_heard_3 19 rfl rfl)
theorem dX0_heard_92 : decode cX0_heard 92 = .ok (.ireturn, 1) := dk_172 (dk_at dksX0_heard_3 22 rfl rfl)
abbrev cX0_hears : ByteArray := prog_1_method_20_code
def yX0_hears : MethodName := ⟨RX0, "hears", "(LStaveScore$Event;)LStaveScore$Hears;"⟩
def dkwX0_hears_0 : List UInt8 := [42, 180, 0, 31, 43, 180, 0, 176, 6, 108, 50, 176]
abbrev dktX0_hears_0 : List UInt8 := dkwX0_hears_0 ++ []
theorem dksX0_hears_0 : cX0_hears.data.toList.drop 0 = dktX0_hears_0 := by decide +kernel
theorem dX0_hears_0 : decode cX0_hears 0 = .ok (.aload_n 0, 1) := dk_42 (dk_at dksX0_hears_0 0 rfl rfl)
theorem dX0_hears_1 : decode cX0_hears 1 = .ok (.getfield 31, 3) := dk_180 0 31 (dk_at dksX0_hears_0 1 rfl rfl)
theorem dX0_hears_4 : decode cX0_hears 4 = .ok (.aload_n 1, 1) := dk_43 (dk_at dksX0_hears_0 4 rfl rfl)
theorem dX0_hears_5 : decode cX0_hears 5 = .ok (.getfield 176, 3) := dk_180 0 176 (dk_at dksX0_hears_0 5 rfl rfl)
theorem dX0_hears_8 : decode cX0_hears 8 = .ok (.iconst 3, 1) := dk_6 (dk_at dksX0_hears_0 8 rfl rfl)
theorem dX0_hears_9 : decode cX0_hears 9 = .ok (.idiv, 1) := dk_108 (dk_at dksX0_hears_0 9 rfl rfl)
theorem dX0_hears_10 : decode cX0_hears 10 = .ok (.aaload, 1) := dk_50 (dk_at dksX0_hears_0 10 rfl rfl)
theorem dX0_hears_11 : decode cX0_hears 11 = .ok (.areturn, 1) := dk_176 (dk_at dksX0_hears_0 11 rfl rfl)
abbrev cX0_higher : ByteArray := prog_1_method_21_code
def yX0_higher : MethodName := ⟨RX0, "higher", "(LStaveScore$Event;)I"⟩
def dkwX0_higher_5 : List UInt8 := [132, 3, 1, 167, 255, 146, 28, 172]
abbrev dktX0_higher_5 : List UInt8 := dkwX0_higher_5 ++ []
def dkwX0_higher_4 : List UInt8 := [180, 0, 165, 25, 4, 180, 0, 210, 180, 0, 165, 163, 0, 8, 16, 12, 167, 0, 4, 3, 96, 61]
abbrev dktX0_higher_4 : List UInt8 := dkwX0_higher_4 ++ dktX0_higher_5
def dkwX0_higher_3 : List UInt8 := [180, 0, 176, 160, 0, 42, 28, 25, 4, 180, 0, 214, 180, 0, 165, 43, 180, 0, 165, 163, 0, 23, 43]
abbrev dktX0_higher_3 : List UInt8 := dkwX0_higher_3 ++ dktX0_higher_4
def dkwX0_higher_2 : List UInt8 := [180, 0, 214, 180, 0, 176, 43, 180, 0, 176, 160, 0, 57, 25, 4, 180, 0, 210, 180, 0, 176, 43]
abbrev dktX0_higher_2 : List UInt8 := dkwX0_higher_2 ++ dktX0_higher_3
def dkwX0_higher_1 : List UInt8 := [198, 0, 89, 25, 4, 180, 0, 236, 5, 160, 0, 80, 25, 4, 180, 0, 210, 198, 0, 72, 25, 4]
abbrev dktX0_higher_1 : List UInt8 := dkwX0_higher_1 ++ dktX0_higher_2
def dkwX0_higher_0 : List UInt8 := [3, 61, 3, 62, 29, 42, 180, 0, 117, 162, 0, 108, 42, 180, 0, 61, 29, 50, 58, 4, 25, 4]
abbrev dktX0_higher_0 : List UInt8 := dkwX0_higher_0 ++ dktX0_higher_1
theorem dksX0_higher_0 : cX0_higher.data.toList.drop 0 = dktX0_higher_0 := by decide +kernel
theorem dksX0_higher_1 : cX0_higher.data.toList.drop 22 = dktX0_higher_1 := dk_seg dksX0_higher_0 22 rfl rfl
theorem dksX0_higher_2 : cX0_higher.data.toList.drop 44 = dktX0_higher_2 := dk_seg dksX0_higher_1 22 rfl rfl
theorem dksX0_higher_3 : cX0_higher.data.toList.drop 66 = dktX0_higher_3 := dk_seg dksX0_higher_2 22 rfl rfl
theorem dksX0_higher_4 : cX0_higher.data.toList.drop 89 = dktX0_higher_4 := dk_seg dksX0_higher_3 23 rfl rfl
theorem dksX0_higher_5 : cX0_higher.data.toList.drop 111 = dktX0_higher_5 := dk_seg dksX0_higher_4 22 rfl rfl
theorem dX0_higher_0 : decode cX0_higher 0 = .ok (.iconst 0, 1) := dk_3 (dk_at dksX0_higher_0 0 rfl rfl)
theorem dX0_higher_1 : decode cX0_higher 1 = .ok (.istore_n 2, 1) := dk_61 (dk_at dksX0_higher_0 1 rfl rfl)
theorem dX0_higher_2 : decode cX0_higher 2 = .ok (.iconst 0, 1) := dk_3 (dk_at dksX0_higher_0 2 rfl rfl)
theorem dX0_higher_3 : decode cX0_higher 3 = .ok (.istore_n 3, 1) := dk_62 (dk_at dksX0_higher_0 3 rfl rfl)
theorem dX0_higher_4 : decode cX0_higher 4 = .ok (.iload_n 3, 1) := dk_29 (dk_at dksX0_higher_0 4 rfl rfl)
theorem dX0_higher_5 : decode cX0_higher 5 = .ok (.aload_n 0, 1) := dk_42 (dk_at dksX0_higher_0 5 rfl rfl)
theorem dX0_higher_6 : decode cX0_higher 6 = .ok (.getfield 117, 3) := dk_180 0 117 (dk_at dksX0_higher_0 6 rfl rfl)
theorem dX0_higher_9 : decode cX0_higher 9 = .ok (.if_icmp .ge 108, 3) := dk_162 0 108 (dk_at dksX0_higher_0 9 rfl rfl)
theorem dX0_higher_12 : decode cX0_higher 12 = .ok (.aload_n 0, 1) := dk_42 (dk_at dksX0_higher_0 12 rfl rfl)
theorem dX0_higher_13 : decode cX0_higher 13 = .ok (.getfield 61, 3) := dk_180 0 61 (dk_at dksX0_higher_0 13 rfl rfl)
theorem dX0_higher_16 : decode cX0_higher 16 = .ok (.iload_n 3, 1) := dk_29 (dk_at dksX0_higher_0 16 rfl rfl)
theorem dX0_higher_17 : decode cX0_higher 17 = .ok (.aaload, 1) := dk_50 (dk_at dksX0_higher_0 17 rfl rfl)
theorem dX0_higher_18 : decode cX0_higher 18 = .ok (.astore 4, 2) := dk_58 4 (dk_at dksX0_higher_0 18 rfl rfl)
theorem dX0_higher_20 : decode cX0_higher 20 = .ok (.aload 4, 2) := dk_25 4 (dk_at dksX0_higher_0 20 rfl rfl)
theorem dX0_higher_22 : decode cX0_higher 22 = .ok (.ifnull 89, 3) := dk_198 0 89 (dk_at dksX0_higher_1 0 rfl rfl)
theorem dX0_higher_25 : decode cX0_higher 25 = .ok (.aload 4, 2) := dk_25 4 (dk_at dksX0_higher_1 3 rfl rfl)
theorem dX0_higher_27 : decode cX0_higher 27 = .ok (.getfield 236, 3) := dk_180 0 236 (dk_at dksX0_higher_1 5 rfl rfl)
theorem dX0_higher_30 : decode cX0_higher 30 = .ok (.iconst 2, 1) := dk_5 (dk_at dksX0_higher_1 8 rfl rfl)
theorem dX0_higher_31 : decode cX0_higher 31 = .ok (.if_icmp .ne 80, 3) := dk_160 0 80 (dk_at dksX0_higher_1 9 rfl rfl)
theorem dX0_higher_34 : decode cX0_higher 34 = .ok (.aload 4, 2) := dk_25 4 (dk_at dksX0_higher_1 12 rfl rfl)
theorem dX0_higher_36 : decode cX0_higher 36 = .ok (.getfield 210, 3) := dk_180 0 210 (dk_at dksX0_higher_1 14 rfl rfl)
theorem dX0_higher_39 : decode cX0_higher 39 = .ok (.ifnull 72, 3) := dk_198 0 72 (dk_at dksX0_higher_1 17 rfl rfl)
theorem dX0_higher_42 : decode cX0_higher 42 = .ok (.aload 4, 2) := dk_25 4 (dk_at dksX0_higher_1 20 rfl rfl)
theorem dX0_higher_44 : decode cX0_higher 44 = .ok (.getfield 214, 3) := dk_180 0 214 (dk_at dksX0_higher_2 0 rfl rfl)
theorem dX0_higher_47 : decode cX0_higher 47 = .ok (.getfield 176, 3) := dk_180 0 176 (dk_at dksX0_higher_2 3 rfl rfl)
theorem dX0_higher_50 : decode cX0_higher 50 = .ok (.aload_n 1, 1) := dk_43 (dk_at dksX0_higher_2 6 rfl rfl)
theorem dX0_higher_51 : decode cX0_higher 51 = .ok (.getfield 176, 3) := dk_180 0 176 (dk_at dksX0_higher_2 7 rfl rfl)
theorem dX0_higher_54 : decode cX0_higher 54 = .ok (.if_icmp .ne 57, 3) := dk_160 0 57 (dk_at dksX0_higher_2 10 rfl rfl)
theorem dX0_higher_57 : decode cX0_higher 57 = .ok (.aload 4, 2) := dk_25 4 (dk_at dksX0_higher_2 13 rfl rfl)
theorem dX0_higher_59 : decode cX0_higher 59 = .ok (.getfield 210, 3) := dk_180 0 210 (dk_at dksX0_higher_2 15 rfl rfl)
theorem dX0_higher_62 : decode cX0_higher 62 = .ok (.getfield 176, 3) := dk_180 0 176 (dk_at dksX0_higher_2 18 rfl rfl)
theorem dX0_higher_65 : decode cX0_higher 65 = .ok (.aload_n 1, 1) := dk_43 (dk_at dksX0_higher_2 21 rfl rfl)
theorem dX0_higher_66 : decode cX0_higher 66 = .ok (.getfield 176, 3) := dk_180 0 176 (dk_at dksX0_higher_3 0 rfl rfl)
theorem dX0_higher_69 : decode cX0_higher 69 = .ok (.if_icmp .ne 42, 3) := dk_160 0 42 (dk_at dksX0_higher_3 3 rfl rfl)
theorem dX0_higher_72 : decode cX0_higher 72 = .ok (.iload_n 2, 1) := dk_28 (dk_at dksX0_higher_3 6 rfl rfl)
theorem dX0_higher_73 : decode cX0_higher 73 = .ok (.aload 4, 2) := dk_25 4 (dk_at dksX0_higher_3 7 rfl rfl)
theorem dX0_higher_75 : decode cX0_higher 75 = .ok (.getfield 214, 3) := dk_180 0 214 (dk_at dksX0_higher_3 9 rfl rfl)
theorem dX0_higher_78 : decode cX0_higher 78 = .ok (.getfield 165, 3) := dk_180 0 165 (dk_at dksX0_higher_3 12 rfl rfl)
theorem dX0_higher_81 : decode cX0_higher 81 = .ok (.aload_n 1, 1) := dk_43 (dk_at dksX0_higher_3 15 rfl rfl)
theorem dX0_higher_82 : decode cX0_higher 82 = .ok (.getfield 165, 3) := dk_180 0 165 (dk_at dksX0_higher_3 16 rfl rfl)
theorem dX0_higher_85 : decode cX0_higher 85 = .ok (.if_icmp .gt 23, 3) := dk_163 0 23 (dk_at dksX0_higher_3 19 rfl rfl)
theorem dX0_higher_88 : decode cX0_higher 88 = .ok (.aload_n 1, 1) := dk_43 (dk_at dksX0_higher_3 22 rfl rfl)
theorem dX0_higher_89 : decode cX0_higher 89 = .ok (.getfield 165, 3) := dk_180 0 165 (dk_at dksX0_higher_4 0 rfl rfl)
theorem dX0_higher_92 : decode cX0_higher 92 = .ok (.aload 4, 2) := dk_25 4 (dk_at dksX0_higher_4 3 rfl rfl)
theorem dX0_higher_94 : decode cX0_higher 94 = .ok (.getfield 210, 3) := dk_180 0 210 (dk_at dksX0_higher_4 5 rfl rfl)
theorem dX0_higher_97 : decode cX0_higher 97 = .ok (.getfield 165, 3) := dk_180 0 165 (dk_at dksX0_higher_4 8 rfl rfl)
theorem dX0_higher_100 : decode cX0_higher 100 = .ok (.if_icmp .gt 8, 3) := dk_163 0 8 (dk_at dksX0_higher_4 11 rfl rfl)
theorem dX0_higher_103 : decode cX0_higher 103 = .ok (.bipush 12, 2) := dk_16 12 (dk_at dksX0_higher_4 14 rfl rfl)
theorem dX0_higher_105 : decode cX0_higher 105 = .ok (.goto 4, 3) := dk_167 0 4 (dk_at dksX0_higher_4 16 rfl rfl)
theorem dX0_higher_108 : decode cX0_higher 108 = .ok (.iconst 0, 1) := dk_3 (dk_at dksX0_higher_4 19 rfl rfl)
theorem dX0_higher_109 : decode cX0_higher 109 = .ok (.iadd, 1) := dk_96 (dk_at dksX0_higher_4 20 rfl rfl)
theorem dX0_higher_110 : decode cX0_higher 110 = .ok (.istore_n 2, 1) := dk_61 (dk_at dksX0_higher_4 21 rfl rfl)
theorem dX0_higher_111 : decode cX0_higher 111 = .ok (.iinc 3 1, 3) := dk_132 3 1 (dk_at dksX0_higher_5 0 rfl rfl)
theorem dX0_higher_114 : decode cX0_higher 114 = .ok (.goto (-110), 3) := dk_167 255 146 (dk_at dksX0_higher_5 3 rfl rfl)
theorem dX0_higher_117 : decode cX0_higher 117 = .ok (.iload_n 2, 1) := dk_28 (dk_at dksX0_higher_5 6 rfl rfl)
theorem dX0_higher_118 : decode cX0_higher 118 = .ok (.ireturn, 1) := dk_172 (dk_at dksX0_higher_5 7 rfl rfl)
abbrev cX0_shift : ByteArray := prog_1_method_23_code
def yX0_shift : MethodName := ⟨RX0, "shift", "(II)I"⟩
def dkwX0_shift_2 : List UInt8 := [182, 0, 231, 172, 78, 42, 16, 244, 182, 0, 231, 172]
abbrev dktX0_shift_2 : List UInt8 := dkwX0_shift_2 ++ []
def dkwX0_shift_1 : List UInt8 := [78, 45, 28, 42, 180, 0, 86, 182, 0, 250, 42, 45, 182, 0, 234, 182, 0, 128, 172, 78, 42, 16, 243]
abbrev dktX0_shift_1 : List UInt8 := dkwX0_shift_1 ++ dktX0_shift_2
def dkwX0_shift_0 : List UInt8 := [42, 27, 182, 0, 207, 154, 0, 10, 42, 16, 254, 182, 0, 120, 172, 42, 180, 0, 49, 27, 50, 192, 0, 142]
abbrev dktX0_shift_0 : List UInt8 := dkwX0_shift_0 ++ dktX0_shift_1
theorem dksX0_shift_0 : cX0_shift.data.toList.drop 0 = dktX0_shift_0 := by decide +kernel
theorem dksX0_shift_1 : cX0_shift.data.toList.drop 24 = dktX0_shift_1 := dk_seg dksX0_shift_0 24 rfl rfl
theorem dksX0_shift_2 : cX0_shift.data.toList.drop 47 = dktX0_shift_2 := dk_seg dksX0_shift_1 23 rfl rfl
theorem dX0_shift_0 : decode cX0_shift 0 = .ok (.aload_n 0, 1) := dk_42 (dk_at dksX0_shift_0 0 rfl rfl)
theorem dX0_shift_1 : decode cX0_shift 1 = .ok (.iload_n 1, 1) := dk_27 (dk_at dksX0_shift_0 1 rfl rfl)
theorem dX0_shift_2 : decode cX0_shift 2 = .ok (.invokevirtual 207, 3) := dk_182 0 207 (dk_at dksX0_shift_0 2 rfl rfl)
theorem dX0_shift_5 : decode cX0_shift 5 = .ok (.ifCond .ne 10, 3) := dk_154 0 10 (dk_at dksX0_shift_0 5 rfl rfl)
theorem dX0_shift_8 : decode cX0_shift 8 = .ok (.aload_n 0, 1) := dk_42 (dk_at dksX0_shift_0 8 rfl rfl)
theorem dX0_shift_9 : decode cX0_shift 9 = .ok (.bipush (-2), 2) := dk_16 254 (dk_at dksX0_shift_0 9 rfl rfl)
theorem dX0_shift_11 : decode cX0_shift 11 = .ok (.invokevirtual 120, 3) := dk_182 0 120 (dk_at dksX0_shift_0 11 rfl rfl)
theorem dX0_shift_14 : decode cX0_shift 14 = .ok (.ireturn, 1) := dk_172 (dk_at dksX0_shift_0 14 rfl rfl)
theorem dX0_shift_15 : decode cX0_shift 15 = .ok (.aload_n 0, 1) := dk_42 (dk_at dksX0_shift_0 15 rfl rfl)
theorem dX0_shift_16 : decode cX0_shift 16 = .ok (.getfield 49, 3) := dk_180 0 49 (dk_at dksX0_shift_0 16 rfl rfl)
theorem dX0_shift_19 : decode cX0_shift 19 = .ok (.iload_n 1, 1) := dk_27 (dk_at dksX0_shift_0 19 rfl rfl)
theorem dX0_shift_20 : decode cX0_shift 20 = .ok (.aaload, 1) := dk_50 (dk_at dksX0_shift_0 20 rfl rfl)
theorem dX0_shift_21 : decode cX0_shift 21 = .ok (.checkcast 142, 3) := dk_192 0 142 (dk_at dksX0_shift_0 21 rfl rfl)
theorem dX0_shift_24 : decode cX0_shift 24 = .ok (.astore_n 3, 1) := dk_78 (dk_at dksX0_shift_1 0 rfl rfl)
theorem dX0_shift_25 : decode cX0_shift 25 = .ok (.aload_n 3, 1) := dk_45 (dk_at dksX0_shift_1 1 rfl rfl)
theorem dX0_shift_26 : decode cX0_shift 26 = .ok (.iload_n 2, 1) := dk_28 (dk_at dksX0_shift_1 2 rfl rfl)
theorem dX0_shift_27 : decode cX0_shift 27 = .ok (.aload_n 0, 1) := dk_42 (dk_at dksX0_shift_1 3 rfl rfl)
theorem dX0_shift_28 : decode cX0_shift 28 = .ok (.getfield 86, 3) := dk_180 0 86 (dk_at dksX0_shift_1 4 rfl rfl)
theorem dX0_shift_31 : decode cX0_shift 31 = .ok (.invokevirtual 250, 3) := dk_182 0 250 (dk_at dksX0_shift_1 7 rfl rfl)
theorem dX0_shift_34 : decode cX0_shift 34 = .ok (.aload_n 0, 1) := dk_42 (dk_at dksX0_shift_1 10 rfl rfl)
theorem dX0_shift_35 : decode cX0_shift 35 = .ok (.aload_n 3, 1) := dk_45 (dk_at dksX0_shift_1 11 rfl rfl)
theorem dX0_shift_36 : decode cX0_shift 36 = .ok (.invokevirtual 234, 3) := dk_182 0 234 (dk_at dksX0_shift_1 12 rfl rfl)
theorem dX0_shift_39 : decode cX0_shift 39 = .ok (.invokevirtual 128, 3) := dk_182 0 128 (dk_at dksX0_shift_1 15 rfl rfl)
theorem dX0_shift_42 : decode cX0_shift 42 = .ok (.ireturn, 1) := dk_172 (dk_at dksX0_shift_1 18 rfl rfl)
theorem dX0_shift_43 : decode cX0_shift 43 = .ok (.astore_n 3, 1) := dk_78 (dk_at dksX0_shift_1 19 rfl rfl)
theorem dX0_shift_44 : decode cX0_shift 44 = .ok (.aload_n 0, 1) := dk_42 (dk_at dksX0_shift_1 20 rfl rfl)
theorem dX0_shift_45 : decode cX0_shift 45 = .ok (.bipush (-13), 2) := dk_16 243 (dk_at dksX0_shift_1 21 rfl rfl)
theorem dX0_shift_47 : decode cX0_shift 47 = .ok (.invokevirtual 231, 3) := dk_182 0 231 (dk_at dksX0_shift_2 0 rfl rfl)
theorem dX0_shift_50 : decode cX0_shift 50 = .ok (.ireturn, 1) := dk_172 (dk_at dksX0_shift_2 3 rfl rfl)
theorem dX0_shift_51 : decode cX0_shift 51 = .ok (.astore_n 3, 1) := dk_78 (dk_at dksX0_shift_2 4 rfl rfl)
theorem dX0_shift_52 : decode cX0_shift 52 = .ok (.aload_n 0, 1) := dk_42 (dk_at dksX0_shift_2 5 rfl rfl)
theorem dX0_shift_53 : decode cX0_shift 53 = .ok (.bipush (-12), 2) := dk_16 244 (dk_at dksX0_shift_2 6 rfl rfl)
theorem dX0_shift_55 : decode cX0_shift 55 = .ok (.invokevirtual 231, 3) := dk_182 0 231 (dk_at dksX0_shift_2 8 rfl rfl)
theorem dX0_shift_58 : decode cX0_shift 58 = .ok (.ireturn, 1) := dk_172 (dk_at dksX0_shift_2 11 rfl rfl)
abbrev cX0_transpose : ByteArray := prog_1_method_24_code
def yX0_transpose : MethodName := ⟨RX0, "transpose", "(II)I"⟩
def dkwX0_transpose_4 : List UInt8 := [21, 4, 172]
abbrev dktX0_transpose_4 : List UInt8 := dkwX0_transpose_4 ++ []
def dkwX0_transpose_3 : List UInt8 := [182, 0, 250, 132, 4, 1, 132, 5, 1, 167, 255, 210, 167, 0, 12, 58, 5, 42, 16, 244, 182, 0, 231, 87]
abbrev dktX0_transpose_3 : List UInt8 := dkwX0_transpose_3 ++ dktX0_transpose_4
def dkwX0_transpose_2 : List UInt8 := [21, 5, 50, 193, 0, 142, 153, 0, 24, 45, 180, 0, 162, 21, 5, 50, 192, 0, 142, 28, 42, 180, 0, 86]
abbrev dktX0_transpose_2 : List UInt8 := dkwX0_transpose_2 ++ dktX0_transpose_3
def dkwX0_transpose_1 : List UInt8 := [54, 4, 42, 3, 181, 0, 100, 3, 54, 5, 21, 5, 45, 180, 0, 159, 162, 0, 43, 45, 180, 0, 162]
abbrev dktX0_transpose_1 : List UInt8 := dkwX0_transpose_1 ++ dktX0_transpose_2
def dkwX0_transpose_0 : List UInt8 := [42, 27, 182, 0, 168, 154, 0, 10, 42, 16, 254, 182, 0, 120, 172, 42, 180, 0, 43, 27, 50, 78, 3]
abbrev dktX0_transpose_0 : List UInt8 := dkwX0_transpose_0 ++ dktX0_transpose_1
theorem dksX0_transpose_0 : cX0_transpose.data.toList.drop 0 = dktX0_transpose_0 := by decide +kernel
theorem dksX0_transpose_1 : cX0_transpose.data.toList.drop 23 = dktX0_transpose_1 := dk_seg dksX0_transpose_0 23 rfl rfl
theorem dksX0_transpose_2 : cX0_transpose.data.toList.drop 46 = dktX0_transpose_2 := dk_seg dksX0_transpose_1 23 rfl rfl
theorem dksX0_transpose_3 : cX0_transpose.data.toList.drop 70 = dktX0_transpose_3 := dk_seg dksX0_transpose_2 24 rfl rfl
theorem dksX0_transpose_4 : cX0_transpose.data.toList.drop 94 = dktX0_transpose_4 := dk_seg dksX0_transpose_3 24 rfl rfl
theorem dX0_transpose_0 : decode cX0_transpose 0 = .ok (.aload_n 0, 1) := dk_42 (dk_at dksX0_transpose_0 0 rfl rfl)
theorem dX0_transpose_1 : decode cX0_transpose 1 = .ok (.iload_n 1, 1) := dk_27 (dk_at dksX0_transpose_0 1 rfl rfl)
theorem dX0_transpose_2 : decode cX0_transpose 2 = .ok (.invokevirtual 168, 3) := dk_182 0 168 (dk_at dksX0_transpose_0 2 rfl rfl)
theorem dX0_transpose_5 : decode cX0_transpose 5 = .ok (.ifCond .ne 10, 3) := dk_154 0 10 (dk_at dksX0_transpose_0 5 rfl rfl)
theorem dX0_transpose_8 : decode cX0_transpose 8 = .ok (.aload_n 0, 1) := dk_42 (dk_at dksX0_transpose_0 8 rfl rfl)
theorem dX0_transpose_9 : decode cX0_transpose 9 = .ok (.bipush (-2), 2) := dk_16 254 (dk_at dksX0_transpose_0 9 rfl rfl)
theorem dX0_transpose_11 : decode cX0_transpose 11 = .ok (.invokevirtual 120, 3) := dk_182 0 120 (dk_at dksX0_transpose_0 11 rfl rfl)
theorem dX0_transpose_14 : decode cX0_transpose 14 = .ok (.ireturn, 1) := dk_172 (dk_at dksX0_transpose_0 14 rfl rfl)
theorem dX0_transpose_15 : decode cX0_transpose 15 = .ok (.aload_n 0, 1) := dk_42 (dk_at dksX0_transpose_0 15 rfl rfl)
theorem dX0_transpose_16 : decode cX0_transpose 16 = .ok (.getfield 43, 3) := dk_180 0 43 (dk_at dksX0_transpose_0 16 rfl rfl)
theorem dX0_transpose_19 : decode cX0_transpose 19 = .ok (.iload_n 1, 1) := dk_27 (dk_at dksX0_transpose_0 19 rfl rfl)
theorem dX0_transpose_20 : decode cX0_transpose 20 = .ok (.aaload, 1) := dk_50 (dk_at dksX0_transpose_0 20 rfl rfl)
theorem dX0_transpose_21 : decode cX0_transpose 21 = .ok (.astore_n 3, 1) := dk_78 (dk_at dksX0_transpose_0 21 rfl rfl)
theorem dX0_transpose_22 : decode cX0_transpose 22 = .ok (.iconst 0, 1) := dk_3 (dk_at dksX0_transpose_0 22 rfl rfl)
theorem dX0_transpose_23 : decode cX0_transpose 23 = .ok (.istore 4, 2) := dk_54 4 (dk_at dksX0_transpose_1 0 rfl rfl)
theorem dX0_transpose_25 : decode cX0_transpose 25 = .ok (.aload_n 0, 1) := dk_42 (dk_at dksX0_transpose_1 2 rfl rfl)
theorem dX0_transpose_26 : decode cX0_transpose 26 = .ok (.iconst 0, 1) := dk_3 (dk_at dksX0_transpose_1 3 rfl rfl)
theorem dX0_transpose_27 : decode cX0_transpose 27 = .ok (.putfield 100, 3) := dk_181 0 100 (dk_at dksX0_transpose_1 4 rfl rfl)
theorem dX0_transpose_30 : decode cX0_transpose 30 = .ok (.iconst 0, 1) := dk_3 (dk_at dksX0_transpose_1 7 rfl rfl)
theorem dX0_transpose_31 : decode cX0_transpose 31 = .ok (.istore 5, 2) := dk_54 5 (dk_at dksX0_transpose_1 8 rfl rfl)
theorem dX0_transpose_33 : decode cX0_transpose 33 = .ok (.iload 5, 2) := dk_21 5 (dk_at dksX0_transpose_1 10 rfl rfl)
theorem dX0_transpose_35 : decode cX0_transpose 35 = .ok (.aload_n 3, 1) := dk_45 (dk_at dksX0_transpose_1 12 rfl rfl)
theorem dX0_transpose_36 : decode cX0_transpose 36 = .ok (.getfield 159, 3) := dk_180 0 159 (dk_at dksX0_transpose_1 13 rfl rfl)
theorem dX0_transpose_39 : decode cX0_transpose 39 = .ok (.if_icmp .ge 43, 3) := dk_162 0 43 (dk_at dksX0_transpose_1 16 rfl rfl)
theorem dX0_transpose_42 : decode cX0_transpose 42 = .ok (.aload_n 3, 1) := dk_45 (dk_at dksX0_transpose_1 19 rfl rfl)
theorem dX0_transpose_43 : decode cX0_transpose 43 = .ok (.getfield 162, 3) := dk_180 0 162 (dk_at dksX0_transpose_1 20 rfl rfl)
theorem dX0_transpose_46 : decode cX0_transpose 46 = .ok (.iload 5, 2) := dk_21 5 (dk_at dksX0_transpose_2 0 rfl rfl)
theorem dX0_transpose_48 : decode cX0_transpose 48 = .ok (.aaload, 1) := dk_50 (dk_at dksX0_transpose_2 2 rfl rfl)
theorem dX0_transpose_49 : decode cX0_transpose 49 = .ok (.instanceof 142, 3) := dk_193 0 142 (dk_at dksX0_transpose_2 3 rfl rfl)
theorem dX0_transpose_52 : decode cX0_transpose 52 = .ok (.ifCond .eq 24, 3) := dk_153 0 24 (dk_at dksX0_transpose_2 6 rfl rfl)
theorem dX0_transpose_55 : decode cX0_transpose 55 = .ok (.aload_n 3, 1) := dk_45 (dk_at dksX0_transpose_2 9 rfl rfl)
theorem dX0_transpose_56 : decode cX0_transpose 56 = .ok (.getfield 162, 3) := dk_180 0 162 (dk_at dksX0_transpose_2 10 rfl rfl)
theorem dX0_transpose_59 : decode cX0_transpose 59 = .ok (.iload 5, 2) := dk_21 5 (dk_at dksX0_transpose_2 13 rfl rfl)
theorem dX0_transpose_61 : decode cX0_transpose 61 = .ok (.aaload, 1) := dk_50 (dk_at dksX0_transpose_2 15 rfl rfl)
theorem dX0_transpose_62 : decode cX0_transpose 62 = .ok (.checkcast 142, 3) := dk_192 0 142 (dk_at dksX0_transpose_2 16 rfl rfl)
theorem dX0_transpose_65 : decode cX0_transpose 65 = .ok (.iload_n 2, 1) := dk_28 (dk_at dksX0_transpose_2 19 rfl rfl)
theorem dX0_transpose_66 : decode cX0_transpose 66 = .ok (.aload_n 0, 1) := dk_42 (dk_at dksX0_transpose_2 20 rfl rfl)
theorem dX0_transpose_67 : decode cX0_transpose 67 = .ok (.getfield 86, 3) := dk_180 0 86 (dk_at dksX0_transpose_2 21 rfl rfl)
theorem dX0_transpose_70 : decode cX0_transpose 70 = .ok (.invokevirtual 250, 3) := dk_182 0 250 (dk_at dksX0_transpose_3 0 rfl rfl)
theorem dX0_transpose_73 : decode cX0_transpose 73 = .ok (.iinc 4 1, 3) := dk_132 4 1 (dk_at dksX0_transpose_3 3 rfl rfl)
theorem dX0_transpose_76 : decode cX0_transpose 76 = .ok (.iinc 5 1, 3) := dk_132 5 1 (dk_at dksX0_transpose_3 6 rfl rfl)
theorem dX0_transpose_79 : decode cX0_transpose 79 = .ok (.goto (-46), 3) := dk_167 255 210 (dk_at dksX0_transpose_3 9 rfl rfl)
theorem dX0_transpose_82 : decode cX0_transpose 82 = .ok (.goto 12, 3) := dk_167 0 12 (dk_at dksX0_transpose_3 12 rfl rfl)
theorem dX0_transpose_85 : decode cX0_transpose 85 = .ok (.astore 5, 2) := dk_58 5 (dk_at dksX0_transpose_3 15 rfl rfl)
theorem dX0_transpose_87 : decode cX0_transpose 87 = .ok (.aload_n 0, 1) := dk_42 (dk_at dksX0_transpose_3 17 rfl rfl)
theorem dX0_transpose_88 : decode cX0_transpose 88 = .ok (.bipush (-12), 2) := dk_16 244 (dk_at dksX0_transpose_3 18 rfl rfl)
theorem dX0_transpose_90 : decode cX0_transpose 90 = .ok (.invokevirtual 231, 3) := dk_182 0 231 (dk_at dksX0_transpose_3 20 rfl rfl)
theorem dX0_transpose_93 : decode cX0_transpose 93 = .ok (.pop, 1) := dk_87 (dk_at dksX0_transpose_3 23 rfl rfl)
theorem dX0_transpose_94 : decode cX0_transpose 94 = .ok (.iload 4, 2) := dk_21 4 (dk_at dksX0_transpose_4 0 rfl rfl)
theorem dX0_transpose_96 : decode cX0_transpose 96 = .ok (.ireturn, 1) := dk_172 (dk_at dksX0_transpose_4 2 rfl rfl)
abbrev cX0_tie : ByteArray := prog_1_method_25_code
def yX0_tie : MethodName := ⟨RX0, "tie", "(IZ)I"⟩
def dkwX0_tie_2 : List UInt8 := [182, 0, 128, 172, 78, 42, 16, 243, 182, 0, 231, 172]
abbrev dktX0_tie_2 : List UInt8 := dkwX0_tie_2 ++ []
def dkwX0_tie_1 : List UInt8 := [78, 45, 180, 1, 0, 54, 4, 45, 28, 181, 1, 0, 42, 21, 4, 153, 0, 7, 4, 167, 0, 4, 3]
abbrev dktX0_tie_1 : List UInt8 := dkwX0_tie_1 ++ dktX0_tie_2
def dkwX0_tie_0 : List UInt8 := [42, 27, 182, 0, 207, 154, 0, 10, 42, 16, 254, 182, 0, 120, 172, 42, 180, 0, 49, 27, 50, 192, 0, 142]
abbrev dktX0_tie_0 : List UInt8 := dkwX0_tie_0 ++ dktX0_tie_1
theorem dksX0_tie_0 : cX0_tie.data.toList.drop 0 = dktX0_tie_0 := by decide +kernel
theorem dksX0_tie_1 : cX0_tie.data.toList.drop 24 = dktX0_tie_1 := dk_seg dksX0_tie_0 24 rfl rfl
theorem dksX0_tie_2 : cX0_tie.data.toList.drop 47 = dktX0_tie_2 := dk_seg dksX0_tie_1 23 rfl rfl
theorem dX0_tie_0 : decode cX0_tie 0 = .ok (.aload_n 0, 1) := dk_42 (dk_at dksX0_tie_0 0 rfl rfl)
theorem dX0_tie_1 : decode cX0_tie 1 = .ok (.iload_n 1, 1) := dk_27 (dk_at dksX0_tie_0 1 rfl rfl)
theorem dX0_tie_2 : decode cX0_tie 2 = .ok (.invokevirtual 207, 3) := dk_182 0 207 (dk_at dksX0_tie_0 2 rfl rfl)
theorem dX0_tie_5 : decode cX0_tie 5 = .ok (.ifCond .ne 10, 3) := dk_154 0 10 (dk_at dksX0_tie_0 5 rfl rfl)
theorem dX0_tie_8 : decode cX0_tie 8 = .ok (.aload_n 0, 1) := dk_42 (dk_at dksX0_tie_0 8 rfl rfl)
theorem dX0_tie_9 : decode cX0_tie 9 = .ok (.bipush (-2), 2) := dk_16 254 (dk_at dksX0_tie_0 9 rfl rfl)
theorem dX0_tie_11 : decode cX0_tie 11 = .ok (.invokevirtual 120, 3) := dk_182 0 120 (dk_at dksX0_tie_0 11 rfl rfl)
theorem dX0_tie_14 : decode cX0_tie 14 = .ok (.ireturn, 1) := dk_172 (dk_at dksX0_tie_0 14 rfl rfl)
theorem dX0_tie_15 : decode cX0_tie 15 = .ok (.aload_n 0, 1) := dk_42 (dk_at dksX0_tie_0 15 rfl rfl)
theorem dX0_tie_16 : decode cX0_tie 16 = .ok (.getfield 49, 3) := dk_180 0 49 (dk_at dksX0_tie_0 16 rfl rfl)
theorem dX0_tie_19 : decode cX0_tie 19 = .ok (.iload_n 1, 1) := dk_27 (dk_at dksX0_tie_0 19 rfl rfl)
theorem dX0_tie_20 : decode cX0_tie 20 = .ok (.aaload, 1) := dk_50 (dk_at dksX0_tie_0 20 rfl rfl)
theorem dX0_tie_21 : decode cX0_tie 21 = .ok (.checkcast 142, 3) := dk_192 0 142 (dk_at dksX0_tie_0 21 rfl rfl)
theorem dX0_tie_24 : decode cX0_tie 24 = .ok (.astore_n 3, 1) := dk_78 (dk_at dksX0_tie_1 0 rfl rfl)
theorem dX0_tie_25 : decode cX0_tie 25 = .ok (.aload_n 3, 1) := dk_45 (dk_at dksX0_tie_1 1 rfl rfl)
theorem dX0_tie_26 : decode cX0_tie 26 = .ok (.getfield 256, 3) := dk_180 1 0 (dk_at dksX0_tie_1 2 rfl rfl)
theorem dX0_tie_29 : decode cX0_tie 29 = .ok (.istore 4, 2) := dk_54 4 (dk_at dksX0_tie_1 5 rfl rfl)
theorem dX0_tie_31 : decode cX0_tie 31 = .ok (.aload_n 3, 1) := dk_45 (dk_at dksX0_tie_1 7 rfl rfl)
theorem dX0_tie_32 : decode cX0_tie 32 = .ok (.iload_n 2, 1) := dk_28 (dk_at dksX0_tie_1 8 rfl rfl)
theorem dX0_tie_33 : decode cX0_tie 33 = .ok (.putfield 256, 3) := dk_181 1 0 (dk_at dksX0_tie_1 9 rfl rfl)
theorem dX0_tie_36 : decode cX0_tie 36 = .ok (.aload_n 0, 1) := dk_42 (dk_at dksX0_tie_1 12 rfl rfl)
theorem dX0_tie_37 : decode cX0_tie 37 = .ok (.iload 4, 2) := dk_21 4 (dk_at dksX0_tie_1 13 rfl rfl)
theorem dX0_tie_39 : decode cX0_tie 39 = .ok (.ifCond .eq 7, 3) := dk_153 0 7 (dk_at dksX0_tie_1 15 rfl rfl)
theorem dX0_tie_42 : decode cX0_tie 42 = .ok (.iconst 1, 1) := dk_4 (dk_at dksX0_tie_1 18 rfl rfl)
theorem dX0_tie_43 : decode cX0_tie 43 = .ok (.goto 4, 3) := dk_167 0 4 (dk_at dksX0_tie_1 19 rfl rfl)
theorem dX0_tie_46 : decode cX0_tie 46 = .ok (.iconst 0, 1) := dk_3 (dk_at dksX0_tie_1 22 rfl rfl)
theorem dX0_tie_47 : decode cX0_tie 47 = .ok (.invokevirtual 128, 3) := dk_182 0 128 (dk_at dksX0_tie_2 0 rfl rfl)
theorem dX0_tie_50 : decode cX0_tie 50 = .ok (.ireturn, 1) := dk_172 (dk_at dksX0_tie_2 3 rfl rfl)
theorem dX0_tie_51 : decode cX0_tie 51 = .ok (.astore_n 3, 1) := dk_78 (dk_at dksX0_tie_2 4 rfl rfl)
theorem dX0_tie_52 : decode cX0_tie 52 = .ok (.aload_n 0, 1) := dk_42 (dk_at dksX0_tie_2 5 rfl rfl)
theorem dX0_tie_53 : decode cX0_tie 53 = .ok (.bipush (-13), 2) := dk_16 243 (dk_at dksX0_tie_2 6 rfl rfl)
theorem dX0_tie_55 : decode cX0_tie 55 = .ok (.invokevirtual 231, 3) := dk_182 0 231 (dk_at dksX0_tie_2 8 rfl rfl)
theorem dX0_tie_58 : decode cX0_tie 58 = .ok (.ireturn, 1) := dk_172 (dk_at dksX0_tie_2 11 rfl rfl)
abbrev cX0_value : ByteArray := prog_1_method_26_code
def yX0_value : MethodName := ⟨RX0, "value", "(III)I"⟩
def dkwX0_value_2 : List UInt8 := [27, 50, 29, 181, 0, 181, 42, 4, 182, 0, 128, 172]
abbrev dktX0_value_2 : List UInt8 := dkwX0_value_2 ++ []
def dkwX0_value_1 : List UInt8 := [154, 0, 10, 42, 16, 254, 182, 0, 120, 172, 42, 180, 0, 49, 27, 50, 28, 181, 0, 178, 42, 180, 0, 49]
abbrev dktX0_value_1 : List UInt8 := dkwX0_value_1 ++ dktX0_value_2
def dkwX0_value_0 : List UInt8 := [42, 27, 182, 0, 207, 153, 0, 21, 28, 3, 8, 184, 0, 107, 153, 0, 12, 29, 3, 5, 184, 0, 107]
abbrev dktX0_value_0 : List UInt8 := dkwX0_value_0 ++ dktX0_value_1
theorem dksX0_value_0 : cX0_value.data.toList.drop 0 = dktX0_value_0 := by decide +kernel
theorem dksX0_value_1 : cX0_value.data.toList.drop 23 = dktX0_value_1 := dk_seg dksX0_value_0 23 rfl rfl
theorem dksX0_value_2 : cX0_value.data.toList.drop 47 = dktX0_value_2 := dk_seg dksX0_value_1 24 rfl rfl
theorem dX0_value_0 : decode cX0_value 0 = .ok (.aload_n 0, 1) := dk_42 (dk_at dksX0_value_0 0 rfl rfl)
theorem dX0_value_1 : decode cX0_value 1 = .ok (.iload_n 1, 1) := dk_27 (dk_at dksX0_value_0 1 rfl rfl)
theorem dX0_value_2 : decode cX0_value 2 = .ok (.invokevirtual 207, 3) := dk_182 0 207 (dk_at dksX0_value_0 2 rfl rfl)
theorem dX0_value_5 : decode cX0_value 5 = .ok (.ifCond .eq 21, 3) := dk_153 0 21 (dk_at dksX0_value_0 5 rfl rfl)
theorem dX0_value_8 : decode cX0_value 8 = .ok (.iload_n 2, 1) := dk_28 (dk_at dksX0_value_0 8 rfl rfl)
theorem dX0_value_9 : decode cX0_value 9 = .ok (.iconst 0, 1) := dk_3 (dk_at dksX0_value_0 9 rfl rfl)
theorem dX0_value_10 : decode cX0_value 10 = .ok (.iconst 5, 1) := dk_8 (dk_at dksX0_value_0 10 rfl rfl)
theorem dX0_value_11 : decode cX0_value 11 = .ok (.invokestatic 107, 3) := dk_184 0 107 (dk_at dksX0_value_0 11 rfl rfl)
theorem dX0_value_14 : decode cX0_value 14 = .ok (.ifCond .eq 12, 3) := dk_153 0 12 (dk_at dksX0_value_0 14 rfl rfl)
theorem dX0_value_17 : decode cX0_value 17 = .ok (.iload_n 3, 1) := dk_29 (dk_at dksX0_value_0 17 rfl rfl)
theorem dX0_value_18 : decode cX0_value 18 = .ok (.iconst 0, 1) := dk_3 (dk_at dksX0_value_0 18 rfl rfl)
theorem dX0_value_19 : decode cX0_value 19 = .ok (.iconst 2, 1) := dk_5 (dk_at dksX0_value_0 19 rfl rfl)
theorem dX0_value_20 : decode cX0_value 20 = .ok (.invokestatic 107, 3) := dk_184 0 107 (dk_at dksX0_value_0 20 rfl rfl)
theorem dX0_value_23 : decode cX0_value 23 = .ok (.ifCond .ne 10, 3) := dk_154 0 10 (dk_at dksX0_value_1 0 rfl rfl)
theorem dX0_value_26 : decode cX0_value 26 = .ok (.aload_n 0, 1) := dk_42 (dk_at dksX0_value_1 3 rfl rfl)
theorem dX0_value_27 : decode cX0_value 27 = .ok (.bipush (-2), 2) := dk_16 254 (dk_at dksX0_value_1 4 rfl rfl)
theorem dX0_value_29 : decode cX0_value 29 = .ok (.invokevirtual 120, 3) := dk_182 0 120 (dk_at dksX0_value_1 6 rfl rfl)
theorem dX0_value_32 : decode cX0_value 32 = .ok (.ireturn, 1) := dk_172 (dk_at dksX0_value_1 9 rfl rfl)
theorem dX0_value_33 : decode cX0_value 33 = .ok (.aload_n 0, 1) := dk_42 (dk_at dksX0_value_1 10 rfl rfl)
theorem dX0_value_34 : decode cX0_value 34 = .ok (.getfield 49, 3) := dk_180 0 49 (dk_at dksX0_value_1 11 rfl rfl)
theorem dX0_value_37 : decode cX0_value 37 = .ok (.iload_n 1, 1) := dk_27 (dk_at dksX0_value_1 14 rfl rfl)
theorem dX0_value_38 : decode cX0_value 38 = .ok (.aaload, 1) := dk_50 (dk_at dksX0_value_1 15 rfl rfl)
theorem dX0_value_39 : decode cX0_value 39 = .ok (.iload_n 2, 1) := dk_28 (dk_at dksX0_value_1 16 rfl rfl)
theorem dX0_value_40 : decode cX0_value 40 = .ok (.putfield 178, 3) := dk_181 0 178 (dk_at dksX0_value_1 17 rfl rfl)
theorem dX0_value_43 : decode cX0_value 43 = .ok (.aload_n 0, 1) := dk_42 (dk_at dksX0_value_1 20 rfl rfl)
theorem dX0_value_44 : decode cX0_value 44 = .ok (.getfield 49, 3) := dk_180 0 49 (dk_at dksX0_value_1 21 rfl rfl)
theorem dX0_value_47 : decode cX0_value 47 = .ok (.iload_n 1, 1) := dk_27 (dk_at dksX0_value_2 0 rfl rfl)
theorem dX0_value_48 : decode cX0_value 48 = .ok (.aaload, 1) := dk_50 (dk_at dksX0_value_2 1 rfl rfl)
theorem dX0_value_49 : decode cX0_value 49 = .ok (.iload_n 3, 1) := dk_29 (dk_at dksX0_value_2 2 rfl rfl)
theorem dX0_value_50 : decode cX0_value 50 = .ok (.putfield 181, 3) := dk_181 0 181 (dk_at dksX0_value_2 3 rfl rfl)
theorem dX0_value_53 : decode cX0_value 53 = .ok (.aload_n 0, 1) := dk_42 (dk_at dksX0_value_2 6 rfl rfl)
theorem dX0_value_54 : decode cX0_value 54 = .ok (.iconst 1, 1) := dk_4 (dk_at dksX0_value_2 7 rfl rfl)
theorem dX0_value_55 : decode cX0_value 55 = .ok (.invokevirtual 128, 3) := dk_182 0 128 (dk_at dksX0_value_2 8 rfl rfl)
theorem dX0_value_58 : decode cX0_value 58 = .ok (.ireturn, 1) := dk_172 (dk_at dksX0_value_2 11 rfl rfl)
abbrev cX0_at : ByteArray := prog_1_method_30_code
def yX0_at : MethodName := ⟨RX0, "at", "(II)I"⟩
def dkwX0_at_7 : List UInt8 := [182, 0, 128, 172, 42, 45, 180, 0, 178, 182, 0, 128, 172, 42, 45, 180, 0, 181, 182, 0, 128, 172]
abbrev dktX0_at_7 : List UInt8 := dkwX0_at_7 ++ []
def dkwX0_at_6 : List UInt8 := [172, 42, 42, 180, 0, 43, 45, 180, 0, 176, 50, 182, 1, 52, 42, 42, 45, 180, 1, 27, 182, 1, 56]
abbrev dktX0_at_6 : List UInt8 := dkwX0_at_6 ++ dktX0_at_7
def dkwX0_at_5 : List UInt8 := [167, 0, 4, 3, 182, 0, 128, 172, 42, 42, 45, 180, 0, 176, 45, 180, 0, 165, 182, 1, 48, 182, 0, 128]
abbrev dktX0_at_5 : List UInt8 := dkwX0_at_5 ++ dktX0_at_6
def dkwX0_at_4 : List UInt8 := [182, 0, 128, 172, 42, 45, 182, 1, 43, 182, 0, 128, 172, 42, 45, 182, 1, 44, 153, 0, 7, 4]
abbrev dktX0_at_4 : List UInt8 := dkwX0_at_4 ++ dktX0_at_5
def dkwX0_at_3 : List UInt8 := [42, 45, 180, 0, 176, 182, 0, 128, 172, 42, 45, 180, 0, 165, 182, 0, 128, 172, 42, 45, 182, 1, 41]
abbrev dktX0_at_3 : List UInt8 := dkwX0_at_3 ++ dktX0_at_4
def dkwX0_at_2 : List UInt8 := [170, 0, 0, 0, 0, 0, 152, 0, 0, 0, 0, 0, 0, 0, 7, 0, 0, 0, 47, 0, 0, 0, 56, 0, 0, 0, 65, 0, 0, 0, 74, 0, 0, 0, 83, 0, 0, 0, 100, 0, 0, 0, 117, 0, 0, 0, 143]
abbrev dktX0_at_2 : List UInt8 := dkwX0_at_2 ++ dktX0_at_3
def dkwX0_at_1 : List UInt8 := [172, 42, 180, 0, 49, 27, 50, 78, 28]
abbrev dktX0_at_1 : List UInt8 := dkwX0_at_1 ++ dktX0_at_2
def dkwX0_at_0 : List UInt8 := [42, 27, 182, 0, 207, 153, 0, 13, 28, 3, 16, 8, 184, 0, 107, 154, 0, 10, 42, 16, 254, 182, 0, 120]
abbrev dktX0_at_0 : List UInt8 := dkwX0_at_0 ++ dktX0_at_1
theorem dksX0_at_0 : cX0_at.data.toList.drop 0 = dktX0_at_0 := by decide +kernel
theorem dksX0_at_1 : cX0_at.data.toList.drop 24 = dktX0_at_1 := dk_seg dksX0_at_0 24 rfl rfl
theorem dksX0_at_2 : cX0_at.data.toList.drop 33 = dktX0_at_2 := dk_seg dksX0_at_1 9 rfl rfl
theorem dksX0_at_3 : cX0_at.data.toList.drop 80 = dktX0_at_3 := dk_seg dksX0_at_2 47 rfl rfl
theorem dksX0_at_4 : cX0_at.data.toList.drop 103 = dktX0_at_4 := dk_seg dksX0_at_3 23 rfl rfl
theorem dksX0_at_5 : cX0_at.data.toList.drop 125 = dktX0_at_5 := dk_seg dksX0_at_4 22 rfl rfl
theorem dksX0_at_6 : cX0_at.data.toList.drop 149 = dktX0_at_6 := dk_seg dksX0_at_5 24 rfl rfl
theorem dksX0_at_7 : cX0_at.data.toList.drop 172 = dktX0_at_7 := dk_seg dksX0_at_6 23 rfl rfl
theorem dX0_at_0 : decode cX0_at 0 = .ok (.aload_n 0, 1) := dk_42 (dk_at dksX0_at_0 0 rfl rfl)
theorem dX0_at_1 : decode cX0_at 1 = .ok (.iload_n 1, 1) := dk_27 (dk_at dksX0_at_0 1 rfl rfl)
theorem dX0_at_2 : decode cX0_at 2 = .ok (.invokevirtual 207, 3) := dk_182 0 207 (dk_at dksX0_at_0 2 rfl rfl)
theorem dX0_at_5 : decode cX0_at 5 = .ok (.ifCond .eq 13, 3) := dk_153 0 13 (dk_at dksX0_at_0 5 rfl rfl)
theorem dX0_at_8 : decode cX0_at 8 = .ok (.iload_n 2, 1) := dk_28 (dk_at dksX0_at_0 8 rfl rfl)
theorem dX0_at_9 : decode cX0_at 9 = .ok (.iconst 0, 1) := dk_3 (dk_at dksX0_at_0 9 rfl rfl)
theorem dX0_at_10 : decode cX0_at 10 = .ok (.bipush 8, 2) := dk_16 8 (dk_at dksX0_at_0 10 rfl rfl)
theorem dX0_at_12 : decode cX0_at 12 = .ok (.invokestatic 107, 3) := dk_184 0 107 (dk_at dksX0_at_0 12 rfl rfl)
theorem dX0_at_15 : decode cX0_at 15 = .ok (.ifCond .ne 10, 3) := dk_154 0 10 (dk_at dksX0_at_0 15 rfl rfl)
theorem dX0_at_18 : decode cX0_at 18 = .ok (.aload_n 0, 1) := dk_42 (dk_at dksX0_at_0 18 rfl rfl)
theorem dX0_at_19 : decode cX0_at 19 = .ok (.bipush (-2), 2) := dk_16 254 (dk_at dksX0_at_0 19 rfl rfl)
theorem dX0_at_21 : decode cX0_at 21 = .ok (.invokevirtual 120, 3) := dk_182 0 120 (dk_at dksX0_at_0 21 rfl rfl)
theorem dX0_at_24 : decode cX0_at 24 = .ok (.ireturn, 1) := dk_172 (dk_at dksX0_at_1 0 rfl rfl)
theorem dX0_at_25 : decode cX0_at 25 = .ok (.aload_n 0, 1) := dk_42 (dk_at dksX0_at_1 1 rfl rfl)
theorem dX0_at_26 : decode cX0_at 26 = .ok (.getfield 49, 3) := dk_180 0 49 (dk_at dksX0_at_1 2 rfl rfl)
theorem dX0_at_29 : decode cX0_at 29 = .ok (.iload_n 1, 1) := dk_27 (dk_at dksX0_at_1 5 rfl rfl)
theorem dX0_at_30 : decode cX0_at 30 = .ok (.aaload, 1) := dk_50 (dk_at dksX0_at_1 6 rfl rfl)
theorem dX0_at_31 : decode cX0_at 31 = .ok (.astore_n 3, 1) := dk_78 (dk_at dksX0_at_1 7 rfl rfl)
theorem dX0_at_32 : decode cX0_at 32 = .ok (.iload_n 2, 1) := dk_28 (dk_at dksX0_at_1 8 rfl rfl)
theorem dX0_at_33 : decode cX0_at 33 = .ok (.tableswitch 152 0 7 #[47, 56, 65, 74, 83, 100, 117, 143], 47) := by decide +kernel
theorem dX0_at_80 : decode cX0_at 80 = .ok (.aload_n 0, 1) := dk_42 (dk_at dksX0_at_3 0 rfl rfl)
theorem dX0_at_81 : decode cX0_at 81 = .ok (.aload_n 3, 1) := dk_45 (dk_at dksX0_at_3 1 rfl rfl)
theorem dX0_at_82 : decode cX0_at 82 = .ok (.getfield 176, 3) := dk_180 0 176 (dk_at dksX0_at_3 2 rfl rfl)
theorem dX0_at_85 : decode cX0_at 85 = .ok (.invokevirtual 128, 3) := dk_182 0 128 (dk_at dksX0_at_3 5 rfl rfl)
theorem dX0_at_88 : decode cX0_at 88 = .ok (.ireturn, 1) := dk_172 (dk_at dksX0_at_3 8 rfl rfl)
theorem dX0_at_89 : decode cX0_at 89 = .ok (.aload_n 0, 1) := dk_42 (dk_at dksX0_at_3 9 rfl rfl)
theorem dX0_at_90 : decode cX0_at 90 = .ok (.aload_n 3, 1) := dk_45 (dk_at dksX0_at_3 10 rfl rfl)
theorem dX0_at_91 : decode cX0_at 91 = .ok (.getfield 165, 3) := dk_180 0 165 (dk_at dksX0_at_3 11 rfl rfl)
theorem dX0_at_94 : decode cX0_at 94 = .ok (.invokevirtual 128, 3) := dk_182 0 128 (dk_at dksX0_at_3 14 rfl rfl)
theorem dX0_at_97 : decode cX0_at 97 = .ok (.ireturn, 1) := dk_172 (dk_at dksX0_at_3 17 rfl rfl)
theorem dX0_at_98 : decode cX0_at 98 = .ok (.aload_n 0, 1) := dk_42 (dk_at dksX0_at_3 18 rfl rfl)
theorem dX0_at_99 : decode cX0_at 99 = .ok (.aload_n 3, 1) := dk_45 (dk_at dksX0_at_3 19 rfl rfl)
theorem dX0_at_100 : decode cX0_at 100 = .ok (.invokevirtual 297, 3) := dk_182 1 41 (dk_at dksX0_at_3 20 rfl rfl)
theorem dX0_at_103 : decode cX0_at 103 = .ok (.invokevirtual 128, 3) := dk_182 0 128 (dk_at dksX0_at_4 0 rfl rfl)
theorem dX0_at_106 : decode cX0_at 106 = .ok (.ireturn, 1) := dk_172 (dk_at dksX0_at_4 3 rfl rfl)
theorem dX0_at_107 : decode cX0_at 107 = .ok (.aload_n 0, 1) := dk_42 (dk_at dksX0_at_4 4 rfl rfl)
theorem dX0_at_108 : decode cX0_at 108 = .ok (.aload_n 3, 1) := dk_45 (dk_at dksX0_at_4 5 rfl rfl)
theorem dX0_at_109 : decode cX0_at 109 = .ok (.invokevirtual 299, 3) := dk_182 1 43 (dk_at dksX0_at_4 6 rfl rfl)
theorem dX0_at_112 : decode cX0_at 112 = .ok (.invokevirtual 128, 3) := dk_182 0 128 (dk_at dksX0_at_4 9 rfl rfl)
theorem dX0_at_115 : decode cX0_at 115 = .ok (.ireturn, 1) := dk_172 (dk_at dksX0_at_4 12 rfl rfl)
theorem dX0_at_116 : decode cX0_at 116 = .ok (.aload_n 0, 1) := dk_42 (dk_at dksX0_at_4 13 rfl rfl)
theorem dX0_at_117 : decode cX0_at 117 = .ok (.aload_n 3, 1) := dk_45 (dk_at dksX0_at_4 14 rfl rfl)
theorem dX0_at_118 : decode cX0_at 118 = .ok (.invokevirtual 300, 3) := dk_182 1 44 (dk_at dksX0_at_4 15 rfl rfl)
theorem dX0_at_121 : decode cX0_at 121 = .ok (.ifCond .eq 7, 3) := dk_153 0 7 (dk_at dksX0_at_4 18 rfl rfl)
theorem dX0_at_124 : decode cX0_at 124 = .ok (.iconst 1, 1) := dk_4 (dk_at dksX0_at_4 21 rfl rfl)
theorem dX0_at_125 : decode cX0_at 125 = .ok (.goto 4, 3) := dk_167 0 4 (dk_at dksX0_at_5 0 rfl rfl)
theorem dX0_at_128 : decode cX0_at 128 = .ok (.iconst 0, 1) := dk_3 (dk_at dksX0_at_5 3 rfl rfl)
theorem dX0_at_129 : decode cX0_at 129 = .ok (.invokevirtual 128, 3) := dk_182 0 128 (dk_at dksX0_at_5 4 rfl rfl)
theorem dX0_at_132 : decode cX0_at 132 = .ok (.ireturn, 1) := dk_172 (dk_at dksX0_at_5 7 rfl rfl)
theorem dX0_at_133 : decode cX0_at 133 = .ok (.aload_n 0, 1) := dk_42 (dk_at dksX0_at_5 8 rfl rfl)
theorem dX0_at_134 : decode cX0_at 134 = .ok (.aload_n 0, 1) := dk_42 (dk_at dksX0_at_5 9 rfl rfl)
theorem dX0_at_135 : decode cX0_at 135 = .ok (.aload_n 3, 1) := dk_45 (dk_at dksX0_at_5 10 rfl rfl)
theorem dX0_at_136 : decode cX0_at 136 = .ok (.getfield 176, 3) := dk_180 0 176 (dk_at dksX0_at_5 11 rfl rfl)
theorem dX0_at_139 : decode cX0_at 139 = .ok (.aload_n 3, 1) := dk_45 (dk_at dksX0_at_5 14 rfl rfl)
theorem dX0_at_140 : decode cX0_at 140 = .ok (.getfield 165, 3) := dk_180 0 165 (dk_at dksX0_at_5 15 rfl rfl)
theorem dX0_at_143 : decode cX0_at 143 = .ok (.invokevirtual 304, 3) := dk_182 1 48 (dk_at dksX0_at_5 18 rfl rfl)
theorem dX0_at_146 : decode cX0_at 146 = .ok (.invokevirtual 128, 3) := dk_182 0 128 (dk_at dksX0_at_5 21 rfl rfl)
theorem dX0_at_149 : decode cX0_at 149 = .ok (.ireturn, 1) := dk_172 (dk_at dksX0_at_6 0 rfl rfl)
theorem dX0_at_150 : decode cX0_at 150 = .ok (.aload_n 0, 1) := dk_42 (dk_at dksX0_at_6 1 rfl rfl)
theorem dX0_at_151 : decode cX0_at 151 = .ok (.aload_n 0, 1) := dk_42 (dk_at dksX0_at_6 2 rfl rfl)
theorem dX0_at_152 : decode cX0_at 152 = .ok (.getfield 43, 3) := dk_180 0 43 (dk_at dksX0_at_6 3 rfl rfl)
theorem dX0_at_155 : decode cX0_at 155 = .ok (.aload_n 3, 1) := dk_45 (dk_at dksX0_at_6 6 rfl rfl)
theorem dX0_at_156 : decode cX0_at 156 = .ok (.getfield 176, 3) := dk_180 0 176 (dk_at dksX0_at_6 7 rfl rfl)
theorem dX0_at_159 : decode cX0_at 159 = .ok (.aaload, 1) := dk_50 (dk_at dksX0_at_6 10 rfl rfl)
theorem dX0_at_160 : decode cX0_at 160 = .ok (.invokevirtual 308, 3) := dk_182 1 52 (dk_at dksX0_at_6 11 rfl rfl)
theorem dX0_at_163 : decode cX0_at 163 = .ok (.aload_n 0, 1) := dk_42 (dk_at dksX0_at_6 14 rfl rfl)
theorem dX0_at_164 : decode cX0_at 164 = .ok (.aload_n 0, 1) := dk_42 (dk_at dksX0_at_6 15 rfl rfl)
theorem dX0_at_165 : decode cX0_at 165 = .ok (.aload_n 3, 1) := dk_45 (dk_at dksX0_at_6 16 rfl rfl)
theorem dX0_at_166 : decode cX0_at 166 = .ok (.getfield 283, 3) := dk_180 1 27 (dk_at dksX0_at_6 17 rfl rfl)
theorem dX0_at_169 : decode cX0_at 169 = .ok (.invokevirtual 312, 3) := dk_182 1 56 (dk_at dksX0_at_6 20 rfl rfl)
theorem dX0_at_172 : decode cX0_at 172 = .ok (.invokevirtual 128, 3) := dk_182 0 128 (dk_at dksX0_at_7 0 rfl rfl)
theorem dX0_at_175 : decode cX0_at 175 = .ok (.ireturn, 1) := dk_172 (dk_at dksX0_at_7 3 rfl rfl)
theorem dX0_at_176 : decode cX0_at 176 = .ok (.aload_n 0, 1) := dk_42 (dk_at dksX0_at_7 4 rfl rfl)
theorem dX0_at_177 : decode cX0_at 177 = .ok (.aload_n 3, 1) := dk_45 (dk_at dksX0_at_7 5 rfl rfl)
theorem dX0_at_178 : decode cX0_at 178 = .ok (.getfield 178, 3) := dk_180 0 178 (dk_at dksX0_at_7 6 rfl rfl)
theorem dX0_at_181 : decode cX0_at 181 = .ok (.invokevirtual 128, 3) := dk_182 0 128 (dk_at dksX0_at_7 9 rfl rfl)
theorem dX0_at_184 : decode cX0_at 184 = .ok (.ireturn, 1) := dk_172 (dk_at dksX0_at_7 12 rfl rfl)
theorem dX0_at_185 : decode cX0_at 185 = .ok (.aload_n 0, 1) := dk_42 (dk_at dksX0_at_7 13 rfl rfl)
theorem dX0_at_186 : decode cX0_at 186 = .ok (.aload_n 3, 1) := dk_45 (dk_at dksX0_at_7 14 rfl rfl)
theorem dX0_at_187 : decode cX0_at 187 = .ok (.getfield 181, 3) := dk_180 0 181 (dk_at dksX0_at_7 15 rfl rfl)
theorem dX0_at_190 : decode cX0_at 190 = .ok (.invokevirtual 128, 3) := dk_182 0 128 (dk_at dksX0_at_7 18 rfl rfl)
theorem dX0_at_193 : decode cX0_at 193 = .ok (.ireturn, 1) := dk_172 (dk_at dksX0_at_7 21 rfl rfl)
abbrev cX0_nested : ByteArray := prog_1_method_31_code
def yX0_nested : MethodName := ⟨RX0, "nested", "(II)I"⟩
def dkwX0_nested_2 : List UInt8 := [62, 132, 4, 1, 167, 255, 211, 29, 172]
abbrev dktX0_nested_2 : List UInt8 := dkwX0_nested_2 ++ []
def dkwX0_nested_1 : List UInt8 := [198, 0, 22, 42, 180, 0, 55, 21, 4, 50, 27, 28, 182, 1, 7, 153, 0, 7, 4, 167, 0, 4, 3, 96]
abbrev dktX0_nested_1 : List UInt8 := dkwX0_nested_1 ++ dktX0_nested_2
def dkwX0_nested_0 : List UInt8 := [3, 62, 3, 54, 4, 21, 4, 42, 180, 0, 114, 162, 0, 42, 29, 42, 180, 0, 55, 21, 4, 50]
abbrev dktX0_nested_0 : List UInt8 := dkwX0_nested_0 ++ dktX0_nested_1
theorem dksX0_nested_0 : cX0_nested.data.toList.drop 0 = dktX0_nested_0 := by decide +kernel
theorem dksX0_nested_1 : cX0_nested.data.toList.drop 22 = dktX0_nested_1 := dk_seg dksX0_nested_0 22 rfl rfl
theorem dksX0_nested_2 : cX0_nested.data.toList.drop 46 = dktX0_nested_2 := dk_seg dksX0_nested_1 24 rfl rfl
theorem dX0_nested_0 : decode cX0_nested 0 = .ok (.iconst 0, 1) := dk_3 (dk_at dksX0_nested_0 0 rfl rfl)
theorem dX0_nested_1 : decode cX0_nested 1 = .ok (.istore_n 3, 1) := dk_62 (dk_at dksX0_nested_0 1 rfl rfl)
theorem dX0_nested_2 : decode cX0_nested 2 = .ok (.iconst 0, 1) := dk_3 (dk_at dksX0_nested_0 2 rfl rfl)
theorem dX0_nested_3 : decode cX0_nested 3 = .ok (.istore 4, 2) := dk_54 4 (dk_at dksX0_nested_0 3 rfl rfl)
theorem dX0_nested_5 : decode cX0_nested 5 = .ok (.iload 4, 2) := dk_21 4 (dk_at dksX0_nested_0 5 rfl rfl)
theorem dX0_nested_7 : decode cX0_nested 7 = .ok (.aload_n 0, 1) := dk_42 (dk_at dksX0_nested_0 7 rfl rfl)
theorem dX0_nested_8 : decode cX0_nested 8 = .ok (.getfield 114, 3) := dk_180 0 114 (dk_at dksX0_nested_0 8 rfl rfl)
theorem dX0_nested_11 : decode cX0_nested 11 = .ok (.if_icmp .ge 42, 3) := dk_162 0 42 (dk_at dksX0_nested_0 11 rfl rfl)
theorem dX0_nested_14 : decode cX0_nested 14 = .ok (.iload_n 3, 1) := dk_29 (dk_at dksX0_nested_0 14 rfl rfl)
theorem dX0_nested_15 : decode cX0_nested 15 = .ok (.aload_n 0, 1) := dk_42 (dk_at dksX0_nested_0 15 rfl rfl)
theorem dX0_nested_16 : decode cX0_nested 16 = .ok (.getfield 55, 3) := dk_180 0 55 (dk_at dksX0_nested_0 16 rfl rfl)
theorem dX0_nested_19 : decode cX0_nested 19 = .ok (.iload 4, 2) := dk_21 4 (dk_at dksX0_nested_0 19 rfl rfl)
theorem dX0_nested_21 : decode cX0_nested 21 = .ok (.aaload, 1) := dk_50 (dk_at dksX0_nested_0 21 rfl rfl)
theorem dX0_nested_22 : decode cX0_nested 22 = .ok (.ifnull 22, 3) := dk_198 0 22 (dk_at dksX0_nested_1 0 rfl rfl)
theorem dX0_nested_25 : decode cX0_nested 25 = .ok (.aload_n 0, 1) := dk_42 (dk_at dksX0_nested_1 3 rfl rfl)
theorem dX0_nested_26 : decode cX0_nested 26 = .ok (.getfield 55, 3) := dk_180 0 55 (dk_at dksX0_nested_1 4 rfl rfl)
theorem dX0_nested_29 : decode cX0_nested 29 = .ok (.iload 4, 2) := dk_21 4 (dk_at dksX0_nested_1 7 rfl rfl)
theorem dX0_nested_31 : decode cX0_nested 31 = .ok (.aaload, 1) := dk_50 (dk_at dksX0_nested_1 9 rfl rfl)
theorem dX0_nested_32 : decode cX0_nested 32 = .ok (.iload_n 1, 1) := dk_27 (dk_at dksX0_nested_1 10 rfl rfl)
theorem dX0_nested_33 : decode cX0_nested 33 = .ok (.iload_n 2, 1) := dk_28 (dk_at dksX0_nested_1 11 rfl rfl)
theorem dX0_nested_34 : decode cX0_nested 34 = .ok (.invokevirtual 263, 3) := dk_182 1 7 (dk_at dksX0_nested_1 12 rfl rfl)
theorem dX0_nested_37 : decode cX0_nested 37 = .ok (.ifCond .eq 7, 3) := dk_153 0 7 (dk_at dksX0_nested_1 15 rfl rfl)
theorem dX0_nested_40 : decode cX0_nested 40 = .ok (.iconst 1, 1) := dk_4 (dk_at dksX0_nested_1 18 rfl rfl)
theorem dX0_nested_41 : decode cX0_nested 41 = .ok (.goto 4, 3) := dk_167 0 4 (dk_at dksX0_nested_1 19 rfl rfl)
theorem dX0_nested_44 : decode cX0_nested 44 = .ok (.iconst 0, 1) := dk_3 (dk_at dksX0_nested_1 22 rfl rfl)
theorem dX0_nested_45 : decode cX0_nested 45 = .ok (.iadd, 1) := dk_96 (dk_at dksX0_nested_1 23 rfl rfl)
theorem dX0_nested_46 : decode cX0_nested 46 = .ok (.istore_n 3, 1) := dk_62 (dk_at dksX0_nested_2 0 rfl rfl)
theorem dX0_nested_47 : decode cX0_nested 47 = .ok (.iinc 4 1, 3) := dk_132 4 1 (dk_at dksX0_nested_2 1 rfl rfl)
theorem dX0_nested_50 : decode cX0_nested 50 = .ok (.goto (-45), 3) := dk_167 255 211 (dk_at dksX0_nested_2 4 rfl rfl)
theorem dX0_nested_53 : decode cX0_nested 53 = .ok (.iload_n 3, 1) := dk_29 (dk_at dksX0_nested_2 7 rfl rfl)
theorem dX0_nested_54 : decode cX0_nested 54 = .ok (.ireturn, 1) := dk_172 (dk_at dksX0_nested_2 8 rfl rfl)
abbrev cX0_reckon : ByteArray := prog_1_method_28_code
def yX0_reckon : MethodName := ⟨RX0, "reckon", "(LStaveScore$Voice;)V"⟩
def dkwX0_reckon_2 : List UInt8 := [182, 1, 33, 43, 180, 1, 24, 42, 180, 0, 91, 182, 0, 138, 132, 2, 1, 167, 255, 203, 177]
abbrev dktX0_reckon_2 : List UInt8 := dkwX0_reckon_2 ++ []
def dkwX0_reckon_1 : List UInt8 := [50, 180, 1, 27, 43, 180, 1, 24, 182, 1, 30, 42, 43, 180, 0, 162, 28, 50, 1, 42, 180, 0, 91]
abbrev dktX0_reckon_1 : List UInt8 := dkwX0_reckon_1 ++ dktX0_reckon_2
def dkwX0_reckon_0 : List UInt8 := [43, 180, 1, 24, 9, 10, 182, 0, 134, 3, 61, 28, 43, 180, 0, 159, 162, 0, 51, 43, 180, 0, 162, 28]
abbrev dktX0_reckon_0 : List UInt8 := dkwX0_reckon_0 ++ dktX0_reckon_1
theorem dksX0_reckon_0 : cX0_reckon.data.toList.drop 0 = dktX0_reckon_0 := by decide +kernel
theorem dksX0_reckon_1 : cX0_reckon.data.toList.drop 24 = dktX0_reckon_1 := dk_seg dksX0_reckon_0 24 rfl rfl
theorem dksX0_reckon_2 : cX0_reckon.data.toList.drop 47 = dktX0_reckon_2 := dk_seg dksX0_reckon_1 23 rfl rfl
theorem dX0_reckon_0 : decode cX0_reckon 0 = .ok (.aload_n 1, 1) := dk_43 (dk_at dksX0_reckon_0 0 rfl rfl)
theorem dX0_reckon_1 : decode cX0_reckon 1 = .ok (.getfield 280, 3) := dk_180 1 24 (dk_at dksX0_reckon_0 1 rfl rfl)
theorem dX0_reckon_4 : decode cX0_reckon 4 = .ok (.lconst 0, 1) := dk_9 (dk_at dksX0_reckon_0 4 rfl rfl)
theorem dX0_reckon_5 : decode cX0_reckon 5 = .ok (.lconst 1, 1) := dk_10 (dk_at dksX0_reckon_0 5 rfl rfl)
theorem dX0_reckon_6 : decode cX0_reckon 6 = .ok (.invokevirtual 134, 3) := dk_182 0 134 (dk_at dksX0_reckon_0 6 rfl rfl)
theorem dX0_reckon_9 : decode cX0_reckon 9 = .ok (.iconst 0, 1) := dk_3 (dk_at dksX0_reckon_0 9 rfl rfl)
theorem dX0_reckon_10 : decode cX0_reckon 10 = .ok (.istore_n 2, 1) := dk_61 (dk_at dksX0_reckon_0 10 rfl rfl)
theorem dX0_reckon_11 : decode cX0_reckon 11 = .ok (.iload_n 2, 1) := dk_28 (dk_at dksX0_reckon_0 11 rfl rfl)
theorem dX0_reckon_12 : decode cX0_reckon 12 = .ok (.aload_n 1, 1) := dk_43 (dk_at dksX0_reckon_0 12 rfl rfl)
theorem dX0_reckon_13 : decode cX0_reckon 13 = .ok (.getfield 159, 3) := dk_180 0 159 (dk_at dksX0_reckon_0 13 rfl rfl)
theorem dX0_reckon_16 : decode cX0_reckon 16 = .ok (.if_icmp .ge 51, 3) := dk_162 0 51 (dk_at dksX0_reckon_0 16 rfl rfl)
theorem dX0_reckon_19 : decode cX0_reckon 19 = .ok (.aload_n 1, 1) := dk_43 (dk_at dksX0_reckon_0 19 rfl rfl)
theorem dX0_reckon_20 : decode cX0_reckon 20 = .ok (.getfield 162, 3) := dk_180 0 162 (dk_at dksX0_reckon_0 20 rfl rfl)
theorem dX0_reckon_23 : decode cX0_reckon 23 = .ok (.iload_n 2, 1) := dk_28 (dk_at dksX0_reckon_0 23 rfl rfl)
theorem dX0_reckon_24 : decode cX0_reckon 24 = .ok (.aaload, 1) := dk_50 (dk_at dksX0_reckon_1 0 rfl rfl)
theorem dX0_reckon_25 : decode cX0_reckon 25 = .ok (.getfield 283, 3) := dk_180 1 27 (dk_at dksX0_reckon_1 1 rfl rfl)
theorem dX0_reckon_28 : decode cX0_reckon 28 = .ok (.aload_n 1, 1) := dk_43 (dk_at dksX0_reckon_1 4 rfl rfl)
theorem dX0_reckon_29 : decode cX0_reckon 29 = .ok (.getfield 280, 3) := dk_180 1 24 (dk_at dksX0_reckon_1 5 rfl rfl)
theorem dX0_reckon_32 : decode cX0_reckon 32 = .ok (.invokevirtual 286, 3) := dk_182 1 30 (dk_at dksX0_reckon_1 8 rfl rfl)
theorem dX0_reckon_35 : decode cX0_reckon 35 = .ok (.aload_n 0, 1) := dk_42 (dk_at dksX0_reckon_1 11 rfl rfl)
theorem dX0_reckon_36 : decode cX0_reckon 36 = .ok (.aload_n 1, 1) := dk_43 (dk_at dksX0_reckon_1 12 rfl rfl)
theorem dX0_reckon_37 : decode cX0_reckon 37 = .ok (.getfield 162, 3) := dk_180 0 162 (dk_at dksX0_reckon_1 13 rfl rfl)
theorem dX0_reckon_40 : decode cX0_reckon 40 = .ok (.iload_n 2, 1) := dk_28 (dk_at dksX0_reckon_1 16 rfl rfl)
theorem dX0_reckon_41 : decode cX0_reckon 41 = .ok (.aaload, 1) := dk_50 (dk_at dksX0_reckon_1 17 rfl rfl)
theorem dX0_reckon_42 : decode cX0_reckon 42 = .ok (.aconst_null, 1) := dk_1 (dk_at dksX0_reckon_1 18 rfl rfl)
theorem dX0_reckon_43 : decode cX0_reckon 43 = .ok (.aload_n 0, 1) := dk_42 (dk_at dksX0_reckon_1 19 rfl rfl)
theorem dX0_reckon_44 : decode cX0_reckon 44 = .ok (.getfield 91, 3) := dk_180 0 91 (dk_at dksX0_reckon_1 20 rfl rfl)
theorem dX0_reckon_47 : decode cX0_reckon 47 = .ok (.invokevirtual 289, 3) := dk_182 1 33 (dk_at dksX0_reckon_2 0 rfl rfl)
theorem dX0_reckon_50 : decode cX0_reckon 50 = .ok (.aload_n 1, 1) := dk_43 (dk_at dksX0_reckon_2 3 rfl rfl)
theorem dX0_reckon_51 : decode cX0_reckon 51 = .ok (.getfield 280, 3) := dk_180 1 24 (dk_at dksX0_reckon_2 4 rfl rfl)
theorem dX0_reckon_54 : decode cX0_reckon 54 = .ok (.aload_n 0, 1) := dk_42 (dk_at dksX0_reckon_2 7 rfl rfl)
theorem dX0_reckon_55 : decode cX0_reckon 55 = .ok (.getfield 91, 3) := dk_180 0 91 (dk_at dksX0_reckon_2 8 rfl rfl)
theorem dX0_reckon_58 : decode cX0_reckon 58 = .ok (.invokevirtual 138, 3) := dk_182 0 138 (dk_at dksX0_reckon_2 11 rfl rfl)
theorem dX0_reckon_61 : decode cX0_reckon 61 = .ok (.iinc 2 1, 3) := dk_132 2 1 (dk_at dksX0_reckon_2 14 rfl rfl)
theorem dX0_reckon_64 : decode cX0_reckon 64 = .ok (.goto (-53), 3) := dk_167 255 203 (dk_at dksX0_reckon_2 17 rfl rfl)
theorem dX0_reckon_67 : decode cX0_reckon 67 = .ok (.return_, 1) := dk_177 (dk_at dksX0_reckon_2 20 rfl rfl)
abbrev cX0_timeOf : ByteArray := prog_1_method_27_code
def yX0_timeOf : MethodName := ⟨RX0, "timeOf", "(LStaveScore$Event;LStaveScore$Tuplet;LStaveScore$Fraction;)V"⟩
def dkwX0_timeOf_3 : List UInt8 := [133, 182, 1, 21, 132, 4, 1, 167, 255, 185, 177]
abbrev dktX0_timeOf_3 : List UInt8 := dkwX0_timeOf_3 ++ []
def dkwX0_timeOf_2 : List UInt8 := [198, 0, 12, 25, 5, 44, 182, 1, 11, 153, 0, 19, 45, 25, 5, 180, 1, 15, 133, 25, 5, 180, 1, 18]
abbrev dktX0_timeOf_2 : List UInt8 := dkwX0_timeOf_2 ++ dktX0_timeOf_3
def dkwX0_timeOf_1 : List UInt8 := [58, 5, 25, 5, 198, 0, 48, 25, 5, 43, 180, 0, 176, 43, 180, 0, 165, 182, 1, 7, 153, 0, 32, 44]
abbrev dktX0_timeOf_1 : List UInt8 := dkwX0_timeOf_1 ++ dktX0_timeOf_2
def dkwX0_timeOf_0 : List UInt8 := [43, 45, 182, 1, 4, 3, 54, 4, 21, 4, 42, 180, 0, 114, 162, 0, 68, 42, 180, 0, 55, 21, 4, 50]
abbrev dktX0_timeOf_0 : List UInt8 := dkwX0_timeOf_0 ++ dktX0_timeOf_1
theorem dksX0_timeOf_0 : cX0_timeOf.data.toList.drop 0 = dktX0_timeOf_0 := by decide +kernel
theorem dksX0_timeOf_1 : cX0_timeOf.data.toList.drop 24 = dktX0_timeOf_1 := dk_seg dksX0_timeOf_0 24 rfl rfl
theorem dksX0_timeOf_2 : cX0_timeOf.data.toList.drop 48 = dktX0_timeOf_2 := dk_seg dksX0_timeOf_1 24 rfl rfl
theorem dksX0_timeOf_3 : cX0_timeOf.data.toList.drop 72 = dktX0_timeOf_3 := dk_seg dksX0_timeOf_2 24 rfl rfl
theorem dX0_timeOf_0 : decode cX0_timeOf 0 = .ok (.aload_n 1, 1) := dk_43 (dk_at dksX0_timeOf_0 0 rfl rfl)
theorem dX0_timeOf_1 : decode cX0_timeOf 1 = .ok (.aload_n 3, 1) := dk_45 (dk_at dksX0_timeOf_0 1 rfl rfl)
theorem dX0_timeOf_2 : decode cX0_timeOf 2 = .ok (.invokevirtual 260, 3) := dk_182 1 4 (dk_at dksX0_timeOf_0 2 rfl rfl)
theorem dX0_timeOf_5 : decode cX0_timeOf 5 = .ok (.iconst 0, 1) := dk_3 (dk_at dksX0_timeOf_0 5 rfl rfl)
theorem dX0_timeOf_6 : decode cX0_timeOf 6 = .ok (.istore 4, 2) := dk_54 4 (dk_at dksX0_timeOf_0 6 rfl rfl)
theorem dX0_timeOf_8 : decode cX0_timeOf 8 = .ok (.iload 4, 2) := dk_21 4 (dk_at dksX0_timeOf_0 8 rfl rfl)
theorem dX0_timeOf_10 : decode cX0_timeOf 10 = .ok (.aload_n 0, 1) := dk_42 (dk_at dksX0_timeOf_0 10 rfl rfl)
theorem dX0_timeOf_11 : decode cX0_timeOf 11 = .ok (.getfield 114, 3) := dk_180 0 114 (dk_at dksX0_timeOf_0 11 rfl rfl)
theorem dX0_timeOf_14 : decode cX0_timeOf 14 = .ok (.if_icmp .ge 68, 3) := dk_162 0 68 (dk_at dksX0_timeOf_0 14 rfl rfl)
theorem dX0_timeOf_17 : decode cX0_timeOf 17 = .ok (.aload_n 0, 1) := dk_42 (dk_at dksX0_timeOf_0 17 rfl rfl)
theorem dX0_timeOf_18 : decode cX0_timeOf 18 = .ok (.getfield 55, 3) := dk_180 0 55 (dk_at dksX0_timeOf_0 18 rfl rfl)
theorem dX0_timeOf_21 : decode cX0_timeOf 21 = .ok (.iload 4, 2) := dk_21 4 (dk_at dksX0_timeOf_0 21 rfl rfl)
theorem dX0_timeOf_23 : decode cX0_timeOf 23 = .ok (.aaload, 1) := dk_50 (dk_at dksX0_timeOf_0 23 rfl rfl)
theorem dX0_timeOf_24 : decode cX0_timeOf 24 = .ok (.astore 5, 2) := dk_58 5 (dk_at dksX0_timeOf_1 0 rfl rfl)
theorem dX0_timeOf_26 : decode cX0_timeOf 26 = .ok (.aload 5, 2) := dk_25 5 (dk_at dksX0_timeOf_1 2 rfl rfl)
theorem dX0_timeOf_28 : decode cX0_timeOf 28 = .ok (.ifnull 48, 3) := dk_198 0 48 (dk_at dksX0_timeOf_1 4 rfl rfl)
theorem dX0_timeOf_31 : decode cX0_timeOf 31 = .ok (.aload 5, 2) := dk_25 5 (dk_at dksX0_timeOf_1 7 rfl rfl)
theorem dX0_timeOf_33 : decode cX0_timeOf 33 = .ok (.aload_n 1, 1) := dk_43 (dk_at dksX0_timeOf_1 9 rfl rfl)
theorem dX0_timeOf_34 : decode cX0_timeOf 34 = .ok (.getfield 176, 3) := dk_180 0 176 (dk_at dksX0_timeOf_1 10 rfl rfl)
theorem dX0_timeOf_37 : decode cX0_timeOf 37 = .ok (.aload_n 1, 1) := dk_43 (dk_at dksX0_timeOf_1 13 rfl rfl)
theorem dX0_timeOf_38 : decode cX0_timeOf 38 = .ok (.getfield 165, 3) := dk_180 0 165 (dk_at dksX0_timeOf_1 14 rfl rfl)
theorem dX0_timeOf_41 : decode cX0_timeOf 41 = .ok (.invokevirtual 263, 3) := dk_182 1 7 (dk_at dksX0_timeOf_1 17 rfl rfl)
theorem dX0_timeOf_44 : decode cX0_timeOf 44 = .ok (.ifCond .eq 32, 3) := dk_153 0 32 (dk_at dksX0_timeOf_1 20 rfl rfl)
theorem dX0_timeOf_47 : decode cX0_timeOf 47 = .ok (.aload_n 2, 1) := dk_44 (dk_at dksX0_timeOf_1 23 rfl rfl)
theorem dX0_timeOf_48 : decode cX0_timeOf 48 = .ok (.ifnull 12, 3) := dk_198 0 12 (dk_at dksX0_timeOf_2 0 rfl rfl)
theorem dX0_timeOf_51 : decode cX0_timeOf 51 = .ok (.aload 5, 2) := dk_25 5 (dk_at dksX0_timeOf_2 3 rfl rfl)
theorem dX0_timeOf_53 : decode cX0_timeOf 53 = .ok (.aload_n 2, 1) := dk_44 (dk_at dksX0_timeOf_2 5 rfl rfl)
theorem dX0_timeOf_54 : decode cX0_timeOf 54 = .ok (.invokevirtual 267, 3) := dk_182 1 11 (dk_at dksX0_timeOf_2 6 rfl rfl)
theorem dX0_timeOf_57 : decode cX0_timeOf 57 = .ok (.ifCond .eq 19, 3) := dk_153 0 19 (dk_at dksX0_timeOf_2 9 rfl rfl)
theorem dX0_timeOf_60 : decode cX0_timeOf 60 = .ok (.aload_n 3, 1) := dk_45 (dk_at dksX0_timeOf_2 12 rfl rfl)
theorem dX0_timeOf_61 : decode cX0_timeOf 61 = .ok (.aload 5, 2) := dk_25 5 (dk_at dksX0_timeOf_2 13 rfl rfl)
theorem dX0_timeOf_63 : decode cX0_timeOf 63 = .ok (.getfield 271, 3) := dk_180 1 15 (dk_at dksX0_timeOf_2 15 rfl rfl)
theorem dX0_timeOf_66 : decode cX0_timeOf 66 = .ok (.i2l, 1) := dk_133 (dk_at dksX0_timeOf_2 18 rfl rfl)
theorem dX0_timeOf_67 : decode cX0_timeOf 67 = .ok (.aload 5, 2) := dk_25 5 (dk_at dksX0_timeOf_2 19 rfl rfl)
theorem dX0_timeOf_69 : decode cX0_timeOf 69 = .ok (.getfield 274, 3) := dk_180 1 18 (dk_at dksX0_timeOf_2 21 rfl rfl)
theorem dX0_timeOf_72 : decode cX0_timeOf 72 = .ok (.i2l, 1) := dk_133 (dk_at dksX0_timeOf_3 0 rfl rfl)
theorem dX0_timeOf_73 : decode cX0_timeOf 73 = .ok (.invokevirtual 277, 3) := dk_182 1 21 (dk_at dksX0_timeOf_3 1 rfl rfl)
theorem dX0_timeOf_76 : decode cX0_timeOf 76 = .ok (.iinc 4 1, 3) := dk_132 4 1 (dk_at dksX0_timeOf_3 4 rfl rfl)
theorem dX0_timeOf_79 : decode cX0_timeOf 79 = .ok (.goto (-71), 3) := dk_167 255 185 (dk_at dksX0_timeOf_3 7 rfl rfl)
theorem dX0_timeOf_82 : decode cX0_timeOf 82 = .ok (.return_, 1) := dk_177 (dk_at dksX0_timeOf_3 10 rfl rfl)
abbrev cX0_barOf : ByteArray := prog_1_method_29_code
def yX0_barOf : MethodName := ⟨RX0, "barOf", "(LStaveScore$Fraction;)I"⟩
def dkwX0_barOf_1 : List UInt8 := [42, 180, 0, 37, 28, 4, 96, 50, 182, 1, 37, 156, 0, 5, 28, 172, 132, 2, 1, 167, 255, 215, 2, 172]
abbrev dktX0_barOf_1 : List UInt8 := dkwX0_barOf_1 ++ []
def dkwX0_barOf_0 : List UInt8 := [3, 61, 28, 42, 180, 0, 131, 162, 0, 39, 43, 42, 180, 0, 37, 28, 50, 182, 1, 37, 155, 0, 20, 43]
abbrev dktX0_barOf_0 : List UInt8 := dkwX0_barOf_0 ++ dktX0_barOf_1
theorem dksX0_barOf_0 : cX0_barOf.data.toList.drop 0 = dktX0_barOf_0 := by decide +kernel
theorem dksX0_barOf_1 : cX0_barOf.data.toList.drop 24 = dktX0_barOf_1 := dk_seg dksX0_barOf_0 24 rfl rfl
theorem dX0_barOf_0 : decode cX0_barOf 0 = .ok (.iconst 0, 1) := dk_3 (dk_at dksX0_barOf_0 0 rfl rfl)
theorem dX0_barOf_1 : decode cX0_barOf 1 = .ok (.istore_n 2, 1) := dk_61 (dk_at dksX0_barOf_0 1 rfl rfl)
theorem dX0_barOf_2 : decode cX0_barOf 2 = .ok (.iload_n 2, 1) := dk_28 (dk_at dksX0_barOf_0 2 rfl rfl)
theorem dX0_barOf_3 : decode cX0_barOf 3 = .ok (.aload_n 0, 1) := dk_42 (dk_at dksX0_barOf_0 3 rfl rfl)
theorem dX0_barOf_4 : decode cX0_barOf 4 = .ok (.getfield 131, 3) := dk_180 0 131 (dk_at dksX0_barOf_0 4 rfl rfl)
theorem dX0_barOf_7 : decode cX0_barOf 7 = .ok (.if_icmp .ge 39, 3) := dk_162 0 39 (dk_at dksX0_barOf_0 7 rfl rfl)
theorem dX0_barOf_10 : decode cX0_barOf 10 = .ok (.aload_n 1, 1) := dk_43 (dk_at dksX0_barOf_0 10 rfl rfl)
theorem dX0_barOf_11 : decode cX0_barOf 11 = .ok (.aload_n 0, 1) := dk_42 (dk_at dksX0_barOf_0 11 rfl rfl)
theorem dX0_barOf_12 : decode cX0_barOf 12 = .ok (.getfield 37, 3) := dk_180 0 37 (dk_at dksX0_barOf_0 12 rfl rfl)
theorem dX0_barOf_15 : decode cX0_barOf 15 = .ok (.iload_n 2, 1) := dk_28 (dk_at dksX0_barOf_0 15 rfl rfl)
theorem dX0_barOf_16 : decode cX0_barOf 16 = .ok (.aaload, 1) := dk_50 (dk_at dksX0_barOf_0 16 rfl rfl)
theorem dX0_barOf_17 : decode cX0_barOf 17 = .ok (.invokevirtual 293, 3) := dk_182 1 37 (dk_at dksX0_barOf_0 17 rfl rfl)
theorem dX0_barOf_20 : decode cX0_barOf 20 = .ok (.ifCond .lt 20, 3) := dk_155 0 20 (dk_at dksX0_barOf_0 20 rfl rfl)
theorem dX0_barOf_23 : decode cX0_barOf 23 = .ok (.aload_n 1, 1) := dk_43 (dk_at dksX0_barOf_0 23 rfl rfl)
theorem dX0_barOf_24 : decode cX0_barOf 24 = .ok (.aload_n 0, 1) := dk_42 (dk_at dksX0_barOf_1 0 rfl rfl)
theorem dX0_barOf_25 : decode cX0_barOf 25 = .ok (.getfield 37, 3) := dk_180 0 37 (dk_at dksX0_barOf_1 1 rfl rfl)
theorem dX0_barOf_28 : decode cX0_barOf 28 = .ok (.iload_n 2, 1) := dk_28 (dk_at dksX0_barOf_1 4 rfl rfl)
theorem dX0_barOf_29 : decode cX0_barOf 29 = .ok (.iconst 1, 1) := dk_4 (dk_at dksX0_barOf_1 5 rfl rfl)
theorem dX0_barOf_30 : decode cX0_barOf 30 = .ok (.iadd, 1) := dk_96 (dk_at dksX0_barOf_1 6 rfl rfl)
theorem dX0_barOf_31 : decode cX0_barOf 31 = .ok (.aaload, 1) := dk_50 (dk_at dksX0_barOf_1 7 rfl rfl)
theorem dX0_barOf_32 : decode cX0_barOf 32 = .ok (.invokevirtual 293, 3) := dk_182 1 37 (dk_at dksX0_barOf_1 8 rfl rfl)
theorem dX0_barOf_35 : decode cX0_barOf 35 = .ok (.ifCond .ge 5, 3) := dk_156 0 5 (dk_at dksX0_barOf_1 11 rfl rfl)
theorem dX0_barOf_38 : decode cX0_barOf 38 = .ok (.iload_n 2, 1) := dk_28 (dk_at dksX0_barOf_1 14 rfl rfl)
theorem dX0_barOf_39 : decode cX0_barOf 39 = .ok (.ireturn, 1) := dk_172 (dk_at dksX0_barOf_1 15 rfl rfl)
theorem dX0_barOf_40 : decode cX0_barOf 40 = .ok (.iinc 2 1, 3) := dk_132 2 1 (dk_at dksX0_barOf_1 16 rfl rfl)
theorem dX0_barOf_43 : decode cX0_barOf 43 = .ok (.goto (-41), 3) := dk_167 255 215 (dk_at dksX0_barOf_1 19 rfl rfl)
theorem dX0_barOf_46 : decode cX0_barOf 46 = .ok (.iconst (-1), 1) := dk_2 (dk_at dksX0_barOf_1 22 rfl rfl)
theorem dX0_barOf_47 : decode cX0_barOf 47 = .ok (.ireturn, 1) := dk_172 (dk_at dksX0_barOf_1 23 rfl rfl)
abbrev cX0_time : ByteArray := prog_1_method_32_code
def yX0_time : MethodName := ⟨RX0, "time", "(II)J"⟩
def dkwX0_time_6 : List UInt8 := [182, 1, 59, 173]
abbrev dktX0_time_6 : List UInt8 := dkwX0_time_6 ++ []
def dkwX0_time_5 : List UInt8 := [180, 1, 27, 167, 0, 10, 42, 180, 0, 37, 21, 4, 50, 182, 1, 63, 42, 180, 0, 95, 28, 5, 112]
abbrev dktX0_time_5 : List UInt8 := dkwX0_time_5 ++ dktX0_time_6
def dkwX0_time_4 : List UInt8 := [164, 0, 40, 42, 42, 180, 0, 95, 182, 1, 56, 54, 4, 42, 180, 0, 95, 21, 4, 2, 160, 0, 10, 45]
abbrev dktX0_time_4 : List UInt8 := dkwX0_time_4 ++ dktX0_time_5
def dkwX0_time_3 : List UInt8 := [180, 0, 43, 45, 180, 0, 176, 50, 182, 1, 52, 42, 180, 0, 95, 45, 180, 1, 27, 182, 1, 30, 28, 6]
abbrev dktX0_time_3 : List UInt8 := dkwX0_time_3 ++ dktX0_time_4
def dkwX0_time_2 : List UInt8 := [45, 1, 42, 180, 0, 95, 182, 1, 33, 42, 180, 0, 95, 28, 5, 100, 182, 1, 59, 173, 42, 42]
abbrev dktX0_time_2 : List UInt8 := dkwX0_time_2 ++ dktX0_time_3
def dkwX0_time_1 : List UInt8 := [173, 42, 3, 181, 0, 100, 42, 180, 0, 49, 27, 50, 78, 28, 5, 159, 0, 8, 28, 6, 160, 0, 24, 42]
abbrev dktX0_time_1 : List UInt8 := dkwX0_time_1 ++ dktX0_time_2
def dkwX0_time_0 : List UInt8 := [42, 27, 182, 0, 207, 153, 0, 12, 28, 3, 8, 184, 0, 107, 154, 0, 11, 42, 16, 254, 182, 0, 120, 133]
abbrev dktX0_time_0 : List UInt8 := dkwX0_time_0 ++ dktX0_time_1
theorem dksX0_time_0 : cX0_time.data.toList.drop 0 = dktX0_time_0 := by decide +kernel
theorem dksX0_time_1 : cX0_time.data.toList.drop 24 = dktX0_time_1 := dk_seg dksX0_time_0 24 rfl rfl
theorem dksX0_time_2 : cX0_time.data.toList.drop 48 = dktX0_time_2 := dk_seg dksX0_time_1 24 rfl rfl
theorem dksX0_time_3 : cX0_time.data.toList.drop 70 = dktX0_time_3 := dk_seg dksX0_time_2 22 rfl rfl
theorem dksX0_time_4 : cX0_time.data.toList.drop 94 = dktX0_time_4 := dk_seg dksX0_time_3 24 rfl rfl
theorem dksX0_time_5 : cX0_time.data.toList.drop 118 = dktX0_time_5 := dk_seg dksX0_time_4 24 rfl rfl
theorem dksX0_time_6 : cX0_time.data.toList.drop 141 = dktX0_time_6 := dk_seg dksX0_time_5 23 rfl rfl
theorem dX0_time_0 : decode cX0_time 0 = .ok (.aload_n 0, 1) := dk_42 (dk_at dksX0_time_0 0 rfl rfl)
theorem dX0_time_1 : decode cX0_time 1 = .ok (.iload_n 1, 1) := dk_27 (dk_at dksX0_time_0 1 rfl rfl)
theorem dX0_time_2 : decode cX0_time 2 = .ok (.invokevirtual 207, 3) := dk_182 0 207 (dk_at dksX0_time_0 2 rfl rfl)
theorem dX0_time_5 : decode cX0_time 5 = .ok (.ifCond .eq 12, 3) := dk_153 0 12 (dk_at dksX0_time_0 5 rfl rfl)
theorem dX0_time_8 : decode cX0_time 8 = .ok (.iload_n 2, 1) := dk_28 (dk_at dksX0_time_0 8 rfl rfl)
theorem dX0_time_9 : decode cX0_time 9 = .ok (.iconst 0, 1) := dk_3 (dk_at dksX0_time_0 9 rfl rfl)
theorem dX0_time_10 : decode cX0_time 10 = .ok (.iconst 5, 1) := dk_8 (dk_at dksX0_time_0 10 rfl rfl)
theorem dX0_time_11 : decode cX0_time 11 = .ok (.invokestatic 107, 3) := dk_184 0 107 (dk_at dksX0_time_0 11 rfl rfl)
theorem dX0_time_14 : decode cX0_time 14 = .ok (.ifCond .ne 11, 3) := dk_154 0 11 (dk_at dksX0_time_0 14 rfl rfl)
theorem dX0_time_17 : decode cX0_time 17 = .ok (.aload_n 0, 1) := dk_42 (dk_at dksX0_time_0 17 rfl rfl)
theorem dX0_time_18 : decode cX0_time 18 = .ok (.bipush (-2), 2) := dk_16 254 (dk_at dksX0_time_0 18 rfl rfl)
theorem dX0_time_20 : decode cX0_time 20 = .ok (.invokevirtual 120, 3) := dk_182 0 120 (dk_at dksX0_time_0 20 rfl rfl)
theorem dX0_time_23 : decode cX0_time 23 = .ok (.i2l, 1) := dk_133 (dk_at dksX0_time_0 23 rfl rfl)
theorem dX0_time_24 : decode cX0_time 24 = .ok (.lreturn, 1) := dk_173 (dk_at dksX0_time_1 0 rfl rfl)
theorem dX0_time_25 : decode cX0_time 25 = .ok (.aload_n 0, 1) := dk_42 (dk_at dksX0_time_1 1 rfl rfl)
theorem dX0_time_26 : decode cX0_time 26 = .ok (.iconst 0, 1) := dk_3 (dk_at dksX0_time_1 2 rfl rfl)
theorem dX0_time_27 : decode cX0_time 27 = .ok (.putfield 100, 3) := dk_181 0 100 (dk_at dksX0_time_1 3 rfl rfl)
theorem dX0_time_30 : decode cX0_time 30 = .ok (.aload_n 0, 1) := dk_42 (dk_at dksX0_time_1 6 rfl rfl)
theorem dX0_time_31 : decode cX0_time 31 = .ok (.getfield 49, 3) := dk_180 0 49 (dk_at dksX0_time_1 7 rfl rfl)
theorem dX0_time_34 : decode cX0_time 34 = .ok (.iload_n 1, 1) := dk_27 (dk_at dksX0_time_1 10 rfl rfl)
theorem dX0_time_35 : decode cX0_time 35 = .ok (.aaload, 1) := dk_50 (dk_at dksX0_time_1 11 rfl rfl)
theorem dX0_time_36 : decode cX0_time 36 = .ok (.astore_n 3, 1) := dk_78 (dk_at dksX0_time_1 12 rfl rfl)
theorem dX0_time_37 : decode cX0_time 37 = .ok (.iload_n 2, 1) := dk_28 (dk_at dksX0_time_1 13 rfl rfl)
theorem dX0_time_38 : decode cX0_time 38 = .ok (.iconst 2, 1) := dk_5 (dk_at dksX0_time_1 14 rfl rfl)
theorem dX0_time_39 : decode cX0_time 39 = .ok (.if_icmp .eq 8, 3) := dk_159 0 8 (dk_at dksX0_time_1 15 rfl rfl)
theorem dX0_time_42 : decode cX0_time 42 = .ok (.iload_n 2, 1) := dk_28 (dk_at dksX0_time_1 18 rfl rfl)
theorem dX0_time_43 : decode cX0_time 43 = .ok (.iconst 3, 1) := dk_6 (dk_at dksX0_time_1 19 rfl rfl)
theorem dX0_time_44 : decode cX0_time 44 = .ok (.if_icmp .ne 24, 3) := dk_160 0 24 (dk_at dksX0_time_1 20 rfl rfl)
theorem dX0_time_47 : decode cX0_time 47 = .ok (.aload_n 0, 1) := dk_42 (dk_at dksX0_time_1 23 rfl rfl)
theorem dX0_time_48 : decode cX0_time 48 = .ok (.aload_n 3, 1) := dk_45 (dk_at dksX0_time_2 0 rfl rfl)
theorem dX0_time_49 : decode cX0_time 49 = .ok (.aconst_null, 1) := dk_1 (dk_at dksX0_time_2 1 rfl rfl)
theorem dX0_time_50 : decode cX0_time 50 = .ok (.aload_n 0, 1) := dk_42 (dk_at dksX0_time_2 2 rfl rfl)
theorem dX0_time_51 : decode cX0_time 51 = .ok (.getfield 95, 3) := dk_180 0 95 (dk_at dksX0_time_2 3 rfl rfl)
theorem dX0_time_54 : decode cX0_time 54 = .ok (.invokevirtual 289, 3) := dk_182 1 33 (dk_at dksX0_time_2 6 rfl rfl)
theorem dX0_time_57 : decode cX0_time 57 = .ok (.aload_n 0, 1) := dk_42 (dk_at dksX0_time_2 9 rfl rfl)
theorem dX0_time_58 : decode cX0_time 58 = .ok (.getfield 95, 3) := dk_180 0 95 (dk_at dksX0_time_2 10 rfl rfl)
theorem dX0_time_61 : decode cX0_time 61 = .ok (.iload_n 2, 1) := dk_28 (dk_at dksX0_time_2 13 rfl rfl)
theorem dX0_time_62 : decode cX0_time 62 = .ok (.iconst 2, 1) := dk_5 (dk_at dksX0_time_2 14 rfl rfl)
theorem dX0_time_63 : decode cX0_time 63 = .ok (.isub, 1) := dk_100 (dk_at dksX0_time_2 15 rfl rfl)
theorem dX0_time_64 : decode cX0_time 64 = .ok (.invokevirtual 315, 3) := dk_182 1 59 (dk_at dksX0_time_2 16 rfl rfl)
theorem dX0_time_67 : decode cX0_time 67 = .ok (.lreturn, 1) := dk_173 (dk_at dksX0_time_2 19 rfl rfl)
theorem dX0_time_68 : decode cX0_time 68 = .ok (.aload_n 0, 1) := dk_42 (dk_at dksX0_time_2 20 rfl rfl)
theorem dX0_time_69 : decode cX0_time 69 = .ok (.aload_n 0, 1) := dk_42 (dk_at dksX0_time_2 21 rfl rfl)
theorem dX0_time_70 : decode cX0_time 70 = .ok (.getfield 43, 3) := dk_180 0 43 (dk_at dksX0_time_3 0 rfl rfl)
theorem dX0_time_73 : decode cX0_time 73 = .ok (.aload_n 3, 1) := dk_45 (dk_at dksX0_time_3 3 rfl rfl)
theorem dX0_time_74 : decode cX0_time 74 = .ok (.getfield 176, 3) := dk_180 0 176 (dk_at dksX0_time_3 4 rfl rfl)
theorem dX0_time_77 : decode cX0_time 77 = .ok (.aaload, 1) := dk_50 (dk_at dksX0_time_3 7 rfl rfl)
theorem dX0_time_78 : decode cX0_time 78 = .ok (.invokevirtual 308, 3) := dk_182 1 52 (dk_at dksX0_time_3 8 rfl rfl)
theorem dX0_time_81 : decode cX0_time 81 = .ok (.aload_n 0, 1) := dk_42 (dk_at dksX0_time_3 11 rfl rfl)
theorem dX0_time_82 : decode cX0_time 82 = .ok (.getfield 95, 3) := dk_180 0 95 (dk_at dksX0_time_3 12 rfl rfl)
theorem dX0_time_85 : decode cX0_time 85 = .ok (.aload_n 3, 1) := dk_45 (dk_at dksX0_time_3 15 rfl rfl)
theorem dX0_time_86 : decode cX0_time 86 = .ok (.getfield 283, 3) := dk_180 1 27 (dk_at dksX0_time_3 16 rfl rfl)
theorem dX0_time_89 : decode cX0_time 89 = .ok (.invokevirtual 286, 3) := dk_182 1 30 (dk_at dksX0_time_3 19 rfl rfl)
theorem dX0_time_92 : decode cX0_time 92 = .ok (.iload_n 2, 1) := dk_28 (dk_at dksX0_time_3 22 rfl rfl)
theorem dX0_time_93 : decode cX0_time 93 = .ok (.iconst 3, 1) := dk_6 (dk_at dksX0_time_3 23 rfl rfl)
theorem dX0_time_94 : decode cX0_time 94 = .ok (.if_icmp .le 40, 3) := dk_164 0 40 (dk_at dksX0_time_4 0 rfl rfl)
theorem dX0_time_97 : decode cX0_time 97 = .ok (.aload_n 0, 1) := dk_42 (dk_at dksX0_time_4 3 rfl rfl)
theorem dX0_time_98 : decode cX0_time 98 = .ok (.aload_n 0, 1) := dk_42 (dk_at dksX0_time_4 4 rfl rfl)
theorem dX0_time_99 : decode cX0_time 99 = .ok (.getfield 95, 3) := dk_180 0 95 (dk_at dksX0_time_4 5 rfl rfl)
theorem dX0_time_102 : decode cX0_time 102 = .ok (.invokevirtual 312, 3) := dk_182 1 56 (dk_at dksX0_time_4 8 rfl rfl)
theorem dX0_time_105 : decode cX0_time 105 = .ok (.istore 4, 2) := dk_54 4 (dk_at dksX0_time_4 11 rfl rfl)
theorem dX0_time_107 : decode cX0_time 107 = .ok (.aload_n 0, 1) := dk_42 (dk_at dksX0_time_4 13 rfl rfl)
theorem dX0_time_108 : decode cX0_time 108 = .ok (.getfield 95, 3) := dk_180 0 95 (dk_at dksX0_time_4 14 rfl rfl)
theorem dX0_time_111 : decode cX0_time 111 = .ok (.iload 4, 2) := dk_21 4 (dk_at dksX0_time_4 17 rfl rfl)
theorem dX0_time_113 : decode cX0_time 113 = .ok (.iconst (-1), 1) := dk_2 (dk_at dksX0_time_4 19 rfl rfl)
theorem dX0_time_114 : decode cX0_time 114 = .ok (.if_icmp .ne 10, 3) := dk_160 0 10 (dk_at dksX0_time_4 20 rfl rfl)
theorem dX0_time_117 : decode cX0_time 117 = .ok (.aload_n 3, 1) := dk_45 (dk_at dksX0_time_4 23 rfl rfl)
theorem dX0_time_118 : decode cX0_time 118 = .ok (.getfield 283, 3) := dk_180 1 27 (dk_at dksX0_time_5 0 rfl rfl)
theorem dX0_time_121 : decode cX0_time 121 = .ok (.goto 10, 3) := dk_167 0 10 (dk_at dksX0_time_5 3 rfl rfl)
theorem dX0_time_124 : decode cX0_time 124 = .ok (.aload_n 0, 1) := dk_42 (dk_at dksX0_time_5 6 rfl rfl)
theorem dX0_time_125 : decode cX0_time 125 = .ok (.getfield 37, 3) := dk_180 0 37 (dk_at dksX0_time_5 7 rfl rfl)
theorem dX0_time_128 : decode cX0_time 128 = .ok (.iload 4, 2) := dk_21 4 (dk_at dksX0_time_5 10 rfl rfl)
theorem dX0_time_130 : decode cX0_time 130 = .ok (.aaload, 1) := dk_50 (dk_at dksX0_time_5 12 rfl rfl)
theorem dX0_time_131 : decode cX0_time 131 = .ok (.invokevirtual 319, 3) := dk_182 1 63 (dk_at dksX0_time_5 13 rfl rfl)
theorem dX0_time_134 : decode cX0_time 134 = .ok (.aload_n 0, 1) := dk_42 (dk_at dksX0_time_5 16 rfl rfl)
theorem dX0_time_135 : decode cX0_time 135 = .ok (.getfield 95, 3) := dk_180 0 95 (dk_at dksX0_time_5 17 rfl rfl)
theorem dX0_time_138 : decode cX0_time 138 = .ok (.iload_n 2, 1) := dk_28 (dk_at dksX0_time_5 20 rfl rfl)
theorem dX0_time_139 : decode cX0_time 139 = .ok (.iconst 2, 1) := dk_5 (dk_at dksX0_time_5 21 rfl rfl)
theorem dX0_time_140 : decode cX0_time 140 = .ok (.irem, 1) := dk_112 (dk_at dksX0_time_5 22 rfl rfl)
theorem dX0_time_141 : decode cX0_time 141 = .ok (.invokevirtual 315, 3) := dk_182 1 59 (dk_at dksX0_time_6 0 rfl rfl)
theorem dX0_time_144 : decode cX0_time 144 = .ok (.lreturn, 1) := dk_173 (dk_at dksX0_time_6 3 rfl rfl)
abbrev cX0_length : ByteArray := prog_1_method_33_code
def yX0_length : MethodName := ⟨RX0, "length", "(II)J"⟩
def dkwX0_length_2 : List UInt8 := [180, 1, 24, 28, 182, 1, 59, 173]
abbrev dktX0_length_2 : List UInt8 := dkwX0_length_2 ++ []
def dkwX0_length_1 : List UInt8 := [173, 42, 3, 181, 0, 100, 42, 42, 180, 0, 43, 27, 50, 182, 1, 52, 42, 180, 0, 43, 27, 50]
abbrev dktX0_length_1 : List UInt8 := dkwX0_length_1 ++ dktX0_length_2
def dkwX0_length_0 : List UInt8 := [42, 27, 182, 0, 168, 153, 0, 12, 28, 3, 4, 184, 0, 107, 154, 0, 11, 42, 16, 254, 182, 0, 120, 133]
abbrev dktX0_length_0 : List UInt8 := dkwX0_length_0 ++ dktX0_length_1
theorem dksX0_length_0 : cX0_length.data.toList.drop 0 = dktX0_length_0 := by decide +kernel
theorem dksX0_length_1 : cX0_length.data.toList.drop 24 = dktX0_length_1 := dk_seg dksX0_length_0 24 rfl rfl
theorem dksX0_length_2 : cX0_length.data.toList.drop 46 = dktX0_length_2 := dk_seg dksX0_length_1 22 rfl rfl
theorem dX0_length_0 : decode cX0_length 0 = .ok (.aload_n 0, 1) := dk_42 (dk_at dksX0_length_0 0 rfl rfl)
theorem dX0_length_1 : decode cX0_length 1 = .ok (.iload_n 1, 1) := dk_27 (dk_at dksX0_length_0 1 rfl rfl)
theorem dX0_length_2 : decode cX0_length 2 = .ok (.invokevirtual 168, 3) := dk_182 0 168 (dk_at dksX0_length_0 2 rfl rfl)
theorem dX0_length_5 : decode cX0_length 5 = .ok (.ifCond .eq 12, 3) := dk_153 0 12 (dk_at dksX0_length_0 5 rfl rfl)
theorem dX0_length_8 : decode cX0_length 8 = .ok (.iload_n 2, 1) := dk_28 (dk_at dksX0_length_0 8 rfl rfl)
theorem dX0_length_9 : decode cX0_length 9 = .ok (.iconst 0, 1) := dk_3 (dk_at dksX0_length_0 9 rfl rfl)
theorem dX0_length_10 : decode cX0_length 10 = .ok (.iconst 1, 1) := dk_4 (dk_at dksX0_length_0 10 rfl rfl)
theorem dX0_length_11 : decode cX0_length 11 = .ok (.invokestatic 107, 3) := dk_184 0 107 (dk_at dksX0_length_0 11 rfl rfl)
theorem dX0_length_14 : decode cX0_length 14 = .ok (.ifCond .ne 11, 3) := dk_154 0 11 (dk_at dksX0_length_0 14 rfl rfl)
theorem dX0_length_17 : decode cX0_length 17 = .ok (.aload_n 0, 1) := dk_42 (dk_at dksX0_length_0 17 rfl rfl)
theorem dX0_length_18 : decode cX0_length 18 = .ok (.bipush (-2), 2) := dk_16 254 (dk_at dksX0_length_0 18 rfl rfl)
theorem dX0_length_20 : decode cX0_length 20 = .ok (.invokevirtual 120, 3) := dk_182 0 120 (dk_at dksX0_length_0 20 rfl rfl)
theorem dX0_length_23 : decode cX0_length 23 = .ok (.i2l, 1) := dk_133 (dk_at dksX0_length_0 23 rfl rfl)
theorem dX0_length_24 : decode cX0_length 24 = .ok (.lreturn, 1) := dk_173 (dk_at dksX0_length_1 0 rfl rfl)
theorem dX0_length_25 : decode cX0_length 25 = .ok (.aload_n 0, 1) := dk_42 (dk_at dksX0_length_1 1 rfl rfl)
theorem dX0_length_26 : decode cX0_length 26 = .ok (.iconst 0, 1) := dk_3 (dk_at dksX0_length_1 2 rfl rfl)
theorem dX0_length_27 : decode cX0_length 27 = .ok (.putfield 100, 3) := dk_181 0 100 (dk_at dksX0_length_1 3 rfl rfl)
theorem dX0_length_30 : decode cX0_length 30 = .ok (.aload_n 0, 1) := dk_42 (dk_at dksX0_length_1 6 rfl rfl)
theorem dX0_length_31 : decode cX0_length 31 = .ok (.aload_n 0, 1) := dk_42 (dk_at dksX0_length_1 7 rfl rfl)
theorem dX0_length_32 : decode cX0_length 32 = .ok (.getfield 43, 3) := dk_180 0 43 (dk_at dksX0_length_1 8 rfl rfl)
theorem dX0_length_35 : decode cX0_length 35 = .ok (.iload_n 1, 1) := dk_27 (dk_at dksX0_length_1 11 rfl rfl)
theorem dX0_length_36 : decode cX0_length 36 = .ok (.aaload, 1) := dk_50 (dk_at dksX0_length_1 12 rfl rfl)
theorem dX0_length_37 : decode cX0_length 37 = .ok (.invokevirtual 308, 3) := dk_182 1 52 (dk_at dksX0_length_1 13 rfl rfl)
theorem dX0_length_40 : decode cX0_length 40 = .ok (.aload_n 0, 1) := dk_42 (dk_at dksX0_length_1 16 rfl rfl)
theorem dX0_length_41 : decode cX0_length 41 = .ok (.getfield 43, 3) := dk_180 0 43 (dk_at dksX0_length_1 17 rfl rfl)
theorem dX0_length_44 : decode cX0_length 44 = .ok (.iload_n 1, 1) := dk_27 (dk_at dksX0_length_1 20 rfl rfl)
theorem dX0_length_45 : decode cX0_length 45 = .ok (.aaload, 1) := dk_50 (dk_at dksX0_length_1 21 rfl rfl)
theorem dX0_length_46 : decode cX0_length 46 = .ok (.getfield 280, 3) := dk_180 1 24 (dk_at dksX0_length_2 0 rfl rfl)
theorem dX0_length_49 : decode cX0_length 49 = .ok (.iload_n 2, 1) := dk_28 (dk_at dksX0_length_2 3 rfl rfl)
theorem dX0_length_50 : decode cX0_length 50 = .ok (.invokevirtual 315, 3) := dk_182 1 59 (dk_at dksX0_length_2 4 rfl rfl)
theorem dX0_length_53 : decode cX0_length 53 = .ok (.lreturn, 1) := dk_173 (dk_at dksX0_length_2 7 rfl rfl)
abbrev cX0_event : ByteArray := prog_1_method_34_code
def yX0_event : MethodName := ⟨RX0, "event", "(II)I"⟩
def dkwX0_event_2 : List UInt8 := [167, 0, 4, 2, 182, 0, 128, 172]
abbrev dktX0_event_2 : List UInt8 := dkwX0_event_2 ++ []
def dkwX0_event_1 : List UInt8 := [3, 45, 180, 0, 159, 4, 100, 184, 0, 107, 153, 0, 15, 45, 180, 0, 162, 28, 50, 180, 1, 66]
abbrev dktX0_event_1 : List UInt8 := dkwX0_event_1 ++ dktX0_event_2
def dkwX0_event_0 : List UInt8 := [42, 27, 182, 0, 168, 154, 0, 10, 42, 16, 254, 182, 0, 120, 172, 42, 180, 0, 43, 27, 50, 78, 42, 28]
abbrev dktX0_event_0 : List UInt8 := dkwX0_event_0 ++ dktX0_event_1
theorem dksX0_event_0 : cX0_event.data.toList.drop 0 = dktX0_event_0 := by decide +kernel
theorem dksX0_event_1 : cX0_event.data.toList.drop 24 = dktX0_event_1 := dk_seg dksX0_event_0 24 rfl rfl
theorem dksX0_event_2 : cX0_event.data.toList.drop 46 = dktX0_event_2 := dk_seg dksX0_event_1 22 rfl rfl
theorem dX0_event_0 : decode cX0_event 0 = .ok (.aload_n 0, 1) := dk_42 (dk_at dksX0_event_0 0 rfl rfl)
theorem dX0_event_1 : decode cX0_event 1 = .ok (.iload_n 1, 1) := dk_27 (dk_at dksX0_event_0 1 rfl rfl)
theorem dX0_event_2 : decode cX0_event 2 = .ok (.invokevirtual 168, 3) := dk_182 0 168 (dk_at dksX0_event_0 2 rfl rfl)
theorem dX0_event_5 : decode cX0_event 5 = .ok (.ifCond .ne 10, 3) := dk_154 0 10 (dk_at dksX0_event_0 5 rfl rfl)
theorem dX0_event_8 : decode cX0_event 8 = .ok (.aload_n 0, 1) := dk_42 (dk_at dksX0_event_0 8 rfl rfl)
theorem dX0_event_9 : decode cX0_event 9 = .ok (.bipush (-2), 2) := dk_16 254 (dk_at dksX0_event_0 9 rfl rfl)
theorem dX0_event_11 : decode cX0_event 11 = .ok (.invokevirtual 120, 3) := dk_182 0 120 (dk_at dksX0_event_0 11 rfl rfl)
theorem dX0_event_14 : decode cX0_event 14 = .ok (.ireturn, 1) := dk_172 (dk_at dksX0_event_0 14 rfl rfl)
theorem dX0_event_15 : decode cX0_event 15 = .ok (.aload_n 0, 1) := dk_42 (dk_at dksX0_event_0 15 rfl rfl)
theorem dX0_event_16 : decode cX0_event 16 = .ok (.getfield 43, 3) := dk_180 0 43 (dk_at dksX0_event_0 16 rfl rfl)
theorem dX0_event_19 : decode cX0_event 19 = .ok (.iload_n 1, 1) := dk_27 (dk_at dksX0_event_0 19 rfl rfl)
theorem dX0_event_20 : decode cX0_event 20 = .ok (.aaload, 1) := dk_50 (dk_at dksX0_event_0 20 rfl rfl)
theorem dX0_event_21 : decode cX0_event 21 = .ok (.astore_n 3, 1) := dk_78 (dk_at dksX0_event_0 21 rfl rfl)
theorem dX0_event_22 : decode cX0_event 22 = .ok (.aload_n 0, 1) := dk_42 (dk_at dksX0_event_0 22 rfl rfl)
theorem dX0_event_23 : decode cX0_event 23 = .ok (.iload_n 2, 1) := dk_28 (dk_at dksX0_event_0 23 rfl rfl)
theorem dX0_event_24 : decode cX0_event 24 = .ok (.iconst 0, 1) := dk_3 (dk_at dksX0_event_1 0 rfl rfl)
theorem dX0_event_25 : decode cX0_event 25 = .ok (.aload_n 3, 1) := dk_45 (dk_at dksX0_event_1 1 rfl rfl)
theorem dX0_event_26 : decode cX0_event 26 = .ok (.getfield 159, 3) := dk_180 0 159 (dk_at dksX0_event_1 2 rfl rfl)
theorem dX0_event_29 : decode cX0_event 29 = .ok (.iconst 1, 1) := dk_4 (dk_at dksX0_event_1 5 rfl rfl)
theorem dX0_event_30 : decode cX0_event 30 = .ok (.isub, 1) := dk_100 (dk_at dksX0_event_1 6 rfl rfl)
theorem dX0_event_31 : decode cX0_event 31 = .ok (.invokestatic 107, 3) := dk_184 0 107 (dk_at dksX0_event_1 7 rfl rfl)
theorem dX0_event_34 : decode cX0_event 34 = .ok (.ifCond .eq 15, 3) := dk_153 0 15 (dk_at dksX0_event_1 10 rfl rfl)
theorem dX0_event_37 : decode cX0_event 37 = .ok (.aload_n 3, 1) := dk_45 (dk_at dksX0_event_1 13 rfl rfl)
theorem dX0_event_38 : decode cX0_event 38 = .ok (.getfield 162, 3) := dk_180 0 162 (dk_at dksX0_event_1 14 rfl rfl)
theorem dX0_event_41 : decode cX0_event 41 = .ok (.iload_n 2, 1) := dk_28 (dk_at dksX0_event_1 17 rfl rfl)
theorem dX0_event_42 : decode cX0_event 42 = .ok (.aaload, 1) := dk_50 (dk_at dksX0_event_1 18 rfl rfl)
theorem dX0_event_43 : decode cX0_event 43 = .ok (.getfield 322, 3) := dk_180 1 66 (dk_at dksX0_event_1 19 rfl rfl)
theorem dX0_event_46 : decode cX0_event 46 = .ok (.goto 4, 3) := dk_167 0 4 (dk_at dksX0_event_2 0 rfl rfl)
theorem dX0_event_49 : decode cX0_event 49 = .ok (.iconst (-1), 1) := dk_2 (dk_at dksX0_event_2 3 rfl rfl)
theorem dX0_event_50 : decode cX0_event 50 = .ok (.invokevirtual 128, 3) := dk_182 0 128 (dk_at dksX0_event_2 4 rfl rfl)
theorem dX0_event_53 : decode cX0_event 53 = .ok (.ireturn, 1) := dk_172 (dk_at dksX0_event_2 7 rfl rfl)
abbrev cX0_asks : ByteArray := prog_1_method_35_code
def yX0_asks : MethodName := ⟨RX0, "asks", "(III)I"⟩
def dkwX0_asks_3 : List UInt8 := [167, 0, 10, 25, 4, 185, 1, 71, 1, 0, 182, 0, 128, 172]
abbrev dktX0_asks_3 : List UInt8 := dkwX0_asks_3 ++ []
def dkwX0_asks_2 : List UInt8 := [25, 4, 29, 185, 0, 243, 2, 0, 167, 0, 25, 28, 4, 160, 0, 13, 25, 4, 185, 1, 68, 1, 0]
abbrev dktX0_asks_2 : List UInt8 := dkwX0_asks_2 ++ dktX0_asks_3
def dkwX0_asks_1 : List UInt8 := [16, 254, 182, 0, 120, 87, 17, 248, 48, 172, 42, 180, 0, 31, 27, 50, 58, 4, 42, 28, 154, 0, 14]
abbrev dktX0_asks_1 : List UInt8 := dkwX0_asks_1 ++ dktX0_asks_2
def dkwX0_asks_0 : List UInt8 := [27, 3, 42, 180, 0, 104, 4, 100, 184, 0, 107, 153, 0, 12, 28, 3, 5, 184, 0, 107, 154, 0, 14, 42]
abbrev dktX0_asks_0 : List UInt8 := dkwX0_asks_0 ++ dktX0_asks_1
theorem dksX0_asks_0 : cX0_asks.data.toList.drop 0 = dktX0_asks_0 := by decide +kernel
theorem dksX0_asks_1 : cX0_asks.data.toList.drop 24 = dktX0_asks_1 := dk_seg dksX0_asks_0 24 rfl rfl
theorem dksX0_asks_2 : cX0_asks.data.toList.drop 47 = dktX0_asks_2 := dk_seg dksX0_asks_1 23 rfl rfl
theorem dksX0_asks_3 : cX0_asks.data.toList.drop 70 = dktX0_asks_3 := dk_seg dksX0_asks_2 23 rfl rfl
theorem dX0_asks_0 : decode cX0_asks 0 = .ok (.iload_n 1, 1) := dk_27 (dk_at dksX0_asks_0 0 rfl rfl)
theorem dX0_asks_1 : decode cX0_asks 1 = .ok (.iconst 0, 1) := dk_3 (dk_at dksX0_asks_0 1 rfl rfl)
theorem dX0_asks_2 : decode cX0_asks 2 = .ok (.aload_n 0, 1) := dk_42 (dk_at dksX0_asks_0 2 rfl rfl)
theorem dX0_asks_3 : decode cX0_asks 3 = .ok (.getfield 104, 3) := dk_180 0 104 (dk_at dksX0_asks_0 3 rfl rfl)
theorem dX0_asks_6 : decode cX0_asks 6 = .ok (.iconst 1, 1) := dk_4 (dk_at dksX0_asks_0 6 rfl rfl)
theorem dX0_asks_7 : decode cX0_asks 7 = .ok (.isub, 1) := dk_100 (dk_at dksX0_asks_0 7 rfl rfl)
theorem dX0_asks_8 : decode cX0_asks 8 = .ok (.invokestatic 107, 3) := dk_184 0 107 (dk_at dksX0_asks_0 8 rfl rfl)
theorem dX0_asks_11 : decode cX0_asks 11 = .ok (.ifCond .eq 12, 3) := dk_153 0 12 (dk_at dksX0_asks_0 11 rfl rfl)
theorem dX0_asks_14 : decode cX0_asks 14 = .ok (.iload_n 2, 1) := dk_28 (dk_at dksX0_asks_0 14 rfl rfl)
theorem dX0_asks_15 : decode cX0_asks 15 = .ok (.iconst 0, 1) := dk_3 (dk_at dksX0_asks_0 15 rfl rfl)
theorem dX0_asks_16 : decode cX0_asks 16 = .ok (.iconst 2, 1) := dk_5 (dk_at dksX0_asks_0 16 rfl rfl)
theorem dX0_asks_17 : decode cX0_asks 17 = .ok (.invokestatic 107, 3) := dk_184 0 107 (dk_at dksX0_asks_0 17 rfl rfl)
theorem dX0_asks_20 : decode cX0_asks 20 = .ok (.ifCond .ne 14, 3) := dk_154 0 14 (dk_at dksX0_asks_0 20 rfl rfl)
theorem dX0_asks_23 : decode cX0_asks 23 = .ok (.aload_n 0, 1) := dk_42 (dk_at dksX0_asks_0 23 rfl rfl)
theorem dX0_asks_24 : decode cX0_asks 24 = .ok (.bipush (-2), 2) := dk_16 254 (dk_at dksX0_asks_1 0 rfl rfl)
theorem dX0_asks_26 : decode cX0_asks 26 = .ok (.invokevirtual 120, 3) := dk_182 0 120 (dk_at dksX0_asks_1 2 rfl rfl)
theorem dX0_asks_29 : decode cX0_asks 29 = .ok (.pop, 1) := dk_87 (dk_at dksX0_asks_1 5 rfl rfl)
theorem dX0_asks_30 : decode cX0_asks 30 = .ok (.sipush (-2000), 3) := dk_17 248 48 (dk_at dksX0_asks_1 6 rfl rfl)
theorem dX0_asks_33 : decode cX0_asks 33 = .ok (.ireturn, 1) := dk_172 (dk_at dksX0_asks_1 9 rfl rfl)
theorem dX0_asks_34 : decode cX0_asks 34 = .ok (.aload_n 0, 1) := dk_42 (dk_at dksX0_asks_1 10 rfl rfl)
theorem dX0_asks_35 : decode cX0_asks 35 = .ok (.getfield 31, 3) := dk_180 0 31 (dk_at dksX0_asks_1 11 rfl rfl)
theorem dX0_asks_38 : decode cX0_asks 38 = .ok (.iload_n 1, 1) := dk_27 (dk_at dksX0_asks_1 14 rfl rfl)
theorem dX0_asks_39 : decode cX0_asks 39 = .ok (.aaload, 1) := dk_50 (dk_at dksX0_asks_1 15 rfl rfl)
theorem dX0_asks_40 : decode cX0_asks 40 = .ok (.astore 4, 2) := dk_58 4 (dk_at dksX0_asks_1 16 rfl rfl)
theorem dX0_asks_42 : decode cX0_asks 42 = .ok (.aload_n 0, 1) := dk_42 (dk_at dksX0_asks_1 18 rfl rfl)
theorem dX0_asks_43 : decode cX0_asks 43 = .ok (.iload_n 2, 1) := dk_28 (dk_at dksX0_asks_1 19 rfl rfl)
theorem dX0_asks_44 : decode cX0_asks 44 = .ok (.ifCond .ne 14, 3) := dk_154 0 14 (dk_at dksX0_asks_1 20 rfl rfl)
theorem dX0_asks_47 : decode cX0_asks 47 = .ok (.aload 4, 2) := dk_25 4 (dk_at dksX0_asks_2 0 rfl rfl)
theorem dX0_asks_49 : decode cX0_asks 49 = .ok (.iload_n 3, 1) := dk_29 (dk_at dksX0_asks_2 2 rfl rfl)
theorem dX0_asks_50 : decode cX0_asks 50 = .ok (.invokeinterface 243 2, 5) := by decide +kernel
theorem dX0_asks_55 : decode cX0_asks 55 = .ok (.goto 25, 3) := dk_167 0 25 (dk_at dksX0_asks_2 8 rfl rfl)
theorem dX0_asks_58 : decode cX0_asks 58 = .ok (.iload_n 2, 1) := dk_28 (dk_at dksX0_asks_2 11 rfl rfl)
theorem dX0_asks_59 : decode cX0_asks 59 = .ok (.iconst 1, 1) := dk_4 (dk_at dksX0_asks_2 12 rfl rfl)
theorem dX0_asks_60 : decode cX0_asks 60 = .ok (.if_icmp .ne 13, 3) := dk_160 0 13 (dk_at dksX0_asks_2 13 rfl rfl)
theorem dX0_asks_63 : decode cX0_asks 63 = .ok (.aload 4, 2) := dk_25 4 (dk_at dksX0_asks_2 16 rfl rfl)
theorem dX0_asks_65 : decode cX0_asks 65 = .ok (.invokeinterface 324 1, 5) := by decide +kernel
theorem dX0_asks_70 : decode cX0_asks 70 = .ok (.goto 10, 3) := dk_167 0 10 (dk_at dksX0_asks_3 0 rfl rfl)
theorem dX0_asks_73 : decode cX0_asks 73 = .ok (.aload 4, 2) := dk_25 4 (dk_at dksX0_asks_3 3 rfl rfl)
theorem dX0_asks_75 : decode cX0_asks 75 = .ok (.invokeinterface 327 1, 5) := by decide +kernel
theorem dX0_asks_80 : decode cX0_asks 80 = .ok (.invokevirtual 128, 3) := dk_182 0 128 (dk_at dksX0_asks_3 10 rfl rfl)
theorem dX0_asks_83 : decode cX0_asks 83 = .ok (.ireturn, 1) := dk_172 (dk_at dksX0_asks_3 13 rfl rfl)
abbrev cX0_tuplet : ByteArray := prog_1_method_36_code
def yX0_tuplet : MethodName := ⟨RX0, "tuplet", "(IIIIII)I"⟩
def dkwX0_tuplet_7 : List UInt8 := [180, 0, 114, 4, 96, 181, 0, 114, 42, 42, 180, 0, 114, 4, 100, 182, 0, 128, 172]
abbrev dktX0_tuplet_7 : List UInt8 := dkwX0_tuplet_7 ++ []
def dkwX0_tuplet_6 : List UInt8 := [160, 0, 10, 42, 16, 252, 182, 0, 120, 172, 42, 180, 0, 55, 42, 180, 0, 114, 25, 8, 83, 42, 89]
abbrev dktX0_tuplet_6 : List UInt8 := dkwX0_tuplet_6 ++ dktX0_tuplet_7
def dkwX0_tuplet_5 : List UInt8 := [58, 8, 42, 25, 8, 182, 1, 77, 154, 0, 10, 42, 16, 253, 182, 0, 120, 172, 42, 180, 0, 114, 16, 20]
abbrev dktX0_tuplet_5 : List UInt8 := dkwX0_tuplet_5 ++ dktX0_tuplet_6
def dkwX0_tuplet_4 : List UInt8 := [187, 0, 53, 89, 42, 180, 0, 114, 27, 28, 28, 29, 96, 4, 100, 21, 4, 21, 5, 21, 6, 183, 1, 74]
abbrev dktX0_tuplet_4 : List UInt8 := dkwX0_tuplet_4 ++ dktX0_tuplet_5
def dkwX0_tuplet_3 : List UInt8 := [153, 0, 7, 4, 167, 0, 4, 3, 54, 7, 21, 7, 154, 0, 10, 42, 16, 254, 182, 0, 120, 172]
abbrev dktX0_tuplet_3 : List UInt8 := dkwX0_tuplet_3 ++ dktX0_tuplet_4
def dkwX0_tuplet_2 : List UInt8 := [184, 0, 107, 153, 0, 28, 21, 5, 4, 16, 8, 184, 0, 107, 153, 0, 17, 21, 6, 3, 8, 184, 0, 107]
abbrev dktX0_tuplet_2 : List UInt8 := dkwX0_tuplet_2 ++ dktX0_tuplet_3
def dkwX0_tuplet_1 : List UInt8 := [180, 0, 43, 27, 50, 180, 0, 159, 133, 148, 157, 0, 45, 21, 4, 6, 159, 0, 14, 21, 4, 8, 16, 7]
abbrev dktX0_tuplet_1 : List UInt8 := dkwX0_tuplet_1 ++ dktX0_tuplet_2
def dkwX0_tuplet_0 : List UInt8 := [42, 27, 182, 0, 168, 153, 0, 72, 28, 155, 0, 68, 29, 158, 0, 64, 28, 133, 29, 133, 97, 42]
abbrev dktX0_tuplet_0 : List UInt8 := dkwX0_tuplet_0 ++ dktX0_tuplet_1
theorem dksX0_tuplet_0 : cX0_tuplet.data.toList.drop 0 = dktX0_tuplet_0 := by decide +kernel
theorem dksX0_tuplet_1 : cX0_tuplet.data.toList.drop 22 = dktX0_tuplet_1 := dk_seg dksX0_tuplet_0 22 rfl rfl
theorem dksX0_tuplet_2 : cX0_tuplet.data.toList.drop 46 = dktX0_tuplet_2 := dk_seg dksX0_tuplet_1 24 rfl rfl
theorem dksX0_tuplet_3 : cX0_tuplet.data.toList.drop 70 = dktX0_tuplet_3 := dk_seg dksX0_tuplet_2 24 rfl rfl
theorem dksX0_tuplet_4 : cX0_tuplet.data.toList.drop 92 = dktX0_tuplet_4 := dk_seg dksX0_tuplet_3 22 rfl rfl
theorem dksX0_tuplet_5 : cX0_tuplet.data.toList.drop 116 = dktX0_tuplet_5 := dk_seg dksX0_tuplet_4 24 rfl rfl
theorem dksX0_tuplet_6 : cX0_tuplet.data.toList.drop 140 = dktX0_tuplet_6 := dk_seg dksX0_tuplet_5 24 rfl rfl
theorem dksX0_tuplet_7 : cX0_tuplet.data.toList.drop 163 = dktX0_tuplet_7 := dk_seg dksX0_tuplet_6 23 rfl rfl
theorem dX0_tuplet_0 : decode cX0_tuplet 0 = .ok (.aload_n 0, 1) := dk_42 (dk_at dksX0_tuplet_0 0 rfl rfl)
theorem dX0_tuplet_1 : decode cX0_tuplet 1 = .ok (.iload_n 1, 1) := dk_27 (dk_at dksX0_tuplet_0 1 rfl rfl)
theorem dX0_tuplet_2 : decode cX0_tuplet 2 = .ok (.invokevirtual 168, 3) := dk_182 0 168 (dk_at dksX0_tuplet_0 2 rfl rfl)
theorem dX0_tuplet_5 : decode cX0_tuplet 5 = .ok (.ifCond .eq 72, 3) := dk_153 0 72 (dk_at dksX0_tuplet_0 5 rfl rfl)
theorem dX0_tuplet_8 : decode cX0_tuplet 8 = .ok (.iload_n 2, 1) := dk_28 (dk_at dksX0_tuplet_0 8 rfl rfl)
theorem dX0_tuplet_9 : decode cX0_tuplet 9 = .ok (.ifCond .lt 68, 3) := dk_155 0 68 (dk_at dksX0_tuplet_0 9 rfl rfl)
theorem dX0_tuplet_12 : decode cX0_tuplet 12 = .ok (.iload_n 3, 1) := dk_29 (dk_at dksX0_tuplet_0 12 rfl rfl)
theorem dX0_tuplet_13 : decode cX0_tuplet 13 = .ok (.ifCond .le 64, 3) := dk_158 0 64 (dk_at dksX0_tuplet_0 13 rfl rfl)
theorem dX0_tuplet_16 : decode cX0_tuplet 16 = .ok (.iload_n 2, 1) := dk_28 (dk_at dksX0_tuplet_0 16 rfl rfl)
theorem dX0_tuplet_17 : decode cX0_tuplet 17 = .ok (.i2l, 1) := dk_133 (dk_at dksX0_tuplet_0 17 rfl rfl)
theorem dX0_tuplet_18 : decode cX0_tuplet 18 = .ok (.iload_n 3, 1) := dk_29 (dk_at dksX0_tuplet_0 18 rfl rfl)
theorem dX0_tuplet_19 : decode cX0_tuplet 19 = .ok (.i2l, 1) := dk_133 (dk_at dksX0_tuplet_0 19 rfl rfl)
theorem dX0_tuplet_20 : decode cX0_tuplet 20 = .ok (.ladd, 1) := dk_97 (dk_at dksX0_tuplet_0 20 rfl rfl)
theorem dX0_tuplet_21 : decode cX0_tuplet 21 = .ok (.aload_n 0, 1) := dk_42 (dk_at dksX0_tuplet_0 21 rfl rfl)
theorem dX0_tuplet_22 : decode cX0_tuplet 22 = .ok (.getfield 43, 3) := dk_180 0 43 (dk_at dksX0_tuplet_1 0 rfl rfl)
theorem dX0_tuplet_25 : decode cX0_tuplet 25 = .ok (.iload_n 1, 1) := dk_27 (dk_at dksX0_tuplet_1 3 rfl rfl)
theorem dX0_tuplet_26 : decode cX0_tuplet 26 = .ok (.aaload, 1) := dk_50 (dk_at dksX0_tuplet_1 4 rfl rfl)
theorem dX0_tuplet_27 : decode cX0_tuplet 27 = .ok (.getfield 159, 3) := dk_180 0 159 (dk_at dksX0_tuplet_1 5 rfl rfl)
theorem dX0_tuplet_30 : decode cX0_tuplet 30 = .ok (.i2l, 1) := dk_133 (dk_at dksX0_tuplet_1 8 rfl rfl)
theorem dX0_tuplet_31 : decode cX0_tuplet 31 = .ok (.lcmp, 1) := dk_148 (dk_at dksX0_tuplet_1 9 rfl rfl)
theorem dX0_tuplet_32 : decode cX0_tuplet 32 = .ok (.ifCond .gt 45, 3) := dk_157 0 45 (dk_at dksX0_tuplet_1 10 rfl rfl)
theorem dX0_tuplet_35 : decode cX0_tuplet 35 = .ok (.iload 4, 2) := dk_21 4 (dk_at dksX0_tuplet_1 13 rfl rfl)
theorem dX0_tuplet_37 : decode cX0_tuplet 37 = .ok (.iconst 3, 1) := dk_6 (dk_at dksX0_tuplet_1 15 rfl rfl)
theorem dX0_tuplet_38 : decode cX0_tuplet 38 = .ok (.if_icmp .eq 14, 3) := dk_159 0 14 (dk_at dksX0_tuplet_1 16 rfl rfl)
theorem dX0_tuplet_41 : decode cX0_tuplet 41 = .ok (.iload 4, 2) := dk_21 4 (dk_at dksX0_tuplet_1 19 rfl rfl)
theorem dX0_tuplet_43 : decode cX0_tuplet 43 = .ok (.iconst 5, 1) := dk_8 (dk_at dksX0_tuplet_1 21 rfl rfl)
theorem dX0_tuplet_44 : decode cX0_tuplet 44 = .ok (.bipush 7, 2) := dk_16 7 (dk_at dksX0_tuplet_1 22 rfl rfl)
theorem dX0_tuplet_46 : decode cX0_tuplet 46 = .ok (.invokestatic 107, 3) := dk_184 0 107 (dk_at dksX0_tuplet_2 0 rfl rfl)
theorem dX0_tuplet_49 : decode cX0_tuplet 49 = .ok (.ifCond .eq 28, 3) := dk_153 0 28 (dk_at dksX0_tuplet_2 3 rfl rfl)
theorem dX0_tuplet_52 : decode cX0_tuplet 52 = .ok (.iload 5, 2) := dk_21 5 (dk_at dksX0_tuplet_2 6 rfl rfl)
theorem dX0_tuplet_54 : decode cX0_tuplet 54 = .ok (.iconst 1, 1) := dk_4 (dk_at dksX0_tuplet_2 8 rfl rfl)
theorem dX0_tuplet_55 : decode cX0_tuplet 55 = .ok (.bipush 8, 2) := dk_16 8 (dk_at dksX0_tuplet_2 9 rfl rfl)
theorem dX0_tuplet_57 : decode cX0_tuplet 57 = .ok (.invokestatic 107, 3) := dk_184 0 107 (dk_at dksX0_tuplet_2 11 rfl rfl)
theorem dX0_tuplet_60 : decode cX0_tuplet 60 = .ok (.ifCond .eq 17, 3) := dk_153 0 17 (dk_at dksX0_tuplet_2 14 rfl rfl)
theorem dX0_tuplet_63 : decode cX0_tuplet 63 = .ok (.iload 6, 2) := dk_21 6 (dk_at dksX0_tuplet_2 17 rfl rfl)
theorem dX0_tuplet_65 : decode cX0_tuplet 65 = .ok (.iconst 0, 1) := dk_3 (dk_at dksX0_tuplet_2 19 rfl rfl)
theorem dX0_tuplet_66 : decode cX0_tuplet 66 = .ok (.iconst 5, 1) := dk_8 (dk_at dksX0_tuplet_2 20 rfl rfl)
theorem dX0_tuplet_67 : decode cX0_tuplet 67 = .ok (.invokestatic 107, 3) := dk_184 0 107 (dk_at dksX0_tuplet_2 21 rfl rfl)
theorem dX0_tuplet_70 : decode cX0_tuplet 70 = .ok (.ifCond .eq 7, 3) := dk_153 0 7 (dk_at dksX0_tuplet_3 0 rfl rfl)
theorem dX0_tuplet_73 : decode cX0_tuplet 73 = .ok (.iconst 1, 1) := dk_4 (dk_at dksX0_tuplet_3 3 rfl rfl)
theorem dX0_tuplet_74 : decode cX0_tuplet 74 = .ok (.goto 4, 3) := dk_167 0 4 (dk_at dksX0_tuplet_3 4 rfl rfl)
theorem dX0_tuplet_77 : decode cX0_tuplet 77 = .ok (.iconst 0, 1) := dk_3 (dk_at dksX0_tuplet_3 7 rfl rfl)
theorem dX0_tuplet_78 : decode cX0_tuplet 78 = .ok (.istore 7, 2) := dk_54 7 (dk_at dksX0_tuplet_3 8 rfl rfl)
theorem dX0_tuplet_80 : decode cX0_tuplet 80 = .ok (.iload 7, 2) := dk_21 7 (dk_at dksX0_tuplet_3 10 rfl rfl)
theorem dX0_tuplet_82 : decode cX0_tuplet 82 = .ok (.ifCond .ne 10, 3) := dk_154 0 10 (dk_at dksX0_tuplet_3 12 rfl rfl)
theorem dX0_tuplet_85 : decode cX0_tuplet 85 = .ok (.aload_n 0, 1) := dk_42 (dk_at dksX0_tuplet_3 15 rfl rfl)
theorem dX0_tuplet_86 : decode cX0_tuplet 86 = .ok (.bipush (-2), 2) := dk_16 254 (dk_at dksX0_tuplet_3 16 rfl rfl)
theorem dX0_tuplet_88 : decode cX0_tuplet 88 = .ok (.invokevirtual 120, 3) := dk_182 0 120 (dk_at dksX0_tuplet_3 18 rfl rfl)
theorem dX0_tuplet_91 : decode cX0_tuplet 91 = .ok (.ireturn, 1) := dk_172 (dk_at dksX0_tuplet_3 21 rfl rfl)
theorem dX0_tuplet_92 : decode cX0_tuplet 92 = .ok (.new 53, 3) := dk_187 0 53 (dk_at dksX0_tuplet_4 0 rfl rfl)
theorem dX0_tuplet_95 : decode cX0_tuplet 95 = .ok (.dup, 1) := dk_89 (dk_at dksX0_tuplet_4 3 rfl rfl)
theorem dX0_tuplet_96 : decode cX0_tuplet 96 = .ok (.aload_n 0, 1) := dk_42 (dk_at dksX0_tuplet_4 4 rfl rfl)
theorem dX0_tuplet_97 : decode cX0_tuplet 97 = .ok (.getfield 114, 3) := dk_180 0 114 (dk_at dksX0_tuplet_4 5 rfl rfl)
theorem dX0_tuplet_100 : decode cX0_tuplet 100 = .ok (.iload_n 1, 1) := dk_27 (dk_at dksX0_tuplet_4 8 rfl rfl)
theorem dX0_tuplet_101 : decode cX0_tuplet 101 = .ok (.iload_n 2, 1) := dk_28 (dk_at dksX0_tuplet_4 9 rfl rfl)
theorem dX0_tuplet_102 : decode cX0_tuplet 102 = .ok (.iload_n 2, 1) := dk_28 (dk_at dksX0_tuplet_4 10 rfl rfl)
theorem dX0_tuplet_103 : decode cX0_tuplet 103 = .ok (.iload_n 3, 1) := dk_29 (dk_at dksX0_tuplet_4 11 rfl rfl)
theorem dX0_tuplet_104 : decode cX0_tuplet 104 = .ok (.iadd, 1) := dk_96 (dk_at dksX0_tuplet_4 12 rfl rfl)
theorem dX0_tuplet_105 : decode cX0_tuplet 105 = .ok (.iconst 1, 1) := dk_4 (dk_at dksX0_tuplet_4 13 rfl rfl)
theorem dX0_tuplet_106 : decode cX0_tuplet 106 = .ok (.isub, 1) := dk_100 (dk_at dksX0_tuplet_4 14 rfl rfl)
theorem dX0_tuplet_107 : decode cX0_tuplet 107 = .ok (.iload 4, 2) := dk_21 4 (dk_at dksX0_tuplet_4 15 rfl rfl)
theorem dX0_tuplet_109 : decode cX0_tuplet 109 = .ok (.iload 5, 2) := dk_21 5 (dk_at dksX0_tuplet_4 17 rfl rfl)
theorem dX0_tuplet_111 : decode cX0_tuplet 111 = .ok (.iload 6, 2) := dk_21 6 (dk_at dksX0_tuplet_4 19 rfl rfl)
theorem dX0_tuplet_113 : decode cX0_tuplet 113 = .ok (.invokespecial 330, 3) := dk_183 1 74 (dk_at dksX0_tuplet_4 21 rfl rfl)
theorem dX0_tuplet_116 : decode cX0_tuplet 116 = .ok (.astore 8, 2) := dk_58 8 (dk_at dksX0_tuplet_5 0 rfl rfl)
theorem dX0_tuplet_118 : decode cX0_tuplet 118 = .ok (.aload_n 0, 1) := dk_42 (dk_at dksX0_tuplet_5 2 rfl rfl)
theorem dX0_tuplet_119 : decode cX0_tuplet 119 = .ok (.aload 8, 2) := dk_25 8 (dk_at dksX0_tuplet_5 3 rfl rfl)
theorem dX0_tuplet_121 : decode cX0_tuplet 121 = .ok (.invokevirtual 333, 3) := dk_182 1 77 (dk_at dksX0_tuplet_5 5 rfl rfl)
theorem dX0_tuplet_124 : decode cX0_tuplet 124 = .ok (.ifCond .ne 10, 3) := dk_154 0 10 (dk_at dksX0_tuplet_5 8 rfl rfl)
theorem dX0_tuplet_127 : decode cX0_tuplet 127 = .ok (.aload_n 0, 1) := dk_42 (dk_at dksX0_tuplet_5 11 rfl rfl)
theorem dX0_tuplet_128 : decode cX0_tuplet 128 = .ok (.bipush (-3), 2) := dk_16 253 (dk_at dksX0_tuplet_5 12 rfl rfl)
theorem dX0_tuplet_130 : decode cX0_tuplet 130 = .ok (.invokevirtual 120, 3) := dk_182 0 120 (dk_at dksX0_tuplet_5 14 rfl rfl)
theorem dX0_tuplet_133 : decode cX0_tuplet 133 = .ok (.ireturn, 1) := dk_172 (dk_at dksX0_tuplet_5 17 rfl rfl)
theorem dX0_tuplet_134 : decode cX0_tuplet 134 = .ok (.aload_n 0, 1) := dk_42 (dk_at dksX0_tuplet_5 18 rfl rfl)
theorem dX0_tuplet_135 : decode cX0_tuplet 135 = .ok (.getfield 114, 3) := dk_180 0 114 (dk_at dksX0_tuplet_5 19 rfl rfl)
theorem dX0_tuplet_138 : decode cX0_tuplet 138 = .ok (.bipush 20, 2) := dk_16 20 (dk_at dksX0_tuplet_5 22 rfl rfl)
theorem dX0_tuplet_140 : decode cX0_tuplet 140 = .ok (.if_icmp .ne 10, 3) := dk_160 0 10 (dk_at dksX0_tuplet_6 0 rfl rfl)
theorem dX0_tuplet_143 : decode cX0_tuplet 143 = .ok (.aload_n 0, 1) := dk_42 (dk_at dksX0_tuplet_6 3 rfl rfl)
theorem dX0_tuplet_144 : decode cX0_tuplet 144 = .ok (.bipush (-4), 2) := dk_16 252 (dk_at dksX0_tuplet_6 4 rfl rfl)
theorem dX0_tuplet_146 : decode cX0_tuplet 146 = .ok (.invokevirtual 120, 3) := dk_182 0 120 (dk_at dksX0_tuplet_6 6 rfl rfl)
theorem dX0_tuplet_149 : decode cX0_tuplet 149 = .ok (.ireturn, 1) := dk_172 (dk_at dksX0_tuplet_6 9 rfl rfl)
theorem dX0_tuplet_150 : decode cX0_tuplet 150 = .ok (.aload_n 0, 1) := dk_42 (dk_at dksX0_tuplet_6 10 rfl rfl)
theorem dX0_tuplet_151 : decode cX0_tuplet 151 = .ok (.getfield 55, 3) := dk_180 0 55 (dk_at dksX0_tuplet_6 11 rfl rfl)
theorem dX0_tuplet_154 : decode cX0_tuplet 154 = .ok (.aload_n 0, 1) := dk_42 (dk_at dksX0_tuplet_6 14 rfl rfl)
theorem dX0_tuplet_155 : decode cX0_tuplet 155 = .ok (.getfield 114, 3) := dk_180 0 114 (dk_at dksX0_tuplet_6 15 rfl rfl)
theorem dX0_tuplet_158 : decode cX0_tuplet 158 = .ok (.aload 8, 2) := dk_25 8 (dk_at dksX0_tuplet_6 18 rfl rfl)
theorem dX0_tuplet_160 : decode cX0_tuplet 160 = .ok (.aastore, 1) := dk_83 (dk_at dksX0_tuplet_6 20 rfl rfl)
theorem dX0_tuplet_161 : decode cX0_tuplet 161 = .ok (.aload_n 0, 1) := dk_42 (dk_at dksX0_tuplet_6 21 rfl rfl)
theorem dX0_tuplet_162 : decode cX0_tuplet 162 = .ok (.dup, 1) := dk_89 (dk_at dksX0_tuplet_6 22 rfl rfl)
theorem dX0_tuplet_163 : decode cX0_tuplet 163 = .ok (.getfield 114, 3) := dk_180 0 114 (dk_at dksX0_tuplet_7 0 rfl rfl)
theorem dX0_tuplet_166 : decode cX0_tuplet 166 = .ok (.iconst 1, 1) := dk_4 (dk_at dksX0_tuplet_7 3 rfl rfl)
theorem dX0_tuplet_167 : decode cX0_tuplet 167 = .ok (.iadd, 1) := dk_96 (dk_at dksX0_tuplet_7 4 rfl rfl)
theorem dX0_tuplet_168 : decode cX0_tuplet 168 = .ok (.putfield 114, 3) := dk_181 0 114 (dk_at dksX0_tuplet_7 5 rfl rfl)
theorem dX0_tuplet_171 : decode cX0_tuplet 171 = .ok (.aload_n 0, 1) := dk_42 (dk_at dksX0_tuplet_7 8 rfl rfl)
theorem dX0_tuplet_172 : decode cX0_tuplet 172 = .ok (.aload_n 0, 1) := dk_42 (dk_at dksX0_tuplet_7 9 rfl rfl)
theorem dX0_tuplet_173 : decode cX0_tuplet 173 = .ok (.getfield 114, 3) := dk_180 0 114 (dk_at dksX0_tuplet_7 10 rfl rfl)
theorem dX0_tuplet_176 : decode cX0_tuplet 176 = .ok (.iconst 1, 1) := dk_4 (dk_at dksX0_tuplet_7 13 rfl rfl)
theorem dX0_tuplet_177 : decode cX0_tuplet 177 = .ok (.isub, 1) := dk_100 (dk_at dksX0_tuplet_7 14 rfl rfl)
theorem dX0_tuplet_178 : decode cX0_tuplet 178 = .ok (.invokevirtual 128, 3) := dk_182 0 128 (dk_at dksX0_tuplet_7 15 rfl rfl)
theorem dX0_tuplet_181 : decode cX0_tuplet 181 = .ok (.ireturn, 1) := dk_172 (dk_at dksX0_tuplet_7 18 rfl rfl)
abbrev cX0_fits : ByteArray := prog_1_method_37_code
def yX0_fits : MethodName := ⟨RX0, "fits", "(LStaveScore$Tuplet;)Z"⟩
def dkwX0_fits_4 : List UInt8 := [132, 2, 1, 167, 255, 230, 4, 172]
abbrev dktX0_fits_4 : List UInt8 := dkwX0_fits_4 ++ []
def dkwX0_fits_3 : List UInt8 := [61, 28, 43, 180, 0, 198, 163, 0, 24, 42, 43, 180, 0, 197, 28, 182, 1, 48, 5, 160, 0, 5, 3, 172]
abbrev dktX0_fits_3 : List UInt8 := dkwX0_fits_3 ++ dktX0_fits_4
def dkwX0_fits_2 : List UInt8 := [180, 0, 55, 28, 50, 43, 182, 1, 83, 154, 0, 5, 3, 172, 132, 2, 1, 167, 255, 195, 43, 180, 0, 201]
abbrev dktX0_fits_2 : List UInt8 := dkwX0_fits_2 ++ dktX0_fits_3
def dkwX0_fits_1 : List UInt8 := [28, 50, 182, 1, 80, 154, 0, 31, 43, 42, 180, 0, 55, 28, 50, 182, 1, 83, 154, 0, 18, 42]
abbrev dktX0_fits_1 : List UInt8 := dkwX0_fits_1 ++ dktX0_fits_2
def dkwX0_fits_0 : List UInt8 := [3, 61, 28, 42, 180, 0, 114, 162, 0, 59, 42, 180, 0, 55, 28, 50, 198, 0, 44, 43, 42, 180, 0, 55]
abbrev dktX0_fits_0 : List UInt8 := dkwX0_fits_0 ++ dktX0_fits_1
theorem dksX0_fits_0 : cX0_fits.data.toList.drop 0 = dktX0_fits_0 := by decide +kernel
theorem dksX0_fits_1 : cX0_fits.data.toList.drop 24 = dktX0_fits_1 := dk_seg dksX0_fits_0 24 rfl rfl
theorem dksX0_fits_2 : cX0_fits.data.toList.drop 46 = dktX0_fits_2 := dk_seg dksX0_fits_1 22 rfl rfl
theorem dksX0_fits_3 : cX0_fits.data.toList.drop 70 = dktX0_fits_3 := dk_seg dksX0_fits_2 24 rfl rfl
theorem dksX0_fits_4 : cX0_fits.data.toList.drop 94 = dktX0_fits_4 := dk_seg dksX0_fits_3 24 rfl rfl
theorem dX0_fits_0 : decode cX0_fits 0 = .ok (.iconst 0, 1) := dk_3 (dk_at dksX0_fits_0 0 rfl rfl)
theorem dX0_fits_1 : decode cX0_fits 1 = .ok (.istore_n 2, 1) := dk_61 (dk_at dksX0_fits_0 1 rfl rfl)
theorem dX0_fits_2 : decode cX0_fits 2 = .ok (.iload_n 2, 1) := dk_28 (dk_at dksX0_fits_0 2 rfl rfl)
theorem dX0_fits_3 : decode cX0_fits 3 = .ok (.aload_n 0, 1) := dk_42 (dk_at dksX0_fits_0 3 rfl rfl)
theorem dX0_fits_4 : decode cX0_fits 4 = .ok (.getfield 114, 3) := dk_180 0 114 (dk_at dksX0_fits_0 4 rfl rfl)
theorem dX0_fits_7 : decode cX0_fits 7 = .ok (.if_icmp .ge 59, 3) := dk_162 0 59 (dk_at dksX0_fits_0 7 rfl rfl)
theorem dX0_fits_10 : decode cX0_fits 10 = .ok (.aload_n 0, 1) := dk_42 (dk_at dksX0_fits_0 10 rfl rfl)
theorem dX0_fits_11 : decode cX0_fits 11 = .ok (.getfield 55, 3) := dk_180 0 55 (dk_at dksX0_fits_0 11 rfl rfl)
theorem dX0_fits_14 : decode cX0_fits 14 = .ok (.iload_n 2, 1) := dk_28 (dk_at dksX0_fits_0 14 rfl rfl)
theorem dX0_fits_15 : decode cX0_fits 15 = .ok (.aaload, 1) := dk_50 (dk_at dksX0_fits_0 15 rfl rfl)
theorem dX0_fits_16 : decode cX0_fits 16 = .ok (.ifnull 44, 3) := dk_198 0 44 (dk_at dksX0_fits_0 16 rfl rfl)
theorem dX0_fits_19 : decode cX0_fits 19 = .ok (.aload_n 1, 1) := dk_43 (dk_at dksX0_fits_0 19 rfl rfl)
theorem dX0_fits_20 : decode cX0_fits 20 = .ok (.aload_n 0, 1) := dk_42 (dk_at dksX0_fits_0 20 rfl rfl)
theorem dX0_fits_21 : decode cX0_fits 21 = .ok (.getfield 55, 3) := dk_180 0 55 (dk_at dksX0_fits_0 21 rfl rfl)
theorem dX0_fits_24 : decode cX0_fits 24 = .ok (.iload_n 2, 1) := dk_28 (dk_at dksX0_fits_1 0 rfl rfl)
theorem dX0_fits_25 : decode cX0_fits 25 = .ok (.aaload, 1) := dk_50 (dk_at dksX0_fits_1 1 rfl rfl)
theorem dX0_fits_26 : decode cX0_fits 26 = .ok (.invokevirtual 336, 3) := dk_182 1 80 (dk_at dksX0_fits_1 2 rfl rfl)
theorem dX0_fits_29 : decode cX0_fits 29 = .ok (.ifCond .ne 31, 3) := dk_154 0 31 (dk_at dksX0_fits_1 5 rfl rfl)
theorem dX0_fits_32 : decode cX0_fits 32 = .ok (.aload_n 1, 1) := dk_43 (dk_at dksX0_fits_1 8 rfl rfl)
theorem dX0_fits_33 : decode cX0_fits 33 = .ok (.aload_n 0, 1) := dk_42 (dk_at dksX0_fits_1 9 rfl rfl)
theorem dX0_fits_34 : decode cX0_fits 34 = .ok (.getfield 55, 3) := dk_180 0 55 (dk_at dksX0_fits_1 10 rfl rfl)
theorem dX0_fits_37 : decode cX0_fits 37 = .ok (.iload_n 2, 1) := dk_28 (dk_at dksX0_fits_1 13 rfl rfl)
theorem dX0_fits_38 : decode cX0_fits 38 = .ok (.aaload, 1) := dk_50 (dk_at dksX0_fits_1 14 rfl rfl)
theorem dX0_fits_39 : decode cX0_fits 39 = .ok (.invokevirtual 339, 3) := dk_182 1 83 (dk_at dksX0_fits_1 15 rfl rfl)
theorem dX0_fits_42 : decode cX0_fits 42 = .ok (.ifCond .ne 18, 3) := dk_154 0 18 (dk_at dksX0_fits_1 18 rfl rfl)
theorem dX0_fits_45 : decode cX0_fits 45 = .ok (.aload_n 0, 1) := dk_42 (dk_at dksX0_fits_1 21 rfl rfl)
theorem dX0_fits_46 : decode cX0_fits 46 = .ok (.getfield 55, 3) := dk_180 0 55 (dk_at dksX0_fits_2 0 rfl rfl)
theorem dX0_fits_49 : decode cX0_fits 49 = .ok (.iload_n 2, 1) := dk_28 (dk_at dksX0_fits_2 3 rfl rfl)
theorem dX0_fits_50 : decode cX0_fits 50 = .ok (.aaload, 1) := dk_50 (dk_at dksX0_fits_2 4 rfl rfl)
theorem dX0_fits_51 : decode cX0_fits 51 = .ok (.aload_n 1, 1) := dk_43 (dk_at dksX0_fits_2 5 rfl rfl)
theorem dX0_fits_52 : decode cX0_fits 52 = .ok (.invokevirtual 339, 3) := dk_182 1 83 (dk_at dksX0_fits_2 6 rfl rfl)
theorem dX0_fits_55 : decode cX0_fits 55 = .ok (.ifCond .ne 5, 3) := dk_154 0 5 (dk_at dksX0_fits_2 9 rfl rfl)
theorem dX0_fits_58 : decode cX0_fits 58 = .ok (.iconst 0, 1) := dk_3 (dk_at dksX0_fits_2 12 rfl rfl)
theorem dX0_fits_59 : decode cX0_fits 59 = .ok (.ireturn, 1) := dk_172 (dk_at dksX0_fits_2 13 rfl rfl)
theorem dX0_fits_60 : decode cX0_fits 60 = .ok (.iinc 2 1, 3) := dk_132 2 1 (dk_at dksX0_fits_2 14 rfl rfl)
theorem dX0_fits_63 : decode cX0_fits 63 = .ok (.goto (-61), 3) := dk_167 255 195 (dk_at dksX0_fits_2 17 rfl rfl)
theorem dX0_fits_66 : decode cX0_fits 66 = .ok (.aload_n 1, 1) := dk_43 (dk_at dksX0_fits_2 20 rfl rfl)
theorem dX0_fits_67 : decode cX0_fits 67 = .ok (.getfield 201, 3) := dk_180 0 201 (dk_at dksX0_fits_2 21 rfl rfl)
theorem dX0_fits_70 : decode cX0_fits 70 = .ok (.istore_n 2, 1) := dk_61 (dk_at dksX0_fits_3 0 rfl rfl)
theorem dX0_fits_71 : decode cX0_fits 71 = .ok (.iload_n 2, 1) := dk_28 (dk_at dksX0_fits_3 1 rfl rfl)
theorem dX0_fits_72 : decode cX0_fits 72 = .ok (.aload_n 1, 1) := dk_43 (dk_at dksX0_fits_3 2 rfl rfl)
theorem dX0_fits_73 : decode cX0_fits 73 = .ok (.getfield 198, 3) := dk_180 0 198 (dk_at dksX0_fits_3 3 rfl rfl)
theorem dX0_fits_76 : decode cX0_fits 76 = .ok (.if_icmp .gt 24, 3) := dk_163 0 24 (dk_at dksX0_fits_3 6 rfl rfl)
theorem dX0_fits_79 : decode cX0_fits 79 = .ok (.aload_n 0, 1) := dk_42 (dk_at dksX0_fits_3 9 rfl rfl)
theorem dX0_fits_80 : decode cX0_fits 80 = .ok (.aload_n 1, 1) := dk_43 (dk_at dksX0_fits_3 10 rfl rfl)
theorem dX0_fits_81 : decode cX0_fits 81 = .ok (.getfield 197, 3) := dk_180 0 197 (dk_at dksX0_fits_3 11 rfl rfl)
theorem dX0_fits_84 : decode cX0_fits 84 = .ok (.iload_n 2, 1) := dk_28 (dk_at dksX0_fits_3 14 rfl rfl)
theorem dX0_fits_85 : decode cX0_fits 85 = .ok (.invokevirtual 304, 3) := dk_182 1 48 (dk_at dksX0_fits_3 15 rfl rfl)
theorem dX0_fits_88 : decode cX0_fits 88 = .ok (.iconst 2, 1) := dk_5 (dk_at dksX0_fits_3 18 rfl rfl)
theorem dX0_fits_89 : decode cX0_fits 89 = .ok (.if_icmp .ne 5, 3) := dk_160 0 5 (dk_at dksX0_fits_3 19 rfl rfl)
theorem dX0_fits_92 : decode cX0_fits 92 = .ok (.iconst 0, 1) := dk_3 (dk_at dksX0_fits_3 22 rfl rfl)
theorem dX0_fits_93 : decode cX0_fits 93 = .ok (.ireturn, 1) := dk_172 (dk_at dksX0_fits_3 23 rfl rfl)
theorem dX0_fits_94 : decode cX0_fits 94 = .ok (.iinc 2 1, 3) := dk_132 2 1 (dk_at dksX0_fits_4 0 rfl rfl)
theorem dX0_fits_97 : decode cX0_fits 97 = .ok (.goto (-26), 3) := dk_167 255 230 (dk_at dksX0_fits_4 3 rfl rfl)
theorem dX0_fits_100 : decode cX0_fits 100 = .ok (.iconst 1, 1) := dk_4 (dk_at dksX0_fits_4 6 rfl rfl)
theorem dX0_fits_101 : decode cX0_fits 101 = .ok (.ireturn, 1) := dk_172 (dk_at dksX0_fits_4 7 rfl rfl)
abbrev cX0_untuplet : ByteArray := prog_1_method_38_code
def yX0_untuplet : MethodName := ⟨RX0, "untuplet", "(I)I"⟩
def dkwX0_untuplet_2 : List UInt8 := [182, 0, 128, 172]
abbrev dktX0_untuplet_2 : List UInt8 := dkwX0_untuplet_2 ++ []
def dkwX0_untuplet_1 : List UInt8 := [42, 180, 0, 55, 27, 50, 180, 0, 201, 100, 4, 96, 61, 42, 180, 0, 55, 27, 1, 83, 42, 28]
abbrev dktX0_untuplet_1 : List UInt8 := dkwX0_untuplet_1 ++ dktX0_untuplet_2
def dkwX0_untuplet_0 : List UInt8 := [42, 27, 182, 1, 86, 154, 0, 10, 42, 16, 254, 182, 0, 120, 172, 42, 180, 0, 55, 27, 50, 180, 0, 198]
abbrev dktX0_untuplet_0 : List UInt8 := dkwX0_untuplet_0 ++ dktX0_untuplet_1
theorem dksX0_untuplet_0 : cX0_untuplet.data.toList.drop 0 = dktX0_untuplet_0 := by decide +kernel
theorem dksX0_untuplet_1 : cX0_untuplet.data.toList.drop 24 = dktX0_untuplet_1 := dk_seg dksX0_untuplet_0 24 rfl rfl
theorem dksX0_untuplet_2 : cX0_untuplet.data.toList.drop 46 = dktX0_untuplet_2 := dk_seg dksX0_untuplet_1 22 rfl rfl
theorem dX0_untuplet_0 : decode cX0_untuplet 0 = .ok (.aload_n 0, 1) := dk_42 (dk_at dksX0_untuplet_0 0 rfl rfl)
theorem dX0_untuplet_1 : decode cX0_untuplet 1 = .ok (.iload_n 1, 1) := dk_27 (dk_at dksX0_untuplet_0 1 rfl rfl)
theorem dX0_untuplet_2 : decode cX0_untuplet 2 = .ok (.invokevirtual 342, 3) := dk_182 1 86 (dk_at dksX0_untuplet_0 2 rfl rfl)
theorem dX0_untuplet_5 : decode cX0_untuplet 5 = .ok (.ifCond .ne 10, 3) := dk_154 0 10 (dk_at dksX0_untuplet_0 5 rfl rfl)
theorem dX0_untuplet_8 : decode cX0_untuplet 8 = .ok (.aload_n 0, 1) := dk_42 (dk_at dksX0_untuplet_0 8 rfl rfl)
theorem dX0_untuplet_9 : decode cX0_untuplet 9 = .ok (.bipush (-2), 2) := dk_16 254 (dk_at dksX0_untuplet_0 9 rfl rfl)
theorem dX0_untuplet_11 : decode cX0_untuplet 11 = .ok (.invokevirtual 120, 3) := dk_182 0 120 (dk_at dksX0_untuplet_0 11 rfl rfl)
theorem dX0_untuplet_14 : decode cX0_untuplet 14 = .ok (.ireturn, 1) := dk_172 (dk_at dksX0_untuplet_0 14 rfl rfl)
theorem dX0_untuplet_15 : decode cX0_untuplet 15 = .ok (.aload_n 0, 1) := dk_42 (dk_at dksX0_untuplet_0 15 rfl rfl)
theorem dX0_untuplet_16 : decode cX0_untuplet 16 = .ok (.getfield 55, 3) := dk_180 0 55 (dk_at dksX0_untuplet_0 16 rfl rfl)
theorem dX0_untuplet_19 : decode cX0_untuplet 19 = .ok (.iload_n 1, 1) := dk_27 (dk_at dksX0_untuplet_0 19 rfl rfl)
theorem dX0_untuplet_20 : decode cX0_untuplet 20 = .ok (.aaload, 1) := dk_50 (dk_at dksX0_untuplet_0 20 rfl rfl)
theorem dX0_untuplet_21 : decode cX0_untuplet 21 = .ok (.getfield 198, 3) := dk_180 0 198 (dk_at dksX0_untuplet_0 21 rfl rfl)
theorem dX0_untuplet_24 : decode cX0_untuplet 24 = .ok (.aload_n 0, 1) := dk_42 (dk_at dksX0_untuplet_1 0 rfl rfl)
theorem dX0_untuplet_25 : decode cX0_untuplet 25 = .ok (.getfield 55, 3) := dk_180 0 55 (dk_at dksX0_untuplet_1 1 rfl rfl)
theorem dX0_untuplet_28 : decode cX0_untuplet 28 = .ok (.iload_n 1, 1) := dk_27 (dk_at dksX0_untuplet_1 4 rfl rfl)
theorem dX0_untuplet_29 : decode cX0_untuplet 29 = .ok (.aaload, 1) := dk_50 (dk_at dksX0_untuplet_1 5 rfl rfl)
theorem dX0_untuplet_30 : decode cX0_untuplet 30 = .ok (.getfield 201, 3) := dk_180 0 201 (dk_at dksX0_untuplet_1 6 rfl rfl)
theorem dX0_untuplet_33 : decode cX0_untuplet 33 = .ok (.isub, 1) := dk_100 (dk_at dksX0_untuplet_1 9 rfl rfl)
theorem dX0_untuplet_34 : decode cX0_untuplet 34 = .ok (.iconst 1, 1) := dk_4 (dk_at dksX0_untuplet_1 10 rfl rfl)
theorem dX0_untuplet_35 : decode cX0_untuplet 35 = .ok (.iadd, 1) := dk_96 (dk_at dksX0_untuplet_1 11 rfl rfl)
theorem dX0_untuplet_36 : decode cX0_untuplet 36 = .ok (.istore_n 2, 1) := dk_61 (dk_at dksX0_untuplet_1 12 rfl rfl)
theorem dX0_untuplet_37 : decode cX0_untuplet 37 = .ok (.aload_n 0, 1) := dk_42 (dk_at dksX0_untuplet_1 13 rfl rfl)
theorem dX0_untuplet_38 : decode cX0_untuplet 38 = .ok (.getfield 55, 3) := dk_180 0 55 (dk_at dksX0_untuplet_1 14 rfl rfl)
theorem dX0_untuplet_41 : decode cX0_untuplet 41 = .ok (.iload_n 1, 1) := dk_27 (dk_at dksX0_untuplet_1 17 rfl rfl)
theorem dX0_untuplet_42 : decode cX0_untuplet 42 = .ok (.aconst_null, 1) := dk_1 (dk_at dksX0_untuplet_1 18 rfl rfl)
theorem dX0_untuplet_43 : decode cX0_untuplet 43 = .ok (.aastore, 1) := dk_83 (dk_at dksX0_untuplet_1 19 rfl rfl)
theorem dX0_untuplet_44 : decode cX0_untuplet 44 = .ok (.aload_n 0, 1) := dk_42 (dk_at dksX0_untuplet_1 20 rfl rfl)
theorem dX0_untuplet_45 : decode cX0_untuplet 45 = .ok (.iload_n 2, 1) := dk_28 (dk_at dksX0_untuplet_1 21 rfl rfl)
theorem dX0_untuplet_46 : decode cX0_untuplet 46 = .ok (.invokevirtual 128, 3) := dk_182 0 128 (dk_at dksX0_untuplet_2 0 rfl rfl)
theorem dX0_untuplet_49 : decode cX0_untuplet 49 = .ok (.ireturn, 1) := dk_172 (dk_at dksX0_untuplet_2 3 rfl rfl)
abbrev cX0_isTuplet : ByteArray := prog_1_method_9_code
def yX0_isTuplet : MethodName := ⟨RX0, "isTuplet", "(I)Z"⟩
def dkwX0_isTuplet_1 : List UInt8 := [167, 0, 4, 3, 172]
abbrev dktX0_isTuplet_1 : List UInt8 := dkwX0_isTuplet_1 ++ []
def dkwX0_isTuplet_0 : List UInt8 := [27, 3, 42, 180, 0, 114, 4, 100, 184, 0, 107, 153, 0, 16, 42, 180, 0, 55, 27, 50, 198, 0, 7, 4]
abbrev dktX0_isTuplet_0 : List UInt8 := dkwX0_isTuplet_0 ++ dktX0_isTuplet_1
theorem dksX0_isTuplet_0 : cX0_isTuplet.data.toList.drop 0 = dktX0_isTuplet_0 := by decide +kernel
theorem dksX0_isTuplet_1 : cX0_isTuplet.data.toList.drop 24 = dktX0_isTuplet_1 := dk_seg dksX0_isTuplet_0 24 rfl rfl
theorem dX0_isTuplet_0 : decode cX0_isTuplet 0 = .ok (.iload_n 1, 1) := dk_27 (dk_at dksX0_isTuplet_0 0 rfl rfl)
theorem dX0_isTuplet_1 : decode cX0_isTuplet 1 = .ok (.iconst 0, 1) := dk_3 (dk_at dksX0_isTuplet_0 1 rfl rfl)
theorem dX0_isTuplet_2 : decode cX0_isTuplet 2 = .ok (.aload_n 0, 1) := dk_42 (dk_at dksX0_isTuplet_0 2 rfl rfl)
theorem dX0_isTuplet_3 : decode cX0_isTuplet 3 = .ok (.getfield 114, 3) := dk_180 0 114 (dk_at dksX0_isTuplet_0 3 rfl rfl)
theorem dX0_isTuplet_6 : decode cX0_isTuplet 6 = .ok (.iconst 1, 1) := dk_4 (dk_at dksX0_isTuplet_0 6 rfl rfl)
theorem dX0_isTuplet_7 : decode cX0_isTuplet 7 = .ok (.isub, 1) := dk_100 (dk_at dksX0_isTuplet_0 7 rfl rfl)
theorem dX0_isTuplet_8 : decode cX0_isTuplet 8 = .ok (.invokestatic 107, 3) := dk_184 0 107 (dk_at dksX0_isTuplet_0 8 rfl rfl)
theorem dX0_isTuplet_11 : decode cX0_isTuplet 11 = .ok (.ifCond .eq 16, 3) := dk_153 0 16 (dk_at dksX0_isTuplet_0 11 rfl rfl)
theorem dX0_isTuplet_14 : decode cX0_isTuplet 14 = .ok (.aload_n 0, 1) := dk_42 (dk_at dksX0_isTuplet_0 14 rfl rfl)
theorem dX0_isTuplet_15 : decode cX0_isTuplet 15 = .ok (.getfield 55, 3) := dk_180 0 55 (dk_at dksX0_isTuplet_0 15 rfl rfl)
theorem dX0_isTuplet_18 : decode cX0_isTuplet 18 = .ok (.iload_n 1, 1) := dk_27 (dk_at dksX0_isTuplet_0 18 rfl rfl)
theorem dX0_isTuplet_19 : decode cX0_isTuplet 19 = .ok (.aaload, 1) := dk_50 (dk_at dksX0_isTuplet_0 19 rfl rfl)
theorem dX0_isTuplet_20 : decode cX0_isTuplet 20 = .ok (.ifnull 7, 3) := dk_198 0 7 (dk_at dksX0_isTuplet_0 20 rfl rfl)
theorem dX0_isTuplet_23 : decode cX0_isTuplet 23 = .ok (.iconst 1, 1) := dk_4 (dk_at dksX0_isTuplet_0 23 rfl rfl)
theorem dX0_isTuplet_24 : decode cX0_isTuplet 24 = .ok (.goto 4, 3) := dk_167 0 4 (dk_at dksX0_isTuplet_1 0 rfl rfl)
theorem dX0_isTuplet_27 : decode cX0_isTuplet 27 = .ok (.iconst 0, 1) := dk_3 (dk_at dksX0_isTuplet_1 3 rfl rfl)
theorem dX0_isTuplet_28 : decode cX0_isTuplet 28 = .ok (.ireturn, 1) := dk_172 (dk_at dksX0_isTuplet_1 4 rfl rfl)
abbrev cX0_tupletAt : ByteArray := prog_1_method_39_code
def yX0_tupletAt : MethodName := ⟨RX0, "tupletAt", "(II)I"⟩
def dkwX0_tupletAt_7 : List UInt8 := [21, 4, 182, 0, 128, 172, 42, 16, 254, 182, 0, 120, 172]
abbrev dktX0_tupletAt_7 : List UInt8 := dkwX0_tupletAt_7 ++ []
def dkwX0_tupletAt_6 : List UInt8 := [21, 5, 50, 182, 1, 11, 153, 0, 7, 4, 167, 0, 4, 3, 96, 54, 4, 132, 5, 1, 167, 255, 210, 42]
abbrev dktX0_tupletAt_6 : List UInt8 := dkwX0_tupletAt_6 ++ dktX0_tupletAt_7
def dkwX0_tupletAt_5 : List UInt8 := [180, 0, 114, 162, 0, 43, 21, 4, 42, 180, 0, 55, 21, 5, 50, 198, 0, 21, 45, 42, 180, 0, 55]
abbrev dktX0_tupletAt_5 : List UInt8 := dkwX0_tupletAt_5 ++ dktX0_tupletAt_6
def dkwX0_tupletAt_4 : List UInt8 := [182, 0, 128, 172, 42, 45, 180, 1, 89, 182, 0, 128, 172, 3, 54, 4, 3, 54, 5, 21, 5, 42]
abbrev dktX0_tupletAt_4 : List UInt8 := dkwX0_tupletAt_4 ++ dktX0_tupletAt_5
def dkwX0_tupletAt_3 : List UInt8 := [180, 0, 201, 100, 4, 96, 182, 0, 128, 172, 42, 45, 180, 1, 18, 182, 0, 128, 172, 42, 45, 180, 1, 15]
abbrev dktX0_tupletAt_3 : List UInt8 := dkwX0_tupletAt_3 ++ dktX0_tupletAt_4
def dkwX0_tupletAt_2 : List UInt8 := [42, 45, 180, 0, 197, 182, 0, 128, 172, 42, 45, 180, 0, 201, 182, 0, 128, 172, 42, 45, 180, 0, 198, 45]
abbrev dktX0_tupletAt_2 : List UInt8 := dkwX0_tupletAt_2 ++ dktX0_tupletAt_3
def dkwX0_tupletAt_1 : List UInt8 := [170, 0, 0, 0, 164, 0, 0, 0, 0, 0, 0, 0, 6, 0, 0, 0, 41, 0, 0, 0, 50, 0, 0, 0, 59, 0, 0, 0, 75, 0, 0, 0, 84, 0, 0, 0, 93, 0, 0, 0, 102]
abbrev dktX0_tupletAt_1 : List UInt8 := dkwX0_tupletAt_1 ++ dktX0_tupletAt_2
def dkwX0_tupletAt_0 : List UInt8 := [42, 27, 182, 1, 86, 154, 0, 10, 42, 16, 254, 182, 0, 120, 172, 42, 180, 0, 55, 27, 50, 78, 28]
abbrev dktX0_tupletAt_0 : List UInt8 := dkwX0_tupletAt_0 ++ dktX0_tupletAt_1
theorem dksX0_tupletAt_0 : cX0_tupletAt.data.toList.drop 0 = dktX0_tupletAt_0 := by decide +kernel
theorem dksX0_tupletAt_1 : cX0_tupletAt.data.toList.drop 23 = dktX0_tupletAt_1 := dk_seg dksX0_tupletAt_0 23 rfl rfl
theorem dksX0_tupletAt_2 : cX0_tupletAt.data.toList.drop 64 = dktX0_tupletAt_2 := dk_seg dksX0_tupletAt_1 41 rfl rfl
theorem dksX0_tupletAt_3 : cX0_tupletAt.data.toList.drop 88 = dktX0_tupletAt_3 := dk_seg dksX0_tupletAt_2 24 rfl rfl
theorem dksX0_tupletAt_4 : cX0_tupletAt.data.toList.drop 112 = dktX0_tupletAt_4 := dk_seg dksX0_tupletAt_3 24 rfl rfl
theorem dksX0_tupletAt_5 : cX0_tupletAt.data.toList.drop 134 = dktX0_tupletAt_5 := dk_seg dksX0_tupletAt_4 22 rfl rfl
theorem dksX0_tupletAt_6 : cX0_tupletAt.data.toList.drop 157 = dktX0_tupletAt_6 := dk_seg dksX0_tupletAt_5 23 rfl rfl
theorem dksX0_tupletAt_7 : cX0_tupletAt.data.toList.drop 181 = dktX0_tupletAt_7 := dk_seg dksX0_tupletAt_6 24 rfl rfl
theorem dX0_tupletAt_0 : decode cX0_tupletAt 0 = .ok (.aload_n 0, 1) := dk_42 (dk_at dksX0_tupletAt_0 0 rfl rfl)
theorem dX0_tupletAt_1 : decode cX0_tupletAt 1 = .ok (.iload_n 1, 1) := dk_27 (dk_at dksX0_tupletAt_0 1 rfl rfl)
theorem dX0_tupletAt_2 : decode cX0_tupletAt 2 = .ok (.invokevirtual 342, 3) := dk_182 1 86 (dk_at dksX0_tupletAt_0 2 rfl rfl)
theorem dX0_tupletAt_5 : decode cX0_tupletAt 5 = .ok (.ifCond .ne 10, 3) := dk_154 0 10 (dk_at dksX0_tupletAt_0 5 rfl rfl)
theorem dX0_tupletAt_8 : decode cX0_tupletAt 8 = .ok (.aload_n 0, 1) := dk_42 (dk_at dksX0_tupletAt_0 8 rfl rfl)
theorem dX0_tupletAt_9 : decode cX0_tupletAt 9 = .ok (.bipush (-2), 2) := dk_16 254 (dk_at dksX0_tupletAt_0 9 rfl rfl)
theorem dX0_tupletAt_11 : decode cX0_tupletAt 11 = .ok (.invokevirtual 120, 3) := dk_182 0 120 (dk_at dksX0_tupletAt_0 11 rfl rfl)
theorem dX0_tupletAt_14 : decode cX0_tupletAt 14 = .ok (.ireturn, 1) := dk_172 (dk_at dksX0_tupletAt_0 14 rfl rfl)
theorem dX0_tupletAt_15 : decode cX0_tupletAt 15 = .ok (.aload_n 0, 1) := dk_42 (dk_at dksX0_tupletAt_0 15 rfl rfl)
theorem dX0_tupletAt_16 : decode cX0_tupletAt 16 = .ok (.getfield 55, 3) := dk_180 0 55 (dk_at dksX0_tupletAt_0 16 rfl rfl)
theorem dX0_tupletAt_19 : decode cX0_tupletAt 19 = .ok (.iload_n 1, 1) := dk_27 (dk_at dksX0_tupletAt_0 19 rfl rfl)
theorem dX0_tupletAt_20 : decode cX0_tupletAt 20 = .ok (.aaload, 1) := dk_50 (dk_at dksX0_tupletAt_0 20 rfl rfl)
theorem dX0_tupletAt_21 : decode cX0_tupletAt 21 = .ok (.astore_n 3, 1) := dk_78 (dk_at dksX0_tupletAt_0 21 rfl rfl)
theorem dX0_tupletAt_22 : decode cX0_tupletAt 22 = .ok (.iload_n 2, 1) := dk_28 (dk_at dksX0_tupletAt_0 22 rfl rfl)
theorem dX0_tupletAt_23 : decode cX0_tupletAt 23 = .ok (.tableswitch 164 0 6 #[41, 50, 59, 75, 84, 93, 102], 41) := by decide +kernel
theorem dX0_tupletAt_64 : decode cX0_tupletAt 64 = .ok (.aload_n 0, 1) := dk_42 (dk_at dksX0_tupletAt_2 0 rfl rfl)
theorem dX0_tupletAt_65 : decode cX0_tupletAt 65 = .ok (.aload_n 3, 1) := dk_45 (dk_at dksX0_tupletAt_2 1 rfl rfl)
theorem dX0_tupletAt_66 : decode cX0_tupletAt 66 = .ok (.getfield 197, 3) := dk_180 0 197 (dk_at dksX0_tupletAt_2 2 rfl rfl)
theorem dX0_tupletAt_69 : decode cX0_tupletAt 69 = .ok (.invokevirtual 128, 3) := dk_182 0 128 (dk_at dksX0_tupletAt_2 5 rfl rfl)
theorem dX0_tupletAt_72 : decode cX0_tupletAt 72 = .ok (.ireturn, 1) := dk_172 (dk_at dksX0_tupletAt_2 8 rfl rfl)
theorem dX0_tupletAt_73 : decode cX0_tupletAt 73 = .ok (.aload_n 0, 1) := dk_42 (dk_at dksX0_tupletAt_2 9 rfl rfl)
theorem dX0_tupletAt_74 : decode cX0_tupletAt 74 = .ok (.aload_n 3, 1) := dk_45 (dk_at dksX0_tupletAt_2 10 rfl rfl)
theorem dX0_tupletAt_75 : decode cX0_tupletAt 75 = .ok (.getfield 201, 3) := dk_180 0 201 (dk_at dksX0_tupletAt_2 11 rfl rfl)
theorem dX0_tupletAt_78 : decode cX0_tupletAt 78 = .ok (.invokevirtual 128, 3) := dk_182 0 128 (dk_at dksX0_tupletAt_2 14 rfl rfl)
theorem dX0_tupletAt_81 : decode cX0_tupletAt 81 = .ok (.ireturn, 1) := dk_172 (dk_at dksX0_tupletAt_2 17 rfl rfl)
theorem dX0_tupletAt_82 : decode cX0_tupletAt 82 = .ok (.aload_n 0, 1) := dk_42 (dk_at dksX0_tupletAt_2 18 rfl rfl)
theorem dX0_tupletAt_83 : decode cX0_tupletAt 83 = .ok (.aload_n 3, 1) := dk_45 (dk_at dksX0_tupletAt_2 19 rfl rfl)
theorem dX0_tupletAt_84 : decode cX0_tupletAt 84 = .ok (.getfield 198, 3) := dk_180 0 198 (dk_at dksX0_tupletAt_2 20 rfl rfl)
theorem dX0_tupletAt_87 : decode cX0_tupletAt 87 = .ok (.aload_n 3, 1) := dk_45 (dk_at dksX0_tupletAt_2 23 rfl rfl)
theorem dX0_tupletAt_88 : decode cX0_tupletAt 88 = .ok (.getfield 201, 3) := dk_180 0 201 (dk_at dksX0_tupletAt_3 0 rfl rfl)
theorem dX0_tupletAt_91 : decode cX0_tupletAt 91 = .ok (.isub, 1) := dk_100 (dk_at dksX0_tupletAt_3 3 rfl rfl)
theorem dX0_tupletAt_92 : decode cX0_tupletAt 92 = .ok (.iconst 1, 1) := dk_4 (dk_at dksX0_tupletAt_3 4 rfl rfl)
theorem dX0_tupletAt_93 : decode cX0_tupletAt 93 = .ok (.iadd, 1) := dk_96 (dk_at dksX0_tupletAt_3 5 rfl rfl)
theorem dX0_tupletAt_94 : decode cX0_tupletAt 94 = .ok (.invokevirtual 128, 3) := dk_182 0 128 (dk_at dksX0_tupletAt_3 6 rfl rfl)
theorem dX0_tupletAt_97 : decode cX0_tupletAt 97 = .ok (.ireturn, 1) := dk_172 (dk_at dksX0_tupletAt_3 9 rfl rfl)
theorem dX0_tupletAt_98 : decode cX0_tupletAt 98 = .ok (.aload_n 0, 1) := dk_42 (dk_at dksX0_tupletAt_3 10 rfl rfl)
theorem dX0_tupletAt_99 : decode cX0_tupletAt 99 = .ok (.aload_n 3, 1) := dk_45 (dk_at dksX0_tupletAt_3 11 rfl rfl)
theorem dX0_tupletAt_100 : decode cX0_tupletAt 100 = .ok (.getfield 274, 3) := dk_180 1 18 (dk_at dksX0_tupletAt_3 12 rfl rfl)
theorem dX0_tupletAt_103 : decode cX0_tupletAt 103 = .ok (.invokevirtual 128, 3) := dk_182 0 128 (dk_at dksX0_tupletAt_3 15 rfl rfl)
theorem dX0_tupletAt_106 : decode cX0_tupletAt 106 = .ok (.ireturn, 1) := dk_172 (dk_at dksX0_tupletAt_3 18 rfl rfl)
theorem dX0_tupletAt_107 : decode cX0_tupletAt 107 = .ok (.aload_n 0, 1) := dk_42 (dk_at dksX0_tupletAt_3 19 rfl rfl)
theorem dX0_tupletAt_108 : decode cX0_tupletAt 108 = .ok (.aload_n 3, 1) := dk_45 (dk_at dksX0_tupletAt_3 20 rfl rfl)
theorem dX0_tupletAt_109 : decode cX0_tupletAt 109 = .ok (.getfield 271, 3) := dk_180 1 15 (dk_at dksX0_tupletAt_3 21 rfl rfl)
theorem dX0_tupletAt_112 : decode cX0_tupletAt 112 = .ok (.invokevirtual 128, 3) := dk_182 0 128 (dk_at dksX0_tupletAt_4 0 rfl rfl)
theorem dX0_tupletAt_115 : decode cX0_tupletAt 115 = .ok (.ireturn, 1) := dk_172 (dk_at dksX0_tupletAt_4 3 rfl rfl)
theorem dX0_tupletAt_116 : decode cX0_tupletAt 116 = .ok (.aload_n 0, 1) := dk_42 (dk_at dksX0_tupletAt_4 4 rfl rfl)
theorem dX0_tupletAt_117 : decode cX0_tupletAt 117 = .ok (.aload_n 3, 1) := dk_45 (dk_at dksX0_tupletAt_4 5 rfl rfl)
theorem dX0_tupletAt_118 : decode cX0_tupletAt 118 = .ok (.getfield 345, 3) := dk_180 1 89 (dk_at dksX0_tupletAt_4 6 rfl rfl)
theorem dX0_tupletAt_121 : decode cX0_tupletAt 121 = .ok (.invokevirtual 128, 3) := dk_182 0 128 (dk_at dksX0_tupletAt_4 9 rfl rfl)
theorem dX0_tupletAt_124 : decode cX0_tupletAt 124 = .ok (.ireturn, 1) := dk_172 (dk_at dksX0_tupletAt_4 12 rfl rfl)
theorem dX0_tupletAt_125 : decode cX0_tupletAt 125 = .ok (.iconst 0, 1) := dk_3 (dk_at dksX0_tupletAt_4 13 rfl rfl)
theorem dX0_tupletAt_126 : decode cX0_tupletAt 126 = .ok (.istore 4, 2) := dk_54 4 (dk_at dksX0_tupletAt_4 14 rfl rfl)
theorem dX0_tupletAt_128 : decode cX0_tupletAt 128 = .ok (.iconst 0, 1) := dk_3 (dk_at dksX0_tupletAt_4 16 rfl rfl)
theorem dX0_tupletAt_129 : decode cX0_tupletAt 129 = .ok (.istore 5, 2) := dk_54 5 (dk_at dksX0_tupletAt_4 17 rfl rfl)
theorem dX0_tupletAt_131 : decode cX0_tupletAt 131 = .ok (.iload 5, 2) := dk_21 5 (dk_at dksX0_tupletAt_4 19 rfl rfl)
theorem dX0_tupletAt_133 : decode cX0_tupletAt 133 = .ok (.aload_n 0, 1) := dk_42 (dk_at dksX0_tupletAt_4 21 rfl rfl)
theorem dX0_tupletAt_134 : decode cX0_tupletAt 134 = .ok (.getfield 114, 3) := dk_180 0 114 (dk_at dksX0_tupletAt_5 0 rfl rfl)
theorem dX0_tupletAt_137 : decode cX0_tupletAt 137 = .ok (.if_icmp .ge 43, 3) := dk_162 0 43 (dk_at dksX0_tupletAt_5 3 rfl rfl)
theorem dX0_tupletAt_140 : decode cX0_tupletAt 140 = .ok (.iload 4, 2) := dk_21 4 (dk_at dksX0_tupletAt_5 6 rfl rfl)
theorem dX0_tupletAt_142 : decode cX0_tupletAt 142 = .ok (.aload_n 0, 1) := dk_42 (dk_at dksX0_tupletAt_5 8 rfl rfl)
theorem dX0_tupletAt_143 : decode cX0_tupletAt 143 = .ok (.getfield 55, 3) := dk_180 0 55 (dk_at dksX0_tupletAt_5 9 rfl rfl)
theorem dX0_tupletAt_146 : decode cX0_tupletAt 146 = .ok (.iload 5, 2) := dk_21 5 (dk_at dksX0_tupletAt_5 12 rfl rfl)
theorem dX0_tupletAt_148 : decode cX0_tupletAt 148 = .ok (.aaload, 1) := dk_50 (dk_at dksX0_tupletAt_5 14 rfl rfl)
theorem dX0_tupletAt_149 : decode cX0_tupletAt 149 = .ok (.ifnull 21, 3) := dk_198 0 21 (dk_at dksX0_tupletAt_5 15 rfl rfl)
theorem dX0_tupletAt_152 : decode cX0_tupletAt 152 = .ok (.aload_n 3, 1) := dk_45 (dk_at dksX0_tupletAt_5 18 rfl rfl)
theorem dX0_tupletAt_153 : decode cX0_tupletAt 153 = .ok (.aload_n 0, 1) := dk_42 (dk_at dksX0_tupletAt_5 19 rfl rfl)
theorem dX0_tupletAt_154 : decode cX0_tupletAt 154 = .ok (.getfield 55, 3) := dk_180 0 55 (dk_at dksX0_tupletAt_5 20 rfl rfl)
theorem dX0_tupletAt_157 : decode cX0_tupletAt 157 = .ok (.iload 5, 2) := dk_21 5 (dk_at dksX0_tupletAt_6 0 rfl rfl)
theorem dX0_tupletAt_159 : decode cX0_tupletAt 159 = .ok (.aaload, 1) := dk_50 (dk_at dksX0_tupletAt_6 2 rfl rfl)
theorem dX0_tupletAt_160 : decode cX0_tupletAt 160 = .ok (.invokevirtual 267, 3) := dk_182 1 11 (dk_at dksX0_tupletAt_6 3 rfl rfl)
theorem dX0_tupletAt_163 : decode cX0_tupletAt 163 = .ok (.ifCond .eq 7, 3) := dk_153 0 7 (dk_at dksX0_tupletAt_6 6 rfl rfl)
theorem dX0_tupletAt_166 : decode cX0_tupletAt 166 = .ok (.iconst 1, 1) := dk_4 (dk_at dksX0_tupletAt_6 9 rfl rfl)
theorem dX0_tupletAt_167 : decode cX0_tupletAt 167 = .ok (.goto 4, 3) := dk_167 0 4 (dk_at dksX0_tupletAt_6 10 rfl rfl)
theorem dX0_tupletAt_170 : decode cX0_tupletAt 170 = .ok (.iconst 0, 1) := dk_3 (dk_at dksX0_tupletAt_6 13 rfl rfl)
theorem dX0_tupletAt_171 : decode cX0_tupletAt 171 = .ok (.iadd, 1) := dk_96 (dk_at dksX0_tupletAt_6 14 rfl rfl)
theorem dX0_tupletAt_172 : decode cX0_tupletAt 172 = .ok (.istore 4, 2) := dk_54 4 (dk_at dksX0_tupletAt_6 15 rfl rfl)
theorem dX0_tupletAt_174 : decode cX0_tupletAt 174 = .ok (.iinc 5 1, 3) := dk_132 5 1 (dk_at dksX0_tupletAt_6 17 rfl rfl)
theorem dX0_tupletAt_177 : decode cX0_tupletAt 177 = .ok (.goto (-46), 3) := dk_167 255 210 (dk_at dksX0_tupletAt_6 20 rfl rfl)
theorem dX0_tupletAt_180 : decode cX0_tupletAt 180 = .ok (.aload_n 0, 1) := dk_42 (dk_at dksX0_tupletAt_6 23 rfl rfl)
theorem dX0_tupletAt_181 : decode cX0_tupletAt 181 = .ok (.iload 4, 2) := dk_21 4 (dk_at dksX0_tupletAt_7 0 rfl rfl)
theorem dX0_tupletAt_183 : decode cX0_tupletAt 183 = .ok (.invokevirtual 128, 3) := dk_182 0 128 (dk_at dksX0_tupletAt_7 2 rfl rfl)
theorem dX0_tupletAt_186 : decode cX0_tupletAt 186 = .ok (.ireturn, 1) := dk_172 (dk_at dksX0_tupletAt_7 5 rfl rfl)
theorem dX0_tupletAt_187 : decode cX0_tupletAt 187 = .ok (.aload_n 0, 1) := dk_42 (dk_at dksX0_tupletAt_7 6 rfl rfl)
theorem dX0_tupletAt_188 : decode cX0_tupletAt 188 = .ok (.bipush (-2), 2) := dk_16 254 (dk_at dksX0_tupletAt_7 7 rfl rfl)
theorem dX0_tupletAt_190 : decode cX0_tupletAt 190 = .ok (.invokevirtual 120, 3) := dk_182 0 120 (dk_at dksX0_tupletAt_7 9 rfl rfl)
theorem dX0_tupletAt_193 : decode cX0_tupletAt 193 = .ok (.ireturn, 1) := dk_172 (dk_at dksX0_tupletAt_7 12 rfl rfl)
abbrev cX0_line : ByteArray := prog_1_method_42_code
def yX0_line : MethodName := ⟨RX0, "line", "(III)I"⟩
def dkwX0_line_4 : List UInt8 := [100, 182, 0, 128, 172]
abbrev dktX0_line_4 : List UInt8 := dkwX0_line_4 ++ []
def dkwX0_line_3 : List UInt8 := [29, 182, 1, 95, 183, 1, 99, 83, 42, 89, 180, 0, 117, 4, 96, 181, 0, 117, 42, 42, 180, 0, 117, 4]
abbrev dktX0_line_3 : List UInt8 := dkwX0_line_3 ++ dktX0_line_4
def dkwX0_line_2 : List UInt8 := [182, 0, 120, 172, 42, 180, 0, 61, 42, 180, 0, 117, 187, 0, 59, 89, 27, 42, 180, 0, 49, 28, 50, 42]
abbrev dktX0_line_2 : List UInt8 := dkwX0_line_2 ++ dktX0_line_3
def dkwX0_line_1 : List UInt8 := [154, 0, 10, 42, 16, 254, 182, 0, 120, 172, 42, 180, 0, 117, 16, 30, 160, 0, 10, 42, 16, 252]
abbrev dktX0_line_1 : List UInt8 := dkwX0_line_1 ++ dktX0_line_2
def dkwX0_line_0 : List UInt8 := [27, 3, 6, 184, 0, 107, 153, 0, 19, 42, 28, 182, 0, 207, 153, 0, 11, 42, 29, 182, 1, 92]
abbrev dktX0_line_0 : List UInt8 := dkwX0_line_0 ++ dktX0_line_1
theorem dksX0_line_0 : cX0_line.data.toList.drop 0 = dktX0_line_0 := by decide +kernel
theorem dksX0_line_1 : cX0_line.data.toList.drop 22 = dktX0_line_1 := dk_seg dksX0_line_0 22 rfl rfl
theorem dksX0_line_2 : cX0_line.data.toList.drop 44 = dktX0_line_2 := dk_seg dksX0_line_1 22 rfl rfl
theorem dksX0_line_3 : cX0_line.data.toList.drop 68 = dktX0_line_3 := dk_seg dksX0_line_2 24 rfl rfl
theorem dksX0_line_4 : cX0_line.data.toList.drop 92 = dktX0_line_4 := dk_seg dksX0_line_3 24 rfl rfl
theorem dX0_line_0 : decode cX0_line 0 = .ok (.iload_n 1, 1) := dk_27 (dk_at dksX0_line_0 0 rfl rfl)
theorem dX0_line_1 : decode cX0_line 1 = .ok (.iconst 0, 1) := dk_3 (dk_at dksX0_line_0 1 rfl rfl)
theorem dX0_line_2 : decode cX0_line 2 = .ok (.iconst 3, 1) := dk_6 (dk_at dksX0_line_0 2 rfl rfl)
theorem dX0_line_3 : decode cX0_line 3 = .ok (.invokestatic 107, 3) := dk_184 0 107 (dk_at dksX0_line_0 3 rfl rfl)
theorem dX0_line_6 : decode cX0_line 6 = .ok (.ifCond .eq 19, 3) := dk_153 0 19 (dk_at dksX0_line_0 6 rfl rfl)
theorem dX0_line_9 : decode cX0_line 9 = .ok (.aload_n 0, 1) := dk_42 (dk_at dksX0_line_0 9 rfl rfl)
theorem dX0_line_10 : decode cX0_line 10 = .ok (.iload_n 2, 1) := dk_28 (dk_at dksX0_line_0 10 rfl rfl)
theorem dX0_line_11 : decode cX0_line 11 = .ok (.invokevirtual 207, 3) := dk_182 0 207 (dk_at dksX0_line_0 11 rfl rfl)
theorem dX0_line_14 : decode cX0_line 14 = .ok (.ifCond .eq 11, 3) := dk_153 0 11 (dk_at dksX0_line_0 14 rfl rfl)
theorem dX0_line_17 : decode cX0_line 17 = .ok (.aload_n 0, 1) := dk_42 (dk_at dksX0_line_0 17 rfl rfl)
theorem dX0_line_18 : decode cX0_line 18 = .ok (.iload_n 3, 1) := dk_29 (dk_at dksX0_line_0 18 rfl rfl)
theorem dX0_line_19 : decode cX0_line 19 = .ok (.invokevirtual 348, 3) := dk_182 1 92 (dk_at dksX0_line_0 19 rfl rfl)
theorem dX0_line_22 : decode cX0_line 22 = .ok (.ifCond .ne 10, 3) := dk_154 0 10 (dk_at dksX0_line_1 0 rfl rfl)
theorem dX0_line_25 : decode cX0_line 25 = .ok (.aload_n 0, 1) := dk_42 (dk_at dksX0_line_1 3 rfl rfl)
theorem dX0_line_26 : decode cX0_line 26 = .ok (.bipush (-2), 2) := dk_16 254 (dk_at dksX0_line_1 4 rfl rfl)
theorem dX0_line_28 : decode cX0_line 28 = .ok (.invokevirtual 120, 3) := dk_182 0 120 (dk_at dksX0_line_1 6 rfl rfl)
theorem dX0_line_31 : decode cX0_line 31 = .ok (.ireturn, 1) := dk_172 (dk_at dksX0_line_1 9 rfl rfl)
theorem dX0_line_32 : decode cX0_line 32 = .ok (.aload_n 0, 1) := dk_42 (dk_at dksX0_line_1 10 rfl rfl)
theorem dX0_line_33 : decode cX0_line 33 = .ok (.getfield 117, 3) := dk_180 0 117 (dk_at dksX0_line_1 11 rfl rfl)
theorem dX0_line_36 : decode cX0_line 36 = .ok (.bipush 30, 2) := dk_16 30 (dk_at dksX0_line_1 14 rfl rfl)
theorem dX0_line_38 : decode cX0_line 38 = .ok (.if_icmp .ne 10, 3) := dk_160 0 10 (dk_at dksX0_line_1 16 rfl rfl)
theorem dX0_line_41 : decode cX0_line 41 = .ok (.aload_n 0, 1) := dk_42 (dk_at dksX0_line_1 19 rfl rfl)
theorem dX0_line_42 : decode cX0_line 42 = .ok (.bipush (-4), 2) := dk_16 252 (dk_at dksX0_line_1 20 rfl rfl)
theorem dX0_line_44 : decode cX0_line 44 = .ok (.invokevirtual 120, 3) := dk_182 0 120 (dk_at dksX0_line_2 0 rfl rfl)
theorem dX0_line_47 : decode cX0_line 47 = .ok (.ireturn, 1) := dk_172 (dk_at dksX0_line_2 3 rfl rfl)
theorem dX0_line_48 : decode cX0_line 48 = .ok (.aload_n 0, 1) := dk_42 (dk_at dksX0_line_2 4 rfl rfl)
theorem dX0_line_49 : decode cX0_line 49 = .ok (.getfield 61, 3) := dk_180 0 61 (dk_at dksX0_line_2 5 rfl rfl)
theorem dX0_line_52 : decode cX0_line 52 = .ok (.aload_n 0, 1) := dk_42 (dk_at dksX0_line_2 8 rfl rfl)
theorem dX0_line_53 : decode cX0_line 53 = .ok (.getfield 117, 3) := dk_180 0 117 (dk_at dksX0_line_2 9 rfl rfl)
theorem dX0_line_56 : decode cX0_line 56 = .ok (.new 59, 3) := dk_187 0 59 (dk_at dksX0_line_2 12 rfl rfl)
theorem dX0_line_59 : decode cX0_line 59 = .ok (.dup, 1) := dk_89 (dk_at dksX0_line_2 15 rfl rfl)
theorem dX0_line_60 : decode cX0_line 60 = .ok (.iload_n 1, 1) := dk_27 (dk_at dksX0_line_2 16 rfl rfl)
theorem dX0_line_61 : decode cX0_line 61 = .ok (.aload_n 0, 1) := dk_42 (dk_at dksX0_line_2 17 rfl rfl)
theorem dX0_line_62 : decode cX0_line 62 = .ok (.getfield 49, 3) := dk_180 0 49 (dk_at dksX0_line_2 18 rfl rfl)
theorem dX0_line_65 : decode cX0_line 65 = .ok (.iload_n 2, 1) := dk_28 (dk_at dksX0_line_2 21 rfl rfl)
theorem dX0_line_66 : decode cX0_line 66 = .ok (.aaload, 1) := dk_50 (dk_at dksX0_line_2 22 rfl rfl)
theorem dX0_line_67 : decode cX0_line 67 = .ok (.aload_n 0, 1) := dk_42 (dk_at dksX0_line_2 23 rfl rfl)
theorem dX0_line_68 : decode cX0_line 68 = .ok (.iload_n 3, 1) := dk_29 (dk_at dksX0_line_3 0 rfl rfl)
theorem dX0_line_69 : decode cX0_line 69 = .ok (.invokevirtual 351, 3) := dk_182 1 95 (dk_at dksX0_line_3 1 rfl rfl)
theorem dX0_line_72 : decode cX0_line 72 = .ok (.invokespecial 355, 3) := dk_183 1 99 (dk_at dksX0_line_3 4 rfl rfl)
theorem dX0_line_75 : decode cX0_line 75 = .ok (.aastore, 1) := dk_83 (dk_at dksX0_line_3 7 rfl rfl)
theorem dX0_line_76 : decode cX0_line 76 = .ok (.aload_n 0, 1) := dk_42 (dk_at dksX0_line_3 8 rfl rfl)
theorem dX0_line_77 : decode cX0_line 77 = .ok (.dup, 1) := dk_89 (dk_at dksX0_line_3 9 rfl rfl)
theorem dX0_line_78 : decode cX0_line 78 = .ok (.getfield 117, 3) := dk_180 0 117 (dk_at dksX0_line_3 10 rfl rfl)
theorem dX0_line_81 : decode cX0_line 81 = .ok (.iconst 1, 1) := dk_4 (dk_at dksX0_line_3 13 rfl rfl)
theorem dX0_line_82 : decode cX0_line 82 = .ok (.iadd, 1) := dk_96 (dk_at dksX0_line_3 14 rfl rfl)
theorem dX0_line_83 : decode cX0_line 83 = .ok (.putfield 117, 3) := dk_181 0 117 (dk_at dksX0_line_3 15 rfl rfl)
theorem dX0_line_86 : decode cX0_line 86 = .ok (.aload_n 0, 1) := dk_42 (dk_at dksX0_line_3 18 rfl rfl)
theorem dX0_line_87 : decode cX0_line 87 = .ok (.aload_n 0, 1) := dk_42 (dk_at dksX0_line_3 19 rfl rfl)
theorem dX0_line_88 : decode cX0_line 88 = .ok (.getfield 117, 3) := dk_180 0 117 (dk_at dksX0_line_3 20 rfl rfl)
theorem dX0_line_91 : decode cX0_line 91 = .ok (.iconst 1, 1) := dk_4 (dk_at dksX0_line_3 23 rfl rfl)
theorem dX0_line_92 : decode cX0_line 92 = .ok (.isub, 1) := dk_100 (dk_at dksX0_line_4 0 rfl rfl)
theorem dX0_line_93 : decode cX0_line 93 = .ok (.invokevirtual 128, 3) := dk_182 0 128 (dk_at dksX0_line_4 1 rfl rfl)
theorem dX0_line_96 : decode cX0_line 96 = .ok (.ireturn, 1) := dk_172 (dk_at dksX0_line_4 4 rfl rfl)
abbrev cX0_mayEnd : ByteArray := prog_1_method_40_code
def yX0_mayEnd : MethodName := ⟨RX0, "mayEnd", "(I)Z"⟩
def dkwX0_mayEnd_0 : List UInt8 := [27, 2, 159, 0, 11, 42, 27, 182, 0, 207, 153, 0, 7, 4, 167, 0, 4, 3, 172]
abbrev dktX0_mayEnd_0 : List UInt8 := dkwX0_mayEnd_0 ++ []
theorem dksX0_mayEnd_0 : cX0_mayEnd.data.toList.drop 0 = dktX0_mayEnd_0 := by decide +kernel
theorem dX0_mayEnd_0 : decode cX0_mayEnd 0 = .ok (.iload_n 1, 1) := dk_27 (dk_at dksX0_mayEnd_0 0 rfl rfl)
theorem dX0_mayEnd_1 : decode cX0_mayEnd 1 = .ok (.iconst (-1), 1) := dk_2 (dk_at dksX0_mayEnd_0 1 rfl rfl)
theorem dX0_mayEnd_2 : decode cX0_mayEnd 2 = .ok (.if_icmp .eq 11, 3) := dk_159 0 11 (dk_at dksX0_mayEnd_0 2 rfl rfl)
theorem dX0_mayEnd_5 : decode cX0_mayEnd 5 = .ok (.aload_n 0, 1) := dk_42 (dk_at dksX0_mayEnd_0 5 rfl rfl)
theorem dX0_mayEnd_6 : decode cX0_mayEnd 6 = .ok (.iload_n 1, 1) := dk_27 (dk_at dksX0_mayEnd_0 6 rfl rfl)
theorem dX0_mayEnd_7 : decode cX0_mayEnd 7 = .ok (.invokevirtual 207, 3) := dk_182 0 207 (dk_at dksX0_mayEnd_0 7 rfl rfl)
theorem dX0_mayEnd_10 : decode cX0_mayEnd 10 = .ok (.ifCond .eq 7, 3) := dk_153 0 7 (dk_at dksX0_mayEnd_0 10 rfl rfl)
theorem dX0_mayEnd_13 : decode cX0_mayEnd 13 = .ok (.iconst 1, 1) := dk_4 (dk_at dksX0_mayEnd_0 13 rfl rfl)
theorem dX0_mayEnd_14 : decode cX0_mayEnd 14 = .ok (.goto 4, 3) := dk_167 0 4 (dk_at dksX0_mayEnd_0 14 rfl rfl)
theorem dX0_mayEnd_17 : decode cX0_mayEnd 17 = .ok (.iconst 0, 1) := dk_3 (dk_at dksX0_mayEnd_0 17 rfl rfl)
theorem dX0_mayEnd_18 : decode cX0_mayEnd 18 = .ok (.ireturn, 1) := dk_172 (dk_at dksX0_mayEnd_0 18 rfl rfl)
abbrev cX0_eventOr : ByteArray := prog_1_method_41_code
def yX0_eventOr : MethodName := ⟨RX0, "eventOr", "(I)LStaveScore$Event;"⟩
def dkwX0_eventOr_0 : List UInt8 := [27, 2, 160, 0, 7, 1, 167, 0, 9, 42, 180, 0, 49, 27, 50, 176]
abbrev dktX0_eventOr_0 : List UInt8 := dkwX0_eventOr_0 ++ []
theorem dksX0_eventOr_0 : cX0_eventOr.data.toList.drop 0 = dktX0_eventOr_0 := by decide +kernel
theorem dX0_eventOr_0 : decode cX0_eventOr 0 = .ok (.iload_n 1, 1) := dk_27 (dk_at dksX0_eventOr_0 0 rfl rfl)
theorem dX0_eventOr_1 : decode cX0_eventOr 1 = .ok (.iconst (-1), 1) := dk_2 (dk_at dksX0_eventOr_0 1 rfl rfl)
theorem dX0_eventOr_2 : decode cX0_eventOr 2 = .ok (.if_icmp .ne 7, 3) := dk_160 0 7 (dk_at dksX0_eventOr_0 2 rfl rfl)
theorem dX0_eventOr_5 : decode cX0_eventOr 5 = .ok (.aconst_null, 1) := dk_1 (dk_at dksX0_eventOr_0 5 rfl rfl)
theorem dX0_eventOr_6 : decode cX0_eventOr 6 = .ok (.goto 9, 3) := dk_167 0 9 (dk_at dksX0_eventOr_0 6 rfl rfl)
theorem dX0_eventOr_9 : decode cX0_eventOr 9 = .ok (.aload_n 0, 1) := dk_42 (dk_at dksX0_eventOr_0 9 rfl rfl)
theorem dX0_eventOr_10 : decode cX0_eventOr 10 = .ok (.getfield 49, 3) := dk_180 0 49 (dk_at dksX0_eventOr_0 10 rfl rfl)
theorem dX0_eventOr_13 : decode cX0_eventOr 13 = .ok (.iload_n 1, 1) := dk_27 (dk_at dksX0_eventOr_0 13 rfl rfl)
theorem dX0_eventOr_14 : decode cX0_eventOr 14 = .ok (.aaload, 1) := dk_50 (dk_at dksX0_eventOr_0 14 rfl rfl)
theorem dX0_eventOr_15 : decode cX0_eventOr 15 = .ok (.areturn, 1) := dk_176 (dk_at dksX0_eventOr_0 15 rfl rfl)
abbrev cX0_end : ByteArray := prog_1_method_43_code
def yX0_end : MethodName := ⟨RX0, "end", "(II)I"⟩
def dkwX0_end_1 : List UInt8 := [180, 0, 61, 27, 50, 42, 28, 182, 1, 95, 181, 0, 210, 42, 4, 182, 0, 128, 172]
abbrev dktX0_end_1 : List UInt8 := dkwX0_end_1 ++ []
def dkwX0_end_0 : List UInt8 := [42, 27, 182, 1, 102, 153, 0, 11, 42, 28, 182, 1, 92, 154, 0, 10, 42, 16, 254, 182, 0, 120, 172, 42]
abbrev dktX0_end_0 : List UInt8 := dkwX0_end_0 ++ dktX0_end_1
theorem dksX0_end_0 : cX0_end.data.toList.drop 0 = dktX0_end_0 := by decide +kernel
theorem dksX0_end_1 : cX0_end.data.toList.drop 24 = dktX0_end_1 := dk_seg dksX0_end_0 24 rfl rfl
theorem dX0_end_0 : decode cX0_end 0 = .ok (.aload_n 0, 1) := dk_42 (dk_at dksX0_end_0 0 rfl rfl)
theorem dX0_end_1 : decode cX0_end 1 = .ok (.iload_n 1, 1) := dk_27 (dk_at dksX0_end_0 1 rfl rfl)
theorem dX0_end_2 : decode cX0_end 2 = .ok (.invokevirtual 358, 3) := dk_182 1 102 (dk_at dksX0_end_0 2 rfl rfl)
theorem dX0_end_5 : decode cX0_end 5 = .ok (.ifCond .eq 11, 3) := dk_153 0 11 (dk_at dksX0_end_0 5 rfl rfl)
theorem dX0_end_8 : decode cX0_end 8 = .ok (.aload_n 0, 1) := dk_42 (dk_at dksX0_end_0 8 rfl rfl)
theorem dX0_end_9 : decode cX0_end 9 = .ok (.iload_n 2, 1) := dk_28 (dk_at dksX0_end_0 9 rfl rfl)
theorem dX0_end_10 : decode cX0_end 10 = .ok (.invokevirtual 348, 3) := dk_182 1 92 (dk_at dksX0_end_0 10 rfl rfl)
theorem dX0_end_13 : decode cX0_end 13 = .ok (.ifCond .ne 10, 3) := dk_154 0 10 (dk_at dksX0_end_0 13 rfl rfl)
theorem dX0_end_16 : decode cX0_end 16 = .ok (.aload_n 0, 1) := dk_42 (dk_at dksX0_end_0 16 rfl rfl)
theorem dX0_end_17 : decode cX0_end 17 = .ok (.bipush (-2), 2) := dk_16 254 (dk_at dksX0_end_0 17 rfl rfl)
theorem dX0_end_19 : decode cX0_end 19 = .ok (.invokevirtual 120, 3) := dk_182 0 120 (dk_at dksX0_end_0 19 rfl rfl)
theorem dX0_end_22 : decode cX0_end 22 = .ok (.ireturn, 1) := dk_172 (dk_at dksX0_end_0 22 rfl rfl)
theorem dX0_end_23 : decode cX0_end 23 = .ok (.aload_n 0, 1) := dk_42 (dk_at dksX0_end_0 23 rfl rfl)
theorem dX0_end_24 : decode cX0_end 24 = .ok (.getfield 61, 3) := dk_180 0 61 (dk_at dksX0_end_1 0 rfl rfl)
theorem dX0_end_27 : decode cX0_end 27 = .ok (.iload_n 1, 1) := dk_27 (dk_at dksX0_end_1 3 rfl rfl)
theorem dX0_end_28 : decode cX0_end 28 = .ok (.aaload, 1) := dk_50 (dk_at dksX0_end_1 4 rfl rfl)
theorem dX0_end_29 : decode cX0_end 29 = .ok (.aload_n 0, 1) := dk_42 (dk_at dksX0_end_1 5 rfl rfl)
theorem dX0_end_30 : decode cX0_end 30 = .ok (.iload_n 2, 1) := dk_28 (dk_at dksX0_end_1 6 rfl rfl)
theorem dX0_end_31 : decode cX0_end 31 = .ok (.invokevirtual 351, 3) := dk_182 1 95 (dk_at dksX0_end_1 7 rfl rfl)
theorem dX0_end_34 : decode cX0_end 34 = .ok (.putfield 210, 3) := dk_181 0 210 (dk_at dksX0_end_1 10 rfl rfl)
theorem dX0_end_37 : decode cX0_end 37 = .ok (.aload_n 0, 1) := dk_42 (dk_at dksX0_end_1 13 rfl rfl)
theorem dX0_end_38 : decode cX0_end 38 = .ok (.iconst 1, 1) := dk_4 (dk_at dksX0_end_1 14 rfl rfl)
theorem dX0_end_39 : decode cX0_end 39 = .ok (.invokevirtual 128, 3) := dk_182 0 128 (dk_at dksX0_end_1 15 rfl rfl)
theorem dX0_end_42 : decode cX0_end 42 = .ok (.ireturn, 1) := dk_172 (dk_at dksX0_end_1 18 rfl rfl)
abbrev cX0_isLine : ByteArray := prog_1_method_10_code
def yX0_isLine : MethodName := ⟨RX0, "isLine", "(I)Z"⟩
def dkwX0_isLine_1 : List UInt8 := [167, 0, 4, 3, 172]
abbrev dktX0_isLine_1 : List UInt8 := dkwX0_isLine_1 ++ []
def dkwX0_isLine_0 : List UInt8 := [27, 3, 42, 180, 0, 117, 4, 100, 184, 0, 107, 153, 0, 16, 42, 180, 0, 61, 27, 50, 198, 0, 7, 4]
abbrev dktX0_isLine_0 : List UInt8 := dkwX0_isLine_0 ++ dktX0_isLine_1
theorem dksX0_isLine_0 : cX0_isLine.data.toList.drop 0 = dktX0_isLine_0 := by decide +kernel
theorem dksX0_isLine_1 : cX0_isLine.data.toList.drop 24 = dktX0_isLine_1 := dk_seg dksX0_isLine_0 24 rfl rfl
theorem dX0_isLine_0 : decode cX0_isLine 0 = .ok (.iload_n 1, 1) := dk_27 (dk_at dksX0_isLine_0 0 rfl rfl)
theorem dX0_isLine_1 : decode cX0_isLine 1 = .ok (.iconst 0, 1) := dk_3 (dk_at dksX0_isLine_0 1 rfl rfl)
theorem dX0_isLine_2 : decode cX0_isLine 2 = .ok (.aload_n 0, 1) := dk_42 (dk_at dksX0_isLine_0 2 rfl rfl)
theorem dX0_isLine_3 : decode cX0_isLine 3 = .ok (.getfield 117, 3) := dk_180 0 117 (dk_at dksX0_isLine_0 3 rfl rfl)
theorem dX0_isLine_6 : decode cX0_isLine 6 = .ok (.iconst 1, 1) := dk_4 (dk_at dksX0_isLine_0 6 rfl rfl)
theorem dX0_isLine_7 : decode cX0_isLine 7 = .ok (.isub, 1) := dk_100 (dk_at dksX0_isLine_0 7 rfl rfl)
theorem dX0_isLine_8 : decode cX0_isLine 8 = .ok (.invokestatic 107, 3) := dk_184 0 107 (dk_at dksX0_isLine_0 8 rfl rfl)
theorem dX0_isLine_11 : decode cX0_isLine 11 = .ok (.ifCond .eq 16, 3) := dk_153 0 16 (dk_at dksX0_isLine_0 11 rfl rfl)
theorem dX0_isLine_14 : decode cX0_isLine 14 = .ok (.aload_n 0, 1) := dk_42 (dk_at dksX0_isLine_0 14 rfl rfl)
theorem dX0_isLine_15 : decode cX0_isLine 15 = .ok (.getfield 61, 3) := dk_180 0 61 (dk_at dksX0_isLine_0 15 rfl rfl)
theorem dX0_isLine_18 : decode cX0_isLine 18 = .ok (.iload_n 1, 1) := dk_27 (dk_at dksX0_isLine_0 18 rfl rfl)
theorem dX0_isLine_19 : decode cX0_isLine 19 = .ok (.aaload, 1) := dk_50 (dk_at dksX0_isLine_0 19 rfl rfl)
theorem dX0_isLine_20 : decode cX0_isLine 20 = .ok (.ifnull 7, 3) := dk_198 0 7 (dk_at dksX0_isLine_0 20 rfl rfl)
theorem dX0_isLine_23 : decode cX0_isLine 23 = .ok (.iconst 1, 1) := dk_4 (dk_at dksX0_isLine_0 23 rfl rfl)
theorem dX0_isLine_24 : decode cX0_isLine 24 = .ok (.goto 4, 3) := dk_167 0 4 (dk_at dksX0_isLine_1 0 rfl rfl)
theorem dX0_isLine_27 : decode cX0_isLine 27 = .ok (.iconst 0, 1) := dk_3 (dk_at dksX0_isLine_1 3 rfl rfl)
theorem dX0_isLine_28 : decode cX0_isLine 28 = .ok (.ireturn, 1) := dk_172 (dk_at dksX0_isLine_1 4 rfl rfl)
abbrev cX0_lineAt : ByteArray := prog_1_method_44_code
def yX0_lineAt : MethodName := ⟨RX0, "lineAt", "(II)I"⟩
def dkwX0_lineAt_3 : List UInt8 := [180, 0, 210, 180, 1, 66, 182, 0, 128, 172]
abbrev dktX0_lineAt_3 : List UInt8 := dkwX0_lineAt_3 ++ []
def dkwX0_lineAt_2 : List UInt8 := [45, 180, 0, 214, 180, 1, 66, 167, 0, 21, 45, 180, 0, 210, 199, 0, 7, 2, 167, 0, 10, 45]
abbrev dktX0_lineAt_2 : List UInt8 := dkwX0_lineAt_2 ++ dktX0_lineAt_3
def dkwX0_lineAt_1 : List UInt8 := [42, 180, 0, 61, 27, 50, 78, 42, 28, 154, 0, 10, 45, 180, 0, 236, 167, 0, 36, 28, 4, 160, 0, 13]
abbrev dktX0_lineAt_1 : List UInt8 := dkwX0_lineAt_1 ++ dktX0_lineAt_2
def dkwX0_lineAt_0 : List UInt8 := [42, 27, 182, 1, 102, 153, 0, 12, 28, 3, 5, 184, 0, 107, 154, 0, 10, 42, 16, 254, 182, 0, 120, 172]
abbrev dktX0_lineAt_0 : List UInt8 := dkwX0_lineAt_0 ++ dktX0_lineAt_1
theorem dksX0_lineAt_0 : cX0_lineAt.data.toList.drop 0 = dktX0_lineAt_0 := by decide +kernel
theorem dksX0_lineAt_1 : cX0_lineAt.data.toList.drop 24 = dktX0_lineAt_1 := dk_seg dksX0_lineAt_0 24 rfl rfl
theorem dksX0_lineAt_2 : cX0_lineAt.data.toList.drop 48 = dktX0_lineAt_2 := dk_seg dksX0_lineAt_1 24 rfl rfl
theorem dksX0_lineAt_3 : cX0_lineAt.data.toList.drop 70 = dktX0_lineAt_3 := dk_seg dksX0_lineAt_2 22 rfl rfl
theorem dX0_lineAt_0 : decode cX0_lineAt 0 = .ok (.aload_n 0, 1) := dk_42 (dk_at dksX0_lineAt_0 0 rfl rfl)
theorem dX0_lineAt_1 : decode cX0_lineAt 1 = .ok (.iload_n 1, 1) := dk_27 (dk_at dksX0_lineAt_0 1 rfl rfl)
theorem dX0_lineAt_2 : decode cX0_lineAt 2 = .ok (.invokevirtual 358, 3) := dk_182 1 102 (dk_at dksX0_lineAt_0 2 rfl rfl)
theorem dX0_lineAt_5 : decode cX0_lineAt 5 = .ok (.ifCond .eq 12, 3) := dk_153 0 12 (dk_at dksX0_lineAt_0 5 rfl rfl)
theorem dX0_lineAt_8 : decode cX0_lineAt 8 = .ok (.iload_n 2, 1) := dk_28 (dk_at dksX0_lineAt_0 8 rfl rfl)
theorem dX0_lineAt_9 : decode cX0_lineAt 9 = .ok (.iconst 0, 1) := dk_3 (dk_at dksX0_lineAt_0 9 rfl rfl)
theorem dX0_lineAt_10 : decode cX0_lineAt 10 = .ok (.iconst 2, 1) := dk_5 (dk_at dksX0_lineAt_0 10 rfl rfl)
theorem dX0_lineAt_11 : decode cX0_lineAt 11 = .ok (.invokestatic 107, 3) := dk_184 0 107 (dk_at dksX0_lineAt_0 11 rfl rfl)
theorem dX0_lineAt_14 : decode cX0_lineAt 14 = .ok (.ifCond .ne 10, 3) := dk_154 0 10 (dk_at dksX0_lineAt_0 14 rfl rfl)
theorem dX0_lineAt_17 : decode cX0_lineAt 17 = .ok (.aload_n 0, 1) := dk_42 (dk_at dksX0_lineAt_0 17 rfl rfl)
theorem dX0_lineAt_18 : decode cX0_lineAt 18 = .ok (.bipush (-2), 2) := dk_16 254 (dk_at dksX0_lineAt_0 18 rfl rfl)
theorem dX0_lineAt_20 : decode cX0_lineAt 20 = .ok (.invokevirtual 120, 3) := dk_182 0 120 (dk_at dksX0_lineAt_0 20 rfl rfl)
theorem dX0_lineAt_23 : decode cX0_lineAt 23 = .ok (.ireturn, 1) := dk_172 (dk_at dksX0_lineAt_0 23 rfl rfl)
theorem dX0_lineAt_24 : decode cX0_lineAt 24 = .ok (.aload_n 0, 1) := dk_42 (dk_at dksX0_lineAt_1 0 rfl rfl)
theorem dX0_lineAt_25 : decode cX0_lineAt 25 = .ok (.getfield 61, 3) := dk_180 0 61 (dk_at dksX0_lineAt_1 1 rfl rfl)
theorem dX0_lineAt_28 : decode cX0_lineAt 28 = .ok (.iload_n 1, 1) := dk_27 (dk_at dksX0_lineAt_1 4 rfl rfl)
theorem dX0_lineAt_29 : decode cX0_lineAt 29 = .ok (.aaload, 1) := dk_50 (dk_at dksX0_lineAt_1 5 rfl rfl)
theorem dX0_lineAt_30 : decode cX0_lineAt 30 = .ok (.astore_n 3, 1) := dk_78 (dk_at dksX0_lineAt_1 6 rfl rfl)
theorem dX0_lineAt_31 : decode cX0_lineAt 31 = .ok (.aload_n 0, 1) := dk_42 (dk_at dksX0_lineAt_1 7 rfl rfl)
theorem dX0_lineAt_32 : decode cX0_lineAt 32 = .ok (.iload_n 2, 1) := dk_28 (dk_at dksX0_lineAt_1 8 rfl rfl)
theorem dX0_lineAt_33 : decode cX0_lineAt 33 = .ok (.ifCond .ne 10, 3) := dk_154 0 10 (dk_at dksX0_lineAt_1 9 rfl rfl)
theorem dX0_lineAt_36 : decode cX0_lineAt 36 = .ok (.aload_n 3, 1) := dk_45 (dk_at dksX0_lineAt_1 12 rfl rfl)
theorem dX0_lineAt_37 : decode cX0_lineAt 37 = .ok (.getfield 236, 3) := dk_180 0 236 (dk_at dksX0_lineAt_1 13 rfl rfl)
theorem dX0_lineAt_40 : decode cX0_lineAt 40 = .ok (.goto 36, 3) := dk_167 0 36 (dk_at dksX0_lineAt_1 16 rfl rfl)
theorem dX0_lineAt_43 : decode cX0_lineAt 43 = .ok (.iload_n 2, 1) := dk_28 (dk_at dksX0_lineAt_1 19 rfl rfl)
theorem dX0_lineAt_44 : decode cX0_lineAt 44 = .ok (.iconst 1, 1) := dk_4 (dk_at dksX0_lineAt_1 20 rfl rfl)
theorem dX0_lineAt_45 : decode cX0_lineAt 45 = .ok (.if_icmp .ne 13, 3) := dk_160 0 13 (dk_at dksX0_lineAt_1 21 rfl rfl)
theorem dX0_lineAt_48 : decode cX0_lineAt 48 = .ok (.aload_n 3, 1) := dk_45 (dk_at dksX0_lineAt_2 0 rfl rfl)
theorem dX0_lineAt_49 : decode cX0_lineAt 49 = .ok (.getfield 214, 3) := dk_180 0 214 (dk_at dksX0_lineAt_2 1 rfl rfl)
theorem dX0_lineAt_52 : decode cX0_lineAt 52 = .ok (.getfield 322, 3) := dk_180 1 66 (dk_at dksX0_lineAt_2 4 rfl rfl)
theorem dX0_lineAt_55 : decode cX0_lineAt 55 = .ok (.goto 21, 3) := dk_167 0 21 (dk_at dksX0_lineAt_2 7 rfl rfl)
theorem dX0_lineAt_58 : decode cX0_lineAt 58 = .ok (.aload_n 3, 1) := dk_45 (dk_at dksX0_lineAt_2 10 rfl rfl)
theorem dX0_lineAt_59 : decode cX0_lineAt 59 = .ok (.getfield 210, 3) := dk_180 0 210 (dk_at dksX0_lineAt_2 11 rfl rfl)
theorem dX0_lineAt_62 : decode cX0_lineAt 62 = .ok (.ifnonnull 7, 3) := dk_199 0 7 (dk_at dksX0_lineAt_2 14 rfl rfl)
theorem dX0_lineAt_65 : decode cX0_lineAt 65 = .ok (.iconst (-1), 1) := dk_2 (dk_at dksX0_lineAt_2 17 rfl rfl)
theorem dX0_lineAt_66 : decode cX0_lineAt 66 = .ok (.goto 10, 3) := dk_167 0 10 (dk_at dksX0_lineAt_2 18 rfl rfl)
theorem dX0_lineAt_69 : decode cX0_lineAt 69 = .ok (.aload_n 3, 1) := dk_45 (dk_at dksX0_lineAt_2 21 rfl rfl)
theorem dX0_lineAt_70 : decode cX0_lineAt 70 = .ok (.getfield 210, 3) := dk_180 0 210 (dk_at dksX0_lineAt_3 0 rfl rfl)
theorem dX0_lineAt_73 : decode cX0_lineAt 73 = .ok (.getfield 322, 3) := dk_180 1 66 (dk_at dksX0_lineAt_3 3 rfl rfl)
theorem dX0_lineAt_76 : decode cX0_lineAt 76 = .ok (.invokevirtual 128, 3) := dk_182 0 128 (dk_at dksX0_lineAt_3 6 rfl rfl)
theorem dX0_lineAt_79 : decode cX0_lineAt 79 = .ok (.ireturn, 1) := dk_172 (dk_at dksX0_lineAt_3 9 rfl rfl)
abbrev cX0_walk : ByteArray := prog_1_method_45_code
def yX0_walk : MethodName := ⟨RX0, "walk", "()I"⟩
def dkwX0_walk_3 : List UInt8 := [180, 1, 105, 182, 0, 128, 172]
abbrev dktX0_walk_3 : List UInt8 := dkwX0_walk_3 ++ []
def dkwX0_walk_2 : List UInt8 := [50, 180, 0, 162, 28, 50, 182, 1, 108, 132, 2, 1, 167, 255, 225, 132, 1, 1, 167, 255, 197, 42, 42]
abbrev dktX0_walk_2 : List UInt8 := dkwX0_walk_2 ++ dktX0_walk_3
def dkwX0_walk_1 : List UInt8 := [182, 1, 52, 3, 61, 28, 42, 180, 0, 43, 27, 50, 180, 0, 159, 162, 0, 24, 42, 42, 180, 0, 43, 27]
abbrev dktX0_walk_1 : List UInt8 := dkwX0_walk_1 ++ dktX0_walk_2
def dkwX0_walk_0 : List UInt8 := [42, 3, 181, 1, 105, 3, 60, 27, 6, 42, 180, 0, 104, 104, 162, 0, 55, 42, 42, 180, 0, 43, 27, 50]
abbrev dktX0_walk_0 : List UInt8 := dkwX0_walk_0 ++ dktX0_walk_1
theorem dksX0_walk_0 : cX0_walk.data.toList.drop 0 = dktX0_walk_0 := by decide +kernel
theorem dksX0_walk_1 : cX0_walk.data.toList.drop 24 = dktX0_walk_1 := dk_seg dksX0_walk_0 24 rfl rfl
theorem dksX0_walk_2 : cX0_walk.data.toList.drop 48 = dktX0_walk_2 := dk_seg dksX0_walk_1 24 rfl rfl
theorem dksX0_walk_3 : cX0_walk.data.toList.drop 71 = dktX0_walk_3 := dk_seg dksX0_walk_2 23 rfl rfl
theorem dX0_walk_0 : decode cX0_walk 0 = .ok (.aload_n 0, 1) := dk_42 (dk_at dksX0_walk_0 0 rfl rfl)
theorem dX0_walk_1 : decode cX0_walk 1 = .ok (.iconst 0, 1) := dk_3 (dk_at dksX0_walk_0 1 rfl rfl)
theorem dX0_walk_2 : decode cX0_walk 2 = .ok (.putfield 361, 3) := dk_181 1 105 (dk_at dksX0_walk_0 2 rfl rfl)
theorem dX0_walk_5 : decode cX0_walk 5 = .ok (.iconst 0, 1) := dk_3 (dk_at dksX0_walk_0 5 rfl rfl)
theorem dX0_walk_6 : decode cX0_walk 6 = .ok (.istore_n 1, 1) := dk_60 (dk_at dksX0_walk_0 6 rfl rfl)
theorem dX0_walk_7 : decode cX0_walk 7 = .ok (.iload_n 1, 1) := dk_27 (dk_at dksX0_walk_0 7 rfl rfl)
theorem dX0_walk_8 : decode cX0_walk 8 = .ok (.iconst 3, 1) := dk_6 (dk_at dksX0_walk_0 8 rfl rfl)
theorem dX0_walk_9 : decode cX0_walk 9 = .ok (.aload_n 0, 1) := dk_42 (dk_at dksX0_walk_0 9 rfl rfl)
theorem dX0_walk_10 : decode cX0_walk 10 = .ok (.getfield 104, 3) := dk_180 0 104 (dk_at dksX0_walk_0 10 rfl rfl)
theorem dX0_walk_13 : decode cX0_walk 13 = .ok (.imul, 1) := dk_104 (dk_at dksX0_walk_0 13 rfl rfl)
theorem dX0_walk_14 : decode cX0_walk 14 = .ok (.if_icmp .ge 55, 3) := dk_162 0 55 (dk_at dksX0_walk_0 14 rfl rfl)
theorem dX0_walk_17 : decode cX0_walk 17 = .ok (.aload_n 0, 1) := dk_42 (dk_at dksX0_walk_0 17 rfl rfl)
theorem dX0_walk_18 : decode cX0_walk 18 = .ok (.aload_n 0, 1) := dk_42 (dk_at dksX0_walk_0 18 rfl rfl)
theorem dX0_walk_19 : decode cX0_walk 19 = .ok (.getfield 43, 3) := dk_180 0 43 (dk_at dksX0_walk_0 19 rfl rfl)
theorem dX0_walk_22 : decode cX0_walk 22 = .ok (.iload_n 1, 1) := dk_27 (dk_at dksX0_walk_0 22 rfl rfl)
theorem dX0_walk_23 : decode cX0_walk 23 = .ok (.aaload, 1) := dk_50 (dk_at dksX0_walk_0 23 rfl rfl)
theorem dX0_walk_24 : decode cX0_walk 24 = .ok (.invokevirtual 308, 3) := dk_182 1 52 (dk_at dksX0_walk_1 0 rfl rfl)
theorem dX0_walk_27 : decode cX0_walk 27 = .ok (.iconst 0, 1) := dk_3 (dk_at dksX0_walk_1 3 rfl rfl)
theorem dX0_walk_28 : decode cX0_walk 28 = .ok (.istore_n 2, 1) := dk_61 (dk_at dksX0_walk_1 4 rfl rfl)
theorem dX0_walk_29 : decode cX0_walk 29 = .ok (.iload_n 2, 1) := dk_28 (dk_at dksX0_walk_1 5 rfl rfl)
theorem dX0_walk_30 : decode cX0_walk 30 = .ok (.aload_n 0, 1) := dk_42 (dk_at dksX0_walk_1 6 rfl rfl)
theorem dX0_walk_31 : decode cX0_walk 31 = .ok (.getfield 43, 3) := dk_180 0 43 (dk_at dksX0_walk_1 7 rfl rfl)
theorem dX0_walk_34 : decode cX0_walk 34 = .ok (.iload_n 1, 1) := dk_27 (dk_at dksX0_walk_1 10 rfl rfl)
theorem dX0_walk_35 : decode cX0_walk 35 = .ok (.aaload, 1) := dk_50 (dk_at dksX0_walk_1 11 rfl rfl)
theorem dX0_walk_36 : decode cX0_walk 36 = .ok (.getfield 159, 3) := dk_180 0 159 (dk_at dksX0_walk_1 12 rfl rfl)
theorem dX0_walk_39 : decode cX0_walk 39 = .ok (.if_icmp .ge 24, 3) := dk_162 0 24 (dk_at dksX0_walk_1 15 rfl rfl)
theorem dX0_walk_42 : decode cX0_walk 42 = .ok (.aload_n 0, 1) := dk_42 (dk_at dksX0_walk_1 18 rfl rfl)
theorem dX0_walk_43 : decode cX0_walk 43 = .ok (.aload_n 0, 1) := dk_42 (dk_at dksX0_walk_1 19 rfl rfl)
theorem dX0_walk_44 : decode cX0_walk 44 = .ok (.getfield 43, 3) := dk_180 0 43 (dk_at dksX0_walk_1 20 rfl rfl)
theorem dX0_walk_47 : decode cX0_walk 47 = .ok (.iload_n 1, 1) := dk_27 (dk_at dksX0_walk_1 23 rfl rfl)
theorem dX0_walk_48 : decode cX0_walk 48 = .ok (.aaload, 1) := dk_50 (dk_at dksX0_walk_2 0 rfl rfl)
theorem dX0_walk_49 : decode cX0_walk 49 = .ok (.getfield 162, 3) := dk_180 0 162 (dk_at dksX0_walk_2 1 rfl rfl)
theorem dX0_walk_52 : decode cX0_walk 52 = .ok (.iload_n 2, 1) := dk_28 (dk_at dksX0_walk_2 4 rfl rfl)
theorem dX0_walk_53 : decode cX0_walk 53 = .ok (.aaload, 1) := dk_50 (dk_at dksX0_walk_2 5 rfl rfl)
theorem dX0_walk_54 : decode cX0_walk 54 = .ok (.invokevirtual 364, 3) := dk_182 1 108 (dk_at dksX0_walk_2 6 rfl rfl)
theorem dX0_walk_57 : decode cX0_walk 57 = .ok (.iinc 2 1, 3) := dk_132 2 1 (dk_at dksX0_walk_2 9 rfl rfl)
theorem dX0_walk_60 : decode cX0_walk 60 = .ok (.goto (-31), 3) := dk_167 255 225 (dk_at dksX0_walk_2 12 rfl rfl)
theorem dX0_walk_63 : decode cX0_walk 63 = .ok (.iinc 1 1, 3) := dk_132 1 1 (dk_at dksX0_walk_2 15 rfl rfl)
theorem dX0_walk_66 : decode cX0_walk 66 = .ok (.goto (-59), 3) := dk_167 255 197 (dk_at dksX0_walk_2 18 rfl rfl)
theorem dX0_walk_69 : decode cX0_walk 69 = .ok (.aload_n 0, 1) := dk_42 (dk_at dksX0_walk_2 21 rfl rfl)
theorem dX0_walk_70 : decode cX0_walk 70 = .ok (.aload_n 0, 1) := dk_42 (dk_at dksX0_walk_2 22 rfl rfl)
theorem dX0_walk_71 : decode cX0_walk 71 = .ok (.getfield 361, 3) := dk_180 1 105 (dk_at dksX0_walk_3 0 rfl rfl)
theorem dX0_walk_74 : decode cX0_walk 74 = .ok (.invokevirtual 128, 3) := dk_182 0 128 (dk_at dksX0_walk_3 3 rfl rfl)
theorem dX0_walk_77 : decode cX0_walk 77 = .ok (.ireturn, 1) := dk_172 (dk_at dksX0_walk_3 6 rfl rfl)
abbrev cX0_comes : ByteArray := prog_1_method_46_code
def yX0_comes : MethodName := ⟨RX0, "comes", "(LStaveScore$Event;)V"⟩
def dkwX0_comes_3 : List UInt8 := [4, 96, 181, 1, 105, 177]
abbrev dktX0_comes_3 : List UInt8 := dkwX0_comes_3 ++ []
def dkwX0_comes_2 : List UInt8 := [100, 46, 79, 132, 2, 255, 167, 255, 209, 42, 180, 0, 76, 28, 43, 180, 1, 66, 79, 42, 89, 180, 1, 105]
abbrev dktX0_comes_2 : List UInt8 := dkwX0_comes_2 ++ dktX0_comes_3
def dkwX0_comes_1 : List UInt8 := [180, 1, 27, 43, 180, 1, 27, 182, 1, 37, 158, 0, 23, 42, 180, 0, 76, 28, 42, 180, 0, 76, 28, 4]
abbrev dktX0_comes_1 : List UInt8 := dkwX0_comes_1 ++ dktX0_comes_2
def dkwX0_comes_0 : List UInt8 := [42, 180, 1, 105, 61, 28, 158, 0, 49, 42, 180, 0, 49, 42, 180, 0, 76, 28, 4, 100, 46, 50]
abbrev dktX0_comes_0 : List UInt8 := dkwX0_comes_0 ++ dktX0_comes_1
theorem dksX0_comes_0 : cX0_comes.data.toList.drop 0 = dktX0_comes_0 := by decide +kernel
theorem dksX0_comes_1 : cX0_comes.data.toList.drop 22 = dktX0_comes_1 := dk_seg dksX0_comes_0 22 rfl rfl
theorem dksX0_comes_2 : cX0_comes.data.toList.drop 46 = dktX0_comes_2 := dk_seg dksX0_comes_1 24 rfl rfl
theorem dksX0_comes_3 : cX0_comes.data.toList.drop 70 = dktX0_comes_3 := dk_seg dksX0_comes_2 24 rfl rfl
theorem dX0_comes_0 : decode cX0_comes 0 = .ok (.aload_n 0, 1) := dk_42 (dk_at dksX0_comes_0 0 rfl rfl)
theorem dX0_comes_1 : decode cX0_comes 1 = .ok (.getfield 361, 3) := dk_180 1 105 (dk_at dksX0_comes_0 1 rfl rfl)
theorem dX0_comes_4 : decode cX0_comes 4 = .ok (.istore_n 2, 1) := dk_61 (dk_at dksX0_comes_0 4 rfl rfl)
theorem dX0_comes_5 : decode cX0_comes 5 = .ok (.iload_n 2, 1) := dk_28 (dk_at dksX0_comes_0 5 rfl rfl)
theorem dX0_comes_6 : decode cX0_comes 6 = .ok (.ifCond .le 49, 3) := dk_158 0 49 (dk_at dksX0_comes_0 6 rfl rfl)
theorem dX0_comes_9 : decode cX0_comes 9 = .ok (.aload_n 0, 1) := dk_42 (dk_at dksX0_comes_0 9 rfl rfl)
theorem dX0_comes_10 : decode cX0_comes 10 = .ok (.getfield 49, 3) := dk_180 0 49 (dk_at dksX0_comes_0 10 rfl rfl)
theorem dX0_comes_13 : decode cX0_comes 13 = .ok (.aload_n 0, 1) := dk_42 (dk_at dksX0_comes_0 13 rfl rfl)
theorem dX0_comes_14 : decode cX0_comes 14 = .ok (.getfield 76, 3) := dk_180 0 76 (dk_at dksX0_comes_0 14 rfl rfl)
theorem dX0_comes_17 : decode cX0_comes 17 = .ok (.iload_n 2, 1) := dk_28 (dk_at dksX0_comes_0 17 rfl rfl)
theorem dX0_comes_18 : decode cX0_comes 18 = .ok (.iconst 1, 1) := dk_4 (dk_at dksX0_comes_0 18 rfl rfl)
theorem dX0_comes_19 : decode cX0_comes 19 = .ok (.isub, 1) := dk_100 (dk_at dksX0_comes_0 19 rfl rfl)
theorem dX0_comes_20 : decode cX0_comes 20 = .ok (.iaload, 1) := dk_46 (dk_at dksX0_comes_0 20 rfl rfl)
theorem dX0_comes_21 : decode cX0_comes 21 = .ok (.aaload, 1) := dk_50 (dk_at dksX0_comes_0 21 rfl rfl)
theorem dX0_comes_22 : decode cX0_comes 22 = .ok (.getfield 283, 3) := dk_180 1 27 (dk_at dksX0_comes_1 0 rfl rfl)
theorem dX0_comes_25 : decode cX0_comes 25 = .ok (.aload_n 1, 1) := dk_43 (dk_at dksX0_comes_1 3 rfl rfl)
theorem dX0_comes_26 : decode cX0_comes 26 = .ok (.getfield 283, 3) := dk_180 1 27 (dk_at dksX0_comes_1 4 rfl rfl)
theorem dX0_comes_29 : decode cX0_comes 29 = .ok (.invokevirtual 293, 3) := dk_182 1 37 (dk_at dksX0_comes_1 7 rfl rfl)
theorem dX0_comes_32 : decode cX0_comes 32 = .ok (.ifCond .le 23, 3) := dk_158 0 23 (dk_at dksX0_comes_1 10 rfl rfl)
theorem dX0_comes_35 : decode cX0_comes 35 = .ok (.aload_n 0, 1) := dk_42 (dk_at dksX0_comes_1 13 rfl rfl)
theorem dX0_comes_36 : decode cX0_comes 36 = .ok (.getfield 76, 3) := dk_180 0 76 (dk_at dksX0_comes_1 14 rfl rfl)
theorem dX0_comes_39 : decode cX0_comes 39 = .ok (.iload_n 2, 1) := dk_28 (dk_at dksX0_comes_1 17 rfl rfl)
theorem dX0_comes_40 : decode cX0_comes 40 = .ok (.aload_n 0, 1) := dk_42 (dk_at dksX0_comes_1 18 rfl rfl)
theorem dX0_comes_41 : decode cX0_comes 41 = .ok (.getfield 76, 3) := dk_180 0 76 (dk_at dksX0_comes_1 19 rfl rfl)
theorem dX0_comes_44 : decode cX0_comes 44 = .ok (.iload_n 2, 1) := dk_28 (dk_at dksX0_comes_1 22 rfl rfl)
theorem dX0_comes_45 : decode cX0_comes 45 = .ok (.iconst 1, 1) := dk_4 (dk_at dksX0_comes_1 23 rfl rfl)
theorem dX0_comes_46 : decode cX0_comes 46 = .ok (.isub, 1) := dk_100 (dk_at dksX0_comes_2 0 rfl rfl)
theorem dX0_comes_47 : decode cX0_comes 47 = .ok (.iaload, 1) := dk_46 (dk_at dksX0_comes_2 1 rfl rfl)
theorem dX0_comes_48 : decode cX0_comes 48 = .ok (.iastore, 1) := dk_79 (dk_at dksX0_comes_2 2 rfl rfl)
theorem dX0_comes_49 : decode cX0_comes 49 = .ok (.iinc 2 (-1), 3) := dk_132 2 255 (dk_at dksX0_comes_2 3 rfl rfl)
theorem dX0_comes_52 : decode cX0_comes 52 = .ok (.goto (-47), 3) := dk_167 255 209 (dk_at dksX0_comes_2 6 rfl rfl)
theorem dX0_comes_55 : decode cX0_comes 55 = .ok (.aload_n 0, 1) := dk_42 (dk_at dksX0_comes_2 9 rfl rfl)
theorem dX0_comes_56 : decode cX0_comes 56 = .ok (.getfield 76, 3) := dk_180 0 76 (dk_at dksX0_comes_2 10 rfl rfl)
theorem dX0_comes_59 : decode cX0_comes 59 = .ok (.iload_n 2, 1) := dk_28 (dk_at dksX0_comes_2 13 rfl rfl)
theorem dX0_comes_60 : decode cX0_comes 60 = .ok (.aload_n 1, 1) := dk_43 (dk_at dksX0_comes_2 14 rfl rfl)
theorem dX0_comes_61 : decode cX0_comes 61 = .ok (.getfield 322, 3) := dk_180 1 66 (dk_at dksX0_comes_2 15 rfl rfl)
theorem dX0_comes_64 : decode cX0_comes 64 = .ok (.iastore, 1) := dk_79 (dk_at dksX0_comes_2 18 rfl rfl)
theorem dX0_comes_65 : decode cX0_comes 65 = .ok (.aload_n 0, 1) := dk_42 (dk_at dksX0_comes_2 19 rfl rfl)
theorem dX0_comes_66 : decode cX0_comes 66 = .ok (.dup, 1) := dk_89 (dk_at dksX0_comes_2 20 rfl rfl)
theorem dX0_comes_67 : decode cX0_comes 67 = .ok (.getfield 361, 3) := dk_180 1 105 (dk_at dksX0_comes_2 21 rfl rfl)
theorem dX0_comes_70 : decode cX0_comes 70 = .ok (.iconst 1, 1) := dk_4 (dk_at dksX0_comes_3 0 rfl rfl)
theorem dX0_comes_71 : decode cX0_comes 71 = .ok (.iadd, 1) := dk_96 (dk_at dksX0_comes_3 1 rfl rfl)
theorem dX0_comes_72 : decode cX0_comes 72 = .ok (.putfield 361, 3) := dk_181 1 105 (dk_at dksX0_comes_3 2 rfl rfl)
theorem dX0_comes_75 : decode cX0_comes 75 = .ok (.return_, 1) := dk_177 (dk_at dksX0_comes_3 5 rfl rfl)
abbrev cX0_walked : ByteArray := prog_1_method_47_code
def yX0_walked : MethodName := ⟨RX0, "walked", "(I)I"⟩
def dkwX0_walked_1 : List UInt8 := [2, 182, 0, 128, 172]
abbrev dktX0_walked_1 : List UInt8 := dkwX0_walked_1 ++ []
def dkwX0_walked_0 : List UInt8 := [42, 27, 3, 42, 180, 1, 105, 4, 100, 184, 0, 107, 153, 0, 12, 42, 180, 0, 76, 27, 46, 167, 0, 4]
abbrev dktX0_walked_0 : List UInt8 := dkwX0_walked_0 ++ dktX0_walked_1
theorem dksX0_walked_0 : cX0_walked.data.toList.drop 0 = dktX0_walked_0 := by decide +kernel
theorem dksX0_walked_1 : cX0_walked.data.toList.drop 24 = dktX0_walked_1 := dk_seg dksX0_walked_0 24 rfl rfl
theorem dX0_walked_0 : decode cX0_walked 0 = .ok (.aload_n 0, 1) := dk_42 (dk_at dksX0_walked_0 0 rfl rfl)
theorem dX0_walked_1 : decode cX0_walked 1 = .ok (.iload_n 1, 1) := dk_27 (dk_at dksX0_walked_0 1 rfl rfl)
theorem dX0_walked_2 : decode cX0_walked 2 = .ok (.iconst 0, 1) := dk_3 (dk_at dksX0_walked_0 2 rfl rfl)
theorem dX0_walked_3 : decode cX0_walked 3 = .ok (.aload_n 0, 1) := dk_42 (dk_at dksX0_walked_0 3 rfl rfl)
theorem dX0_walked_4 : decode cX0_walked 4 = .ok (.getfield 361, 3) := dk_180 1 105 (dk_at dksX0_walked_0 4 rfl rfl)
theorem dX0_walked_7 : decode cX0_walked 7 = .ok (.iconst 1, 1) := dk_4 (dk_at dksX0_walked_0 7 rfl rfl)
theorem dX0_walked_8 : decode cX0_walked 8 = .ok (.isub, 1) := dk_100 (dk_at dksX0_walked_0 8 rfl rfl)
theorem dX0_walked_9 : decode cX0_walked 9 = .ok (.invokestatic 107, 3) := dk_184 0 107 (dk_at dksX0_walked_0 9 rfl rfl)
theorem dX0_walked_12 : decode cX0_walked 12 = .ok (.ifCond .eq 12, 3) := dk_153 0 12 (dk_at dksX0_walked_0 12 rfl rfl)
theorem dX0_walked_15 : decode cX0_walked 15 = .ok (.aload_n 0, 1) := dk_42 (dk_at dksX0_walked_0 15 rfl rfl)
theorem dX0_walked_16 : decode cX0_walked 16 = .ok (.getfield 76, 3) := dk_180 0 76 (dk_at dksX0_walked_0 16 rfl rfl)
theorem dX0_walked_19 : decode cX0_walked 19 = .ok (.iload_n 1, 1) := dk_27 (dk_at dksX0_walked_0 19 rfl rfl)
theorem dX0_walked_20 : decode cX0_walked 20 = .ok (.iaload, 1) := dk_46 (dk_at dksX0_walked_0 20 rfl rfl)
theorem dX0_walked_21 : decode cX0_walked 21 = .ok (.goto 4, 3) := dk_167 0 4 (dk_at dksX0_walked_0 21 rfl rfl)
theorem dX0_walked_24 : decode cX0_walked 24 = .ok (.iconst (-1), 1) := dk_2 (dk_at dksX0_walked_1 0 rfl rfl)
theorem dX0_walked_25 : decode cX0_walked 25 = .ok (.invokevirtual 128, 3) := dk_182 0 128 (dk_at dksX0_walked_1 1 rfl rfl)
theorem dX0_walked_28 : decode cX0_walked 28 = .ok (.ireturn, 1) := dk_172 (dk_at dksX0_walked_1 4 rfl rfl)
abbrev cX0_check : ByteArray := prog_1_method_49_code
def yX0_check : MethodName := ⟨RX0, "check", "()I"⟩
def dkwX0_check_11 : List UInt8 := [182, 0, 128, 172]
abbrev dktX0_check_11 : List UInt8 := dkwX0_check_11 ++ []
def dkwX0_check_10 : List UInt8 := [156, 0, 11, 42, 16, 7, 27, 2, 182, 1, 118, 132, 1, 1, 167, 255, 184, 42, 42, 180, 1, 111]
abbrev dktX0_check_10 : List UInt8 := dkwX0_check_10 ++ dktX0_check_11
def dkwX0_check_9 : List UInt8 := [167, 0, 35, 44, 198, 0, 31, 44, 180, 0, 210, 180, 1, 27, 44, 180, 0, 214, 180, 1, 27, 182, 1, 37]
abbrev dktX0_check_9 : List UInt8 := dkwX0_check_9 ++ dktX0_check_10
def dkwX0_check_8 : List UInt8 := [27, 50, 77, 44, 198, 0, 21, 44, 180, 0, 210, 199, 0, 14, 42, 16, 6, 27, 2, 182, 1, 118]
abbrev dktX0_check_8 : List UInt8 := dkwX0_check_8 ++ dktX0_check_9
def dkwX0_check_7 : List UInt8 := [2, 182, 1, 118, 132, 1, 1, 167, 255, 216, 3, 60, 27, 42, 180, 0, 117, 162, 0, 70, 42, 180, 0, 61]
abbrev dktX0_check_7 : List UInt8 := dkwX0_check_7 ++ dktX0_check_8
def dkwX0_check_6 : List UInt8 := [180, 0, 55, 27, 50, 198, 0, 23, 42, 42, 180, 0, 55, 27, 50, 182, 1, 122, 154, 0, 10, 42, 8, 27]
abbrev dktX0_check_6 : List UInt8 := dkwX0_check_6 ++ dktX0_check_7
def dkwX0_check_5 : List UInt8 := [7, 27, 2, 182, 1, 118, 132, 1, 1, 167, 255, 138, 3, 60, 27, 42, 180, 0, 114, 162, 0, 38, 42]
abbrev dktX0_check_5 : List UInt8 := dkwX0_check_5 ++ dktX0_check_6
def dkwX0_check_4 : List UInt8 := [180, 0, 43, 27, 50, 180, 0, 159, 158, 0, 22, 28, 153, 0, 18, 42, 28, 156, 0, 7, 6, 167, 0, 4]
abbrev dktX0_check_4 : List UInt8 := dkwX0_check_4 ++ dktX0_check_5
def dkwX0_check_3 : List UInt8 := [180, 0, 43, 27, 50, 180, 1, 24, 42, 180, 0, 37, 42, 180, 0, 131, 50, 182, 1, 37, 61, 42]
abbrev dktX0_check_3 : List UInt8 := dkwX0_check_3 ++ dktX0_check_4
def dkwX0_check_2 : List UInt8 := [50, 42, 180, 0, 43, 27, 50, 180, 0, 162, 28, 50, 182, 1, 114, 132, 2, 1, 167, 255, 219, 42]
abbrev dktX0_check_2 : List UInt8 := dkwX0_check_2 ++ dktX0_check_3
def dkwX0_check_1 : List UInt8 := [182, 1, 52, 3, 61, 28, 42, 180, 0, 43, 27, 50, 180, 0, 159, 162, 0, 30, 42, 42, 180, 0, 43, 27]
abbrev dktX0_check_1 : List UInt8 := dkwX0_check_1 ++ dktX0_check_2
def dkwX0_check_0 : List UInt8 := [42, 3, 181, 1, 111, 3, 60, 27, 6, 42, 180, 0, 104, 104, 162, 0, 114, 42, 42, 180, 0, 43, 27, 50]
abbrev dktX0_check_0 : List UInt8 := dkwX0_check_0 ++ dktX0_check_1
theorem dksX0_check_0 : cX0_check.data.toList.drop 0 = dktX0_check_0 := by decide +kernel
theorem dksX0_check_1 : cX0_check.data.toList.drop 24 = dktX0_check_1 := dk_seg dksX0_check_0 24 rfl rfl
theorem dksX0_check_2 : cX0_check.data.toList.drop 48 = dktX0_check_2 := dk_seg dksX0_check_1 24 rfl rfl
theorem dksX0_check_3 : cX0_check.data.toList.drop 70 = dktX0_check_3 := dk_seg dksX0_check_2 22 rfl rfl
theorem dksX0_check_4 : cX0_check.data.toList.drop 92 = dktX0_check_4 := dk_seg dksX0_check_3 22 rfl rfl
theorem dksX0_check_5 : cX0_check.data.toList.drop 116 = dktX0_check_5 := dk_seg dksX0_check_4 24 rfl rfl
theorem dksX0_check_6 : cX0_check.data.toList.drop 139 = dktX0_check_6 := dk_seg dksX0_check_5 23 rfl rfl
theorem dksX0_check_7 : cX0_check.data.toList.drop 163 = dktX0_check_7 := dk_seg dksX0_check_6 24 rfl rfl
theorem dksX0_check_8 : cX0_check.data.toList.drop 187 = dktX0_check_8 := dk_seg dksX0_check_7 24 rfl rfl
theorem dksX0_check_9 : cX0_check.data.toList.drop 209 = dktX0_check_9 := dk_seg dksX0_check_8 22 rfl rfl
theorem dksX0_check_10 : cX0_check.data.toList.drop 233 = dktX0_check_10 := dk_seg dksX0_check_9 24 rfl rfl
theorem dksX0_check_11 : cX0_check.data.toList.drop 255 = dktX0_check_11 := dk_seg dksX0_check_10 22 rfl rfl
theorem dX0_check_0 : decode cX0_check 0 = .ok (.aload_n 0, 1) := dk_42 (dk_at dksX0_check_0 0 rfl rfl)
theorem dX0_check_1 : decode cX0_check 1 = .ok (.iconst 0, 1) := dk_3 (dk_at dksX0_check_0 1 rfl rfl)
theorem dX0_check_2 : decode cX0_check 2 = .ok (.putfield 367, 3) := dk_181 1 111 (dk_at dksX0_check_0 2 rfl rfl)
theorem dX0_check_5 : decode cX0_check 5 = .ok (.iconst 0, 1) := dk_3 (dk_at dksX0_check_0 5 rfl rfl)
theorem dX0_check_6 : decode cX0_check 6 = .ok (.istore_n 1, 1) := dk_60 (dk_at dksX0_check_0 6 rfl rfl)
theorem dX0_check_7 : decode cX0_check 7 = .ok (.iload_n 1, 1) := dk_27 (dk_at dksX0_check_0 7 rfl rfl)
theorem dX0_check_8 : decode cX0_check 8 = .ok (.iconst 3, 1) := dk_6 (dk_at dksX0_check_0 8 rfl rfl)
theorem dX0_check_9 : decode cX0_check 9 = .ok (.aload_n 0, 1) := dk_42 (dk_at dksX0_check_0 9 rfl rfl)
theorem dX0_check_10 : decode cX0_check 10 = .ok (.getfield 104, 3) := dk_180 0 104 (dk_at dksX0_check_0 10 rfl rfl)
theorem dX0_check_13 : decode cX0_check 13 = .ok (.imul, 1) := dk_104 (dk_at dksX0_check_0 13 rfl rfl)
theorem dX0_check_14 : decode cX0_check 14 = .ok (.if_icmp .ge 114, 3) := dk_162 0 114 (dk_at dksX0_check_0 14 rfl rfl)
theorem dX0_check_17 : decode cX0_check 17 = .ok (.aload_n 0, 1) := dk_42 (dk_at dksX0_check_0 17 rfl rfl)
theorem dX0_check_18 : decode cX0_check 18 = .ok (.aload_n 0, 1) := dk_42 (dk_at dksX0_check_0 18 rfl rfl)
theorem dX0_check_19 : decode cX0_check 19 = .ok (.getfield 43, 3) := dk_180 0 43 (dk_at dksX0_check_0 19 rfl rfl)
theorem dX0_check_22 : decode cX0_check 22 = .ok (.iload_n 1, 1) := dk_27 (dk_at dksX0_check_0 22 rfl rfl)
theorem dX0_check_23 : decode cX0_check 23 = .ok (.aaload, 1) := dk_50 (dk_at dksX0_check_0 23 rfl rfl)
theorem dX0_check_24 : decode cX0_check 24 = .ok (.invokevirtual 308, 3) := dk_182 1 52 (dk_at dksX0_check_1 0 rfl rfl)
theorem dX0_check_27 : decode cX0_check 27 = .ok (.iconst 0, 1) := dk_3 (dk_at dksX0_check_1 3 rfl rfl)
theorem dX0_check_28 : decode cX0_check 28 = .ok (.istore_n 2, 1) := dk_61 (dk_at dksX0_check_1 4 rfl rfl)
theorem dX0_check_29 : decode cX0_check 29 = .ok (.iload_n 2, 1) := dk_28 (dk_at dksX0_check_1 5 rfl rfl)
theorem dX0_check_30 : decode cX0_check 30 = .ok (.aload_n 0, 1) := dk_42 (dk_at dksX0_check_1 6 rfl rfl)
theorem dX0_check_31 : decode cX0_check 31 = .ok (.getfield 43, 3) := dk_180 0 43 (dk_at dksX0_check_1 7 rfl rfl)
theorem dX0_check_34 : decode cX0_check 34 = .ok (.iload_n 1, 1) := dk_27 (dk_at dksX0_check_1 10 rfl rfl)
theorem dX0_check_35 : decode cX0_check 35 = .ok (.aaload, 1) := dk_50 (dk_at dksX0_check_1 11 rfl rfl)
theorem dX0_check_36 : decode cX0_check 36 = .ok (.getfield 159, 3) := dk_180 0 159 (dk_at dksX0_check_1 12 rfl rfl)
theorem dX0_check_39 : decode cX0_check 39 = .ok (.if_icmp .ge 30, 3) := dk_162 0 30 (dk_at dksX0_check_1 15 rfl rfl)
theorem dX0_check_42 : decode cX0_check 42 = .ok (.aload_n 0, 1) := dk_42 (dk_at dksX0_check_1 18 rfl rfl)
theorem dX0_check_43 : decode cX0_check 43 = .ok (.aload_n 0, 1) := dk_42 (dk_at dksX0_check_1 19 rfl rfl)
theorem dX0_check_44 : decode cX0_check 44 = .ok (.getfield 43, 3) := dk_180 0 43 (dk_at dksX0_check_1 20 rfl rfl)
theorem dX0_check_47 : decode cX0_check 47 = .ok (.iload_n 1, 1) := dk_27 (dk_at dksX0_check_1 23 rfl rfl)
theorem dX0_check_48 : decode cX0_check 48 = .ok (.aaload, 1) := dk_50 (dk_at dksX0_check_2 0 rfl rfl)
theorem dX0_check_49 : decode cX0_check 49 = .ok (.aload_n 0, 1) := dk_42 (dk_at dksX0_check_2 1 rfl rfl)
theorem dX0_check_50 : decode cX0_check 50 = .ok (.getfield 43, 3) := dk_180 0 43 (dk_at dksX0_check_2 2 rfl rfl)
theorem dX0_check_53 : decode cX0_check 53 = .ok (.iload_n 1, 1) := dk_27 (dk_at dksX0_check_2 5 rfl rfl)
theorem dX0_check_54 : decode cX0_check 54 = .ok (.aaload, 1) := dk_50 (dk_at dksX0_check_2 6 rfl rfl)
theorem dX0_check_55 : decode cX0_check 55 = .ok (.getfield 162, 3) := dk_180 0 162 (dk_at dksX0_check_2 7 rfl rfl)
theorem dX0_check_58 : decode cX0_check 58 = .ok (.iload_n 2, 1) := dk_28 (dk_at dksX0_check_2 10 rfl rfl)
theorem dX0_check_59 : decode cX0_check 59 = .ok (.aaload, 1) := dk_50 (dk_at dksX0_check_2 11 rfl rfl)
theorem dX0_check_60 : decode cX0_check 60 = .ok (.invokevirtual 370, 3) := dk_182 1 114 (dk_at dksX0_check_2 12 rfl rfl)
theorem dX0_check_63 : decode cX0_check 63 = .ok (.iinc 2 1, 3) := dk_132 2 1 (dk_at dksX0_check_2 15 rfl rfl)
theorem dX0_check_66 : decode cX0_check 66 = .ok (.goto (-37), 3) := dk_167 255 219 (dk_at dksX0_check_2 18 rfl rfl)
theorem dX0_check_69 : decode cX0_check 69 = .ok (.aload_n 0, 1) := dk_42 (dk_at dksX0_check_2 21 rfl rfl)
theorem dX0_check_70 : decode cX0_check 70 = .ok (.getfield 43, 3) := dk_180 0 43 (dk_at dksX0_check_3 0 rfl rfl)
theorem dX0_check_73 : decode cX0_check 73 = .ok (.iload_n 1, 1) := dk_27 (dk_at dksX0_check_3 3 rfl rfl)
theorem dX0_check_74 : decode cX0_check 74 = .ok (.aaload, 1) := dk_50 (dk_at dksX0_check_3 4 rfl rfl)
theorem dX0_check_75 : decode cX0_check 75 = .ok (.getfield 280, 3) := dk_180 1 24 (dk_at dksX0_check_3 5 rfl rfl)
theorem dX0_check_78 : decode cX0_check 78 = .ok (.aload_n 0, 1) := dk_42 (dk_at dksX0_check_3 8 rfl rfl)
theorem dX0_check_79 : decode cX0_check 79 = .ok (.getfield 37, 3) := dk_180 0 37 (dk_at dksX0_check_3 9 rfl rfl)
theorem dX0_check_82 : decode cX0_check 82 = .ok (.aload_n 0, 1) := dk_42 (dk_at dksX0_check_3 12 rfl rfl)
theorem dX0_check_83 : decode cX0_check 83 = .ok (.getfield 131, 3) := dk_180 0 131 (dk_at dksX0_check_3 13 rfl rfl)
theorem dX0_check_86 : decode cX0_check 86 = .ok (.aaload, 1) := dk_50 (dk_at dksX0_check_3 16 rfl rfl)
theorem dX0_check_87 : decode cX0_check 87 = .ok (.invokevirtual 293, 3) := dk_182 1 37 (dk_at dksX0_check_3 17 rfl rfl)
theorem dX0_check_90 : decode cX0_check 90 = .ok (.istore_n 2, 1) := dk_61 (dk_at dksX0_check_3 20 rfl rfl)
theorem dX0_check_91 : decode cX0_check 91 = .ok (.aload_n 0, 1) := dk_42 (dk_at dksX0_check_3 21 rfl rfl)
theorem dX0_check_92 : decode cX0_check 92 = .ok (.getfield 43, 3) := dk_180 0 43 (dk_at dksX0_check_4 0 rfl rfl)
theorem dX0_check_95 : decode cX0_check 95 = .ok (.iload_n 1, 1) := dk_27 (dk_at dksX0_check_4 3 rfl rfl)
theorem dX0_check_96 : decode cX0_check 96 = .ok (.aaload, 1) := dk_50 (dk_at dksX0_check_4 4 rfl rfl)
theorem dX0_check_97 : decode cX0_check 97 = .ok (.getfield 159, 3) := dk_180 0 159 (dk_at dksX0_check_4 5 rfl rfl)
theorem dX0_check_100 : decode cX0_check 100 = .ok (.ifCond .le 22, 3) := dk_158 0 22 (dk_at dksX0_check_4 8 rfl rfl)
theorem dX0_check_103 : decode cX0_check 103 = .ok (.iload_n 2, 1) := dk_28 (dk_at dksX0_check_4 11 rfl rfl)
theorem dX0_check_104 : decode cX0_check 104 = .ok (.ifCond .eq 18, 3) := dk_153 0 18 (dk_at dksX0_check_4 12 rfl rfl)
theorem dX0_check_107 : decode cX0_check 107 = .ok (.aload_n 0, 1) := dk_42 (dk_at dksX0_check_4 15 rfl rfl)
theorem dX0_check_108 : decode cX0_check 108 = .ok (.iload_n 2, 1) := dk_28 (dk_at dksX0_check_4 16 rfl rfl)
theorem dX0_check_109 : decode cX0_check 109 = .ok (.ifCond .ge 7, 3) := dk_156 0 7 (dk_at dksX0_check_4 17 rfl rfl)
theorem dX0_check_112 : decode cX0_check 112 = .ok (.iconst 3, 1) := dk_6 (dk_at dksX0_check_4 20 rfl rfl)
theorem dX0_check_113 : decode cX0_check 113 = .ok (.goto 4, 3) := dk_167 0 4 (dk_at dksX0_check_4 21 rfl rfl)
theorem dX0_check_116 : decode cX0_check 116 = .ok (.iconst 4, 1) := dk_7 (dk_at dksX0_check_5 0 rfl rfl)
theorem dX0_check_117 : decode cX0_check 117 = .ok (.iload_n 1, 1) := dk_27 (dk_at dksX0_check_5 1 rfl rfl)
theorem dX0_check_118 : decode cX0_check 118 = .ok (.iconst (-1), 1) := dk_2 (dk_at dksX0_check_5 2 rfl rfl)
theorem dX0_check_119 : decode cX0_check 119 = .ok (.invokevirtual 374, 3) := dk_182 1 118 (dk_at dksX0_check_5 3 rfl rfl)
theorem dX0_check_122 : decode cX0_check 122 = .ok (.iinc 1 1, 3) := dk_132 1 1 (dk_at dksX0_check_5 6 rfl rfl)
theorem dX0_check_125 : decode cX0_check 125 = .ok (.goto (-118), 3) := dk_167 255 138 (dk_at dksX0_check_5 9 rfl rfl)
theorem dX0_check_128 : decode cX0_check 128 = .ok (.iconst 0, 1) := dk_3 (dk_at dksX0_check_5 12 rfl rfl)
theorem dX0_check_129 : decode cX0_check 129 = .ok (.istore_n 1, 1) := dk_60 (dk_at dksX0_check_5 13 rfl rfl)
theorem dX0_check_130 : decode cX0_check 130 = .ok (.iload_n 1, 1) := dk_27 (dk_at dksX0_check_5 14 rfl rfl)
theorem dX0_check_131 : decode cX0_check 131 = .ok (.aload_n 0, 1) := dk_42 (dk_at dksX0_check_5 15 rfl rfl)
theorem dX0_check_132 : decode cX0_check 132 = .ok (.getfield 114, 3) := dk_180 0 114 (dk_at dksX0_check_5 16 rfl rfl)
theorem dX0_check_135 : decode cX0_check 135 = .ok (.if_icmp .ge 38, 3) := dk_162 0 38 (dk_at dksX0_check_5 19 rfl rfl)
theorem dX0_check_138 : decode cX0_check 138 = .ok (.aload_n 0, 1) := dk_42 (dk_at dksX0_check_5 22 rfl rfl)
theorem dX0_check_139 : decode cX0_check 139 = .ok (.getfield 55, 3) := dk_180 0 55 (dk_at dksX0_check_6 0 rfl rfl)
theorem dX0_check_142 : decode cX0_check 142 = .ok (.iload_n 1, 1) := dk_27 (dk_at dksX0_check_6 3 rfl rfl)
theorem dX0_check_143 : decode cX0_check 143 = .ok (.aaload, 1) := dk_50 (dk_at dksX0_check_6 4 rfl rfl)
theorem dX0_check_144 : decode cX0_check 144 = .ok (.ifnull 23, 3) := dk_198 0 23 (dk_at dksX0_check_6 5 rfl rfl)
theorem dX0_check_147 : decode cX0_check 147 = .ok (.aload_n 0, 1) := dk_42 (dk_at dksX0_check_6 8 rfl rfl)
theorem dX0_check_148 : decode cX0_check 148 = .ok (.aload_n 0, 1) := dk_42 (dk_at dksX0_check_6 9 rfl rfl)
theorem dX0_check_149 : decode cX0_check 149 = .ok (.getfield 55, 3) := dk_180 0 55 (dk_at dksX0_check_6 10 rfl rfl)
theorem dX0_check_152 : decode cX0_check 152 = .ok (.iload_n 1, 1) := dk_27 (dk_at dksX0_check_6 13 rfl rfl)
theorem dX0_check_153 : decode cX0_check 153 = .ok (.aaload, 1) := dk_50 (dk_at dksX0_check_6 14 rfl rfl)
theorem dX0_check_154 : decode cX0_check 154 = .ok (.invokevirtual 378, 3) := dk_182 1 122 (dk_at dksX0_check_6 15 rfl rfl)
theorem dX0_check_157 : decode cX0_check 157 = .ok (.ifCond .ne 10, 3) := dk_154 0 10 (dk_at dksX0_check_6 18 rfl rfl)
theorem dX0_check_160 : decode cX0_check 160 = .ok (.aload_n 0, 1) := dk_42 (dk_at dksX0_check_6 21 rfl rfl)
theorem dX0_check_161 : decode cX0_check 161 = .ok (.iconst 5, 1) := dk_8 (dk_at dksX0_check_6 22 rfl rfl)
theorem dX0_check_162 : decode cX0_check 162 = .ok (.iload_n 1, 1) := dk_27 (dk_at dksX0_check_6 23 rfl rfl)
theorem dX0_check_163 : decode cX0_check 163 = .ok (.iconst (-1), 1) := dk_2 (dk_at dksX0_check_7 0 rfl rfl)
theorem dX0_check_164 : decode cX0_check 164 = .ok (.invokevirtual 374, 3) := dk_182 1 118 (dk_at dksX0_check_7 1 rfl rfl)
theorem dX0_check_167 : decode cX0_check 167 = .ok (.iinc 1 1, 3) := dk_132 1 1 (dk_at dksX0_check_7 4 rfl rfl)
theorem dX0_check_170 : decode cX0_check 170 = .ok (.goto (-40), 3) := dk_167 255 216 (dk_at dksX0_check_7 7 rfl rfl)
theorem dX0_check_173 : decode cX0_check 173 = .ok (.iconst 0, 1) := dk_3 (dk_at dksX0_check_7 10 rfl rfl)
theorem dX0_check_174 : decode cX0_check 174 = .ok (.istore_n 1, 1) := dk_60 (dk_at dksX0_check_7 11 rfl rfl)
theorem dX0_check_175 : decode cX0_check 175 = .ok (.iload_n 1, 1) := dk_27 (dk_at dksX0_check_7 12 rfl rfl)
theorem dX0_check_176 : decode cX0_check 176 = .ok (.aload_n 0, 1) := dk_42 (dk_at dksX0_check_7 13 rfl rfl)
theorem dX0_check_177 : decode cX0_check 177 = .ok (.getfield 117, 3) := dk_180 0 117 (dk_at dksX0_check_7 14 rfl rfl)
theorem dX0_check_180 : decode cX0_check 180 = .ok (.if_icmp .ge 70, 3) := dk_162 0 70 (dk_at dksX0_check_7 17 rfl rfl)
theorem dX0_check_183 : decode cX0_check 183 = .ok (.aload_n 0, 1) := dk_42 (dk_at dksX0_check_7 20 rfl rfl)
theorem dX0_check_184 : decode cX0_check 184 = .ok (.getfield 61, 3) := dk_180 0 61 (dk_at dksX0_check_7 21 rfl rfl)
theorem dX0_check_187 : decode cX0_check 187 = .ok (.iload_n 1, 1) := dk_27 (dk_at dksX0_check_8 0 rfl rfl)
theorem dX0_check_188 : decode cX0_check 188 = .ok (.aaload, 1) := dk_50 (dk_at dksX0_check_8 1 rfl rfl)
theorem dX0_check_189 : decode cX0_check 189 = .ok (.astore_n 2, 1) := dk_77 (dk_at dksX0_check_8 2 rfl rfl)
theorem dX0_check_190 : decode cX0_check 190 = .ok (.aload_n 2, 1) := dk_44 (dk_at dksX0_check_8 3 rfl rfl)
theorem dX0_check_191 : decode cX0_check 191 = .ok (.ifnull 21, 3) := dk_198 0 21 (dk_at dksX0_check_8 4 rfl rfl)
theorem dX0_check_194 : decode cX0_check 194 = .ok (.aload_n 2, 1) := dk_44 (dk_at dksX0_check_8 7 rfl rfl)
theorem dX0_check_195 : decode cX0_check 195 = .ok (.getfield 210, 3) := dk_180 0 210 (dk_at dksX0_check_8 8 rfl rfl)
theorem dX0_check_198 : decode cX0_check 198 = .ok (.ifnonnull 14, 3) := dk_199 0 14 (dk_at dksX0_check_8 11 rfl rfl)
theorem dX0_check_201 : decode cX0_check 201 = .ok (.aload_n 0, 1) := dk_42 (dk_at dksX0_check_8 14 rfl rfl)
theorem dX0_check_202 : decode cX0_check 202 = .ok (.bipush 6, 2) := dk_16 6 (dk_at dksX0_check_8 15 rfl rfl)
theorem dX0_check_204 : decode cX0_check 204 = .ok (.iload_n 1, 1) := dk_27 (dk_at dksX0_check_8 17 rfl rfl)
theorem dX0_check_205 : decode cX0_check 205 = .ok (.iconst (-1), 1) := dk_2 (dk_at dksX0_check_8 18 rfl rfl)
theorem dX0_check_206 : decode cX0_check 206 = .ok (.invokevirtual 374, 3) := dk_182 1 118 (dk_at dksX0_check_8 19 rfl rfl)
theorem dX0_check_209 : decode cX0_check 209 = .ok (.goto 35, 3) := dk_167 0 35 (dk_at dksX0_check_9 0 rfl rfl)
theorem dX0_check_212 : decode cX0_check 212 = .ok (.aload_n 2, 1) := dk_44 (dk_at dksX0_check_9 3 rfl rfl)
theorem dX0_check_213 : decode cX0_check 213 = .ok (.ifnull 31, 3) := dk_198 0 31 (dk_at dksX0_check_9 4 rfl rfl)
theorem dX0_check_216 : decode cX0_check 216 = .ok (.aload_n 2, 1) := dk_44 (dk_at dksX0_check_9 7 rfl rfl)
theorem dX0_check_217 : decode cX0_check 217 = .ok (.getfield 210, 3) := dk_180 0 210 (dk_at dksX0_check_9 8 rfl rfl)
theorem dX0_check_220 : decode cX0_check 220 = .ok (.getfield 283, 3) := dk_180 1 27 (dk_at dksX0_check_9 11 rfl rfl)
theorem dX0_check_223 : decode cX0_check 223 = .ok (.aload_n 2, 1) := dk_44 (dk_at dksX0_check_9 14 rfl rfl)
theorem dX0_check_224 : decode cX0_check 224 = .ok (.getfield 214, 3) := dk_180 0 214 (dk_at dksX0_check_9 15 rfl rfl)
theorem dX0_check_227 : decode cX0_check 227 = .ok (.getfield 283, 3) := dk_180 1 27 (dk_at dksX0_check_9 18 rfl rfl)
theorem dX0_check_230 : decode cX0_check 230 = .ok (.invokevirtual 293, 3) := dk_182 1 37 (dk_at dksX0_check_9 21 rfl rfl)
theorem dX0_check_233 : decode cX0_check 233 = .ok (.ifCond .ge 11, 3) := dk_156 0 11 (dk_at dksX0_check_10 0 rfl rfl)
theorem dX0_check_236 : decode cX0_check 236 = .ok (.aload_n 0, 1) := dk_42 (dk_at dksX0_check_10 3 rfl rfl)
theorem dX0_check_237 : decode cX0_check 237 = .ok (.bipush 7, 2) := dk_16 7 (dk_at dksX0_check_10 4 rfl rfl)
theorem dX0_check_239 : decode cX0_check 239 = .ok (.iload_n 1, 1) := dk_27 (dk_at dksX0_check_10 6 rfl rfl)
theorem dX0_check_240 : decode cX0_check 240 = .ok (.iconst (-1), 1) := dk_2 (dk_at dksX0_check_10 7 rfl rfl)
theorem dX0_check_241 : decode cX0_check 241 = .ok (.invokevirtual 374, 3) := dk_182 1 118 (dk_at dksX0_check_10 8 rfl rfl)
theorem dX0_check_244 : decode cX0_check 244 = .ok (.iinc 1 1, 3) := dk_132 1 1 (dk_at dksX0_check_10 11 rfl rfl)
theorem dX0_check_247 : decode cX0_check 247 = .ok (.goto (-72), 3) := dk_167 255 184 (dk_at dksX0_check_10 14 rfl rfl)
theorem dX0_check_250 : decode cX0_check 250 = .ok (.aload_n 0, 1) := dk_42 (dk_at dksX0_check_10 17 rfl rfl)
theorem dX0_check_251 : decode cX0_check 251 = .ok (.aload_n 0, 1) := dk_42 (dk_at dksX0_check_10 18 rfl rfl)
theorem dX0_check_252 : decode cX0_check 252 = .ok (.getfield 367, 3) := dk_180 1 111 (dk_at dksX0_check_10 19 rfl rfl)
theorem dX0_check_255 : decode cX0_check 255 = .ok (.invokevirtual 128, 3) := dk_182 0 128 (dk_at dksX0_check_11 0 rfl rfl)
theorem dX0_check_258 : decode cX0_check 258 = .ok (.ireturn, 1) := dk_172 (dk_at dksX0_check_11 3 rfl rfl)
abbrev cX0_checkEvent : ByteArray := prog_1_method_50_code
def yX0_checkEvent : MethodName := ⟨RX0, "checkEvent", "(LStaveScore$Voice;LStaveScore$Event;)V"⟩
def dkwX0_checkEvent_5 : List UInt8 := [177]
abbrev dktX0_checkEvent_5 : List UInt8 := dkwX0_checkEvent_5 ++ []
def dkwX0_checkEvent_4 : List UInt8 := [153, 0, 24, 42, 44, 192, 0, 142, 182, 1, 129, 153, 0, 13, 42, 5, 44, 180, 1, 66, 2, 182, 1, 118]
abbrev dktX0_checkEvent_4 : List UInt8 := dkwX0_checkEvent_4 ++ dktX0_checkEvent_5
def dkwX0_checkEvent_3 : List UInt8 := [44, 192, 0, 142, 184, 1, 125, 154, 0, 13, 42, 4, 44, 180, 1, 66, 2, 182, 1, 118, 44, 193, 0, 142]
abbrev dktX0_checkEvent_3 : List UInt8 := dkwX0_checkEvent_3 ++ dktX0_checkEvent_4
def dkwX0_checkEvent_2 : List UInt8 := [182, 1, 37, 158, 0, 13, 42, 3, 44, 180, 1, 66, 29, 182, 1, 118, 44, 182, 1, 44, 153, 0, 24, 43]
abbrev dktX0_checkEvent_2 : List UInt8 := dkwX0_checkEvent_2 ++ dktX0_checkEvent_3
def dkwX0_checkEvent_1 : List UInt8 := [180, 1, 27, 182, 0, 138, 29, 2, 159, 0, 31, 42, 180, 0, 95, 42, 180, 0, 37, 29, 4, 96, 50]
abbrev dktX0_checkEvent_1 : List UInt8 := dkwX0_checkEvent_1 ++ dktX0_checkEvent_2
def dkwX0_checkEvent_0 : List UInt8 := [42, 44, 180, 1, 27, 182, 1, 56, 62, 42, 44, 1, 42, 180, 0, 95, 182, 1, 33, 42, 180, 0, 95, 44]
abbrev dktX0_checkEvent_0 : List UInt8 := dkwX0_checkEvent_0 ++ dktX0_checkEvent_1
theorem dksX0_checkEvent_0 : cX0_checkEvent.data.toList.drop 0 = dktX0_checkEvent_0 := by decide +kernel
theorem dksX0_checkEvent_1 : cX0_checkEvent.data.toList.drop 24 = dktX0_checkEvent_1 := dk_seg dksX0_checkEvent_0 24 rfl rfl
theorem dksX0_checkEvent_2 : cX0_checkEvent.data.toList.drop 47 = dktX0_checkEvent_2 := dk_seg dksX0_checkEvent_1 23 rfl rfl
theorem dksX0_checkEvent_3 : cX0_checkEvent.data.toList.drop 71 = dktX0_checkEvent_3 := dk_seg dksX0_checkEvent_2 24 rfl rfl
theorem dksX0_checkEvent_4 : cX0_checkEvent.data.toList.drop 95 = dktX0_checkEvent_4 := dk_seg dksX0_checkEvent_3 24 rfl rfl
theorem dksX0_checkEvent_5 : cX0_checkEvent.data.toList.drop 119 = dktX0_checkEvent_5 := dk_seg dksX0_checkEvent_4 24 rfl rfl
theorem dX0_checkEvent_0 : decode cX0_checkEvent 0 = .ok (.aload_n 0, 1) := dk_42 (dk_at dksX0_checkEvent_0 0 rfl rfl)
theorem dX0_checkEvent_1 : decode cX0_checkEvent 1 = .ok (.aload_n 2, 1) := dk_44 (dk_at dksX0_checkEvent_0 1 rfl rfl)
theorem dX0_checkEvent_2 : decode cX0_checkEvent 2 = .ok (.getfield 283, 3) := dk_180 1 27 (dk_at dksX0_checkEvent_0 2 rfl rfl)
theorem dX0_checkEvent_5 : decode cX0_checkEvent 5 = .ok (.invokevirtual 312, 3) := dk_182 1 56 (dk_at dksX0_checkEvent_0 5 rfl rfl)
theorem dX0_checkEvent_8 : decode cX0_checkEvent 8 = .ok (.istore_n 3, 1) := dk_62 (dk_at dksX0_checkEvent_0 8 rfl rfl)
theorem dX0_checkEvent_9 : decode cX0_checkEvent 9 = .ok (.aload_n 0, 1) := dk_42 (dk_at dksX0_checkEvent_0 9 rfl rfl)
theorem dX0_checkEvent_10 : decode cX0_checkEvent 10 = .ok (.aload_n 2, 1) := dk_44 (dk_at dksX0_checkEvent_0 10 rfl rfl)
theorem dX0_checkEvent_11 : decode cX0_checkEvent 11 = .ok (.aconst_null, 1) := dk_1 (dk_at dksX0_checkEvent_0 11 rfl rfl)
theorem dX0_checkEvent_12 : decode cX0_checkEvent 12 = .ok (.aload_n 0, 1) := dk_42 (dk_at dksX0_checkEvent_0 12 rfl rfl)
theorem dX0_checkEvent_13 : decode cX0_checkEvent 13 = .ok (.getfield 95, 3) := dk_180 0 95 (dk_at dksX0_checkEvent_0 13 rfl rfl)
theorem dX0_checkEvent_16 : decode cX0_checkEvent 16 = .ok (.invokevirtual 289, 3) := dk_182 1 33 (dk_at dksX0_checkEvent_0 16 rfl rfl)
theorem dX0_checkEvent_19 : decode cX0_checkEvent 19 = .ok (.aload_n 0, 1) := dk_42 (dk_at dksX0_checkEvent_0 19 rfl rfl)
theorem dX0_checkEvent_20 : decode cX0_checkEvent 20 = .ok (.getfield 95, 3) := dk_180 0 95 (dk_at dksX0_checkEvent_0 20 rfl rfl)
theorem dX0_checkEvent_23 : decode cX0_checkEvent 23 = .ok (.aload_n 2, 1) := dk_44 (dk_at dksX0_checkEvent_0 23 rfl rfl)
theorem dX0_checkEvent_24 : decode cX0_checkEvent 24 = .ok (.getfield 283, 3) := dk_180 1 27 (dk_at dksX0_checkEvent_1 0 rfl rfl)
theorem dX0_checkEvent_27 : decode cX0_checkEvent 27 = .ok (.invokevirtual 138, 3) := dk_182 0 138 (dk_at dksX0_checkEvent_1 3 rfl rfl)
theorem dX0_checkEvent_30 : decode cX0_checkEvent 30 = .ok (.iload_n 3, 1) := dk_29 (dk_at dksX0_checkEvent_1 6 rfl rfl)
theorem dX0_checkEvent_31 : decode cX0_checkEvent 31 = .ok (.iconst (-1), 1) := dk_2 (dk_at dksX0_checkEvent_1 7 rfl rfl)
theorem dX0_checkEvent_32 : decode cX0_checkEvent 32 = .ok (.if_icmp .eq 31, 3) := dk_159 0 31 (dk_at dksX0_checkEvent_1 8 rfl rfl)
theorem dX0_checkEvent_35 : decode cX0_checkEvent 35 = .ok (.aload_n 0, 1) := dk_42 (dk_at dksX0_checkEvent_1 11 rfl rfl)
theorem dX0_checkEvent_36 : decode cX0_checkEvent 36 = .ok (.getfield 95, 3) := dk_180 0 95 (dk_at dksX0_checkEvent_1 12 rfl rfl)
theorem dX0_checkEvent_39 : decode cX0_checkEvent 39 = .ok (.aload_n 0, 1) := dk_42 (dk_at dksX0_checkEvent_1 15 rfl rfl)
theorem dX0_checkEvent_40 : decode cX0_checkEvent 40 = .ok (.getfield 37, 3) := dk_180 0 37 (dk_at dksX0_checkEvent_1 16 rfl rfl)
theorem dX0_checkEvent_43 : decode cX0_checkEvent 43 = .ok (.iload_n 3, 1) := dk_29 (dk_at dksX0_checkEvent_1 19 rfl rfl)
theorem dX0_checkEvent_44 : decode cX0_checkEvent 44 = .ok (.iconst 1, 1) := dk_4 (dk_at dksX0_checkEvent_1 20 rfl rfl)
theorem dX0_checkEvent_45 : decode cX0_checkEvent 45 = .ok (.iadd, 1) := dk_96 (dk_at dksX0_checkEvent_1 21 rfl rfl)
theorem dX0_checkEvent_46 : decode cX0_checkEvent 46 = .ok (.aaload, 1) := dk_50 (dk_at dksX0_checkEvent_1 22 rfl rfl)
theorem dX0_checkEvent_47 : decode cX0_checkEvent 47 = .ok (.invokevirtual 293, 3) := dk_182 1 37 (dk_at dksX0_checkEvent_2 0 rfl rfl)
theorem dX0_checkEvent_50 : decode cX0_checkEvent 50 = .ok (.ifCond .le 13, 3) := dk_158 0 13 (dk_at dksX0_checkEvent_2 3 rfl rfl)
theorem dX0_checkEvent_53 : decode cX0_checkEvent 53 = .ok (.aload_n 0, 1) := dk_42 (dk_at dksX0_checkEvent_2 6 rfl rfl)
theorem dX0_checkEvent_54 : decode cX0_checkEvent 54 = .ok (.iconst 0, 1) := dk_3 (dk_at dksX0_checkEvent_2 7 rfl rfl)
theorem dX0_checkEvent_55 : decode cX0_checkEvent 55 = .ok (.aload_n 2, 1) := dk_44 (dk_at dksX0_checkEvent_2 8 rfl rfl)
theorem dX0_checkEvent_56 : decode cX0_checkEvent 56 = .ok (.getfield 322, 3) := dk_180 1 66 (dk_at dksX0_checkEvent_2 9 rfl rfl)
theorem dX0_checkEvent_59 : decode cX0_checkEvent 59 = .ok (.iload_n 3, 1) := dk_29 (dk_at dksX0_checkEvent_2 12 rfl rfl)
theorem dX0_checkEvent_60 : decode cX0_checkEvent 60 = .ok (.invokevirtual 374, 3) := dk_182 1 118 (dk_at dksX0_checkEvent_2 13 rfl rfl)
theorem dX0_checkEvent_63 : decode cX0_checkEvent 63 = .ok (.aload_n 2, 1) := dk_44 (dk_at dksX0_checkEvent_2 16 rfl rfl)
theorem dX0_checkEvent_64 : decode cX0_checkEvent 64 = .ok (.invokevirtual 300, 3) := dk_182 1 44 (dk_at dksX0_checkEvent_2 17 rfl rfl)
theorem dX0_checkEvent_67 : decode cX0_checkEvent 67 = .ok (.ifCond .eq 24, 3) := dk_153 0 24 (dk_at dksX0_checkEvent_2 20 rfl rfl)
theorem dX0_checkEvent_70 : decode cX0_checkEvent 70 = .ok (.aload_n 1, 1) := dk_43 (dk_at dksX0_checkEvent_2 23 rfl rfl)
theorem dX0_checkEvent_71 : decode cX0_checkEvent 71 = .ok (.aload_n 2, 1) := dk_44 (dk_at dksX0_checkEvent_3 0 rfl rfl)
theorem dX0_checkEvent_72 : decode cX0_checkEvent 72 = .ok (.checkcast 142, 3) := dk_192 0 142 (dk_at dksX0_checkEvent_3 1 rfl rfl)
theorem dX0_checkEvent_75 : decode cX0_checkEvent 75 = .ok (.invokestatic 381, 3) := dk_184 1 125 (dk_at dksX0_checkEvent_3 4 rfl rfl)
theorem dX0_checkEvent_78 : decode cX0_checkEvent 78 = .ok (.ifCond .ne 13, 3) := dk_154 0 13 (dk_at dksX0_checkEvent_3 7 rfl rfl)
theorem dX0_checkEvent_81 : decode cX0_checkEvent 81 = .ok (.aload_n 0, 1) := dk_42 (dk_at dksX0_checkEvent_3 10 rfl rfl)
theorem dX0_checkEvent_82 : decode cX0_checkEvent 82 = .ok (.iconst 1, 1) := dk_4 (dk_at dksX0_checkEvent_3 11 rfl rfl)
theorem dX0_checkEvent_83 : decode cX0_checkEvent 83 = .ok (.aload_n 2, 1) := dk_44 (dk_at dksX0_checkEvent_3 12 rfl rfl)
theorem dX0_checkEvent_84 : decode cX0_checkEvent 84 = .ok (.getfield 322, 3) := dk_180 1 66 (dk_at dksX0_checkEvent_3 13 rfl rfl)
theorem dX0_checkEvent_87 : decode cX0_checkEvent 87 = .ok (.iconst (-1), 1) := dk_2 (dk_at dksX0_checkEvent_3 16 rfl rfl)
theorem dX0_checkEvent_88 : decode cX0_checkEvent 88 = .ok (.invokevirtual 374, 3) := dk_182 1 118 (dk_at dksX0_checkEvent_3 17 rfl rfl)
theorem dX0_checkEvent_91 : decode cX0_checkEvent 91 = .ok (.aload_n 2, 1) := dk_44 (dk_at dksX0_checkEvent_3 20 rfl rfl)
theorem dX0_checkEvent_92 : decode cX0_checkEvent 92 = .ok (.instanceof 142, 3) := dk_193 0 142 (dk_at dksX0_checkEvent_3 21 rfl rfl)
theorem dX0_checkEvent_95 : decode cX0_checkEvent 95 = .ok (.ifCond .eq 24, 3) := dk_153 0 24 (dk_at dksX0_checkEvent_4 0 rfl rfl)
theorem dX0_checkEvent_98 : decode cX0_checkEvent 98 = .ok (.aload_n 0, 1) := dk_42 (dk_at dksX0_checkEvent_4 3 rfl rfl)
theorem dX0_checkEvent_99 : decode cX0_checkEvent 99 = .ok (.aload_n 2, 1) := dk_44 (dk_at dksX0_checkEvent_4 4 rfl rfl)
theorem dX0_checkEvent_100 : decode cX0_checkEvent 100 = .ok (.checkcast 142, 3) := dk_192 0 142 (dk_at dksX0_checkEvent_4 5 rfl rfl)
theorem dX0_checkEvent_103 : decode cX0_checkEvent 103 = .ok (.invokevirtual 385, 3) := dk_182 1 129 (dk_at dksX0_checkEvent_4 8 rfl rfl)
theorem dX0_checkEvent_106 : decode cX0_checkEvent 106 = .ok (.ifCond .eq 13, 3) := dk_153 0 13 (dk_at dksX0_checkEvent_4 11 rfl rfl)
theorem dX0_checkEvent_109 : decode cX0_checkEvent 109 = .ok (.aload_n 0, 1) := dk_42 (dk_at dksX0_checkEvent_4 14 rfl rfl)
theorem dX0_checkEvent_110 : decode cX0_checkEvent 110 = .ok (.iconst 2, 1) := dk_5 (dk_at dksX0_checkEvent_4 15 rfl rfl)
theorem dX0_checkEvent_111 : decode cX0_checkEvent 111 = .ok (.aload_n 2, 1) := dk_44 (dk_at dksX0_checkEvent_4 16 rfl rfl)
theorem dX0_checkEvent_112 : decode cX0_checkEvent 112 = .ok (.getfield 322, 3) := dk_180 1 66 (dk_at dksX0_checkEvent_4 17 rfl rfl)
theorem dX0_checkEvent_115 : decode cX0_checkEvent 115 = .ok (.iconst (-1), 1) := dk_2 (dk_at dksX0_checkEvent_4 20 rfl rfl)
theorem dX0_checkEvent_116 : decode cX0_checkEvent 116 = .ok (.invokevirtual 374, 3) := dk_182 1 118 (dk_at dksX0_checkEvent_4 21 rfl rfl)
theorem dX0_checkEvent_119 : decode cX0_checkEvent 119 = .ok (.return_, 1) := dk_177 (dk_at dksX0_checkEvent_5 0 rfl rfl)
abbrev cX0_finds : ByteArray := prog_1_method_48_code
def yX0_finds : MethodName := ⟨RX0, "finds", "(III)V"⟩
def dkwX0_finds_2 : List UInt8 := [96, 29, 79, 42, 89, 180, 1, 111, 4, 96, 181, 1, 111, 177]
abbrev dktX0_finds_2 : List UInt8 := dkwX0_finds_2 ++ []
def dkwX0_finds_1 : List UInt8 := [180, 0, 80, 6, 42, 180, 1, 111, 104, 4, 96, 28, 79, 42, 180, 0, 80, 6, 42, 180, 1, 111, 104, 5]
abbrev dktX0_finds_1 : List UInt8 := dkwX0_finds_1 ++ dktX0_finds_2
def dkwX0_finds_0 : List UInt8 := [42, 180, 1, 111, 16, 100, 162, 0, 43, 42, 180, 0, 80, 6, 42, 180, 1, 111, 104, 27, 79, 42]
abbrev dktX0_finds_0 : List UInt8 := dkwX0_finds_0 ++ dktX0_finds_1
theorem dksX0_finds_0 : cX0_finds.data.toList.drop 0 = dktX0_finds_0 := by decide +kernel
theorem dksX0_finds_1 : cX0_finds.data.toList.drop 22 = dktX0_finds_1 := dk_seg dksX0_finds_0 22 rfl rfl
theorem dksX0_finds_2 : cX0_finds.data.toList.drop 46 = dktX0_finds_2 := dk_seg dksX0_finds_1 24 rfl rfl
theorem dX0_finds_0 : decode cX0_finds 0 = .ok (.aload_n 0, 1) := dk_42 (dk_at dksX0_finds_0 0 rfl rfl)
theorem dX0_finds_1 : decode cX0_finds 1 = .ok (.getfield 367, 3) := dk_180 1 111 (dk_at dksX0_finds_0 1 rfl rfl)
theorem dX0_finds_4 : decode cX0_finds 4 = .ok (.bipush 100, 2) := dk_16 100 (dk_at dksX0_finds_0 4 rfl rfl)
theorem dX0_finds_6 : decode cX0_finds 6 = .ok (.if_icmp .ge 43, 3) := dk_162 0 43 (dk_at dksX0_finds_0 6 rfl rfl)
theorem dX0_finds_9 : decode cX0_finds 9 = .ok (.aload_n 0, 1) := dk_42 (dk_at dksX0_finds_0 9 rfl rfl)
theorem dX0_finds_10 : decode cX0_finds 10 = .ok (.getfield 80, 3) := dk_180 0 80 (dk_at dksX0_finds_0 10 rfl rfl)
theorem dX0_finds_13 : decode cX0_finds 13 = .ok (.iconst 3, 1) := dk_6 (dk_at dksX0_finds_0 13 rfl rfl)
theorem dX0_finds_14 : decode cX0_finds 14 = .ok (.aload_n 0, 1) := dk_42 (dk_at dksX0_finds_0 14 rfl rfl)
theorem dX0_finds_15 : decode cX0_finds 15 = .ok (.getfield 367, 3) := dk_180 1 111 (dk_at dksX0_finds_0 15 rfl rfl)
theorem dX0_finds_18 : decode cX0_finds 18 = .ok (.imul, 1) := dk_104 (dk_at dksX0_finds_0 18 rfl rfl)
theorem dX0_finds_19 : decode cX0_finds 19 = .ok (.iload_n 1, 1) := dk_27 (dk_at dksX0_finds_0 19 rfl rfl)
theorem dX0_finds_20 : decode cX0_finds 20 = .ok (.iastore, 1) := dk_79 (dk_at dksX0_finds_0 20 rfl rfl)
theorem dX0_finds_21 : decode cX0_finds 21 = .ok (.aload_n 0, 1) := dk_42 (dk_at dksX0_finds_0 21 rfl rfl)
theorem dX0_finds_22 : decode cX0_finds 22 = .ok (.getfield 80, 3) := dk_180 0 80 (dk_at dksX0_finds_1 0 rfl rfl)
theorem dX0_finds_25 : decode cX0_finds 25 = .ok (.iconst 3, 1) := dk_6 (dk_at dksX0_finds_1 3 rfl rfl)
theorem dX0_finds_26 : decode cX0_finds 26 = .ok (.aload_n 0, 1) := dk_42 (dk_at dksX0_finds_1 4 rfl rfl)
theorem dX0_finds_27 : decode cX0_finds 27 = .ok (.getfield 367, 3) := dk_180 1 111 (dk_at dksX0_finds_1 5 rfl rfl)
theorem dX0_finds_30 : decode cX0_finds 30 = .ok (.imul, 1) := dk_104 (dk_at dksX0_finds_1 8 rfl rfl)
theorem dX0_finds_31 : decode cX0_finds 31 = .ok (.iconst 1, 1) := dk_4 (dk_at dksX0_finds_1 9 rfl rfl)
theorem dX0_finds_32 : decode cX0_finds 32 = .ok (.iadd, 1) := dk_96 (dk_at dksX0_finds_1 10 rfl rfl)
theorem dX0_finds_33 : decode cX0_finds 33 = .ok (.iload_n 2, 1) := dk_28 (dk_at dksX0_finds_1 11 rfl rfl)
theorem dX0_finds_34 : decode cX0_finds 34 = .ok (.iastore, 1) := dk_79 (dk_at dksX0_finds_1 12 rfl rfl)
theorem dX0_finds_35 : decode cX0_finds 35 = .ok (.aload_n 0, 1) := dk_42 (dk_at dksX0_finds_1 13 rfl rfl)
theorem dX0_finds_36 : decode cX0_finds 36 = .ok (.getfield 80, 3) := dk_180 0 80 (dk_at dksX0_finds_1 14 rfl rfl)
theorem dX0_finds_39 : decode cX0_finds 39 = .ok (.iconst 3, 1) := dk_6 (dk_at dksX0_finds_1 17 rfl rfl)
theorem dX0_finds_40 : decode cX0_finds 40 = .ok (.aload_n 0, 1) := dk_42 (dk_at dksX0_finds_1 18 rfl rfl)
theorem dX0_finds_41 : decode cX0_finds 41 = .ok (.getfield 367, 3) := dk_180 1 111 (dk_at dksX0_finds_1 19 rfl rfl)
theorem dX0_finds_44 : decode cX0_finds 44 = .ok (.imul, 1) := dk_104 (dk_at dksX0_finds_1 22 rfl rfl)
theorem dX0_finds_45 : decode cX0_finds 45 = .ok (.iconst 2, 1) := dk_5 (dk_at dksX0_finds_1 23 rfl rfl)
theorem dX0_finds_46 : decode cX0_finds 46 = .ok (.iadd, 1) := dk_96 (dk_at dksX0_finds_2 0 rfl rfl)
theorem dX0_finds_47 : decode cX0_finds 47 = .ok (.iload_n 3, 1) := dk_29 (dk_at dksX0_finds_2 1 rfl rfl)
theorem dX0_finds_48 : decode cX0_finds 48 = .ok (.iastore, 1) := dk_79 (dk_at dksX0_finds_2 2 rfl rfl)
theorem dX0_finds_49 : decode cX0_finds 49 = .ok (.aload_n 0, 1) := dk_42 (dk_at dksX0_finds_2 3 rfl rfl)
theorem dX0_finds_50 : decode cX0_finds 50 = .ok (.dup, 1) := dk_89 (dk_at dksX0_finds_2 4 rfl rfl)
theorem dX0_finds_51 : decode cX0_finds 51 = .ok (.getfield 367, 3) := dk_180 1 111 (dk_at dksX0_finds_2 5 rfl rfl)
theorem dX0_finds_54 : decode cX0_finds 54 = .ok (.iconst 1, 1) := dk_4 (dk_at dksX0_finds_2 8 rfl rfl)
theorem dX0_finds_55 : decode cX0_finds 55 = .ok (.iadd, 1) := dk_96 (dk_at dksX0_finds_2 9 rfl rfl)
theorem dX0_finds_56 : decode cX0_finds 56 = .ok (.putfield 367, 3) := dk_181 1 111 (dk_at dksX0_finds_2 10 rfl rfl)
theorem dX0_finds_59 : decode cX0_finds 59 = .ok (.return_, 1) := dk_177 (dk_at dksX0_finds_2 13 rfl rfl)
abbrev cX0_goesOn : ByteArray := prog_1_method_51_code
def yX0_goesOn : MethodName := ⟨RX0, "goesOn", "(LStaveScore$Voice;LStaveScore$Note;)Z"⟩
def dkwX0_goesOn_3 : List UInt8 := [167, 0, 4, 3, 172]
abbrev dktX0_goesOn_3 : List UInt8 := dkwX0_goesOn_3 ++ []
def dkwX0_goesOn_2 : List UInt8 := [193, 0, 142, 153, 0, 23, 42, 180, 0, 162, 28, 50, 192, 0, 142, 43, 182, 1, 136, 153, 0, 7, 4]
abbrev dktX0_goesOn_2 : List UInt8 := dkwX0_goesOn_2 ++ dktX0_goesOn_3
def dkwX0_goesOn_1 : List UInt8 := [154, 0, 9, 132, 2, 1, 167, 255, 233, 28, 42, 180, 0, 159, 162, 0, 35, 42, 180, 0, 162, 28, 50]
abbrev dktX0_goesOn_1 : List UInt8 := dkwX0_goesOn_1 ++ dktX0_goesOn_2
def dkwX0_goesOn_0 : List UInt8 := [43, 180, 0, 165, 4, 96, 61, 28, 42, 180, 0, 159, 162, 0, 21, 42, 180, 0, 162, 28, 50, 182, 1, 133]
abbrev dktX0_goesOn_0 : List UInt8 := dkwX0_goesOn_0 ++ dktX0_goesOn_1
theorem dksX0_goesOn_0 : cX0_goesOn.data.toList.drop 0 = dktX0_goesOn_0 := by decide +kernel
theorem dksX0_goesOn_1 : cX0_goesOn.data.toList.drop 24 = dktX0_goesOn_1 := dk_seg dksX0_goesOn_0 24 rfl rfl
theorem dksX0_goesOn_2 : cX0_goesOn.data.toList.drop 47 = dktX0_goesOn_2 := dk_seg dksX0_goesOn_1 23 rfl rfl
theorem dksX0_goesOn_3 : cX0_goesOn.data.toList.drop 70 = dktX0_goesOn_3 := dk_seg dksX0_goesOn_2 23 rfl rfl
theorem dX0_goesOn_0 : decode cX0_goesOn 0 = .ok (.aload_n 1, 1) := dk_43 (dk_at dksX0_goesOn_0 0 rfl rfl)
theorem dX0_goesOn_1 : decode cX0_goesOn 1 = .ok (.getfield 165, 3) := dk_180 0 165 (dk_at dksX0_goesOn_0 1 rfl rfl)
theorem dX0_goesOn_4 : decode cX0_goesOn 4 = .ok (.iconst 1, 1) := dk_4 (dk_at dksX0_goesOn_0 4 rfl rfl)
theorem dX0_goesOn_5 : decode cX0_goesOn 5 = .ok (.iadd, 1) := dk_96 (dk_at dksX0_goesOn_0 5 rfl rfl)
theorem dX0_goesOn_6 : decode cX0_goesOn 6 = .ok (.istore_n 2, 1) := dk_61 (dk_at dksX0_goesOn_0 6 rfl rfl)
theorem dX0_goesOn_7 : decode cX0_goesOn 7 = .ok (.iload_n 2, 1) := dk_28 (dk_at dksX0_goesOn_0 7 rfl rfl)
theorem dX0_goesOn_8 : decode cX0_goesOn 8 = .ok (.aload_n 0, 1) := dk_42 (dk_at dksX0_goesOn_0 8 rfl rfl)
theorem dX0_goesOn_9 : decode cX0_goesOn 9 = .ok (.getfield 159, 3) := dk_180 0 159 (dk_at dksX0_goesOn_0 9 rfl rfl)
theorem dX0_goesOn_12 : decode cX0_goesOn 12 = .ok (.if_icmp .ge 21, 3) := dk_162 0 21 (dk_at dksX0_goesOn_0 12 rfl rfl)
theorem dX0_goesOn_15 : decode cX0_goesOn 15 = .ok (.aload_n 0, 1) := dk_42 (dk_at dksX0_goesOn_0 15 rfl rfl)
theorem dX0_goesOn_16 : decode cX0_goesOn 16 = .ok (.getfield 162, 3) := dk_180 0 162 (dk_at dksX0_goesOn_0 16 rfl rfl)
theorem dX0_goesOn_19 : decode cX0_goesOn 19 = .ok (.iload_n 2, 1) := dk_28 (dk_at dksX0_goesOn_0 19 rfl rfl)
theorem dX0_goesOn_20 : decode cX0_goesOn 20 = .ok (.aaload, 1) := dk_50 (dk_at dksX0_goesOn_0 20 rfl rfl)
theorem dX0_goesOn_21 : decode cX0_goesOn 21 = .ok (.invokevirtual 389, 3) := dk_182 1 133 (dk_at dksX0_goesOn_0 21 rfl rfl)
theorem dX0_goesOn_24 : decode cX0_goesOn 24 = .ok (.ifCond .ne 9, 3) := dk_154 0 9 (dk_at dksX0_goesOn_1 0 rfl rfl)
theorem dX0_goesOn_27 : decode cX0_goesOn 27 = .ok (.iinc 2 1, 3) := dk_132 2 1 (dk_at dksX0_goesOn_1 3 rfl rfl)
theorem dX0_goesOn_30 : decode cX0_goesOn 30 = .ok (.goto (-23), 3) := dk_167 255 233 (dk_at dksX0_goesOn_1 6 rfl rfl)
theorem dX0_goesOn_33 : decode cX0_goesOn 33 = .ok (.iload_n 2, 1) := dk_28 (dk_at dksX0_goesOn_1 9 rfl rfl)
theorem dX0_goesOn_34 : decode cX0_goesOn 34 = .ok (.aload_n 0, 1) := dk_42 (dk_at dksX0_goesOn_1 10 rfl rfl)
theorem dX0_goesOn_35 : decode cX0_goesOn 35 = .ok (.getfield 159, 3) := dk_180 0 159 (dk_at dksX0_goesOn_1 11 rfl rfl)
theorem dX0_goesOn_38 : decode cX0_goesOn 38 = .ok (.if_icmp .ge 35, 3) := dk_162 0 35 (dk_at dksX0_goesOn_1 14 rfl rfl)
theorem dX0_goesOn_41 : decode cX0_goesOn 41 = .ok (.aload_n 0, 1) := dk_42 (dk_at dksX0_goesOn_1 17 rfl rfl)
theorem dX0_goesOn_42 : decode cX0_goesOn 42 = .ok (.getfield 162, 3) := dk_180 0 162 (dk_at dksX0_goesOn_1 18 rfl rfl)
theorem dX0_goesOn_45 : decode cX0_goesOn 45 = .ok (.iload_n 2, 1) := dk_28 (dk_at dksX0_goesOn_1 21 rfl rfl)
theorem dX0_goesOn_46 : decode cX0_goesOn 46 = .ok (.aaload, 1) := dk_50 (dk_at dksX0_goesOn_1 22 rfl rfl)
theorem dX0_goesOn_47 : decode cX0_goesOn 47 = .ok (.instanceof 142, 3) := dk_193 0 142 (dk_at dksX0_goesOn_2 0 rfl rfl)
theorem dX0_goesOn_50 : decode cX0_goesOn 50 = .ok (.ifCond .eq 23, 3) := dk_153 0 23 (dk_at dksX0_goesOn_2 3 rfl rfl)
theorem dX0_goesOn_53 : decode cX0_goesOn 53 = .ok (.aload_n 0, 1) := dk_42 (dk_at dksX0_goesOn_2 6 rfl rfl)
theorem dX0_goesOn_54 : decode cX0_goesOn 54 = .ok (.getfield 162, 3) := dk_180 0 162 (dk_at dksX0_goesOn_2 7 rfl rfl)
theorem dX0_goesOn_57 : decode cX0_goesOn 57 = .ok (.iload_n 2, 1) := dk_28 (dk_at dksX0_goesOn_2 10 rfl rfl)
theorem dX0_goesOn_58 : decode cX0_goesOn 58 = .ok (.aaload, 1) := dk_50 (dk_at dksX0_goesOn_2 11 rfl rfl)
theorem dX0_goesOn_59 : decode cX0_goesOn 59 = .ok (.checkcast 142, 3) := dk_192 0 142 (dk_at dksX0_goesOn_2 12 rfl rfl)
theorem dX0_goesOn_62 : decode cX0_goesOn 62 = .ok (.aload_n 1, 1) := dk_43 (dk_at dksX0_goesOn_2 15 rfl rfl)
theorem dX0_goesOn_63 : decode cX0_goesOn 63 = .ok (.invokevirtual 392, 3) := dk_182 1 136 (dk_at dksX0_goesOn_2 16 rfl rfl)
theorem dX0_goesOn_66 : decode cX0_goesOn 66 = .ok (.ifCond .eq 7, 3) := dk_153 0 7 (dk_at dksX0_goesOn_2 19 rfl rfl)
theorem dX0_goesOn_69 : decode cX0_goesOn 69 = .ok (.iconst 1, 1) := dk_4 (dk_at dksX0_goesOn_2 22 rfl rfl)
theorem dX0_goesOn_70 : decode cX0_goesOn 70 = .ok (.goto 4, 3) := dk_167 0 4 (dk_at dksX0_goesOn_3 0 rfl rfl)
theorem dX0_goesOn_73 : decode cX0_goesOn 73 = .ok (.iconst 0, 1) := dk_3 (dk_at dksX0_goesOn_3 3 rfl rfl)
theorem dX0_goesOn_74 : decode cX0_goesOn 74 = .ok (.ireturn, 1) := dk_172 (dk_at dksX0_goesOn_3 4 rfl rfl)
abbrev cX0_isOut : ByteArray := prog_1_method_52_code
def yX0_isOut : MethodName := ⟨RX0, "isOut", "(LStaveScore$Note;)Z"⟩
def dkwX0_isOut_2 : List UInt8 := [4, 167, 0, 4, 3, 54, 4, 132, 5, 1, 167, 255, 216, 21, 4, 172]
abbrev dktX0_isOut_2 : List UInt8 := dkwX0_isOut_2 ++ []
def dkwX0_isOut_1 : List UInt8 := [162, 0, 37, 21, 4, 154, 0, 32, 44, 43, 21, 5, 182, 0, 235, 29, 185, 1, 139, 3, 0, 154, 0, 7]
abbrev dktX0_isOut_1 : List UInt8 := dkwX0_isOut_1 ++ dktX0_isOut_2
def dkwX0_isOut_0 : List UInt8 := [42, 43, 182, 0, 239, 77, 42, 43, 182, 0, 246, 62, 3, 54, 4, 3, 54, 5, 21, 5, 43, 182, 0, 234]
abbrev dktX0_isOut_0 : List UInt8 := dkwX0_isOut_0 ++ dktX0_isOut_1
theorem dksX0_isOut_0 : cX0_isOut.data.toList.drop 0 = dktX0_isOut_0 := by decide +kernel
theorem dksX0_isOut_1 : cX0_isOut.data.toList.drop 24 = dktX0_isOut_1 := dk_seg dksX0_isOut_0 24 rfl rfl
theorem dksX0_isOut_2 : cX0_isOut.data.toList.drop 48 = dktX0_isOut_2 := dk_seg dksX0_isOut_1 24 rfl rfl
theorem dX0_isOut_0 : decode cX0_isOut 0 = .ok (.aload_n 0, 1) := dk_42 (dk_at dksX0_isOut_0 0 rfl rfl)
theorem dX0_isOut_1 : decode cX0_isOut 1 = .ok (.aload_n 1, 1) := dk_43 (dk_at dksX0_isOut_0 1 rfl rfl)
theorem dX0_isOut_2 : decode cX0_isOut 2 = .ok (.invokevirtual 239, 3) := dk_182 0 239 (dk_at dksX0_isOut_0 2 rfl rfl)
theorem dX0_isOut_5 : decode cX0_isOut 5 = .ok (.astore_n 2, 1) := dk_77 (dk_at dksX0_isOut_0 5 rfl rfl)
theorem dX0_isOut_6 : decode cX0_isOut 6 = .ok (.aload_n 0, 1) := dk_42 (dk_at dksX0_isOut_0 6 rfl rfl)
theorem dX0_isOut_7 : decode cX0_isOut 7 = .ok (.aload_n 1, 1) := dk_43 (dk_at dksX0_isOut_0 7 rfl rfl)
theorem dX0_isOut_8 : decode cX0_isOut 8 = .ok (.invokevirtual 246, 3) := dk_182 0 246 (dk_at dksX0_isOut_0 8 rfl rfl)
theorem dX0_isOut_11 : decode cX0_isOut 11 = .ok (.istore_n 3, 1) := dk_62 (dk_at dksX0_isOut_0 11 rfl rfl)
theorem dX0_isOut_12 : decode cX0_isOut 12 = .ok (.iconst 0, 1) := dk_3 (dk_at dksX0_isOut_0 12 rfl rfl)
theorem dX0_isOut_13 : decode cX0_isOut 13 = .ok (.istore 4, 2) := dk_54 4 (dk_at dksX0_isOut_0 13 rfl rfl)
theorem dX0_isOut_15 : decode cX0_isOut 15 = .ok (.iconst 0, 1) := dk_3 (dk_at dksX0_isOut_0 15 rfl rfl)
theorem dX0_isOut_16 : decode cX0_isOut 16 = .ok (.istore 5, 2) := dk_54 5 (dk_at dksX0_isOut_0 16 rfl rfl)
theorem dX0_isOut_18 : decode cX0_isOut 18 = .ok (.iload 5, 2) := dk_21 5 (dk_at dksX0_isOut_0 18 rfl rfl)
theorem dX0_isOut_20 : decode cX0_isOut 20 = .ok (.aload_n 1, 1) := dk_43 (dk_at dksX0_isOut_0 20 rfl rfl)
theorem dX0_isOut_21 : decode cX0_isOut 21 = .ok (.invokevirtual 234, 3) := dk_182 0 234 (dk_at dksX0_isOut_0 21 rfl rfl)
theorem dX0_isOut_24 : decode cX0_isOut 24 = .ok (.if_icmp .ge 37, 3) := dk_162 0 37 (dk_at dksX0_isOut_1 0 rfl rfl)
theorem dX0_isOut_27 : decode cX0_isOut 27 = .ok (.iload 4, 2) := dk_21 4 (dk_at dksX0_isOut_1 3 rfl rfl)
theorem dX0_isOut_29 : decode cX0_isOut 29 = .ok (.ifCond .ne 32, 3) := dk_154 0 32 (dk_at dksX0_isOut_1 5 rfl rfl)
theorem dX0_isOut_32 : decode cX0_isOut 32 = .ok (.aload_n 2, 1) := dk_44 (dk_at dksX0_isOut_1 8 rfl rfl)
theorem dX0_isOut_33 : decode cX0_isOut 33 = .ok (.aload_n 1, 1) := dk_43 (dk_at dksX0_isOut_1 9 rfl rfl)
theorem dX0_isOut_34 : decode cX0_isOut 34 = .ok (.iload 5, 2) := dk_21 5 (dk_at dksX0_isOut_1 10 rfl rfl)
theorem dX0_isOut_36 : decode cX0_isOut 36 = .ok (.invokevirtual 235, 3) := dk_182 0 235 (dk_at dksX0_isOut_1 12 rfl rfl)
theorem dX0_isOut_39 : decode cX0_isOut 39 = .ok (.iload_n 3, 1) := dk_29 (dk_at dksX0_isOut_1 15 rfl rfl)
theorem dX0_isOut_40 : decode cX0_isOut 40 = .ok (.invokeinterface 395 3, 5) := by decide +kernel
theorem dX0_isOut_45 : decode cX0_isOut 45 = .ok (.ifCond .ne 7, 3) := dk_154 0 7 (dk_at dksX0_isOut_1 21 rfl rfl)
theorem dX0_isOut_48 : decode cX0_isOut 48 = .ok (.iconst 1, 1) := dk_4 (dk_at dksX0_isOut_2 0 rfl rfl)
theorem dX0_isOut_49 : decode cX0_isOut 49 = .ok (.goto 4, 3) := dk_167 0 4 (dk_at dksX0_isOut_2 1 rfl rfl)
theorem dX0_isOut_52 : decode cX0_isOut 52 = .ok (.iconst 0, 1) := dk_3 (dk_at dksX0_isOut_2 4 rfl rfl)
theorem dX0_isOut_53 : decode cX0_isOut 53 = .ok (.istore 4, 2) := dk_54 4 (dk_at dksX0_isOut_2 5 rfl rfl)
theorem dX0_isOut_55 : decode cX0_isOut 55 = .ok (.iinc 5 1, 3) := dk_132 5 1 (dk_at dksX0_isOut_2 7 rfl rfl)
theorem dX0_isOut_58 : decode cX0_isOut 58 = .ok (.goto (-40), 3) := dk_167 255 216 (dk_at dksX0_isOut_2 10 rfl rfl)
theorem dX0_isOut_61 : decode cX0_isOut 61 = .ok (.iload 4, 2) := dk_21 4 (dk_at dksX0_isOut_2 13 rfl rfl)
theorem dX0_isOut_63 : decode cX0_isOut 63 = .ok (.ireturn, 1) := dk_172 (dk_at dksX0_isOut_2 15 rfl rfl)
abbrev cX0_isSum : ByteArray := prog_1_method_53_code
def yX0_isSum : MethodName := ⟨RX0, "isSum", "(LStaveScore$Tuplet;)Z"⟩
def dkwX0_isSum_4 : List UInt8 := [4, 167, 0, 4, 3, 172]
abbrev dktX0_isSum_4 : List UInt8 := dkwX0_isSum_4 ++ []
def dkwX0_isSum_3 : List UInt8 := [133, 10, 43, 180, 1, 89, 121, 182, 0, 134, 42, 180, 0, 95, 42, 180, 0, 91, 182, 1, 37, 154, 0, 7]
abbrev dktX0_isSum_3 : List UInt8 := dkwX0_isSum_3 ++ dktX0_isSum_4
def dkwX0_isSum_2 : List UInt8 := [180, 0, 95, 42, 180, 0, 91, 182, 0, 138, 132, 2, 1, 167, 255, 211, 42, 180, 0, 91, 43, 180, 1, 18]
abbrev dktX0_isSum_2 : List UInt8 := dkwX0_isSum_2 ++ dktX0_isSum_3
def dkwX0_isSum_1 : List UInt8 := [180, 0, 43, 43, 180, 0, 197, 50, 180, 0, 162, 28, 50, 43, 42, 180, 0, 91, 182, 1, 33, 42]
abbrev dktX0_isSum_1 : List UInt8 := dkwX0_isSum_1 ++ dktX0_isSum_2
def dkwX0_isSum_0 : List UInt8 := [42, 180, 0, 95, 9, 10, 182, 0, 134, 43, 180, 0, 201, 61, 28, 43, 180, 0, 198, 163, 0, 43, 42, 42]
abbrev dktX0_isSum_0 : List UInt8 := dkwX0_isSum_0 ++ dktX0_isSum_1
theorem dksX0_isSum_0 : cX0_isSum.data.toList.drop 0 = dktX0_isSum_0 := by decide +kernel
theorem dksX0_isSum_1 : cX0_isSum.data.toList.drop 24 = dktX0_isSum_1 := dk_seg dksX0_isSum_0 24 rfl rfl
theorem dksX0_isSum_2 : cX0_isSum.data.toList.drop 46 = dktX0_isSum_2 := dk_seg dksX0_isSum_1 22 rfl rfl
theorem dksX0_isSum_3 : cX0_isSum.data.toList.drop 70 = dktX0_isSum_3 := dk_seg dksX0_isSum_2 24 rfl rfl
theorem dksX0_isSum_4 : cX0_isSum.data.toList.drop 94 = dktX0_isSum_4 := dk_seg dksX0_isSum_3 24 rfl rfl
theorem dX0_isSum_0 : decode cX0_isSum 0 = .ok (.aload_n 0, 1) := dk_42 (dk_at dksX0_isSum_0 0 rfl rfl)
theorem dX0_isSum_1 : decode cX0_isSum 1 = .ok (.getfield 95, 3) := dk_180 0 95 (dk_at dksX0_isSum_0 1 rfl rfl)
theorem dX0_isSum_4 : decode cX0_isSum 4 = .ok (.lconst 0, 1) := dk_9 (dk_at dksX0_isSum_0 4 rfl rfl)
theorem dX0_isSum_5 : decode cX0_isSum 5 = .ok (.lconst 1, 1) := dk_10 (dk_at dksX0_isSum_0 5 rfl rfl)
theorem dX0_isSum_6 : decode cX0_isSum 6 = .ok (.invokevirtual 134, 3) := dk_182 0 134 (dk_at dksX0_isSum_0 6 rfl rfl)
theorem dX0_isSum_9 : decode cX0_isSum 9 = .ok (.aload_n 1, 1) := dk_43 (dk_at dksX0_isSum_0 9 rfl rfl)
theorem dX0_isSum_10 : decode cX0_isSum 10 = .ok (.getfield 201, 3) := dk_180 0 201 (dk_at dksX0_isSum_0 10 rfl rfl)
theorem dX0_isSum_13 : decode cX0_isSum 13 = .ok (.istore_n 2, 1) := dk_61 (dk_at dksX0_isSum_0 13 rfl rfl)
theorem dX0_isSum_14 : decode cX0_isSum 14 = .ok (.iload_n 2, 1) := dk_28 (dk_at dksX0_isSum_0 14 rfl rfl)
theorem dX0_isSum_15 : decode cX0_isSum 15 = .ok (.aload_n 1, 1) := dk_43 (dk_at dksX0_isSum_0 15 rfl rfl)
theorem dX0_isSum_16 : decode cX0_isSum 16 = .ok (.getfield 198, 3) := dk_180 0 198 (dk_at dksX0_isSum_0 16 rfl rfl)
theorem dX0_isSum_19 : decode cX0_isSum 19 = .ok (.if_icmp .gt 43, 3) := dk_163 0 43 (dk_at dksX0_isSum_0 19 rfl rfl)
theorem dX0_isSum_22 : decode cX0_isSum 22 = .ok (.aload_n 0, 1) := dk_42 (dk_at dksX0_isSum_0 22 rfl rfl)
theorem dX0_isSum_23 : decode cX0_isSum 23 = .ok (.aload_n 0, 1) := dk_42 (dk_at dksX0_isSum_0 23 rfl rfl)
theorem dX0_isSum_24 : decode cX0_isSum 24 = .ok (.getfield 43, 3) := dk_180 0 43 (dk_at dksX0_isSum_1 0 rfl rfl)
theorem dX0_isSum_27 : decode cX0_isSum 27 = .ok (.aload_n 1, 1) := dk_43 (dk_at dksX0_isSum_1 3 rfl rfl)
theorem dX0_isSum_28 : decode cX0_isSum 28 = .ok (.getfield 197, 3) := dk_180 0 197 (dk_at dksX0_isSum_1 4 rfl rfl)
theorem dX0_isSum_31 : decode cX0_isSum 31 = .ok (.aaload, 1) := dk_50 (dk_at dksX0_isSum_1 7 rfl rfl)
theorem dX0_isSum_32 : decode cX0_isSum 32 = .ok (.getfield 162, 3) := dk_180 0 162 (dk_at dksX0_isSum_1 8 rfl rfl)
theorem dX0_isSum_35 : decode cX0_isSum 35 = .ok (.iload_n 2, 1) := dk_28 (dk_at dksX0_isSum_1 11 rfl rfl)
theorem dX0_isSum_36 : decode cX0_isSum 36 = .ok (.aaload, 1) := dk_50 (dk_at dksX0_isSum_1 12 rfl rfl)
theorem dX0_isSum_37 : decode cX0_isSum 37 = .ok (.aload_n 1, 1) := dk_43 (dk_at dksX0_isSum_1 13 rfl rfl)
theorem dX0_isSum_38 : decode cX0_isSum 38 = .ok (.aload_n 0, 1) := dk_42 (dk_at dksX0_isSum_1 14 rfl rfl)
theorem dX0_isSum_39 : decode cX0_isSum 39 = .ok (.getfield 91, 3) := dk_180 0 91 (dk_at dksX0_isSum_1 15 rfl rfl)
theorem dX0_isSum_42 : decode cX0_isSum 42 = .ok (.invokevirtual 289, 3) := dk_182 1 33 (dk_at dksX0_isSum_1 18 rfl rfl)
theorem dX0_isSum_45 : decode cX0_isSum 45 = .ok (.aload_n 0, 1) := dk_42 (dk_at dksX0_isSum_1 21 rfl rfl)
theorem dX0_isSum_46 : decode cX0_isSum 46 = .ok (.getfield 95, 3) := dk_180 0 95 (dk_at dksX0_isSum_2 0 rfl rfl)
theorem dX0_isSum_49 : decode cX0_isSum 49 = .ok (.aload_n 0, 1) := dk_42 (dk_at dksX0_isSum_2 3 rfl rfl)
theorem dX0_isSum_50 : decode cX0_isSum 50 = .ok (.getfield 91, 3) := dk_180 0 91 (dk_at dksX0_isSum_2 4 rfl rfl)
theorem dX0_isSum_53 : decode cX0_isSum 53 = .ok (.invokevirtual 138, 3) := dk_182 0 138 (dk_at dksX0_isSum_2 7 rfl rfl)
theorem dX0_isSum_56 : decode cX0_isSum 56 = .ok (.iinc 2 1, 3) := dk_132 2 1 (dk_at dksX0_isSum_2 10 rfl rfl)
theorem dX0_isSum_59 : decode cX0_isSum 59 = .ok (.goto (-45), 3) := dk_167 255 211 (dk_at dksX0_isSum_2 13 rfl rfl)
theorem dX0_isSum_62 : decode cX0_isSum 62 = .ok (.aload_n 0, 1) := dk_42 (dk_at dksX0_isSum_2 16 rfl rfl)
theorem dX0_isSum_63 : decode cX0_isSum 63 = .ok (.getfield 91, 3) := dk_180 0 91 (dk_at dksX0_isSum_2 17 rfl rfl)
theorem dX0_isSum_66 : decode cX0_isSum 66 = .ok (.aload_n 1, 1) := dk_43 (dk_at dksX0_isSum_2 20 rfl rfl)
theorem dX0_isSum_67 : decode cX0_isSum 67 = .ok (.getfield 274, 3) := dk_180 1 18 (dk_at dksX0_isSum_2 21 rfl rfl)
theorem dX0_isSum_70 : decode cX0_isSum 70 = .ok (.i2l, 1) := dk_133 (dk_at dksX0_isSum_3 0 rfl rfl)
theorem dX0_isSum_71 : decode cX0_isSum 71 = .ok (.lconst 1, 1) := dk_10 (dk_at dksX0_isSum_3 1 rfl rfl)
theorem dX0_isSum_72 : decode cX0_isSum 72 = .ok (.aload_n 1, 1) := dk_43 (dk_at dksX0_isSum_3 2 rfl rfl)
theorem dX0_isSum_73 : decode cX0_isSum 73 = .ok (.getfield 345, 3) := dk_180 1 89 (dk_at dksX0_isSum_3 3 rfl rfl)
theorem dX0_isSum_76 : decode cX0_isSum 76 = .ok (.lshl, 1) := dk_121 (dk_at dksX0_isSum_3 6 rfl rfl)
theorem dX0_isSum_77 : decode cX0_isSum 77 = .ok (.invokevirtual 134, 3) := dk_182 0 134 (dk_at dksX0_isSum_3 7 rfl rfl)
theorem dX0_isSum_80 : decode cX0_isSum 80 = .ok (.aload_n 0, 1) := dk_42 (dk_at dksX0_isSum_3 10 rfl rfl)
theorem dX0_isSum_81 : decode cX0_isSum 81 = .ok (.getfield 95, 3) := dk_180 0 95 (dk_at dksX0_isSum_3 11 rfl rfl)
theorem dX0_isSum_84 : decode cX0_isSum 84 = .ok (.aload_n 0, 1) := dk_42 (dk_at dksX0_isSum_3 14 rfl rfl)
theorem dX0_isSum_85 : decode cX0_isSum 85 = .ok (.getfield 91, 3) := dk_180 0 91 (dk_at dksX0_isSum_3 15 rfl rfl)
theorem dX0_isSum_88 : decode cX0_isSum 88 = .ok (.invokevirtual 293, 3) := dk_182 1 37 (dk_at dksX0_isSum_3 18 rfl rfl)
theorem dX0_isSum_91 : decode cX0_isSum 91 = .ok (.ifCond .ne 7, 3) := dk_154 0 7 (dk_at dksX0_isSum_3 21 rfl rfl)
theorem dX0_isSum_94 : decode cX0_isSum 94 = .ok (.iconst 1, 1) := dk_4 (dk_at dksX0_isSum_4 0 rfl rfl)
theorem dX0_isSum_95 : decode cX0_isSum 95 = .ok (.goto 4, 3) := dk_167 0 4 (dk_at dksX0_isSum_4 1 rfl rfl)
theorem dX0_isSum_98 : decode cX0_isSum 98 = .ok (.iconst 0, 1) := dk_3 (dk_at dksX0_isSum_4 4 rfl rfl)
theorem dX0_isSum_99 : decode cX0_isSum 99 = .ok (.ireturn, 1) := dk_172 (dk_at dksX0_isSum_4 5 rfl rfl)
abbrev cX0_finding : ByteArray := prog_1_method_54_code
def yX0_finding : MethodName := ⟨RX0, "finding", "(II)I"⟩
def dkwX0_finding_2 : List UInt8 := [167, 0, 4, 2, 182, 0, 128, 172]
abbrev dktX0_finding_2 : List UInt8 := dkwX0_finding_2 ++ []
def dkwX0_finding_1 : List UInt8 := [100, 184, 0, 107, 153, 0, 22, 27, 16, 100, 162, 0, 16, 42, 180, 0, 80, 6, 27, 104, 28, 96, 46]
abbrev dktX0_finding_1 : List UInt8 := dkwX0_finding_1 ++ dktX0_finding_2
def dkwX0_finding_0 : List UInt8 := [28, 3, 5, 184, 0, 107, 154, 0, 10, 42, 16, 254, 182, 0, 120, 172, 42, 27, 3, 42, 180, 1, 111, 4]
abbrev dktX0_finding_0 : List UInt8 := dkwX0_finding_0 ++ dktX0_finding_1
theorem dksX0_finding_0 : cX0_finding.data.toList.drop 0 = dktX0_finding_0 := by decide +kernel
theorem dksX0_finding_1 : cX0_finding.data.toList.drop 24 = dktX0_finding_1 := dk_seg dksX0_finding_0 24 rfl rfl
theorem dksX0_finding_2 : cX0_finding.data.toList.drop 47 = dktX0_finding_2 := dk_seg dksX0_finding_1 23 rfl rfl
theorem dX0_finding_0 : decode cX0_finding 0 = .ok (.iload_n 2, 1) := dk_28 (dk_at dksX0_finding_0 0 rfl rfl)
theorem dX0_finding_1 : decode cX0_finding 1 = .ok (.iconst 0, 1) := dk_3 (dk_at dksX0_finding_0 1 rfl rfl)
theorem dX0_finding_2 : decode cX0_finding 2 = .ok (.iconst 2, 1) := dk_5 (dk_at dksX0_finding_0 2 rfl rfl)
theorem dX0_finding_3 : decode cX0_finding 3 = .ok (.invokestatic 107, 3) := dk_184 0 107 (dk_at dksX0_finding_0 3 rfl rfl)
theorem dX0_finding_6 : decode cX0_finding 6 = .ok (.ifCond .ne 10, 3) := dk_154 0 10 (dk_at dksX0_finding_0 6 rfl rfl)
theorem dX0_finding_9 : decode cX0_finding 9 = .ok (.aload_n 0, 1) := dk_42 (dk_at dksX0_finding_0 9 rfl rfl)
theorem dX0_finding_10 : decode cX0_finding 10 = .ok (.bipush (-2), 2) := dk_16 254 (dk_at dksX0_finding_0 10 rfl rfl)
theorem dX0_finding_12 : decode cX0_finding 12 = .ok (.invokevirtual 120, 3) := dk_182 0 120 (dk_at dksX0_finding_0 12 rfl rfl)
theorem dX0_finding_15 : decode cX0_finding 15 = .ok (.ireturn, 1) := dk_172 (dk_at dksX0_finding_0 15 rfl rfl)
theorem dX0_finding_16 : decode cX0_finding 16 = .ok (.aload_n 0, 1) := dk_42 (dk_at dksX0_finding_0 16 rfl rfl)
theorem dX0_finding_17 : decode cX0_finding 17 = .ok (.iload_n 1, 1) := dk_27 (dk_at dksX0_finding_0 17 rfl rfl)
theorem dX0_finding_18 : decode cX0_finding 18 = .ok (.iconst 0, 1) := dk_3 (dk_at dksX0_finding_0 18 rfl rfl)
theorem dX0_finding_19 : decode cX0_finding 19 = .ok (.aload_n 0, 1) := dk_42 (dk_at dksX0_finding_0 19 rfl rfl)
theorem dX0_finding_20 : decode cX0_finding 20 = .ok (.getfield 367, 3) := dk_180 1 111 (dk_at dksX0_finding_0 20 rfl rfl)
theorem dX0_finding_23 : decode cX0_finding 23 = .ok (.iconst 1, 1) := dk_4 (dk_at dksX0_finding_0 23 rfl rfl)
theorem dX0_finding_24 : decode cX0_finding 24 = .ok (.isub, 1) := dk_100 (dk_at dksX0_finding_1 0 rfl rfl)
theorem dX0_finding_25 : decode cX0_finding 25 = .ok (.invokestatic 107, 3) := dk_184 0 107 (dk_at dksX0_finding_1 1 rfl rfl)
theorem dX0_finding_28 : decode cX0_finding 28 = .ok (.ifCond .eq 22, 3) := dk_153 0 22 (dk_at dksX0_finding_1 4 rfl rfl)
theorem dX0_finding_31 : decode cX0_finding 31 = .ok (.iload_n 1, 1) := dk_27 (dk_at dksX0_finding_1 7 rfl rfl)
theorem dX0_finding_32 : decode cX0_finding 32 = .ok (.bipush 100, 2) := dk_16 100 (dk_at dksX0_finding_1 8 rfl rfl)
theorem dX0_finding_34 : decode cX0_finding 34 = .ok (.if_icmp .ge 16, 3) := dk_162 0 16 (dk_at dksX0_finding_1 10 rfl rfl)
theorem dX0_finding_37 : decode cX0_finding 37 = .ok (.aload_n 0, 1) := dk_42 (dk_at dksX0_finding_1 13 rfl rfl)
theorem dX0_finding_38 : decode cX0_finding 38 = .ok (.getfield 80, 3) := dk_180 0 80 (dk_at dksX0_finding_1 14 rfl rfl)
theorem dX0_finding_41 : decode cX0_finding 41 = .ok (.iconst 3, 1) := dk_6 (dk_at dksX0_finding_1 17 rfl rfl)
theorem dX0_finding_42 : decode cX0_finding 42 = .ok (.iload_n 1, 1) := dk_27 (dk_at dksX0_finding_1 18 rfl rfl)
theorem dX0_finding_43 : decode cX0_finding 43 = .ok (.imul, 1) := dk_104 (dk_at dksX0_finding_1 19 rfl rfl)
theorem dX0_finding_44 : decode cX0_finding 44 = .ok (.iload_n 2, 1) := dk_28 (dk_at dksX0_finding_1 20 rfl rfl)
theorem dX0_finding_45 : decode cX0_finding 45 = .ok (.iadd, 1) := dk_96 (dk_at dksX0_finding_1 21 rfl rfl)
theorem dX0_finding_46 : decode cX0_finding 46 = .ok (.iaload, 1) := dk_46 (dk_at dksX0_finding_1 22 rfl rfl)
theorem dX0_finding_47 : decode cX0_finding 47 = .ok (.goto 4, 3) := dk_167 0 4 (dk_at dksX0_finding_2 0 rfl rfl)
theorem dX0_finding_50 : decode cX0_finding 50 = .ok (.iconst (-1), 1) := dk_2 (dk_at dksX0_finding_2 3 rfl rfl)
theorem dX0_finding_51 : decode cX0_finding 51 = .ok (.invokevirtual 128, 3) := dk_182 0 128 (dk_at dksX0_finding_2 4 rfl rfl)
theorem dX0_finding_54 : decode cX0_finding 54 = .ok (.ireturn, 1) := dk_172 (dk_at dksX0_finding_2 7 rfl rfl)
abbrev cX0_equal : ByteArray := prog_1_method_55_code
def yX0_equal : MethodName := ⟨RX0, "equal", "(II)I"⟩
def dkwX0_equal_9 : List UInt8 := [167, 0, 4, 3, 182, 0, 128, 172]
abbrev dktX0_equal_9 : List UInt8 := dkwX0_equal_9 ++ []
def dkwX0_equal_8 : List UInt8 := [153, 0, 25, 21, 6, 42, 180, 0, 114, 160, 0, 16, 21, 7, 42, 180, 0, 114, 160, 0, 7, 4]
abbrev dktX0_equal_8 : List UInt8 := dkwX0_equal_8 ++ dktX0_equal_9
def dkwX0_equal_7 : List UInt8 := [182, 1, 144, 54, 6, 42, 28, 21, 7, 4, 96, 182, 1, 144, 54, 7, 167, 255, 192, 42, 21, 5]
abbrev dktX0_equal_7 : List UInt8 := dkwX0_equal_7 ++ dktX0_equal_8
def dkwX0_equal_6 : List UInt8 := [180, 0, 55, 21, 6, 50, 42, 180, 0, 55, 21, 7, 50, 182, 1, 147, 54, 5, 42, 27, 21, 6, 4, 96]
abbrev dktX0_equal_6 : List UInt8 := dkwX0_equal_6 ++ dktX0_equal_7
def dkwX0_equal_5 : List UInt8 := [153, 0, 65, 21, 6, 42, 180, 0, 114, 162, 0, 56, 21, 7, 42, 180, 0, 114, 162, 0, 47, 42]
abbrev dktX0_equal_5 : List UInt8 := dkwX0_equal_5 ++ dktX0_equal_6
def dkwX0_equal_4 : List UInt8 := [132, 6, 1, 167, 255, 219, 42, 27, 3, 182, 1, 144, 54, 6, 42, 28, 3, 182, 1, 144, 54, 7, 21, 5]
abbrev dktX0_equal_4 : List UInt8 := dkwX0_equal_4 ++ dktX0_equal_5
def dkwX0_equal_3 : List UInt8 := [153, 0, 29, 45, 180, 0, 162, 21, 6, 50, 25, 4, 180, 0, 162, 21, 6, 50, 182, 1, 140, 54, 5]
abbrev dktX0_equal_3 : List UInt8 := dkwX0_equal_3 ++ dktX0_equal_4
def dkwX0_equal_2 : List UInt8 := [160, 0, 7, 4, 167, 0, 4, 3, 54, 5, 3, 54, 6, 21, 6, 45, 180, 0, 159, 162, 0, 34, 21, 5]
abbrev dktX0_equal_2 : List UInt8 := dkwX0_equal_2 ++ dktX0_equal_3
def dkwX0_equal_1 : List UInt8 := [180, 0, 43, 27, 50, 78, 42, 180, 0, 43, 28, 50, 58, 4, 45, 180, 0, 159, 25, 4, 180, 0, 159]
abbrev dktX0_equal_1 : List UInt8 := dkwX0_equal_1 ++ dktX0_equal_2
def dkwX0_equal_0 : List UInt8 := [42, 27, 182, 0, 168, 153, 0, 11, 42, 28, 182, 0, 168, 154, 0, 10, 42, 16, 254, 182, 0, 120, 172, 42]
abbrev dktX0_equal_0 : List UInt8 := dkwX0_equal_0 ++ dktX0_equal_1
theorem dksX0_equal_0 : cX0_equal.data.toList.drop 0 = dktX0_equal_0 := by decide +kernel
theorem dksX0_equal_1 : cX0_equal.data.toList.drop 24 = dktX0_equal_1 := dk_seg dksX0_equal_0 24 rfl rfl
theorem dksX0_equal_2 : cX0_equal.data.toList.drop 47 = dktX0_equal_2 := dk_seg dksX0_equal_1 23 rfl rfl
theorem dksX0_equal_3 : cX0_equal.data.toList.drop 71 = dktX0_equal_3 := dk_seg dksX0_equal_2 24 rfl rfl
theorem dksX0_equal_4 : cX0_equal.data.toList.drop 94 = dktX0_equal_4 := dk_seg dksX0_equal_3 23 rfl rfl
theorem dksX0_equal_5 : cX0_equal.data.toList.drop 118 = dktX0_equal_5 := dk_seg dksX0_equal_4 24 rfl rfl
theorem dksX0_equal_6 : cX0_equal.data.toList.drop 140 = dktX0_equal_6 := dk_seg dksX0_equal_5 22 rfl rfl
theorem dksX0_equal_7 : cX0_equal.data.toList.drop 164 = dktX0_equal_7 := dk_seg dksX0_equal_6 24 rfl rfl
theorem dksX0_equal_8 : cX0_equal.data.toList.drop 186 = dktX0_equal_8 := dk_seg dksX0_equal_7 22 rfl rfl
theorem dksX0_equal_9 : cX0_equal.data.toList.drop 208 = dktX0_equal_9 := dk_seg dksX0_equal_8 22 rfl rfl
theorem dX0_equal_0 : decode cX0_equal 0 = .ok (.aload_n 0, 1) := dk_42 (dk_at dksX0_equal_0 0 rfl rfl)
theorem dX0_equal_1 : decode cX0_equal 1 = .ok (.iload_n 1, 1) := dk_27 (dk_at dksX0_equal_0 1 rfl rfl)
theorem dX0_equal_2 : decode cX0_equal 2 = .ok (.invokevirtual 168, 3) := dk_182 0 168 (dk_at dksX0_equal_0 2 rfl rfl)
theorem dX0_equal_5 : decode cX0_equal 5 = .ok (.ifCond .eq 11, 3) := dk_153 0 11 (dk_at dksX0_equal_0 5 rfl rfl)
theorem dX0_equal_8 : decode cX0_equal 8 = .ok (.aload_n 0, 1) := dk_42 (dk_at dksX0_equal_0 8 rfl rfl)
theorem dX0_equal_9 : decode cX0_equal 9 = .ok (.iload_n 2, 1) := dk_28 (dk_at dksX0_equal_0 9 rfl rfl)
theorem dX0_equal_10 : decode cX0_equal 10 = .ok (.invokevirtual 168, 3) := dk_182 0 168 (dk_at dksX0_equal_0 10 rfl rfl)
theorem dX0_equal_13 : decode cX0_equal 13 = .ok (.ifCond .ne 10, 3) := dk_154 0 10 (dk_at dksX0_equal_0 13 rfl rfl)
theorem dX0_equal_16 : decode cX0_equal 16 = .ok (.aload_n 0, 1) := dk_42 (dk_at dksX0_equal_0 16 rfl rfl)
theorem dX0_equal_17 : decode cX0_equal 17 = .ok (.bipush (-2), 2) := dk_16 254 (dk_at dksX0_equal_0 17 rfl rfl)
theorem dX0_equal_19 : decode cX0_equal 19 = .ok (.invokevirtual 120, 3) := dk_182 0 120 (dk_at dksX0_equal_0 19 rfl rfl)
theorem dX0_equal_22 : decode cX0_equal 22 = .ok (.ireturn, 1) := dk_172 (dk_at dksX0_equal_0 22 rfl rfl)
theorem dX0_equal_23 : decode cX0_equal 23 = .ok (.aload_n 0, 1) := dk_42 (dk_at dksX0_equal_0 23 rfl rfl)
theorem dX0_equal_24 : decode cX0_equal 24 = .ok (.getfield 43, 3) := dk_180 0 43 (dk_at dksX0_equal_1 0 rfl rfl)
theorem dX0_equal_27 : decode cX0_equal 27 = .ok (.iload_n 1, 1) := dk_27 (dk_at dksX0_equal_1 3 rfl rfl)
theorem dX0_equal_28 : decode cX0_equal 28 = .ok (.aaload, 1) := dk_50 (dk_at dksX0_equal_1 4 rfl rfl)
theorem dX0_equal_29 : decode cX0_equal 29 = .ok (.astore_n 3, 1) := dk_78 (dk_at dksX0_equal_1 5 rfl rfl)
theorem dX0_equal_30 : decode cX0_equal 30 = .ok (.aload_n 0, 1) := dk_42 (dk_at dksX0_equal_1 6 rfl rfl)
theorem dX0_equal_31 : decode cX0_equal 31 = .ok (.getfield 43, 3) := dk_180 0 43 (dk_at dksX0_equal_1 7 rfl rfl)
theorem dX0_equal_34 : decode cX0_equal 34 = .ok (.iload_n 2, 1) := dk_28 (dk_at dksX0_equal_1 10 rfl rfl)
theorem dX0_equal_35 : decode cX0_equal 35 = .ok (.aaload, 1) := dk_50 (dk_at dksX0_equal_1 11 rfl rfl)
theorem dX0_equal_36 : decode cX0_equal 36 = .ok (.astore 4, 2) := dk_58 4 (dk_at dksX0_equal_1 12 rfl rfl)
theorem dX0_equal_38 : decode cX0_equal 38 = .ok (.aload_n 3, 1) := dk_45 (dk_at dksX0_equal_1 14 rfl rfl)
theorem dX0_equal_39 : decode cX0_equal 39 = .ok (.getfield 159, 3) := dk_180 0 159 (dk_at dksX0_equal_1 15 rfl rfl)
theorem dX0_equal_42 : decode cX0_equal 42 = .ok (.aload 4, 2) := dk_25 4 (dk_at dksX0_equal_1 18 rfl rfl)
theorem dX0_equal_44 : decode cX0_equal 44 = .ok (.getfield 159, 3) := dk_180 0 159 (dk_at dksX0_equal_1 20 rfl rfl)
theorem dX0_equal_47 : decode cX0_equal 47 = .ok (.if_icmp .ne 7, 3) := dk_160 0 7 (dk_at dksX0_equal_2 0 rfl rfl)
theorem dX0_equal_50 : decode cX0_equal 50 = .ok (.iconst 1, 1) := dk_4 (dk_at dksX0_equal_2 3 rfl rfl)
theorem dX0_equal_51 : decode cX0_equal 51 = .ok (.goto 4, 3) := dk_167 0 4 (dk_at dksX0_equal_2 4 rfl rfl)
theorem dX0_equal_54 : decode cX0_equal 54 = .ok (.iconst 0, 1) := dk_3 (dk_at dksX0_equal_2 7 rfl rfl)
theorem dX0_equal_55 : decode cX0_equal 55 = .ok (.istore 5, 2) := dk_54 5 (dk_at dksX0_equal_2 8 rfl rfl)
theorem dX0_equal_57 : decode cX0_equal 57 = .ok (.iconst 0, 1) := dk_3 (dk_at dksX0_equal_2 10 rfl rfl)
theorem dX0_equal_58 : decode cX0_equal 58 = .ok (.istore 6, 2) := dk_54 6 (dk_at dksX0_equal_2 11 rfl rfl)
theorem dX0_equal_60 : decode cX0_equal 60 = .ok (.iload 6, 2) := dk_21 6 (dk_at dksX0_equal_2 13 rfl rfl)
theorem dX0_equal_62 : decode cX0_equal 62 = .ok (.aload_n 3, 1) := dk_45 (dk_at dksX0_equal_2 15 rfl rfl)
theorem dX0_equal_63 : decode cX0_equal 63 = .ok (.getfield 159, 3) := dk_180 0 159 (dk_at dksX0_equal_2 16 rfl rfl)
theorem dX0_equal_66 : decode cX0_equal 66 = .ok (.if_icmp .ge 34, 3) := dk_162 0 34 (dk_at dksX0_equal_2 19 rfl rfl)
theorem dX0_equal_69 : decode cX0_equal 69 = .ok (.iload 5, 2) := dk_21 5 (dk_at dksX0_equal_2 22 rfl rfl)
theorem dX0_equal_71 : decode cX0_equal 71 = .ok (.ifCond .eq 29, 3) := dk_153 0 29 (dk_at dksX0_equal_3 0 rfl rfl)
theorem dX0_equal_74 : decode cX0_equal 74 = .ok (.aload_n 3, 1) := dk_45 (dk_at dksX0_equal_3 3 rfl rfl)
theorem dX0_equal_75 : decode cX0_equal 75 = .ok (.getfield 162, 3) := dk_180 0 162 (dk_at dksX0_equal_3 4 rfl rfl)
theorem dX0_equal_78 : decode cX0_equal 78 = .ok (.iload 6, 2) := dk_21 6 (dk_at dksX0_equal_3 7 rfl rfl)
theorem dX0_equal_80 : decode cX0_equal 80 = .ok (.aaload, 1) := dk_50 (dk_at dksX0_equal_3 9 rfl rfl)
theorem dX0_equal_81 : decode cX0_equal 81 = .ok (.aload 4, 2) := dk_25 4 (dk_at dksX0_equal_3 10 rfl rfl)
theorem dX0_equal_83 : decode cX0_equal 83 = .ok (.getfield 162, 3) := dk_180 0 162 (dk_at dksX0_equal_3 12 rfl rfl)
theorem dX0_equal_86 : decode cX0_equal 86 = .ok (.iload 6, 2) := dk_21 6 (dk_at dksX0_equal_3 15 rfl rfl)
theorem dX0_equal_88 : decode cX0_equal 88 = .ok (.aaload, 1) := dk_50 (dk_at dksX0_equal_3 17 rfl rfl)
theorem dX0_equal_89 : decode cX0_equal 89 = .ok (.invokevirtual 396, 3) := dk_182 1 140 (dk_at dksX0_equal_3 18 rfl rfl)
theorem dX0_equal_92 : decode cX0_equal 92 = .ok (.istore 5, 2) := dk_54 5 (dk_at dksX0_equal_3 21 rfl rfl)
theorem dX0_equal_94 : decode cX0_equal 94 = .ok (.iinc 6 1, 3) := dk_132 6 1 (dk_at dksX0_equal_4 0 rfl rfl)
theorem dX0_equal_97 : decode cX0_equal 97 = .ok (.goto (-37), 3) := dk_167 255 219 (dk_at dksX0_equal_4 3 rfl rfl)
theorem dX0_equal_100 : decode cX0_equal 100 = .ok (.aload_n 0, 1) := dk_42 (dk_at dksX0_equal_4 6 rfl rfl)
theorem dX0_equal_101 : decode cX0_equal 101 = .ok (.iload_n 1, 1) := dk_27 (dk_at dksX0_equal_4 7 rfl rfl)
theorem dX0_equal_102 : decode cX0_equal 102 = .ok (.iconst 0, 1) := dk_3 (dk_at dksX0_equal_4 8 rfl rfl)
theorem dX0_equal_103 : decode cX0_equal 103 = .ok (.invokevirtual 400, 3) := dk_182 1 144 (dk_at dksX0_equal_4 9 rfl rfl)
theorem dX0_equal_106 : decode cX0_equal 106 = .ok (.istore 6, 2) := dk_54 6 (dk_at dksX0_equal_4 12 rfl rfl)
theorem dX0_equal_108 : decode cX0_equal 108 = .ok (.aload_n 0, 1) := dk_42 (dk_at dksX0_equal_4 14 rfl rfl)
theorem dX0_equal_109 : decode cX0_equal 109 = .ok (.iload_n 2, 1) := dk_28 (dk_at dksX0_equal_4 15 rfl rfl)
theorem dX0_equal_110 : decode cX0_equal 110 = .ok (.iconst 0, 1) := dk_3 (dk_at dksX0_equal_4 16 rfl rfl)
theorem dX0_equal_111 : decode cX0_equal 111 = .ok (.invokevirtual 400, 3) := dk_182 1 144 (dk_at dksX0_equal_4 17 rfl rfl)
theorem dX0_equal_114 : decode cX0_equal 114 = .ok (.istore 7, 2) := dk_54 7 (dk_at dksX0_equal_4 20 rfl rfl)
theorem dX0_equal_116 : decode cX0_equal 116 = .ok (.iload 5, 2) := dk_21 5 (dk_at dksX0_equal_4 22 rfl rfl)
theorem dX0_equal_118 : decode cX0_equal 118 = .ok (.ifCond .eq 65, 3) := dk_153 0 65 (dk_at dksX0_equal_5 0 rfl rfl)
theorem dX0_equal_121 : decode cX0_equal 121 = .ok (.iload 6, 2) := dk_21 6 (dk_at dksX0_equal_5 3 rfl rfl)
theorem dX0_equal_123 : decode cX0_equal 123 = .ok (.aload_n 0, 1) := dk_42 (dk_at dksX0_equal_5 5 rfl rfl)
theorem dX0_equal_124 : decode cX0_equal 124 = .ok (.getfield 114, 3) := dk_180 0 114 (dk_at dksX0_equal_5 6 rfl rfl)
theorem dX0_equal_127 : decode cX0_equal 127 = .ok (.if_icmp .ge 56, 3) := dk_162 0 56 (dk_at dksX0_equal_5 9 rfl rfl)
theorem dX0_equal_130 : decode cX0_equal 130 = .ok (.iload 7, 2) := dk_21 7 (dk_at dksX0_equal_5 12 rfl rfl)
theorem dX0_equal_132 : decode cX0_equal 132 = .ok (.aload_n 0, 1) := dk_42 (dk_at dksX0_equal_5 14 rfl rfl)
theorem dX0_equal_133 : decode cX0_equal 133 = .ok (.getfield 114, 3) := dk_180 0 114 (dk_at dksX0_equal_5 15 rfl rfl)
theorem dX0_equal_136 : decode cX0_equal 136 = .ok (.if_icmp .ge 47, 3) := dk_162 0 47 (dk_at dksX0_equal_5 18 rfl rfl)
theorem dX0_equal_139 : decode cX0_equal 139 = .ok (.aload_n 0, 1) := dk_42 (dk_at dksX0_equal_5 21 rfl rfl)
theorem dX0_equal_140 : decode cX0_equal 140 = .ok (.getfield 55, 3) := dk_180 0 55 (dk_at dksX0_equal_6 0 rfl rfl)
theorem dX0_equal_143 : decode cX0_equal 143 = .ok (.iload 6, 2) := dk_21 6 (dk_at dksX0_equal_6 3 rfl rfl)
theorem dX0_equal_145 : decode cX0_equal 145 = .ok (.aaload, 1) := dk_50 (dk_at dksX0_equal_6 5 rfl rfl)
theorem dX0_equal_146 : decode cX0_equal 146 = .ok (.aload_n 0, 1) := dk_42 (dk_at dksX0_equal_6 6 rfl rfl)
theorem dX0_equal_147 : decode cX0_equal 147 = .ok (.getfield 55, 3) := dk_180 0 55 (dk_at dksX0_equal_6 7 rfl rfl)
theorem dX0_equal_150 : decode cX0_equal 150 = .ok (.iload 7, 2) := dk_21 7 (dk_at dksX0_equal_6 10 rfl rfl)
theorem dX0_equal_152 : decode cX0_equal 152 = .ok (.aaload, 1) := dk_50 (dk_at dksX0_equal_6 12 rfl rfl)
theorem dX0_equal_153 : decode cX0_equal 153 = .ok (.invokevirtual 403, 3) := dk_182 1 147 (dk_at dksX0_equal_6 13 rfl rfl)
theorem dX0_equal_156 : decode cX0_equal 156 = .ok (.istore 5, 2) := dk_54 5 (dk_at dksX0_equal_6 16 rfl rfl)
theorem dX0_equal_158 : decode cX0_equal 158 = .ok (.aload_n 0, 1) := dk_42 (dk_at dksX0_equal_6 18 rfl rfl)
theorem dX0_equal_159 : decode cX0_equal 159 = .ok (.iload_n 1, 1) := dk_27 (dk_at dksX0_equal_6 19 rfl rfl)
theorem dX0_equal_160 : decode cX0_equal 160 = .ok (.iload 6, 2) := dk_21 6 (dk_at dksX0_equal_6 20 rfl rfl)
theorem dX0_equal_162 : decode cX0_equal 162 = .ok (.iconst 1, 1) := dk_4 (dk_at dksX0_equal_6 22 rfl rfl)
theorem dX0_equal_163 : decode cX0_equal 163 = .ok (.iadd, 1) := dk_96 (dk_at dksX0_equal_6 23 rfl rfl)
theorem dX0_equal_164 : decode cX0_equal 164 = .ok (.invokevirtual 400, 3) := dk_182 1 144 (dk_at dksX0_equal_7 0 rfl rfl)
theorem dX0_equal_167 : decode cX0_equal 167 = .ok (.istore 6, 2) := dk_54 6 (dk_at dksX0_equal_7 3 rfl rfl)
theorem dX0_equal_169 : decode cX0_equal 169 = .ok (.aload_n 0, 1) := dk_42 (dk_at dksX0_equal_7 5 rfl rfl)
theorem dX0_equal_170 : decode cX0_equal 170 = .ok (.iload_n 2, 1) := dk_28 (dk_at dksX0_equal_7 6 rfl rfl)
theorem dX0_equal_171 : decode cX0_equal 171 = .ok (.iload 7, 2) := dk_21 7 (dk_at dksX0_equal_7 7 rfl rfl)
theorem dX0_equal_173 : decode cX0_equal 173 = .ok (.iconst 1, 1) := dk_4 (dk_at dksX0_equal_7 9 rfl rfl)
theorem dX0_equal_174 : decode cX0_equal 174 = .ok (.iadd, 1) := dk_96 (dk_at dksX0_equal_7 10 rfl rfl)
theorem dX0_equal_175 : decode cX0_equal 175 = .ok (.invokevirtual 400, 3) := dk_182 1 144 (dk_at dksX0_equal_7 11 rfl rfl)
theorem dX0_equal_178 : decode cX0_equal 178 = .ok (.istore 7, 2) := dk_54 7 (dk_at dksX0_equal_7 14 rfl rfl)
theorem dX0_equal_180 : decode cX0_equal 180 = .ok (.goto (-64), 3) := dk_167 255 192 (dk_at dksX0_equal_7 16 rfl rfl)
theorem dX0_equal_183 : decode cX0_equal 183 = .ok (.aload_n 0, 1) := dk_42 (dk_at dksX0_equal_7 19 rfl rfl)
theorem dX0_equal_184 : decode cX0_equal 184 = .ok (.iload 5, 2) := dk_21 5 (dk_at dksX0_equal_7 20 rfl rfl)
theorem dX0_equal_186 : decode cX0_equal 186 = .ok (.ifCond .eq 25, 3) := dk_153 0 25 (dk_at dksX0_equal_8 0 rfl rfl)
theorem dX0_equal_189 : decode cX0_equal 189 = .ok (.iload 6, 2) := dk_21 6 (dk_at dksX0_equal_8 3 rfl rfl)
theorem dX0_equal_191 : decode cX0_equal 191 = .ok (.aload_n 0, 1) := dk_42 (dk_at dksX0_equal_8 5 rfl rfl)
theorem dX0_equal_192 : decode cX0_equal 192 = .ok (.getfield 114, 3) := dk_180 0 114 (dk_at dksX0_equal_8 6 rfl rfl)
theorem dX0_equal_195 : decode cX0_equal 195 = .ok (.if_icmp .ne 16, 3) := dk_160 0 16 (dk_at dksX0_equal_8 9 rfl rfl)
theorem dX0_equal_198 : decode cX0_equal 198 = .ok (.iload 7, 2) := dk_21 7 (dk_at dksX0_equal_8 12 rfl rfl)
theorem dX0_equal_200 : decode cX0_equal 200 = .ok (.aload_n 0, 1) := dk_42 (dk_at dksX0_equal_8 14 rfl rfl)
theorem dX0_equal_201 : decode cX0_equal 201 = .ok (.getfield 114, 3) := dk_180 0 114 (dk_at dksX0_equal_8 15 rfl rfl)
theorem dX0_equal_204 : decode cX0_equal 204 = .ok (.if_icmp .ne 7, 3) := dk_160 0 7 (dk_at dksX0_equal_8 18 rfl rfl)
theorem dX0_equal_207 : decode cX0_equal 207 = .ok (.iconst 1, 1) := dk_4 (dk_at dksX0_equal_8 21 rfl rfl)
theorem dX0_equal_208 : decode cX0_equal 208 = .ok (.goto 4, 3) := dk_167 0 4 (dk_at dksX0_equal_9 0 rfl rfl)
theorem dX0_equal_211 : decode cX0_equal 211 = .ok (.iconst 0, 1) := dk_3 (dk_at dksX0_equal_9 3 rfl rfl)
theorem dX0_equal_212 : decode cX0_equal 212 = .ok (.invokevirtual 128, 3) := dk_182 0 128 (dk_at dksX0_equal_9 4 rfl rfl)
theorem dX0_equal_215 : decode cX0_equal 215 = .ok (.ireturn, 1) := dk_172 (dk_at dksX0_equal_9 7 rfl rfl)
abbrev cX0_next : ByteArray := prog_1_method_56_code
def yX0_next : MethodName := ⟨RX0, "next", "(II)I"⟩
def dkwX0_next_1 : List UInt8 := [50, 180, 0, 197, 27, 159, 0, 9, 132, 3, 1, 167, 255, 223, 29, 172]
abbrev dktX0_next_1 : List UInt8 := dkwX0_next_1 ++ []
def dkwX0_next_0 : List UInt8 := [28, 62, 29, 42, 180, 0, 114, 162, 0, 31, 42, 180, 0, 55, 29, 50, 198, 0, 16, 42, 180, 0, 55, 29]
abbrev dktX0_next_0 : List UInt8 := dkwX0_next_0 ++ dktX0_next_1
theorem dksX0_next_0 : cX0_next.data.toList.drop 0 = dktX0_next_0 := by decide +kernel
theorem dksX0_next_1 : cX0_next.data.toList.drop 24 = dktX0_next_1 := dk_seg dksX0_next_0 24 rfl rfl
theorem dX0_next_0 : decode cX0_next 0 = .ok (.iload_n 2, 1) := dk_28 (dk_at dksX0_next_0 0 rfl rfl)
theorem dX0_next_1 : decode cX0_next 1 = .ok (.istore_n 3, 1) := dk_62 (dk_at dksX0_next_0 1 rfl rfl)
theorem dX0_next_2 : decode cX0_next 2 = .ok (.iload_n 3, 1) := dk_29 (dk_at dksX0_next_0 2 rfl rfl)
theorem dX0_next_3 : decode cX0_next 3 = .ok (.aload_n 0, 1) := dk_42 (dk_at dksX0_next_0 3 rfl rfl)
theorem dX0_next_4 : decode cX0_next 4 = .ok (.getfield 114, 3) := dk_180 0 114 (dk_at dksX0_next_0 4 rfl rfl)
theorem dX0_next_7 : decode cX0_next 7 = .ok (.if_icmp .ge 31, 3) := dk_162 0 31 (dk_at dksX0_next_0 7 rfl rfl)
theorem dX0_next_10 : decode cX0_next 10 = .ok (.aload_n 0, 1) := dk_42 (dk_at dksX0_next_0 10 rfl rfl)
theorem dX0_next_11 : decode cX0_next 11 = .ok (.getfield 55, 3) := dk_180 0 55 (dk_at dksX0_next_0 11 rfl rfl)
theorem dX0_next_14 : decode cX0_next 14 = .ok (.iload_n 3, 1) := dk_29 (dk_at dksX0_next_0 14 rfl rfl)
theorem dX0_next_15 : decode cX0_next 15 = .ok (.aaload, 1) := dk_50 (dk_at dksX0_next_0 15 rfl rfl)
theorem dX0_next_16 : decode cX0_next 16 = .ok (.ifnull 16, 3) := dk_198 0 16 (dk_at dksX0_next_0 16 rfl rfl)
theorem dX0_next_19 : decode cX0_next 19 = .ok (.aload_n 0, 1) := dk_42 (dk_at dksX0_next_0 19 rfl rfl)
theorem dX0_next_20 : decode cX0_next 20 = .ok (.getfield 55, 3) := dk_180 0 55 (dk_at dksX0_next_0 20 rfl rfl)
theorem dX0_next_23 : decode cX0_next 23 = .ok (.iload_n 3, 1) := dk_29 (dk_at dksX0_next_0 23 rfl rfl)
theorem dX0_next_24 : decode cX0_next 24 = .ok (.aaload, 1) := dk_50 (dk_at dksX0_next_1 0 rfl rfl)
theorem dX0_next_25 : decode cX0_next 25 = .ok (.getfield 197, 3) := dk_180 0 197 (dk_at dksX0_next_1 1 rfl rfl)
theorem dX0_next_28 : decode cX0_next 28 = .ok (.iload_n 1, 1) := dk_27 (dk_at dksX0_next_1 4 rfl rfl)
theorem dX0_next_29 : decode cX0_next 29 = .ok (.if_icmp .eq 9, 3) := dk_159 0 9 (dk_at dksX0_next_1 5 rfl rfl)
theorem dX0_next_32 : decode cX0_next 32 = .ok (.iinc 3 1, 3) := dk_132 3 1 (dk_at dksX0_next_1 8 rfl rfl)
theorem dX0_next_35 : decode cX0_next 35 = .ok (.goto (-33), 3) := dk_167 255 223 (dk_at dksX0_next_1 11 rfl rfl)
theorem dX0_next_38 : decode cX0_next 38 = .ok (.iload_n 3, 1) := dk_29 (dk_at dksX0_next_1 14 rfl rfl)
theorem dX0_next_39 : decode cX0_next 39 = .ok (.ireturn, 1) := dk_172 (dk_at dksX0_next_1 15 rfl rfl)
abbrev cX0_rack : ByteArray := prog_1_method_58_code
def yX0_rack : MethodName := ⟨RX0, "rack", "(III)I"⟩
def dkwX0_rack_2 : List UInt8 := [58, 4, 42, 16, 241, 182, 0, 231, 172]
abbrev dktX0_rack_2 : List UInt8 := dkwX0_rack_2 ++ []
def dkwX0_rack_1 : List UInt8 := [42, 16, 254, 182, 0, 120, 172, 42, 180, 0, 66, 27, 28, 29, 184, 1, 149, 83, 42, 4, 182, 0, 128, 172]
abbrev dktX0_rack_1 : List UInt8 := dkwX0_rack_1 ++ dktX0_rack_2
def dkwX0_rack_0 : List UInt8 := [27, 3, 6, 184, 0, 107, 153, 0, 18, 28, 3, 8, 184, 0, 107, 153, 0, 9, 29, 16, 20, 164, 0, 10]
abbrev dktX0_rack_0 : List UInt8 := dkwX0_rack_0 ++ dktX0_rack_1
theorem dksX0_rack_0 : cX0_rack.data.toList.drop 0 = dktX0_rack_0 := by decide +kernel
theorem dksX0_rack_1 : cX0_rack.data.toList.drop 24 = dktX0_rack_1 := dk_seg dksX0_rack_0 24 rfl rfl
theorem dksX0_rack_2 : cX0_rack.data.toList.drop 48 = dktX0_rack_2 := dk_seg dksX0_rack_1 24 rfl rfl
theorem dX0_rack_0 : decode cX0_rack 0 = .ok (.iload_n 1, 1) := dk_27 (dk_at dksX0_rack_0 0 rfl rfl)
theorem dX0_rack_1 : decode cX0_rack 1 = .ok (.iconst 0, 1) := dk_3 (dk_at dksX0_rack_0 1 rfl rfl)
theorem dX0_rack_2 : decode cX0_rack 2 = .ok (.iconst 3, 1) := dk_6 (dk_at dksX0_rack_0 2 rfl rfl)
theorem dX0_rack_3 : decode cX0_rack 3 = .ok (.invokestatic 107, 3) := dk_184 0 107 (dk_at dksX0_rack_0 3 rfl rfl)
theorem dX0_rack_6 : decode cX0_rack 6 = .ok (.ifCond .eq 18, 3) := dk_153 0 18 (dk_at dksX0_rack_0 6 rfl rfl)
theorem dX0_rack_9 : decode cX0_rack 9 = .ok (.iload_n 2, 1) := dk_28 (dk_at dksX0_rack_0 9 rfl rfl)
theorem dX0_rack_10 : decode cX0_rack 10 = .ok (.iconst 0, 1) := dk_3 (dk_at dksX0_rack_0 10 rfl rfl)
theorem dX0_rack_11 : decode cX0_rack 11 = .ok (.iconst 5, 1) := dk_8 (dk_at dksX0_rack_0 11 rfl rfl)
theorem dX0_rack_12 : decode cX0_rack 12 = .ok (.invokestatic 107, 3) := dk_184 0 107 (dk_at dksX0_rack_0 12 rfl rfl)
theorem dX0_rack_15 : decode cX0_rack 15 = .ok (.ifCond .eq 9, 3) := dk_153 0 9 (dk_at dksX0_rack_0 15 rfl rfl)
theorem dX0_rack_18 : decode cX0_rack 18 = .ok (.iload_n 3, 1) := dk_29 (dk_at dksX0_rack_0 18 rfl rfl)
theorem dX0_rack_19 : decode cX0_rack 19 = .ok (.bipush 20, 2) := dk_16 20 (dk_at dksX0_rack_0 19 rfl rfl)
theorem dX0_rack_21 : decode cX0_rack 21 = .ok (.if_icmp .le 10, 3) := dk_164 0 10 (dk_at dksX0_rack_0 21 rfl rfl)
theorem dX0_rack_24 : decode cX0_rack 24 = .ok (.aload_n 0, 1) := dk_42 (dk_at dksX0_rack_1 0 rfl rfl)
theorem dX0_rack_25 : decode cX0_rack 25 = .ok (.bipush (-2), 2) := dk_16 254 (dk_at dksX0_rack_1 1 rfl rfl)
theorem dX0_rack_27 : decode cX0_rack 27 = .ok (.invokevirtual 120, 3) := dk_182 0 120 (dk_at dksX0_rack_1 3 rfl rfl)
theorem dX0_rack_30 : decode cX0_rack 30 = .ok (.ireturn, 1) := dk_172 (dk_at dksX0_rack_1 6 rfl rfl)
theorem dX0_rack_31 : decode cX0_rack 31 = .ok (.aload_n 0, 1) := dk_42 (dk_at dksX0_rack_1 7 rfl rfl)
theorem dX0_rack_32 : decode cX0_rack 32 = .ok (.getfield 66, 3) := dk_180 0 66 (dk_at dksX0_rack_1 8 rfl rfl)
theorem dX0_rack_35 : decode cX0_rack 35 = .ok (.iload_n 1, 1) := dk_27 (dk_at dksX0_rack_1 11 rfl rfl)
theorem dX0_rack_36 : decode cX0_rack 36 = .ok (.iload_n 2, 1) := dk_28 (dk_at dksX0_rack_1 12 rfl rfl)
theorem dX0_rack_37 : decode cX0_rack 37 = .ok (.iload_n 3, 1) := dk_29 (dk_at dksX0_rack_1 13 rfl rfl)
theorem dX0_rack_38 : decode cX0_rack 38 = .ok (.invokestatic 405, 3) := dk_184 1 149 (dk_at dksX0_rack_1 14 rfl rfl)
theorem dX0_rack_41 : decode cX0_rack 41 = .ok (.aastore, 1) := dk_83 (dk_at dksX0_rack_1 17 rfl rfl)
theorem dX0_rack_42 : decode cX0_rack 42 = .ok (.aload_n 0, 1) := dk_42 (dk_at dksX0_rack_1 18 rfl rfl)
theorem dX0_rack_43 : decode cX0_rack 43 = .ok (.iconst 1, 1) := dk_4 (dk_at dksX0_rack_1 19 rfl rfl)
theorem dX0_rack_44 : decode cX0_rack 44 = .ok (.invokevirtual 128, 3) := dk_182 0 128 (dk_at dksX0_rack_1 20 rfl rfl)
theorem dX0_rack_47 : decode cX0_rack 47 = .ok (.ireturn, 1) := dk_172 (dk_at dksX0_rack_1 23 rfl rfl)
theorem dX0_rack_48 : decode cX0_rack 48 = .ok (.astore 4, 2) := dk_58 4 (dk_at dksX0_rack_2 0 rfl rfl)
theorem dX0_rack_50 : decode cX0_rack 50 = .ok (.aload_n 0, 1) := dk_42 (dk_at dksX0_rack_2 2 rfl rfl)
theorem dX0_rack_51 : decode cX0_rack 51 = .ok (.bipush (-15), 2) := dk_16 241 (dk_at dksX0_rack_2 3 rfl rfl)
theorem dX0_rack_53 : decode cX0_rack 53 = .ok (.invokevirtual 231, 3) := dk_182 0 231 (dk_at dksX0_rack_2 5 rfl rfl)
theorem dX0_rack_56 : decode cX0_rack 56 = .ok (.ireturn, 1) := dk_172 (dk_at dksX0_rack_2 8 rfl rfl)
abbrev cX0_rowOf : ByteArray := prog_1_method_57_code
def yX0_rowOf : MethodName := ⟨RX0, "rowOf", "(II)[LStaveScore$Event;"⟩
def dkwX0_rowOf_3 : List UInt8 := [176, 27, 189, 0, 47, 176]
abbrev dktX0_rowOf_3 : List UInt8 := dkwX0_rowOf_3 ++ []
def dkwX0_rowOf_2 : List UInt8 := [27, 189, 0, 142, 176, 27, 189, 0, 147, 176, 27, 189, 0, 150, 176, 27, 189, 0, 153, 176, 27, 189, 0, 156]
abbrev dktX0_rowOf_2 : List UInt8 := dkwX0_rowOf_2 ++ dktX0_rowOf_3
def dkwX0_rowOf_1 : List UInt8 := [170, 0, 0, 0, 0, 0, 60, 0, 0, 0, 0, 0, 0, 0, 4, 0, 0, 0, 35, 0, 0, 0, 40, 0, 0, 0, 45, 0, 0, 0, 50, 0, 0, 0, 55]
abbrev dktX0_rowOf_1 : List UInt8 := dkwX0_rowOf_1 ++ dktX0_rowOf_2
def dkwX0_rowOf_0 : List UInt8 := [26]
abbrev dktX0_rowOf_0 : List UInt8 := dkwX0_rowOf_0 ++ dktX0_rowOf_1
theorem dksX0_rowOf_0 : cX0_rowOf.data.toList.drop 0 = dktX0_rowOf_0 := by decide +kernel
theorem dksX0_rowOf_1 : cX0_rowOf.data.toList.drop 1 = dktX0_rowOf_1 := dk_seg dksX0_rowOf_0 1 rfl rfl
theorem dksX0_rowOf_2 : cX0_rowOf.data.toList.drop 36 = dktX0_rowOf_2 := dk_seg dksX0_rowOf_1 35 rfl rfl
theorem dksX0_rowOf_3 : cX0_rowOf.data.toList.drop 60 = dktX0_rowOf_3 := dk_seg dksX0_rowOf_2 24 rfl rfl
theorem dX0_rowOf_0 : decode cX0_rowOf 0 = .ok (.iload_n 0, 1) := dk_26 (dk_at dksX0_rowOf_0 0 rfl rfl)
theorem dX0_rowOf_1 : decode cX0_rowOf 1 = .ok (.tableswitch 60 0 4 #[35, 40, 45, 50, 55], 35) := by decide +kernel
theorem dX0_rowOf_36 : decode cX0_rowOf 36 = .ok (.iload_n 1, 1) := dk_27 (dk_at dksX0_rowOf_2 0 rfl rfl)
theorem dX0_rowOf_37 : decode cX0_rowOf 37 = .ok (.anewarray 142, 3) := dk_189 0 142 (dk_at dksX0_rowOf_2 1 rfl rfl)
theorem dX0_rowOf_40 : decode cX0_rowOf 40 = .ok (.areturn, 1) := dk_176 (dk_at dksX0_rowOf_2 4 rfl rfl)
theorem dX0_rowOf_41 : decode cX0_rowOf 41 = .ok (.iload_n 1, 1) := dk_27 (dk_at dksX0_rowOf_2 5 rfl rfl)
theorem dX0_rowOf_42 : decode cX0_rowOf 42 = .ok (.anewarray 147, 3) := dk_189 0 147 (dk_at dksX0_rowOf_2 6 rfl rfl)
theorem dX0_rowOf_45 : decode cX0_rowOf 45 = .ok (.areturn, 1) := dk_176 (dk_at dksX0_rowOf_2 9 rfl rfl)
theorem dX0_rowOf_46 : decode cX0_rowOf 46 = .ok (.iload_n 1, 1) := dk_27 (dk_at dksX0_rowOf_2 10 rfl rfl)
theorem dX0_rowOf_47 : decode cX0_rowOf 47 = .ok (.anewarray 150, 3) := dk_189 0 150 (dk_at dksX0_rowOf_2 11 rfl rfl)
theorem dX0_rowOf_50 : decode cX0_rowOf 50 = .ok (.areturn, 1) := dk_176 (dk_at dksX0_rowOf_2 14 rfl rfl)
theorem dX0_rowOf_51 : decode cX0_rowOf 51 = .ok (.iload_n 1, 1) := dk_27 (dk_at dksX0_rowOf_2 15 rfl rfl)
theorem dX0_rowOf_52 : decode cX0_rowOf 52 = .ok (.anewarray 153, 3) := dk_189 0 153 (dk_at dksX0_rowOf_2 16 rfl rfl)
theorem dX0_rowOf_55 : decode cX0_rowOf 55 = .ok (.areturn, 1) := dk_176 (dk_at dksX0_rowOf_2 19 rfl rfl)
theorem dX0_rowOf_56 : decode cX0_rowOf 56 = .ok (.iload_n 1, 1) := dk_27 (dk_at dksX0_rowOf_2 20 rfl rfl)
theorem dX0_rowOf_57 : decode cX0_rowOf 57 = .ok (.anewarray 156, 3) := dk_189 0 156 (dk_at dksX0_rowOf_2 21 rfl rfl)
theorem dX0_rowOf_60 : decode cX0_rowOf 60 = .ok (.areturn, 1) := dk_176 (dk_at dksX0_rowOf_3 0 rfl rfl)
theorem dX0_rowOf_61 : decode cX0_rowOf 61 = .ok (.iload_n 1, 1) := dk_27 (dk_at dksX0_rowOf_3 1 rfl rfl)
theorem dX0_rowOf_62 : decode cX0_rowOf 62 = .ok (.anewarray 47, 3) := dk_189 0 47 (dk_at dksX0_rowOf_3 2 rfl rfl)
theorem dX0_rowOf_65 : decode cX0_rowOf 65 = .ok (.areturn, 1) := dk_176 (dk_at dksX0_rowOf_3 5 rfl rfl)
abbrev cX0_hold : ByteArray := prog_1_method_59_code
def yX0_hold : MethodName := ⟨RX0, "hold", "(III)I"⟩
def dkwX0_hold_2 : List UInt8 := [182, 0, 231, 172, 58, 4, 42, 16, 244, 182, 0, 231, 172, 58, 4, 42, 16, 242, 182, 0, 231, 172]
abbrev dktX0_hold_2 : List UInt8 := dkwX0_hold_2 ++ []
def dkwX0_hold_1 : List UInt8 := [42, 180, 0, 66, 27, 50, 28, 42, 29, 182, 1, 95, 83, 42, 4, 182, 0, 128, 172, 58, 4, 42, 16, 245]
abbrev dktX0_hold_1 : List UInt8 := dkwX0_hold_1 ++ dktX0_hold_2
def dkwX0_hold_0 : List UInt8 := [27, 3, 6, 184, 0, 107, 153, 0, 11, 42, 29, 182, 1, 92, 154, 0, 10, 42, 16, 254, 182, 0, 120, 172]
abbrev dktX0_hold_0 : List UInt8 := dkwX0_hold_0 ++ dktX0_hold_1
theorem dksX0_hold_0 : cX0_hold.data.toList.drop 0 = dktX0_hold_0 := by decide +kernel
theorem dksX0_hold_1 : cX0_hold.data.toList.drop 24 = dktX0_hold_1 := dk_seg dksX0_hold_0 24 rfl rfl
theorem dksX0_hold_2 : cX0_hold.data.toList.drop 48 = dktX0_hold_2 := dk_seg dksX0_hold_1 24 rfl rfl
theorem dX0_hold_0 : decode cX0_hold 0 = .ok (.iload_n 1, 1) := dk_27 (dk_at dksX0_hold_0 0 rfl rfl)
theorem dX0_hold_1 : decode cX0_hold 1 = .ok (.iconst 0, 1) := dk_3 (dk_at dksX0_hold_0 1 rfl rfl)
theorem dX0_hold_2 : decode cX0_hold 2 = .ok (.iconst 3, 1) := dk_6 (dk_at dksX0_hold_0 2 rfl rfl)
theorem dX0_hold_3 : decode cX0_hold 3 = .ok (.invokestatic 107, 3) := dk_184 0 107 (dk_at dksX0_hold_0 3 rfl rfl)
theorem dX0_hold_6 : decode cX0_hold 6 = .ok (.ifCond .eq 11, 3) := dk_153 0 11 (dk_at dksX0_hold_0 6 rfl rfl)
theorem dX0_hold_9 : decode cX0_hold 9 = .ok (.aload_n 0, 1) := dk_42 (dk_at dksX0_hold_0 9 rfl rfl)
theorem dX0_hold_10 : decode cX0_hold 10 = .ok (.iload_n 3, 1) := dk_29 (dk_at dksX0_hold_0 10 rfl rfl)
theorem dX0_hold_11 : decode cX0_hold 11 = .ok (.invokevirtual 348, 3) := dk_182 1 92 (dk_at dksX0_hold_0 11 rfl rfl)
theorem dX0_hold_14 : decode cX0_hold 14 = .ok (.ifCond .ne 10, 3) := dk_154 0 10 (dk_at dksX0_hold_0 14 rfl rfl)
theorem dX0_hold_17 : decode cX0_hold 17 = .ok (.aload_n 0, 1) := dk_42 (dk_at dksX0_hold_0 17 rfl rfl)
theorem dX0_hold_18 : decode cX0_hold 18 = .ok (.bipush (-2), 2) := dk_16 254 (dk_at dksX0_hold_0 18 rfl rfl)
theorem dX0_hold_20 : decode cX0_hold 20 = .ok (.invokevirtual 120, 3) := dk_182 0 120 (dk_at dksX0_hold_0 20 rfl rfl)
theorem dX0_hold_23 : decode cX0_hold 23 = .ok (.ireturn, 1) := dk_172 (dk_at dksX0_hold_0 23 rfl rfl)
theorem dX0_hold_24 : decode cX0_hold 24 = .ok (.aload_n 0, 1) := dk_42 (dk_at dksX0_hold_1 0 rfl rfl)
theorem dX0_hold_25 : decode cX0_hold 25 = .ok (.getfield 66, 3) := dk_180 0 66 (dk_at dksX0_hold_1 1 rfl rfl)
theorem dX0_hold_28 : decode cX0_hold 28 = .ok (.iload_n 1, 1) := dk_27 (dk_at dksX0_hold_1 4 rfl rfl)
theorem dX0_hold_29 : decode cX0_hold 29 = .ok (.aaload, 1) := dk_50 (dk_at dksX0_hold_1 5 rfl rfl)
theorem dX0_hold_30 : decode cX0_hold 30 = .ok (.iload_n 2, 1) := dk_28 (dk_at dksX0_hold_1 6 rfl rfl)
theorem dX0_hold_31 : decode cX0_hold 31 = .ok (.aload_n 0, 1) := dk_42 (dk_at dksX0_hold_1 7 rfl rfl)
theorem dX0_hold_32 : decode cX0_hold 32 = .ok (.iload_n 3, 1) := dk_29 (dk_at dksX0_hold_1 8 rfl rfl)
theorem dX0_hold_33 : decode cX0_hold 33 = .ok (.invokevirtual 351, 3) := dk_182 1 95 (dk_at dksX0_hold_1 9 rfl rfl)
theorem dX0_hold_36 : decode cX0_hold 36 = .ok (.aastore, 1) := dk_83 (dk_at dksX0_hold_1 12 rfl rfl)
theorem dX0_hold_37 : decode cX0_hold 37 = .ok (.aload_n 0, 1) := dk_42 (dk_at dksX0_hold_1 13 rfl rfl)
theorem dX0_hold_38 : decode cX0_hold 38 = .ok (.iconst 1, 1) := dk_4 (dk_at dksX0_hold_1 14 rfl rfl)
theorem dX0_hold_39 : decode cX0_hold 39 = .ok (.invokevirtual 128, 3) := dk_182 0 128 (dk_at dksX0_hold_1 15 rfl rfl)
theorem dX0_hold_42 : decode cX0_hold 42 = .ok (.ireturn, 1) := dk_172 (dk_at dksX0_hold_1 18 rfl rfl)
theorem dX0_hold_43 : decode cX0_hold 43 = .ok (.astore 4, 2) := dk_58 4 (dk_at dksX0_hold_1 19 rfl rfl)
theorem dX0_hold_45 : decode cX0_hold 45 = .ok (.aload_n 0, 1) := dk_42 (dk_at dksX0_hold_1 21 rfl rfl)
theorem dX0_hold_46 : decode cX0_hold 46 = .ok (.bipush (-11), 2) := dk_16 245 (dk_at dksX0_hold_1 22 rfl rfl)
theorem dX0_hold_48 : decode cX0_hold 48 = .ok (.invokevirtual 231, 3) := dk_182 0 231 (dk_at dksX0_hold_2 0 rfl rfl)
theorem dX0_hold_51 : decode cX0_hold 51 = .ok (.ireturn, 1) := dk_172 (dk_at dksX0_hold_2 3 rfl rfl)
theorem dX0_hold_52 : decode cX0_hold 52 = .ok (.astore 4, 2) := dk_58 4 (dk_at dksX0_hold_2 4 rfl rfl)
theorem dX0_hold_54 : decode cX0_hold 54 = .ok (.aload_n 0, 1) := dk_42 (dk_at dksX0_hold_2 6 rfl rfl)
theorem dX0_hold_55 : decode cX0_hold 55 = .ok (.bipush (-12), 2) := dk_16 244 (dk_at dksX0_hold_2 7 rfl rfl)
theorem dX0_hold_57 : decode cX0_hold 57 = .ok (.invokevirtual 231, 3) := dk_182 0 231 (dk_at dksX0_hold_2 9 rfl rfl)
theorem dX0_hold_60 : decode cX0_hold 60 = .ok (.ireturn, 1) := dk_172 (dk_at dksX0_hold_2 12 rfl rfl)
theorem dX0_hold_61 : decode cX0_hold 61 = .ok (.astore 4, 2) := dk_58 4 (dk_at dksX0_hold_2 13 rfl rfl)
theorem dX0_hold_63 : decode cX0_hold 63 = .ok (.aload_n 0, 1) := dk_42 (dk_at dksX0_hold_2 15 rfl rfl)
theorem dX0_hold_64 : decode cX0_hold 64 = .ok (.bipush (-14), 2) := dk_16 242 (dk_at dksX0_hold_2 16 rfl rfl)
theorem dX0_hold_66 : decode cX0_hold 66 = .ok (.invokevirtual 231, 3) := dk_182 0 231 (dk_at dksX0_hold_2 18 rfl rfl)
theorem dX0_hold_69 : decode cX0_hold 69 = .ok (.ireturn, 1) := dk_172 (dk_at dksX0_hold_2 21 rfl rfl)
abbrev cX0_held : ByteArray := prog_1_method_60_code
def yX0_held : MethodName := ⟨RX0, "held", "(II)I"⟩
def dkwX0_held_1 : List UInt8 := [50, 180, 1, 66, 182, 0, 128, 172, 78, 42, 16, 245, 182, 0, 231, 172, 78, 42, 16, 244, 182, 0, 231, 172]
abbrev dktX0_held_1 : List UInt8 := dkwX0_held_1 ++ []
def dkwX0_held_0 : List UInt8 := [27, 3, 6, 184, 0, 107, 154, 0, 10, 42, 16, 254, 182, 0, 120, 172, 42, 42, 180, 0, 66, 27, 50, 28]
abbrev dktX0_held_0 : List UInt8 := dkwX0_held_0 ++ dktX0_held_1
theorem dksX0_held_0 : cX0_held.data.toList.drop 0 = dktX0_held_0 := by decide +kernel
theorem dksX0_held_1 : cX0_held.data.toList.drop 24 = dktX0_held_1 := dk_seg dksX0_held_0 24 rfl rfl
theorem dX0_held_0 : decode cX0_held 0 = .ok (.iload_n 1, 1) := dk_27 (dk_at dksX0_held_0 0 rfl rfl)
theorem dX0_held_1 : decode cX0_held 1 = .ok (.iconst 0, 1) := dk_3 (dk_at dksX0_held_0 1 rfl rfl)
theorem dX0_held_2 : decode cX0_held 2 = .ok (.iconst 3, 1) := dk_6 (dk_at dksX0_held_0 2 rfl rfl)
theorem dX0_held_3 : decode cX0_held 3 = .ok (.invokestatic 107, 3) := dk_184 0 107 (dk_at dksX0_held_0 3 rfl rfl)
theorem dX0_held_6 : decode cX0_held 6 = .ok (.ifCond .ne 10, 3) := dk_154 0 10 (dk_at dksX0_held_0 6 rfl rfl)
theorem dX0_held_9 : decode cX0_held 9 = .ok (.aload_n 0, 1) := dk_42 (dk_at dksX0_held_0 9 rfl rfl)
theorem dX0_held_10 : decode cX0_held 10 = .ok (.bipush (-2), 2) := dk_16 254 (dk_at dksX0_held_0 10 rfl rfl)
theorem dX0_held_12 : decode cX0_held 12 = .ok (.invokevirtual 120, 3) := dk_182 0 120 (dk_at dksX0_held_0 12 rfl rfl)
theorem dX0_held_15 : decode cX0_held 15 = .ok (.ireturn, 1) := dk_172 (dk_at dksX0_held_0 15 rfl rfl)
theorem dX0_held_16 : decode cX0_held 16 = .ok (.aload_n 0, 1) := dk_42 (dk_at dksX0_held_0 16 rfl rfl)
theorem dX0_held_17 : decode cX0_held 17 = .ok (.aload_n 0, 1) := dk_42 (dk_at dksX0_held_0 17 rfl rfl)
theorem dX0_held_18 : decode cX0_held 18 = .ok (.getfield 66, 3) := dk_180 0 66 (dk_at dksX0_held_0 18 rfl rfl)
theorem dX0_held_21 : decode cX0_held 21 = .ok (.iload_n 1, 1) := dk_27 (dk_at dksX0_held_0 21 rfl rfl)
theorem dX0_held_22 : decode cX0_held 22 = .ok (.aaload, 1) := dk_50 (dk_at dksX0_held_0 22 rfl rfl)
theorem dX0_held_23 : decode cX0_held 23 = .ok (.iload_n 2, 1) := dk_28 (dk_at dksX0_held_0 23 rfl rfl)
theorem dX0_held_24 : decode cX0_held 24 = .ok (.aaload, 1) := dk_50 (dk_at dksX0_held_1 0 rfl rfl)
theorem dX0_held_25 : decode cX0_held 25 = .ok (.getfield 322, 3) := dk_180 1 66 (dk_at dksX0_held_1 1 rfl rfl)
theorem dX0_held_28 : decode cX0_held 28 = .ok (.invokevirtual 128, 3) := dk_182 0 128 (dk_at dksX0_held_1 4 rfl rfl)
theorem dX0_held_31 : decode cX0_held 31 = .ok (.ireturn, 1) := dk_172 (dk_at dksX0_held_1 7 rfl rfl)
theorem dX0_held_32 : decode cX0_held 32 = .ok (.astore_n 3, 1) := dk_78 (dk_at dksX0_held_1 8 rfl rfl)
theorem dX0_held_33 : decode cX0_held 33 = .ok (.aload_n 0, 1) := dk_42 (dk_at dksX0_held_1 9 rfl rfl)
theorem dX0_held_34 : decode cX0_held 34 = .ok (.bipush (-11), 2) := dk_16 245 (dk_at dksX0_held_1 10 rfl rfl)
theorem dX0_held_36 : decode cX0_held 36 = .ok (.invokevirtual 231, 3) := dk_182 0 231 (dk_at dksX0_held_1 12 rfl rfl)
theorem dX0_held_39 : decode cX0_held 39 = .ok (.ireturn, 1) := dk_172 (dk_at dksX0_held_1 15 rfl rfl)
theorem dX0_held_40 : decode cX0_held 40 = .ok (.astore_n 3, 1) := dk_78 (dk_at dksX0_held_1 16 rfl rfl)
theorem dX0_held_41 : decode cX0_held 41 = .ok (.aload_n 0, 1) := dk_42 (dk_at dksX0_held_1 17 rfl rfl)
theorem dX0_held_42 : decode cX0_held 42 = .ok (.bipush (-12), 2) := dk_16 244 (dk_at dksX0_held_1 18 rfl rfl)
theorem dX0_held_44 : decode cX0_held 44 = .ok (.invokevirtual 231, 3) := dk_182 0 231 (dk_at dksX0_held_1 20 rfl rfl)
theorem dX0_held_47 : decode cX0_held 47 = .ok (.ireturn, 1) := dk_172 (dk_at dksX0_held_1 23 rfl rfl)
abbrev cX0_slide : ByteArray := prog_1_method_61_code
def yX0_slide : MethodName := ⟨RX0, "slide", "(IIII)I"⟩
def dkwX0_slide_2 : List UInt8 := [182, 0, 231, 172, 58, 5, 42, 16, 244, 182, 0, 231, 172]
abbrev dktX0_slide_2 : List UInt8 := dkwX0_slide_2 ++ []
def dkwX0_slide_1 : List UInt8 := [25, 5, 28, 25, 5, 29, 21, 4, 184, 0, 187, 42, 21, 4, 182, 0, 128, 172, 58, 5, 42, 16, 245]
abbrev dktX0_slide_1 : List UInt8 := dkwX0_slide_1 ++ dktX0_slide_2
def dkwX0_slide_0 : List UInt8 := [27, 3, 6, 184, 0, 107, 154, 0, 10, 42, 16, 254, 182, 0, 120, 172, 42, 180, 0, 66, 27, 50, 58, 5]
abbrev dktX0_slide_0 : List UInt8 := dkwX0_slide_0 ++ dktX0_slide_1
theorem dksX0_slide_0 : cX0_slide.data.toList.drop 0 = dktX0_slide_0 := by decide +kernel
theorem dksX0_slide_1 : cX0_slide.data.toList.drop 24 = dktX0_slide_1 := dk_seg dksX0_slide_0 24 rfl rfl
theorem dksX0_slide_2 : cX0_slide.data.toList.drop 47 = dktX0_slide_2 := dk_seg dksX0_slide_1 23 rfl rfl
theorem dX0_slide_0 : decode cX0_slide 0 = .ok (.iload_n 1, 1) := dk_27 (dk_at dksX0_slide_0 0 rfl rfl)
theorem dX0_slide_1 : decode cX0_slide 1 = .ok (.iconst 0, 1) := dk_3 (dk_at dksX0_slide_0 1 rfl rfl)
theorem dX0_slide_2 : decode cX0_slide 2 = .ok (.iconst 3, 1) := dk_6 (dk_at dksX0_slide_0 2 rfl rfl)
theorem dX0_slide_3 : decode cX0_slide 3 = .ok (.invokestatic 107, 3) := dk_184 0 107 (dk_at dksX0_slide_0 3 rfl rfl)
theorem dX0_slide_6 : decode cX0_slide 6 = .ok (.ifCond .ne 10, 3) := dk_154 0 10 (dk_at dksX0_slide_0 6 rfl rfl)
theorem dX0_slide_9 : decode cX0_slide 9 = .ok (.aload_n 0, 1) := dk_42 (dk_at dksX0_slide_0 9 rfl rfl)
theorem dX0_slide_10 : decode cX0_slide 10 = .ok (.bipush (-2), 2) := dk_16 254 (dk_at dksX0_slide_0 10 rfl rfl)
theorem dX0_slide_12 : decode cX0_slide 12 = .ok (.invokevirtual 120, 3) := dk_182 0 120 (dk_at dksX0_slide_0 12 rfl rfl)
theorem dX0_slide_15 : decode cX0_slide 15 = .ok (.ireturn, 1) := dk_172 (dk_at dksX0_slide_0 15 rfl rfl)
theorem dX0_slide_16 : decode cX0_slide 16 = .ok (.aload_n 0, 1) := dk_42 (dk_at dksX0_slide_0 16 rfl rfl)
theorem dX0_slide_17 : decode cX0_slide 17 = .ok (.getfield 66, 3) := dk_180 0 66 (dk_at dksX0_slide_0 17 rfl rfl)
theorem dX0_slide_20 : decode cX0_slide 20 = .ok (.iload_n 1, 1) := dk_27 (dk_at dksX0_slide_0 20 rfl rfl)
theorem dX0_slide_21 : decode cX0_slide 21 = .ok (.aaload, 1) := dk_50 (dk_at dksX0_slide_0 21 rfl rfl)
theorem dX0_slide_22 : decode cX0_slide 22 = .ok (.astore 5, 2) := dk_58 5 (dk_at dksX0_slide_0 22 rfl rfl)
theorem dX0_slide_24 : decode cX0_slide 24 = .ok (.aload 5, 2) := dk_25 5 (dk_at dksX0_slide_1 0 rfl rfl)
theorem dX0_slide_26 : decode cX0_slide 26 = .ok (.iload_n 2, 1) := dk_28 (dk_at dksX0_slide_1 2 rfl rfl)
theorem dX0_slide_27 : decode cX0_slide 27 = .ok (.aload 5, 2) := dk_25 5 (dk_at dksX0_slide_1 3 rfl rfl)
theorem dX0_slide_29 : decode cX0_slide 29 = .ok (.iload_n 3, 1) := dk_29 (dk_at dksX0_slide_1 5 rfl rfl)
theorem dX0_slide_30 : decode cX0_slide 30 = .ok (.iload 4, 2) := dk_21 4 (dk_at dksX0_slide_1 6 rfl rfl)
theorem dX0_slide_32 : decode cX0_slide 32 = .ok (.invokestatic 187, 3) := dk_184 0 187 (dk_at dksX0_slide_1 8 rfl rfl)
theorem dX0_slide_35 : decode cX0_slide 35 = .ok (.aload_n 0, 1) := dk_42 (dk_at dksX0_slide_1 11 rfl rfl)
theorem dX0_slide_36 : decode cX0_slide 36 = .ok (.iload 4, 2) := dk_21 4 (dk_at dksX0_slide_1 12 rfl rfl)
theorem dX0_slide_38 : decode cX0_slide 38 = .ok (.invokevirtual 128, 3) := dk_182 0 128 (dk_at dksX0_slide_1 14 rfl rfl)
theorem dX0_slide_41 : decode cX0_slide 41 = .ok (.ireturn, 1) := dk_172 (dk_at dksX0_slide_1 17 rfl rfl)
theorem dX0_slide_42 : decode cX0_slide 42 = .ok (.astore 5, 2) := dk_58 5 (dk_at dksX0_slide_1 18 rfl rfl)
theorem dX0_slide_44 : decode cX0_slide 44 = .ok (.aload_n 0, 1) := dk_42 (dk_at dksX0_slide_1 20 rfl rfl)
theorem dX0_slide_45 : decode cX0_slide 45 = .ok (.bipush (-11), 2) := dk_16 245 (dk_at dksX0_slide_1 21 rfl rfl)
theorem dX0_slide_47 : decode cX0_slide 47 = .ok (.invokevirtual 231, 3) := dk_182 0 231 (dk_at dksX0_slide_2 0 rfl rfl)
theorem dX0_slide_50 : decode cX0_slide 50 = .ok (.ireturn, 1) := dk_172 (dk_at dksX0_slide_2 3 rfl rfl)
theorem dX0_slide_51 : decode cX0_slide 51 = .ok (.astore 5, 2) := dk_58 5 (dk_at dksX0_slide_2 4 rfl rfl)
theorem dX0_slide_53 : decode cX0_slide 53 = .ok (.aload_n 0, 1) := dk_42 (dk_at dksX0_slide_2 6 rfl rfl)
theorem dX0_slide_54 : decode cX0_slide 54 = .ok (.bipush (-12), 2) := dk_16 244 (dk_at dksX0_slide_2 7 rfl rfl)
theorem dX0_slide_56 : decode cX0_slide 56 = .ok (.invokevirtual 231, 3) := dk_182 0 231 (dk_at dksX0_slide_2 9 rfl rfl)
theorem dX0_slide_59 : decode cX0_slide 59 = .ok (.ireturn, 1) := dk_172 (dk_at dksX0_slide_2 12 rfl rfl)
abbrev cX0_shelf : ByteArray := prog_1_method_62_code
def yX0_shelf : MethodName := ⟨RX0, "shelf", "(III)I"⟩
def dkwX0_shelf_2 : List UInt8 := [58, 4, 42, 16, 241, 182, 0, 231, 172]
abbrev dktX0_shelf_2 : List UInt8 := dkwX0_shelf_2 ++ []
def dkwX0_shelf_1 : List UInt8 := [42, 16, 254, 182, 0, 120, 172, 42, 180, 0, 72, 27, 50, 28, 29, 182, 1, 159, 42, 4, 182, 0, 128, 172]
abbrev dktX0_shelf_1 : List UInt8 := dkwX0_shelf_1 ++ dktX0_shelf_2
def dkwX0_shelf_0 : List UInt8 := [27, 3, 6, 184, 0, 107, 153, 0, 18, 28, 3, 6, 184, 0, 107, 153, 0, 9, 29, 16, 60, 164, 0, 10]
abbrev dktX0_shelf_0 : List UInt8 := dkwX0_shelf_0 ++ dktX0_shelf_1
theorem dksX0_shelf_0 : cX0_shelf.data.toList.drop 0 = dktX0_shelf_0 := by decide +kernel
theorem dksX0_shelf_1 : cX0_shelf.data.toList.drop 24 = dktX0_shelf_1 := dk_seg dksX0_shelf_0 24 rfl rfl
theorem dksX0_shelf_2 : cX0_shelf.data.toList.drop 48 = dktX0_shelf_2 := dk_seg dksX0_shelf_1 24 rfl rfl
theorem dX0_shelf_0 : decode cX0_shelf 0 = .ok (.iload_n 1, 1) := dk_27 (dk_at dksX0_shelf_0 0 rfl rfl)
theorem dX0_shelf_1 : decode cX0_shelf 1 = .ok (.iconst 0, 1) := dk_3 (dk_at dksX0_shelf_0 1 rfl rfl)
theorem dX0_shelf_2 : decode cX0_shelf 2 = .ok (.iconst 3, 1) := dk_6 (dk_at dksX0_shelf_0 2 rfl rfl)
theorem dX0_shelf_3 : decode cX0_shelf 3 = .ok (.invokestatic 107, 3) := dk_184 0 107 (dk_at dksX0_shelf_0 3 rfl rfl)
theorem dX0_shelf_6 : decode cX0_shelf 6 = .ok (.ifCond .eq 18, 3) := dk_153 0 18 (dk_at dksX0_shelf_0 6 rfl rfl)
theorem dX0_shelf_9 : decode cX0_shelf 9 = .ok (.iload_n 2, 1) := dk_28 (dk_at dksX0_shelf_0 9 rfl rfl)
theorem dX0_shelf_10 : decode cX0_shelf 10 = .ok (.iconst 0, 1) := dk_3 (dk_at dksX0_shelf_0 10 rfl rfl)
theorem dX0_shelf_11 : decode cX0_shelf 11 = .ok (.iconst 3, 1) := dk_6 (dk_at dksX0_shelf_0 11 rfl rfl)
theorem dX0_shelf_12 : decode cX0_shelf 12 = .ok (.invokestatic 107, 3) := dk_184 0 107 (dk_at dksX0_shelf_0 12 rfl rfl)
theorem dX0_shelf_15 : decode cX0_shelf 15 = .ok (.ifCond .eq 9, 3) := dk_153 0 9 (dk_at dksX0_shelf_0 15 rfl rfl)
theorem dX0_shelf_18 : decode cX0_shelf 18 = .ok (.iload_n 3, 1) := dk_29 (dk_at dksX0_shelf_0 18 rfl rfl)
theorem dX0_shelf_19 : decode cX0_shelf 19 = .ok (.bipush 60, 2) := dk_16 60 (dk_at dksX0_shelf_0 19 rfl rfl)
theorem dX0_shelf_21 : decode cX0_shelf 21 = .ok (.if_icmp .le 10, 3) := dk_164 0 10 (dk_at dksX0_shelf_0 21 rfl rfl)
theorem dX0_shelf_24 : decode cX0_shelf 24 = .ok (.aload_n 0, 1) := dk_42 (dk_at dksX0_shelf_1 0 rfl rfl)
theorem dX0_shelf_25 : decode cX0_shelf 25 = .ok (.bipush (-2), 2) := dk_16 254 (dk_at dksX0_shelf_1 1 rfl rfl)
theorem dX0_shelf_27 : decode cX0_shelf 27 = .ok (.invokevirtual 120, 3) := dk_182 0 120 (dk_at dksX0_shelf_1 3 rfl rfl)
theorem dX0_shelf_30 : decode cX0_shelf 30 = .ok (.ireturn, 1) := dk_172 (dk_at dksX0_shelf_1 6 rfl rfl)
theorem dX0_shelf_31 : decode cX0_shelf 31 = .ok (.aload_n 0, 1) := dk_42 (dk_at dksX0_shelf_1 7 rfl rfl)
theorem dX0_shelf_32 : decode cX0_shelf 32 = .ok (.getfield 72, 3) := dk_180 0 72 (dk_at dksX0_shelf_1 8 rfl rfl)
theorem dX0_shelf_35 : decode cX0_shelf 35 = .ok (.iload_n 1, 1) := dk_27 (dk_at dksX0_shelf_1 11 rfl rfl)
theorem dX0_shelf_36 : decode cX0_shelf 36 = .ok (.aaload, 1) := dk_50 (dk_at dksX0_shelf_1 12 rfl rfl)
theorem dX0_shelf_37 : decode cX0_shelf 37 = .ok (.iload_n 2, 1) := dk_28 (dk_at dksX0_shelf_1 13 rfl rfl)
theorem dX0_shelf_38 : decode cX0_shelf 38 = .ok (.iload_n 3, 1) := dk_29 (dk_at dksX0_shelf_1 14 rfl rfl)
theorem dX0_shelf_39 : decode cX0_shelf 39 = .ok (.invokevirtual 415, 3) := dk_182 1 159 (dk_at dksX0_shelf_1 15 rfl rfl)
theorem dX0_shelf_42 : decode cX0_shelf 42 = .ok (.aload_n 0, 1) := dk_42 (dk_at dksX0_shelf_1 18 rfl rfl)
theorem dX0_shelf_43 : decode cX0_shelf 43 = .ok (.iconst 1, 1) := dk_4 (dk_at dksX0_shelf_1 19 rfl rfl)
theorem dX0_shelf_44 : decode cX0_shelf 44 = .ok (.invokevirtual 128, 3) := dk_182 0 128 (dk_at dksX0_shelf_1 20 rfl rfl)
theorem dX0_shelf_47 : decode cX0_shelf 47 = .ok (.ireturn, 1) := dk_172 (dk_at dksX0_shelf_1 23 rfl rfl)
theorem dX0_shelf_48 : decode cX0_shelf 48 = .ok (.astore 4, 2) := dk_58 4 (dk_at dksX0_shelf_2 0 rfl rfl)
theorem dX0_shelf_50 : decode cX0_shelf 50 = .ok (.aload_n 0, 1) := dk_42 (dk_at dksX0_shelf_2 2 rfl rfl)
theorem dX0_shelf_51 : decode cX0_shelf 51 = .ok (.bipush (-15), 2) := dk_16 241 (dk_at dksX0_shelf_2 3 rfl rfl)
theorem dX0_shelf_53 : decode cX0_shelf 53 = .ok (.invokevirtual 231, 3) := dk_182 0 231 (dk_at dksX0_shelf_2 5 rfl rfl)
theorem dX0_shelf_56 : decode cX0_shelf 56 = .ok (.ireturn, 1) := dk_172 (dk_at dksX0_shelf_2 8 rfl rfl)
abbrev cX0_lay : ByteArray := prog_1_method_63_code
def yX0_lay : MethodName := ⟨RX0, "lay", "(IZII)I"⟩
def dkwX0_lay_7 : List UInt8 := [16, 244, 182, 0, 231, 87, 21, 5, 172]
abbrev dktX0_lay_7 : List UInt8 := dkwX0_lay_7 ++ []
def dkwX0_lay_6 : List UInt8 := [16, 245, 182, 0, 231, 87, 167, 0, 24, 58, 6, 42, 16, 243, 182, 0, 231, 87, 167, 0, 12, 58, 6, 42]
abbrev dktX0_lay_6 : List UInt8 := dkwX0_lay_6 ++ dktX0_lay_7
def dkwX0_lay_5 : List UInt8 := [21, 5, 96, 25, 8, 3, 182, 0, 235, 182, 1, 163, 132, 5, 1, 167, 255, 216, 167, 0, 36, 58, 6, 42]
abbrev dktX0_lay_5 : List UInt8 := dkwX0_lay_5 ++ dktX0_lay_6
def dkwX0_lay_4 : List UInt8 := [21, 7, 162, 0, 39, 25, 6, 21, 5, 50, 192, 0, 142, 58, 8, 42, 180, 0, 72, 29, 50, 21, 4]
abbrev dktX0_lay_4 : List UInt8 := dkwX0_lay_4 ++ dktX0_lay_5
def dkwX0_lay_3 : List UInt8 := [28, 153, 0, 9, 25, 6, 190, 167, 0, 12, 42, 180, 0, 43, 27, 50, 180, 0, 159, 54, 7, 21, 5]
abbrev dktX0_lay_3 : List UInt8 := dkwX0_lay_3 ++ dktX0_lay_4
def dkwX0_lay_2 : List UInt8 := [28, 153, 0, 12, 42, 180, 0, 66, 27, 50, 167, 0, 12, 42, 180, 0, 43, 27, 50, 180, 0, 162, 58, 6]
abbrev dktX0_lay_2 : List UInt8 := dkwX0_lay_2 ++ dktX0_lay_3
def dkwX0_lay_1 : List UInt8 := [29, 3, 6, 184, 0, 107, 154, 0, 10, 42, 16, 254, 182, 0, 120, 172, 3, 54, 5, 42, 3, 181, 0, 100]
abbrev dktX0_lay_1 : List UInt8 := dkwX0_lay_1 ++ dktX0_lay_2
def dkwX0_lay_0 : List UInt8 := [28, 153, 0, 15, 27, 3, 6, 184, 0, 107, 153, 0, 23, 167, 0, 11, 42, 27, 182, 0, 168, 153, 0, 12]
abbrev dktX0_lay_0 : List UInt8 := dkwX0_lay_0 ++ dktX0_lay_1
theorem dksX0_lay_0 : cX0_lay.data.toList.drop 0 = dktX0_lay_0 := by decide +kernel
theorem dksX0_lay_1 : cX0_lay.data.toList.drop 24 = dktX0_lay_1 := dk_seg dksX0_lay_0 24 rfl rfl
theorem dksX0_lay_2 : cX0_lay.data.toList.drop 48 = dktX0_lay_2 := dk_seg dksX0_lay_1 24 rfl rfl
theorem dksX0_lay_3 : cX0_lay.data.toList.drop 72 = dktX0_lay_3 := dk_seg dksX0_lay_2 24 rfl rfl
theorem dksX0_lay_4 : cX0_lay.data.toList.drop 95 = dktX0_lay_4 := dk_seg dksX0_lay_3 23 rfl rfl
theorem dksX0_lay_5 : cX0_lay.data.toList.drop 118 = dktX0_lay_5 := dk_seg dksX0_lay_4 23 rfl rfl
theorem dksX0_lay_6 : cX0_lay.data.toList.drop 142 = dktX0_lay_6 := dk_seg dksX0_lay_5 24 rfl rfl
theorem dksX0_lay_7 : cX0_lay.data.toList.drop 166 = dktX0_lay_7 := dk_seg dksX0_lay_6 24 rfl rfl
theorem dX0_lay_0 : decode cX0_lay 0 = .ok (.iload_n 2, 1) := dk_28 (dk_at dksX0_lay_0 0 rfl rfl)
theorem dX0_lay_1 : decode cX0_lay 1 = .ok (.ifCond .eq 15, 3) := dk_153 0 15 (dk_at dksX0_lay_0 1 rfl rfl)
theorem dX0_lay_4 : decode cX0_lay 4 = .ok (.iload_n 1, 1) := dk_27 (dk_at dksX0_lay_0 4 rfl rfl)
theorem dX0_lay_5 : decode cX0_lay 5 = .ok (.iconst 0, 1) := dk_3 (dk_at dksX0_lay_0 5 rfl rfl)
theorem dX0_lay_6 : decode cX0_lay 6 = .ok (.iconst 3, 1) := dk_6 (dk_at dksX0_lay_0 6 rfl rfl)
theorem dX0_lay_7 : decode cX0_lay 7 = .ok (.invokestatic 107, 3) := dk_184 0 107 (dk_at dksX0_lay_0 7 rfl rfl)
theorem dX0_lay_10 : decode cX0_lay 10 = .ok (.ifCond .eq 23, 3) := dk_153 0 23 (dk_at dksX0_lay_0 10 rfl rfl)
theorem dX0_lay_13 : decode cX0_lay 13 = .ok (.goto 11, 3) := dk_167 0 11 (dk_at dksX0_lay_0 13 rfl rfl)
theorem dX0_lay_16 : decode cX0_lay 16 = .ok (.aload_n 0, 1) := dk_42 (dk_at dksX0_lay_0 16 rfl rfl)
theorem dX0_lay_17 : decode cX0_lay 17 = .ok (.iload_n 1, 1) := dk_27 (dk_at dksX0_lay_0 17 rfl rfl)
theorem dX0_lay_18 : decode cX0_lay 18 = .ok (.invokevirtual 168, 3) := dk_182 0 168 (dk_at dksX0_lay_0 18 rfl rfl)
theorem dX0_lay_21 : decode cX0_lay 21 = .ok (.ifCond .eq 12, 3) := dk_153 0 12 (dk_at dksX0_lay_0 21 rfl rfl)
theorem dX0_lay_24 : decode cX0_lay 24 = .ok (.iload_n 3, 1) := dk_29 (dk_at dksX0_lay_1 0 rfl rfl)
theorem dX0_lay_25 : decode cX0_lay 25 = .ok (.iconst 0, 1) := dk_3 (dk_at dksX0_lay_1 1 rfl rfl)
theorem dX0_lay_26 : decode cX0_lay 26 = .ok (.iconst 3, 1) := dk_6 (dk_at dksX0_lay_1 2 rfl rfl)
theorem dX0_lay_27 : decode cX0_lay 27 = .ok (.invokestatic 107, 3) := dk_184 0 107 (dk_at dksX0_lay_1 3 rfl rfl)
theorem dX0_lay_30 : decode cX0_lay 30 = .ok (.ifCond .ne 10, 3) := dk_154 0 10 (dk_at dksX0_lay_1 6 rfl rfl)
theorem dX0_lay_33 : decode cX0_lay 33 = .ok (.aload_n 0, 1) := dk_42 (dk_at dksX0_lay_1 9 rfl rfl)
theorem dX0_lay_34 : decode cX0_lay 34 = .ok (.bipush (-2), 2) := dk_16 254 (dk_at dksX0_lay_1 10 rfl rfl)
theorem dX0_lay_36 : decode cX0_lay 36 = .ok (.invokevirtual 120, 3) := dk_182 0 120 (dk_at dksX0_lay_1 12 rfl rfl)
theorem dX0_lay_39 : decode cX0_lay 39 = .ok (.ireturn, 1) := dk_172 (dk_at dksX0_lay_1 15 rfl rfl)
theorem dX0_lay_40 : decode cX0_lay 40 = .ok (.iconst 0, 1) := dk_3 (dk_at dksX0_lay_1 16 rfl rfl)
theorem dX0_lay_41 : decode cX0_lay 41 = .ok (.istore 5, 2) := dk_54 5 (dk_at dksX0_lay_1 17 rfl rfl)
theorem dX0_lay_43 : decode cX0_lay 43 = .ok (.aload_n 0, 1) := dk_42 (dk_at dksX0_lay_1 19 rfl rfl)
theorem dX0_lay_44 : decode cX0_lay 44 = .ok (.iconst 0, 1) := dk_3 (dk_at dksX0_lay_1 20 rfl rfl)
theorem dX0_lay_45 : decode cX0_lay 45 = .ok (.putfield 100, 3) := dk_181 0 100 (dk_at dksX0_lay_1 21 rfl rfl)
theorem dX0_lay_48 : decode cX0_lay 48 = .ok (.iload_n 2, 1) := dk_28 (dk_at dksX0_lay_2 0 rfl rfl)
theorem dX0_lay_49 : decode cX0_lay 49 = .ok (.ifCond .eq 12, 3) := dk_153 0 12 (dk_at dksX0_lay_2 1 rfl rfl)
theorem dX0_lay_52 : decode cX0_lay 52 = .ok (.aload_n 0, 1) := dk_42 (dk_at dksX0_lay_2 4 rfl rfl)
theorem dX0_lay_53 : decode cX0_lay 53 = .ok (.getfield 66, 3) := dk_180 0 66 (dk_at dksX0_lay_2 5 rfl rfl)
theorem dX0_lay_56 : decode cX0_lay 56 = .ok (.iload_n 1, 1) := dk_27 (dk_at dksX0_lay_2 8 rfl rfl)
theorem dX0_lay_57 : decode cX0_lay 57 = .ok (.aaload, 1) := dk_50 (dk_at dksX0_lay_2 9 rfl rfl)
theorem dX0_lay_58 : decode cX0_lay 58 = .ok (.goto 12, 3) := dk_167 0 12 (dk_at dksX0_lay_2 10 rfl rfl)
theorem dX0_lay_61 : decode cX0_lay 61 = .ok (.aload_n 0, 1) := dk_42 (dk_at dksX0_lay_2 13 rfl rfl)
theorem dX0_lay_62 : decode cX0_lay 62 = .ok (.getfield 43, 3) := dk_180 0 43 (dk_at dksX0_lay_2 14 rfl rfl)
theorem dX0_lay_65 : decode cX0_lay 65 = .ok (.iload_n 1, 1) := dk_27 (dk_at dksX0_lay_2 17 rfl rfl)
theorem dX0_lay_66 : decode cX0_lay 66 = .ok (.aaload, 1) := dk_50 (dk_at dksX0_lay_2 18 rfl rfl)
theorem dX0_lay_67 : decode cX0_lay 67 = .ok (.getfield 162, 3) := dk_180 0 162 (dk_at dksX0_lay_2 19 rfl rfl)
theorem dX0_lay_70 : decode cX0_lay 70 = .ok (.astore 6, 2) := dk_58 6 (dk_at dksX0_lay_2 22 rfl rfl)
theorem dX0_lay_72 : decode cX0_lay 72 = .ok (.iload_n 2, 1) := dk_28 (dk_at dksX0_lay_3 0 rfl rfl)
theorem dX0_lay_73 : decode cX0_lay 73 = .ok (.ifCond .eq 9, 3) := dk_153 0 9 (dk_at dksX0_lay_3 1 rfl rfl)
theorem dX0_lay_76 : decode cX0_lay 76 = .ok (.aload 6, 2) := dk_25 6 (dk_at dksX0_lay_3 4 rfl rfl)
theorem dX0_lay_78 : decode cX0_lay 78 = .ok (.arraylength, 1) := dk_190 (dk_at dksX0_lay_3 6 rfl rfl)
theorem dX0_lay_79 : decode cX0_lay 79 = .ok (.goto 12, 3) := dk_167 0 12 (dk_at dksX0_lay_3 7 rfl rfl)
theorem dX0_lay_82 : decode cX0_lay 82 = .ok (.aload_n 0, 1) := dk_42 (dk_at dksX0_lay_3 10 rfl rfl)
theorem dX0_lay_83 : decode cX0_lay 83 = .ok (.getfield 43, 3) := dk_180 0 43 (dk_at dksX0_lay_3 11 rfl rfl)
theorem dX0_lay_86 : decode cX0_lay 86 = .ok (.iload_n 1, 1) := dk_27 (dk_at dksX0_lay_3 14 rfl rfl)
theorem dX0_lay_87 : decode cX0_lay 87 = .ok (.aaload, 1) := dk_50 (dk_at dksX0_lay_3 15 rfl rfl)
theorem dX0_lay_88 : decode cX0_lay 88 = .ok (.getfield 159, 3) := dk_180 0 159 (dk_at dksX0_lay_3 16 rfl rfl)
theorem dX0_lay_91 : decode cX0_lay 91 = .ok (.istore 7, 2) := dk_54 7 (dk_at dksX0_lay_3 19 rfl rfl)
theorem dX0_lay_93 : decode cX0_lay 93 = .ok (.iload 5, 2) := dk_21 5 (dk_at dksX0_lay_3 21 rfl rfl)
theorem dX0_lay_95 : decode cX0_lay 95 = .ok (.iload 7, 2) := dk_21 7 (dk_at dksX0_lay_4 0 rfl rfl)
theorem dX0_lay_97 : decode cX0_lay 97 = .ok (.if_icmp .ge 39, 3) := dk_162 0 39 (dk_at dksX0_lay_4 2 rfl rfl)
theorem dX0_lay_100 : decode cX0_lay 100 = .ok (.aload 6, 2) := dk_25 6 (dk_at dksX0_lay_4 5 rfl rfl)
theorem dX0_lay_102 : decode cX0_lay 102 = .ok (.iload 5, 2) := dk_21 5 (dk_at dksX0_lay_4 7 rfl rfl)
theorem dX0_lay_104 : decode cX0_lay 104 = .ok (.aaload, 1) := dk_50 (dk_at dksX0_lay_4 9 rfl rfl)
theorem dX0_lay_105 : decode cX0_lay 105 = .ok (.checkcast 142, 3) := dk_192 0 142 (dk_at dksX0_lay_4 10 rfl rfl)
theorem dX0_lay_108 : decode cX0_lay 108 = .ok (.astore 8, 2) := dk_58 8 (dk_at dksX0_lay_4 13 rfl rfl)
theorem dX0_lay_110 : decode cX0_lay 110 = .ok (.aload_n 0, 1) := dk_42 (dk_at dksX0_lay_4 15 rfl rfl)
theorem dX0_lay_111 : decode cX0_lay 111 = .ok (.getfield 72, 3) := dk_180 0 72 (dk_at dksX0_lay_4 16 rfl rfl)
theorem dX0_lay_114 : decode cX0_lay 114 = .ok (.iload_n 3, 1) := dk_29 (dk_at dksX0_lay_4 19 rfl rfl)
theorem dX0_lay_115 : decode cX0_lay 115 = .ok (.aaload, 1) := dk_50 (dk_at dksX0_lay_4 20 rfl rfl)
theorem dX0_lay_116 : decode cX0_lay 116 = .ok (.iload 4, 2) := dk_21 4 (dk_at dksX0_lay_4 21 rfl rfl)
theorem dX0_lay_118 : decode cX0_lay 118 = .ok (.iload 5, 2) := dk_21 5 (dk_at dksX0_lay_5 0 rfl rfl)
theorem dX0_lay_120 : decode cX0_lay 120 = .ok (.iadd, 1) := dk_96 (dk_at dksX0_lay_5 2 rfl rfl)
theorem dX0_lay_121 : decode cX0_lay 121 = .ok (.aload 8, 2) := dk_25 8 (dk_at dksX0_lay_5 3 rfl rfl)
theorem dX0_lay_123 : decode cX0_lay 123 = .ok (.iconst 0, 1) := dk_3 (dk_at dksX0_lay_5 5 rfl rfl)
theorem dX0_lay_124 : decode cX0_lay 124 = .ok (.invokevirtual 235, 3) := dk_182 0 235 (dk_at dksX0_lay_5 6 rfl rfl)
theorem dX0_lay_127 : decode cX0_lay 127 = .ok (.invokevirtual 419, 3) := dk_182 1 163 (dk_at dksX0_lay_5 9 rfl rfl)
theorem dX0_lay_130 : decode cX0_lay 130 = .ok (.iinc 5 1, 3) := dk_132 5 1 (dk_at dksX0_lay_5 12 rfl rfl)
theorem dX0_lay_133 : decode cX0_lay 133 = .ok (.goto (-40), 3) := dk_167 255 216 (dk_at dksX0_lay_5 15 rfl rfl)
theorem dX0_lay_136 : decode cX0_lay 136 = .ok (.goto 36, 3) := dk_167 0 36 (dk_at dksX0_lay_5 18 rfl rfl)
theorem dX0_lay_139 : decode cX0_lay 139 = .ok (.astore 6, 2) := dk_58 6 (dk_at dksX0_lay_5 21 rfl rfl)
theorem dX0_lay_141 : decode cX0_lay 141 = .ok (.aload_n 0, 1) := dk_42 (dk_at dksX0_lay_5 23 rfl rfl)
theorem dX0_lay_142 : decode cX0_lay 142 = .ok (.bipush (-11), 2) := dk_16 245 (dk_at dksX0_lay_6 0 rfl rfl)
theorem dX0_lay_144 : decode cX0_lay 144 = .ok (.invokevirtual 231, 3) := dk_182 0 231 (dk_at dksX0_lay_6 2 rfl rfl)
theorem dX0_lay_147 : decode cX0_lay 147 = .ok (.pop, 1) := dk_87 (dk_at dksX0_lay_6 5 rfl rfl)
theorem dX0_lay_148 : decode cX0_lay 148 = .ok (.goto 24, 3) := dk_167 0 24 (dk_at dksX0_lay_6 6 rfl rfl)
theorem dX0_lay_151 : decode cX0_lay 151 = .ok (.astore 6, 2) := dk_58 6 (dk_at dksX0_lay_6 9 rfl rfl)
theorem dX0_lay_153 : decode cX0_lay 153 = .ok (.aload_n 0, 1) := dk_42 (dk_at dksX0_lay_6 11 rfl rfl)
theorem dX0_lay_154 : decode cX0_lay 154 = .ok (.bipush (-13), 2) := dk_16 243 (dk_at dksX0_lay_6 12 rfl rfl)
theorem dX0_lay_156 : decode cX0_lay 156 = .ok (.invokevirtual 231, 3) := dk_182 0 231 (dk_at dksX0_lay_6 14 rfl rfl)
theorem dX0_lay_159 : decode cX0_lay 159 = .ok (.pop, 1) := dk_87 (dk_at dksX0_lay_6 17 rfl rfl)
theorem dX0_lay_160 : decode cX0_lay 160 = .ok (.goto 12, 3) := dk_167 0 12 (dk_at dksX0_lay_6 18 rfl rfl)
theorem dX0_lay_163 : decode cX0_lay 163 = .ok (.astore 6, 2) := dk_58 6 (dk_at dksX0_lay_6 21 rfl rfl)
theorem dX0_lay_165 : decode cX0_lay 165 = .ok (.aload_n 0, 1) := dk_42 (dk_at dksX0_lay_6 23 rfl rfl)
theorem dX0_lay_166 : decode cX0_lay 166 = .ok (.bipush (-12), 2) := dk_16 244 (dk_at dksX0_lay_7 0 rfl rfl)
theorem dX0_lay_168 : decode cX0_lay 168 = .ok (.invokevirtual 231, 3) := dk_182 0 231 (dk_at dksX0_lay_7 2 rfl rfl)
theorem dX0_lay_171 : decode cX0_lay 171 = .ok (.pop, 1) := dk_87 (dk_at dksX0_lay_7 5 rfl rfl)
theorem dX0_lay_172 : decode cX0_lay 172 = .ok (.iload 5, 2) := dk_21 5 (dk_at dksX0_lay_7 6 rfl rfl)
theorem dX0_lay_174 : decode cX0_lay 174 = .ok (.ireturn, 1) := dk_172 (dk_at dksX0_lay_7 8 rfl rfl)
abbrev cX0_item : ByteArray := prog_1_method_64_code
def yX0_item : MethodName := ⟨RX0, "item", "(II)I"⟩
def dkwX0_item_2 : List UInt8 := [172, 78, 42, 16, 244, 182, 0, 231, 87, 17, 248, 46, 172]
abbrev dktX0_item_2 : List UInt8 := dkwX0_item_2 ++ []
def dkwX0_item_1 : List UInt8 := [180, 0, 72, 27, 50, 28, 182, 1, 166, 182, 0, 128, 172, 78, 42, 16, 245, 182, 0, 231, 87, 17, 248, 47]
abbrev dktX0_item_1 : List UInt8 := dkwX0_item_1 ++ dktX0_item_2
def dkwX0_item_0 : List UInt8 := [27, 3, 6, 184, 0, 107, 154, 0, 14, 42, 16, 254, 182, 0, 120, 87, 17, 248, 48, 172, 42, 42]
abbrev dktX0_item_0 : List UInt8 := dkwX0_item_0 ++ dktX0_item_1
theorem dksX0_item_0 : cX0_item.data.toList.drop 0 = dktX0_item_0 := by decide +kernel
theorem dksX0_item_1 : cX0_item.data.toList.drop 22 = dktX0_item_1 := dk_seg dksX0_item_0 22 rfl rfl
theorem dksX0_item_2 : cX0_item.data.toList.drop 46 = dktX0_item_2 := dk_seg dksX0_item_1 24 rfl rfl
theorem dX0_item_0 : decode cX0_item 0 = .ok (.iload_n 1, 1) := dk_27 (dk_at dksX0_item_0 0 rfl rfl)
theorem dX0_item_1 : decode cX0_item 1 = .ok (.iconst 0, 1) := dk_3 (dk_at dksX0_item_0 1 rfl rfl)
theorem dX0_item_2 : decode cX0_item 2 = .ok (.iconst 3, 1) := dk_6 (dk_at dksX0_item_0 2 rfl rfl)
theorem dX0_item_3 : decode cX0_item 3 = .ok (.invokestatic 107, 3) := dk_184 0 107 (dk_at dksX0_item_0 3 rfl rfl)
theorem dX0_item_6 : decode cX0_item 6 = .ok (.ifCond .ne 14, 3) := dk_154 0 14 (dk_at dksX0_item_0 6 rfl rfl)
theorem dX0_item_9 : decode cX0_item 9 = .ok (.aload_n 0, 1) := dk_42 (dk_at dksX0_item_0 9 rfl rfl)
theorem dX0_item_10 : decode cX0_item 10 = .ok (.bipush (-2), 2) := dk_16 254 (dk_at dksX0_item_0 10 rfl rfl)
theorem dX0_item_12 : decode cX0_item 12 = .ok (.invokevirtual 120, 3) := dk_182 0 120 (dk_at dksX0_item_0 12 rfl rfl)
theorem dX0_item_15 : decode cX0_item 15 = .ok (.pop, 1) := dk_87 (dk_at dksX0_item_0 15 rfl rfl)
theorem dX0_item_16 : decode cX0_item 16 = .ok (.sipush (-2000), 3) := dk_17 248 48 (dk_at dksX0_item_0 16 rfl rfl)
theorem dX0_item_19 : decode cX0_item 19 = .ok (.ireturn, 1) := dk_172 (dk_at dksX0_item_0 19 rfl rfl)
theorem dX0_item_20 : decode cX0_item 20 = .ok (.aload_n 0, 1) := dk_42 (dk_at dksX0_item_0 20 rfl rfl)
theorem dX0_item_21 : decode cX0_item 21 = .ok (.aload_n 0, 1) := dk_42 (dk_at dksX0_item_0 21 rfl rfl)
theorem dX0_item_22 : decode cX0_item 22 = .ok (.getfield 72, 3) := dk_180 0 72 (dk_at dksX0_item_1 0 rfl rfl)
theorem dX0_item_25 : decode cX0_item 25 = .ok (.iload_n 1, 1) := dk_27 (dk_at dksX0_item_1 3 rfl rfl)
theorem dX0_item_26 : decode cX0_item 26 = .ok (.aaload, 1) := dk_50 (dk_at dksX0_item_1 4 rfl rfl)
theorem dX0_item_27 : decode cX0_item 27 = .ok (.iload_n 2, 1) := dk_28 (dk_at dksX0_item_1 5 rfl rfl)
theorem dX0_item_28 : decode cX0_item 28 = .ok (.invokevirtual 422, 3) := dk_182 1 166 (dk_at dksX0_item_1 6 rfl rfl)
theorem dX0_item_31 : decode cX0_item 31 = .ok (.invokevirtual 128, 3) := dk_182 0 128 (dk_at dksX0_item_1 9 rfl rfl)
theorem dX0_item_34 : decode cX0_item 34 = .ok (.ireturn, 1) := dk_172 (dk_at dksX0_item_1 12 rfl rfl)
theorem dX0_item_35 : decode cX0_item 35 = .ok (.astore_n 3, 1) := dk_78 (dk_at dksX0_item_1 13 rfl rfl)
theorem dX0_item_36 : decode cX0_item 36 = .ok (.aload_n 0, 1) := dk_42 (dk_at dksX0_item_1 14 rfl rfl)
theorem dX0_item_37 : decode cX0_item 37 = .ok (.bipush (-11), 2) := dk_16 245 (dk_at dksX0_item_1 15 rfl rfl)
theorem dX0_item_39 : decode cX0_item 39 = .ok (.invokevirtual 231, 3) := dk_182 0 231 (dk_at dksX0_item_1 17 rfl rfl)
theorem dX0_item_42 : decode cX0_item 42 = .ok (.pop, 1) := dk_87 (dk_at dksX0_item_1 20 rfl rfl)
theorem dX0_item_43 : decode cX0_item 43 = .ok (.sipush (-2001), 3) := dk_17 248 47 (dk_at dksX0_item_1 21 rfl rfl)
theorem dX0_item_46 : decode cX0_item 46 = .ok (.ireturn, 1) := dk_172 (dk_at dksX0_item_2 0 rfl rfl)
theorem dX0_item_47 : decode cX0_item 47 = .ok (.astore_n 3, 1) := dk_78 (dk_at dksX0_item_2 1 rfl rfl)
theorem dX0_item_48 : decode cX0_item 48 = .ok (.aload_n 0, 1) := dk_42 (dk_at dksX0_item_2 2 rfl rfl)
theorem dX0_item_49 : decode cX0_item 49 = .ok (.bipush (-12), 2) := dk_16 244 (dk_at dksX0_item_2 3 rfl rfl)
theorem dX0_item_51 : decode cX0_item 51 = .ok (.invokevirtual 231, 3) := dk_182 0 231 (dk_at dksX0_item_2 5 rfl rfl)
theorem dX0_item_54 : decode cX0_item 54 = .ok (.pop, 1) := dk_87 (dk_at dksX0_item_2 8 rfl rfl)
theorem dX0_item_55 : decode cX0_item 55 = .ok (.sipush (-2002), 3) := dk_17 248 46 (dk_at dksX0_item_2 9 rfl rfl)
theorem dX0_item_58 : decode cX0_item 58 = .ok (.ireturn, 1) := dk_172 (dk_at dksX0_item_2 12 rfl rfl)
abbrev cX0_lift : ByteArray := prog_1_method_65_code
def yX0_lift : MethodName := ⟨RX0, "lift", "(III)I"⟩
def dkwX0_lift_2 : List UInt8 := [182, 0, 231, 172]
abbrev dktX0_lift_2 : List UInt8 := dkwX0_lift_2 ++ []
def dkwX0_lift_1 : List UInt8 := [182, 1, 163, 42, 4, 182, 0, 128, 172, 58, 4, 42, 16, 245, 182, 0, 231, 172, 58, 4, 42, 16, 244]
abbrev dktX0_lift_1 : List UInt8 := dkwX0_lift_1 ++ dktX0_lift_2
def dkwX0_lift_0 : List UInt8 := [27, 3, 6, 184, 0, 107, 154, 0, 10, 42, 16, 254, 182, 0, 120, 172, 42, 180, 0, 72, 27, 50, 28, 29]
abbrev dktX0_lift_0 : List UInt8 := dkwX0_lift_0 ++ dktX0_lift_1
theorem dksX0_lift_0 : cX0_lift.data.toList.drop 0 = dktX0_lift_0 := by decide +kernel
theorem dksX0_lift_1 : cX0_lift.data.toList.drop 24 = dktX0_lift_1 := dk_seg dksX0_lift_0 24 rfl rfl
theorem dksX0_lift_2 : cX0_lift.data.toList.drop 47 = dktX0_lift_2 := dk_seg dksX0_lift_1 23 rfl rfl
theorem dX0_lift_0 : decode cX0_lift 0 = .ok (.iload_n 1, 1) := dk_27 (dk_at dksX0_lift_0 0 rfl rfl)
theorem dX0_lift_1 : decode cX0_lift 1 = .ok (.iconst 0, 1) := dk_3 (dk_at dksX0_lift_0 1 rfl rfl)
theorem dX0_lift_2 : decode cX0_lift 2 = .ok (.iconst 3, 1) := dk_6 (dk_at dksX0_lift_0 2 rfl rfl)
theorem dX0_lift_3 : decode cX0_lift 3 = .ok (.invokestatic 107, 3) := dk_184 0 107 (dk_at dksX0_lift_0 3 rfl rfl)
theorem dX0_lift_6 : decode cX0_lift 6 = .ok (.ifCond .ne 10, 3) := dk_154 0 10 (dk_at dksX0_lift_0 6 rfl rfl)
theorem dX0_lift_9 : decode cX0_lift 9 = .ok (.aload_n 0, 1) := dk_42 (dk_at dksX0_lift_0 9 rfl rfl)
theorem dX0_lift_10 : decode cX0_lift 10 = .ok (.bipush (-2), 2) := dk_16 254 (dk_at dksX0_lift_0 10 rfl rfl)
theorem dX0_lift_12 : decode cX0_lift 12 = .ok (.invokevirtual 120, 3) := dk_182 0 120 (dk_at dksX0_lift_0 12 rfl rfl)
theorem dX0_lift_15 : decode cX0_lift 15 = .ok (.ireturn, 1) := dk_172 (dk_at dksX0_lift_0 15 rfl rfl)
theorem dX0_lift_16 : decode cX0_lift 16 = .ok (.aload_n 0, 1) := dk_42 (dk_at dksX0_lift_0 16 rfl rfl)
theorem dX0_lift_17 : decode cX0_lift 17 = .ok (.getfield 72, 3) := dk_180 0 72 (dk_at dksX0_lift_0 17 rfl rfl)
theorem dX0_lift_20 : decode cX0_lift 20 = .ok (.iload_n 1, 1) := dk_27 (dk_at dksX0_lift_0 20 rfl rfl)
theorem dX0_lift_21 : decode cX0_lift 21 = .ok (.aaload, 1) := dk_50 (dk_at dksX0_lift_0 21 rfl rfl)
theorem dX0_lift_22 : decode cX0_lift 22 = .ok (.iload_n 2, 1) := dk_28 (dk_at dksX0_lift_0 22 rfl rfl)
theorem dX0_lift_23 : decode cX0_lift 23 = .ok (.iload_n 3, 1) := dk_29 (dk_at dksX0_lift_0 23 rfl rfl)
theorem dX0_lift_24 : decode cX0_lift 24 = .ok (.invokevirtual 419, 3) := dk_182 1 163 (dk_at dksX0_lift_1 0 rfl rfl)
theorem dX0_lift_27 : decode cX0_lift 27 = .ok (.aload_n 0, 1) := dk_42 (dk_at dksX0_lift_1 3 rfl rfl)
theorem dX0_lift_28 : decode cX0_lift 28 = .ok (.iconst 1, 1) := dk_4 (dk_at dksX0_lift_1 4 rfl rfl)
theorem dX0_lift_29 : decode cX0_lift 29 = .ok (.invokevirtual 128, 3) := dk_182 0 128 (dk_at dksX0_lift_1 5 rfl rfl)
theorem dX0_lift_32 : decode cX0_lift 32 = .ok (.ireturn, 1) := dk_172 (dk_at dksX0_lift_1 8 rfl rfl)
theorem dX0_lift_33 : decode cX0_lift 33 = .ok (.astore 4, 2) := dk_58 4 (dk_at dksX0_lift_1 9 rfl rfl)
theorem dX0_lift_35 : decode cX0_lift 35 = .ok (.aload_n 0, 1) := dk_42 (dk_at dksX0_lift_1 11 rfl rfl)
theorem dX0_lift_36 : decode cX0_lift 36 = .ok (.bipush (-11), 2) := dk_16 245 (dk_at dksX0_lift_1 12 rfl rfl)
theorem dX0_lift_38 : decode cX0_lift 38 = .ok (.invokevirtual 231, 3) := dk_182 0 231 (dk_at dksX0_lift_1 14 rfl rfl)
theorem dX0_lift_41 : decode cX0_lift 41 = .ok (.ireturn, 1) := dk_172 (dk_at dksX0_lift_1 17 rfl rfl)
theorem dX0_lift_42 : decode cX0_lift 42 = .ok (.astore 4, 2) := dk_58 4 (dk_at dksX0_lift_1 18 rfl rfl)
theorem dX0_lift_44 : decode cX0_lift 44 = .ok (.aload_n 0, 1) := dk_42 (dk_at dksX0_lift_1 20 rfl rfl)
theorem dX0_lift_45 : decode cX0_lift 45 = .ok (.bipush (-12), 2) := dk_16 244 (dk_at dksX0_lift_1 21 rfl rfl)
theorem dX0_lift_47 : decode cX0_lift 47 = .ok (.invokevirtual 231, 3) := dk_182 0 231 (dk_at dksX0_lift_2 0 rfl rfl)
theorem dX0_lift_50 : decode cX0_lift 50 = .ok (.ireturn, 1) := dk_172 (dk_at dksX0_lift_2 3 rfl rfl)
abbrev cX0_copy : ByteArray := prog_1_method_66_code
def yX0_copy : MethodName := ⟨RX0, "copy", "(IIIII)I"⟩
def dkwX0_copy_3 : List UInt8 := [42, 16, 244, 182, 0, 231, 172]
abbrev dktX0_copy_3 : List UInt8 := dkwX0_copy_3 ++ []
def dkwX0_copy_2 : List UInt8 := [182, 0, 128, 172, 58, 6, 42, 16, 245, 182, 0, 231, 172, 58, 6, 42, 16, 243, 182, 0, 231, 172, 58, 6]
abbrev dktX0_copy_2 : List UInt8 := dkwX0_copy_2 ++ dktX0_copy_3
def dkwX0_copy_1 : List UInt8 := [172, 42, 180, 0, 72, 27, 50, 28, 42, 180, 0, 72, 29, 50, 21, 4, 21, 5, 182, 1, 169, 42, 21, 5]
abbrev dktX0_copy_1 : List UInt8 := dkwX0_copy_1 ++ dktX0_copy_2
def dkwX0_copy_0 : List UInt8 := [27, 3, 6, 184, 0, 107, 153, 0, 12, 29, 3, 6, 184, 0, 107, 154, 0, 10, 42, 16, 254, 182, 0, 120]
abbrev dktX0_copy_0 : List UInt8 := dkwX0_copy_0 ++ dktX0_copy_1
theorem dksX0_copy_0 : cX0_copy.data.toList.drop 0 = dktX0_copy_0 := by decide +kernel
theorem dksX0_copy_1 : cX0_copy.data.toList.drop 24 = dktX0_copy_1 := dk_seg dksX0_copy_0 24 rfl rfl
theorem dksX0_copy_2 : cX0_copy.data.toList.drop 48 = dktX0_copy_2 := dk_seg dksX0_copy_1 24 rfl rfl
theorem dksX0_copy_3 : cX0_copy.data.toList.drop 72 = dktX0_copy_3 := dk_seg dksX0_copy_2 24 rfl rfl
theorem dX0_copy_0 : decode cX0_copy 0 = .ok (.iload_n 1, 1) := dk_27 (dk_at dksX0_copy_0 0 rfl rfl)
theorem dX0_copy_1 : decode cX0_copy 1 = .ok (.iconst 0, 1) := dk_3 (dk_at dksX0_copy_0 1 rfl rfl)
theorem dX0_copy_2 : decode cX0_copy 2 = .ok (.iconst 3, 1) := dk_6 (dk_at dksX0_copy_0 2 rfl rfl)
theorem dX0_copy_3 : decode cX0_copy 3 = .ok (.invokestatic 107, 3) := dk_184 0 107 (dk_at dksX0_copy_0 3 rfl rfl)
theorem dX0_copy_6 : decode cX0_copy 6 = .ok (.ifCond .eq 12, 3) := dk_153 0 12 (dk_at dksX0_copy_0 6 rfl rfl)
theorem dX0_copy_9 : decode cX0_copy 9 = .ok (.iload_n 3, 1) := dk_29 (dk_at dksX0_copy_0 9 rfl rfl)
theorem dX0_copy_10 : decode cX0_copy 10 = .ok (.iconst 0, 1) := dk_3 (dk_at dksX0_copy_0 10 rfl rfl)
theorem dX0_copy_11 : decode cX0_copy 11 = .ok (.iconst 3, 1) := dk_6 (dk_at dksX0_copy_0 11 rfl rfl)
theorem dX0_copy_12 : decode cX0_copy 12 = .ok (.invokestatic 107, 3) := dk_184 0 107 (dk_at dksX0_copy_0 12 rfl rfl)
theorem dX0_copy_15 : decode cX0_copy 15 = .ok (.ifCond .ne 10, 3) := dk_154 0 10 (dk_at dksX0_copy_0 15 rfl rfl)
theorem dX0_copy_18 : decode cX0_copy 18 = .ok (.aload_n 0, 1) := dk_42 (dk_at dksX0_copy_0 18 rfl rfl)
theorem dX0_copy_19 : decode cX0_copy 19 = .ok (.bipush (-2), 2) := dk_16 254 (dk_at dksX0_copy_0 19 rfl rfl)
theorem dX0_copy_21 : decode cX0_copy 21 = .ok (.invokevirtual 120, 3) := dk_182 0 120 (dk_at dksX0_copy_0 21 rfl rfl)
theorem dX0_copy_24 : decode cX0_copy 24 = .ok (.ireturn, 1) := dk_172 (dk_at dksX0_copy_1 0 rfl rfl)
theorem dX0_copy_25 : decode cX0_copy 25 = .ok (.aload_n 0, 1) := dk_42 (dk_at dksX0_copy_1 1 rfl rfl)
theorem dX0_copy_26 : decode cX0_copy 26 = .ok (.getfield 72, 3) := dk_180 0 72 (dk_at dksX0_copy_1 2 rfl rfl)
theorem dX0_copy_29 : decode cX0_copy 29 = .ok (.iload_n 1, 1) := dk_27 (dk_at dksX0_copy_1 5 rfl rfl)
theorem dX0_copy_30 : decode cX0_copy 30 = .ok (.aaload, 1) := dk_50 (dk_at dksX0_copy_1 6 rfl rfl)
theorem dX0_copy_31 : decode cX0_copy 31 = .ok (.iload_n 2, 1) := dk_28 (dk_at dksX0_copy_1 7 rfl rfl)
theorem dX0_copy_32 : decode cX0_copy 32 = .ok (.aload_n 0, 1) := dk_42 (dk_at dksX0_copy_1 8 rfl rfl)
theorem dX0_copy_33 : decode cX0_copy 33 = .ok (.getfield 72, 3) := dk_180 0 72 (dk_at dksX0_copy_1 9 rfl rfl)
theorem dX0_copy_36 : decode cX0_copy 36 = .ok (.iload_n 3, 1) := dk_29 (dk_at dksX0_copy_1 12 rfl rfl)
theorem dX0_copy_37 : decode cX0_copy 37 = .ok (.aaload, 1) := dk_50 (dk_at dksX0_copy_1 13 rfl rfl)
theorem dX0_copy_38 : decode cX0_copy 38 = .ok (.iload 4, 2) := dk_21 4 (dk_at dksX0_copy_1 14 rfl rfl)
theorem dX0_copy_40 : decode cX0_copy 40 = .ok (.iload 5, 2) := dk_21 5 (dk_at dksX0_copy_1 16 rfl rfl)
theorem dX0_copy_42 : decode cX0_copy 42 = .ok (.invokevirtual 425, 3) := dk_182 1 169 (dk_at dksX0_copy_1 18 rfl rfl)
theorem dX0_copy_45 : decode cX0_copy 45 = .ok (.aload_n 0, 1) := dk_42 (dk_at dksX0_copy_1 21 rfl rfl)
theorem dX0_copy_46 : decode cX0_copy 46 = .ok (.iload 5, 2) := dk_21 5 (dk_at dksX0_copy_1 22 rfl rfl)
theorem dX0_copy_48 : decode cX0_copy 48 = .ok (.invokevirtual 128, 3) := dk_182 0 128 (dk_at dksX0_copy_2 0 rfl rfl)
theorem dX0_copy_51 : decode cX0_copy 51 = .ok (.ireturn, 1) := dk_172 (dk_at dksX0_copy_2 3 rfl rfl)
theorem dX0_copy_52 : decode cX0_copy 52 = .ok (.astore 6, 2) := dk_58 6 (dk_at dksX0_copy_2 4 rfl rfl)
theorem dX0_copy_54 : decode cX0_copy 54 = .ok (.aload_n 0, 1) := dk_42 (dk_at dksX0_copy_2 6 rfl rfl)
theorem dX0_copy_55 : decode cX0_copy 55 = .ok (.bipush (-11), 2) := dk_16 245 (dk_at dksX0_copy_2 7 rfl rfl)
theorem dX0_copy_57 : decode cX0_copy 57 = .ok (.invokevirtual 231, 3) := dk_182 0 231 (dk_at dksX0_copy_2 9 rfl rfl)
theorem dX0_copy_60 : decode cX0_copy 60 = .ok (.ireturn, 1) := dk_172 (dk_at dksX0_copy_2 12 rfl rfl)
theorem dX0_copy_61 : decode cX0_copy 61 = .ok (.astore 6, 2) := dk_58 6 (dk_at dksX0_copy_2 13 rfl rfl)
theorem dX0_copy_63 : decode cX0_copy 63 = .ok (.aload_n 0, 1) := dk_42 (dk_at dksX0_copy_2 15 rfl rfl)
theorem dX0_copy_64 : decode cX0_copy 64 = .ok (.bipush (-13), 2) := dk_16 243 (dk_at dksX0_copy_2 16 rfl rfl)
theorem dX0_copy_66 : decode cX0_copy 66 = .ok (.invokevirtual 231, 3) := dk_182 0 231 (dk_at dksX0_copy_2 18 rfl rfl)
theorem dX0_copy_69 : decode cX0_copy 69 = .ok (.ireturn, 1) := dk_172 (dk_at dksX0_copy_2 21 rfl rfl)
theorem dX0_copy_70 : decode cX0_copy 70 = .ok (.astore 6, 2) := dk_58 6 (dk_at dksX0_copy_2 22 rfl rfl)
theorem dX0_copy_72 : decode cX0_copy 72 = .ok (.aload_n 0, 1) := dk_42 (dk_at dksX0_copy_3 0 rfl rfl)
theorem dX0_copy_73 : decode cX0_copy 73 = .ok (.bipush (-12), 2) := dk_16 244 (dk_at dksX0_copy_3 1 rfl rfl)
theorem dX0_copy_75 : decode cX0_copy 75 = .ok (.invokevirtual 231, 3) := dk_182 0 231 (dk_at dksX0_copy_3 3 rfl rfl)
theorem dX0_copy_78 : decode cX0_copy 78 = .ok (.ireturn, 1) := dk_172 (dk_at dksX0_copy_3 6 rfl rfl)
abbrev cX0_play : ByteArray := prog_1_method_67_code
def yX0_play : MethodName := ⟨RX0, "play", "(II)I"⟩
def dkwX0_play_5 : List UInt8 := [16, 245, 182, 0, 231, 87, 167, 0, 12, 58, 5, 42, 16, 244, 182, 0, 231, 87, 21, 4, 172]
abbrev dktX0_play_5 : List UInt8 := dkwX0_play_5 ++ []
def dkwX0_play_4 : List UInt8 := [100, 42, 180, 0, 86, 182, 0, 250, 132, 4, 1, 132, 5, 1, 167, 255, 189, 167, 0, 24, 58, 5, 42]
abbrev dktX0_play_4 : List UInt8 := dkwX0_play_4 ++ dktX0_play_5
def dkwX0_play_3 : List UInt8 := [192, 0, 142, 58, 6, 25, 6, 42, 180, 0, 72, 27, 50, 21, 4, 182, 1, 166, 25, 6, 3, 182, 0, 235]
abbrev dktX0_play_3 : List UInt8 := dkwX0_play_3 ++ dktX0_play_4
def dkwX0_play_2 : List UInt8 := [162, 0, 64, 45, 180, 0, 162, 21, 5, 50, 193, 0, 142, 153, 0, 45, 45, 180, 0, 162, 21, 5, 50]
abbrev dktX0_play_2 : List UInt8 := dkwX0_play_2 ++ dktX0_play_3
def dkwX0_play_1 : List UInt8 := [42, 180, 0, 43, 28, 50, 78, 3, 54, 4, 42, 3, 181, 0, 100, 3, 54, 5, 21, 5, 45, 180, 0, 159]
abbrev dktX0_play_1 : List UInt8 := dkwX0_play_1 ++ dktX0_play_2
def dkwX0_play_0 : List UInt8 := [27, 3, 6, 184, 0, 107, 153, 0, 11, 42, 28, 182, 0, 168, 154, 0, 10, 42, 16, 254, 182, 0, 120, 172]
abbrev dktX0_play_0 : List UInt8 := dkwX0_play_0 ++ dktX0_play_1
theorem dksX0_play_0 : cX0_play.data.toList.drop 0 = dktX0_play_0 := by decide +kernel
theorem dksX0_play_1 : cX0_play.data.toList.drop 24 = dktX0_play_1 := dk_seg dksX0_play_0 24 rfl rfl
theorem dksX0_play_2 : cX0_play.data.toList.drop 48 = dktX0_play_2 := dk_seg dksX0_play_1 24 rfl rfl
theorem dksX0_play_3 : cX0_play.data.toList.drop 71 = dktX0_play_3 := dk_seg dksX0_play_2 23 rfl rfl
theorem dksX0_play_4 : cX0_play.data.toList.drop 95 = dktX0_play_4 := dk_seg dksX0_play_3 24 rfl rfl
theorem dksX0_play_5 : cX0_play.data.toList.drop 118 = dktX0_play_5 := dk_seg dksX0_play_4 23 rfl rfl
theorem dX0_play_0 : decode cX0_play 0 = .ok (.iload_n 1, 1) := dk_27 (dk_at dksX0_play_0 0 rfl rfl)
theorem dX0_play_1 : decode cX0_play 1 = .ok (.iconst 0, 1) := dk_3 (dk_at dksX0_play_0 1 rfl rfl)
theorem dX0_play_2 : decode cX0_play 2 = .ok (.iconst 3, 1) := dk_6 (dk_at dksX0_play_0 2 rfl rfl)
theorem dX0_play_3 : decode cX0_play 3 = .ok (.invokestatic 107, 3) := dk_184 0 107 (dk_at dksX0_play_0 3 rfl rfl)
theorem dX0_play_6 : decode cX0_play 6 = .ok (.ifCond .eq 11, 3) := dk_153 0 11 (dk_at dksX0_play_0 6 rfl rfl)
theorem dX0_play_9 : decode cX0_play 9 = .ok (.aload_n 0, 1) := dk_42 (dk_at dksX0_play_0 9 rfl rfl)
theorem dX0_play_10 : decode cX0_play 10 = .ok (.iload_n 2, 1) := dk_28 (dk_at dksX0_play_0 10 rfl rfl)
theorem dX0_play_11 : decode cX0_play 11 = .ok (.invokevirtual 168, 3) := dk_182 0 168 (dk_at dksX0_play_0 11 rfl rfl)
theorem dX0_play_14 : decode cX0_play 14 = .ok (.ifCond .ne 10, 3) := dk_154 0 10 (dk_at dksX0_play_0 14 rfl rfl)
theorem dX0_play_17 : decode cX0_play 17 = .ok (.aload_n 0, 1) := dk_42 (dk_at dksX0_play_0 17 rfl rfl)
theorem dX0_play_18 : decode cX0_play 18 = .ok (.bipush (-2), 2) := dk_16 254 (dk_at dksX0_play_0 18 rfl rfl)
theorem dX0_play_20 : decode cX0_play 20 = .ok (.invokevirtual 120, 3) := dk_182 0 120 (dk_at dksX0_play_0 20 rfl rfl)
theorem dX0_play_23 : decode cX0_play 23 = .ok (.ireturn, 1) := dk_172 (dk_at dksX0_play_0 23 rfl rfl)
theorem dX0_play_24 : decode cX0_play 24 = .ok (.aload_n 0, 1) := dk_42 (dk_at dksX0_play_1 0 rfl rfl)
theorem dX0_play_25 : decode cX0_play 25 = .ok (.getfield 43, 3) := dk_180 0 43 (dk_at dksX0_play_1 1 rfl rfl)
theorem dX0_play_28 : decode cX0_play 28 = .ok (.iload_n 2, 1) := dk_28 (dk_at dksX0_play_1 4 rfl rfl)
theorem dX0_play_29 : decode cX0_play 29 = .ok (.aaload, 1) := dk_50 (dk_at dksX0_play_1 5 rfl rfl)
theorem dX0_play_30 : decode cX0_play 30 = .ok (.astore_n 3, 1) := dk_78 (dk_at dksX0_play_1 6 rfl rfl)
theorem dX0_play_31 : decode cX0_play 31 = .ok (.iconst 0, 1) := dk_3 (dk_at dksX0_play_1 7 rfl rfl)
theorem dX0_play_32 : decode cX0_play 32 = .ok (.istore 4, 2) := dk_54 4 (dk_at dksX0_play_1 8 rfl rfl)
theorem dX0_play_34 : decode cX0_play 34 = .ok (.aload_n 0, 1) := dk_42 (dk_at dksX0_play_1 10 rfl rfl)
theorem dX0_play_35 : decode cX0_play 35 = .ok (.iconst 0, 1) := dk_3 (dk_at dksX0_play_1 11 rfl rfl)
theorem dX0_play_36 : decode cX0_play 36 = .ok (.putfield 100, 3) := dk_181 0 100 (dk_at dksX0_play_1 12 rfl rfl)
theorem dX0_play_39 : decode cX0_play 39 = .ok (.iconst 0, 1) := dk_3 (dk_at dksX0_play_1 15 rfl rfl)
theorem dX0_play_40 : decode cX0_play 40 = .ok (.istore 5, 2) := dk_54 5 (dk_at dksX0_play_1 16 rfl rfl)
theorem dX0_play_42 : decode cX0_play 42 = .ok (.iload 5, 2) := dk_21 5 (dk_at dksX0_play_1 18 rfl rfl)
theorem dX0_play_44 : decode cX0_play 44 = .ok (.aload_n 3, 1) := dk_45 (dk_at dksX0_play_1 20 rfl rfl)
theorem dX0_play_45 : decode cX0_play 45 = .ok (.getfield 159, 3) := dk_180 0 159 (dk_at dksX0_play_1 21 rfl rfl)
theorem dX0_play_48 : decode cX0_play 48 = .ok (.if_icmp .ge 64, 3) := dk_162 0 64 (dk_at dksX0_play_2 0 rfl rfl)
theorem dX0_play_51 : decode cX0_play 51 = .ok (.aload_n 3, 1) := dk_45 (dk_at dksX0_play_2 3 rfl rfl)
theorem dX0_play_52 : decode cX0_play 52 = .ok (.getfield 162, 3) := dk_180 0 162 (dk_at dksX0_play_2 4 rfl rfl)
theorem dX0_play_55 : decode cX0_play 55 = .ok (.iload 5, 2) := dk_21 5 (dk_at dksX0_play_2 7 rfl rfl)
theorem dX0_play_57 : decode cX0_play 57 = .ok (.aaload, 1) := dk_50 (dk_at dksX0_play_2 9 rfl rfl)
theorem dX0_play_58 : decode cX0_play 58 = .ok (.instanceof 142, 3) := dk_193 0 142 (dk_at dksX0_play_2 10 rfl rfl)
theorem dX0_play_61 : decode cX0_play 61 = .ok (.ifCond .eq 45, 3) := dk_153 0 45 (dk_at dksX0_play_2 13 rfl rfl)
theorem dX0_play_64 : decode cX0_play 64 = .ok (.aload_n 3, 1) := dk_45 (dk_at dksX0_play_2 16 rfl rfl)
theorem dX0_play_65 : decode cX0_play 65 = .ok (.getfield 162, 3) := dk_180 0 162 (dk_at dksX0_play_2 17 rfl rfl)
theorem dX0_play_68 : decode cX0_play 68 = .ok (.iload 5, 2) := dk_21 5 (dk_at dksX0_play_2 20 rfl rfl)
theorem dX0_play_70 : decode cX0_play 70 = .ok (.aaload, 1) := dk_50 (dk_at dksX0_play_2 22 rfl rfl)
theorem dX0_play_71 : decode cX0_play 71 = .ok (.checkcast 142, 3) := dk_192 0 142 (dk_at dksX0_play_3 0 rfl rfl)
theorem dX0_play_74 : decode cX0_play 74 = .ok (.astore 6, 2) := dk_58 6 (dk_at dksX0_play_3 3 rfl rfl)
theorem dX0_play_76 : decode cX0_play 76 = .ok (.aload 6, 2) := dk_25 6 (dk_at dksX0_play_3 5 rfl rfl)
theorem dX0_play_78 : decode cX0_play 78 = .ok (.aload_n 0, 1) := dk_42 (dk_at dksX0_play_3 7 rfl rfl)
theorem dX0_play_79 : decode cX0_play 79 = .ok (.getfield 72, 3) := dk_180 0 72 (dk_at dksX0_play_3 8 rfl rfl)
theorem dX0_play_82 : decode cX0_play 82 = .ok (.iload_n 1, 1) := dk_27 (dk_at dksX0_play_3 11 rfl rfl)
theorem dX0_play_83 : decode cX0_play 83 = .ok (.aaload, 1) := dk_50 (dk_at dksX0_play_3 12 rfl rfl)
theorem dX0_play_84 : decode cX0_play 84 = .ok (.iload 4, 2) := dk_21 4 (dk_at dksX0_play_3 13 rfl rfl)
theorem dX0_play_86 : decode cX0_play 86 = .ok (.invokevirtual 422, 3) := dk_182 1 166 (dk_at dksX0_play_3 15 rfl rfl)
theorem dX0_play_89 : decode cX0_play 89 = .ok (.aload 6, 2) := dk_25 6 (dk_at dksX0_play_3 18 rfl rfl)
theorem dX0_play_91 : decode cX0_play 91 = .ok (.iconst 0, 1) := dk_3 (dk_at dksX0_play_3 20 rfl rfl)
theorem dX0_play_92 : decode cX0_play 92 = .ok (.invokevirtual 235, 3) := dk_182 0 235 (dk_at dksX0_play_3 21 rfl rfl)
theorem dX0_play_95 : decode cX0_play 95 = .ok (.isub, 1) := dk_100 (dk_at dksX0_play_4 0 rfl rfl)
theorem dX0_play_96 : decode cX0_play 96 = .ok (.aload_n 0, 1) := dk_42 (dk_at dksX0_play_4 1 rfl rfl)
theorem dX0_play_97 : decode cX0_play 97 = .ok (.getfield 86, 3) := dk_180 0 86 (dk_at dksX0_play_4 2 rfl rfl)
theorem dX0_play_100 : decode cX0_play 100 = .ok (.invokevirtual 250, 3) := dk_182 0 250 (dk_at dksX0_play_4 5 rfl rfl)
theorem dX0_play_103 : decode cX0_play 103 = .ok (.iinc 4 1, 3) := dk_132 4 1 (dk_at dksX0_play_4 8 rfl rfl)
theorem dX0_play_106 : decode cX0_play 106 = .ok (.iinc 5 1, 3) := dk_132 5 1 (dk_at dksX0_play_4 11 rfl rfl)
theorem dX0_play_109 : decode cX0_play 109 = .ok (.goto (-67), 3) := dk_167 255 189 (dk_at dksX0_play_4 14 rfl rfl)
theorem dX0_play_112 : decode cX0_play 112 = .ok (.goto 24, 3) := dk_167 0 24 (dk_at dksX0_play_4 17 rfl rfl)
theorem dX0_play_115 : decode cX0_play 115 = .ok (.astore 5, 2) := dk_58 5 (dk_at dksX0_play_4 20 rfl rfl)
theorem dX0_play_117 : decode cX0_play 117 = .ok (.aload_n 0, 1) := dk_42 (dk_at dksX0_play_4 22 rfl rfl)
theorem dX0_play_118 : decode cX0_play 118 = .ok (.bipush (-11), 2) := dk_16 245 (dk_at dksX0_play_5 0 rfl rfl)
theorem dX0_play_120 : decode cX0_play 120 = .ok (.invokevirtual 231, 3) := dk_182 0 231 (dk_at dksX0_play_5 2 rfl rfl)
theorem dX0_play_123 : decode cX0_play 123 = .ok (.pop, 1) := dk_87 (dk_at dksX0_play_5 5 rfl rfl)
theorem dX0_play_124 : decode cX0_play 124 = .ok (.goto 12, 3) := dk_167 0 12 (dk_at dksX0_play_5 6 rfl rfl)
theorem dX0_play_127 : decode cX0_play 127 = .ok (.astore 5, 2) := dk_58 5 (dk_at dksX0_play_5 9 rfl rfl)
theorem dX0_play_129 : decode cX0_play 129 = .ok (.aload_n 0, 1) := dk_42 (dk_at dksX0_play_5 11 rfl rfl)
theorem dX0_play_130 : decode cX0_play 130 = .ok (.bipush (-12), 2) := dk_16 244 (dk_at dksX0_play_5 12 rfl rfl)
theorem dX0_play_132 : decode cX0_play 132 = .ok (.invokevirtual 231, 3) := dk_182 0 231 (dk_at dksX0_play_5 14 rfl rfl)
theorem dX0_play_135 : decode cX0_play 135 = .ok (.pop, 1) := dk_87 (dk_at dksX0_play_5 17 rfl rfl)
theorem dX0_play_136 : decode cX0_play 136 = .ok (.iload 4, 2) := dk_21 4 (dk_at dksX0_play_5 18 rfl rfl)
theorem dX0_play_138 : decode cX0_play 138 = .ok (.ireturn, 1) := dk_172 (dk_at dksX0_play_5 20 rfl rfl)
abbrev cX0_failures : ByteArray := prog_1_method_68_code
def yX0_failures : MethodName := ⟨RX0, "failures", "(I)I"⟩
def dkwX0_failures_0 : List UInt8 := [27, 3, 7, 184, 0, 107, 153, 0, 12, 42, 180, 0, 83, 27, 46, 167, 0, 5, 16, 254, 172]
abbrev dktX0_failures_0 : List UInt8 := dkwX0_failures_0 ++ []
theorem dksX0_failures_0 : cX0_failures.data.toList.drop 0 = dktX0_failures_0 := by decide +kernel
theorem dX0_failures_0 : decode cX0_failures 0 = .ok (.iload_n 1, 1) := dk_27 (dk_at dksX0_failures_0 0 rfl rfl)
theorem dX0_failures_1 : decode cX0_failures 1 = .ok (.iconst 0, 1) := dk_3 (dk_at dksX0_failures_0 1 rfl rfl)
theorem dX0_failures_2 : decode cX0_failures 2 = .ok (.iconst 4, 1) := dk_7 (dk_at dksX0_failures_0 2 rfl rfl)
theorem dX0_failures_3 : decode cX0_failures 3 = .ok (.invokestatic 107, 3) := dk_184 0 107 (dk_at dksX0_failures_0 3 rfl rfl)
theorem dX0_failures_6 : decode cX0_failures 6 = .ok (.ifCond .eq 12, 3) := dk_153 0 12 (dk_at dksX0_failures_0 6 rfl rfl)
theorem dX0_failures_9 : decode cX0_failures 9 = .ok (.aload_n 0, 1) := dk_42 (dk_at dksX0_failures_0 9 rfl rfl)
theorem dX0_failures_10 : decode cX0_failures 10 = .ok (.getfield 83, 3) := dk_180 0 83 (dk_at dksX0_failures_0 10 rfl rfl)
theorem dX0_failures_13 : decode cX0_failures 13 = .ok (.iload_n 1, 1) := dk_27 (dk_at dksX0_failures_0 13 rfl rfl)
theorem dX0_failures_14 : decode cX0_failures 14 = .ok (.iaload, 1) := dk_46 (dk_at dksX0_failures_0 14 rfl rfl)
theorem dX0_failures_15 : decode cX0_failures 15 = .ok (.goto 5, 3) := dk_167 0 5 (dk_at dksX0_failures_0 15 rfl rfl)
theorem dX0_failures_18 : decode cX0_failures 18 = .ok (.bipush (-2), 2) := dk_16 254 (dk_at dksX0_failures_0 18 rfl rfl)
theorem dX0_failures_20 : decode cX0_failures 20 = .ok (.ireturn, 1) := dk_172 (dk_at dksX0_failures_0 20 rfl rfl)
abbrev cX0_status : ByteArray := prog_1_method_69_code
def yX0_status : MethodName := ⟨RX0, "status", "()I"⟩
theorem dX0_status_0 : decode cX0_status 0 = .ok (.aload_n 0, 1) := by decide +kernel
theorem dX0_status_1 : decode cX0_status 1 = .ok (.getfield 100, 3) := by decide +kernel
theorem dX0_status_4 : decode cX0_status 4 = .ok (.ireturn, 1) := by decide +kernel
abbrev cX0_trace : ByteArray := prog_1_method_70_code
def yX0_trace : MethodName := ⟨RX0, "trace", "()J"⟩
theorem dX0_trace_0 : decode cX0_trace 0 = .ok (.aload_n 0, 1) := by decide +kernel
theorem dX0_trace_1 : decode cX0_trace 1 = .ok (.getfield 429, 3) := by decide +kernel
theorem dX0_trace_4 : decode cX0_trace 4 = .ok (.lreturn, 1) := by decide +kernel
abbrev cX0_count : ByteArray := prog_1_method_71_code
def yX0_count : MethodName := ⟨RX0, "count", "(I)I"⟩
def dkwX0_count_6 : List UInt8 := [16, 254, 172]
abbrev dktX0_count_6 : List UInt8 := dkwX0_count_6 ++ []
def dkwX0_count_5 : List UInt8 := [50, 198, 0, 7, 4, 167, 0, 4, 3, 96, 61, 132, 3, 1, 167, 255, 228, 28, 172, 42, 180, 1, 111, 172]
abbrev dktX0_count_5 : List UInt8 := dkwX0_count_5 ++ dktX0_count_6
def dkwX0_count_4 : List UInt8 := [132, 3, 1, 167, 255, 228, 28, 172, 3, 62, 29, 42, 180, 0, 117, 162, 0, 26, 28, 42, 180, 0, 61, 29]
abbrev dktX0_count_4 : List UInt8 := dkwX0_count_4 ++ dktX0_count_5
def dkwX0_count_3 : List UInt8 := [180, 0, 114, 162, 0, 26, 28, 42, 180, 0, 55, 29, 50, 198, 0, 7, 4, 167, 0, 4, 3, 96, 61]
abbrev dktX0_count_3 : List UInt8 := dkwX0_count_3 ++ dktX0_count_4
def dkwX0_count_2 : List UInt8 := [42, 180, 0, 104, 172, 42, 180, 0, 131, 172, 42, 180, 0, 204, 172, 42, 180, 0, 111, 172, 3, 62, 29, 42]
abbrev dktX0_count_2 : List UInt8 := dkwX0_count_2 ++ dktX0_count_3
def dkwX0_count_1 : List UInt8 := [170, 0, 0, 0, 136, 0, 0, 0, 0, 0, 0, 0, 6, 0, 0, 0, 41, 0, 0, 0, 46, 0, 0, 0, 51, 0, 0, 0, 56, 0, 0, 0, 61, 0, 0, 0, 96, 0, 0, 0, 131]
abbrev dktX0_count_1 : List UInt8 := dkwX0_count_1 ++ dktX0_count_2
def dkwX0_count_0 : List UInt8 := [3, 61, 27]
abbrev dktX0_count_0 : List UInt8 := dkwX0_count_0 ++ dktX0_count_1
theorem dksX0_count_0 : cX0_count.data.toList.drop 0 = dktX0_count_0 := by decide +kernel
theorem dksX0_count_1 : cX0_count.data.toList.drop 3 = dktX0_count_1 := dk_seg dksX0_count_0 3 rfl rfl
theorem dksX0_count_2 : cX0_count.data.toList.drop 44 = dktX0_count_2 := dk_seg dksX0_count_1 41 rfl rfl
theorem dksX0_count_3 : cX0_count.data.toList.drop 68 = dktX0_count_3 := dk_seg dksX0_count_2 24 rfl rfl
theorem dksX0_count_4 : cX0_count.data.toList.drop 91 = dktX0_count_4 := dk_seg dksX0_count_3 23 rfl rfl
theorem dksX0_count_5 : cX0_count.data.toList.drop 115 = dktX0_count_5 := dk_seg dksX0_count_4 24 rfl rfl
theorem dksX0_count_6 : cX0_count.data.toList.drop 139 = dktX0_count_6 := dk_seg dksX0_count_5 24 rfl rfl
theorem dX0_count_0 : decode cX0_count 0 = .ok (.iconst 0, 1) := dk_3 (dk_at dksX0_count_0 0 rfl rfl)
theorem dX0_count_1 : decode cX0_count 1 = .ok (.istore_n 2, 1) := dk_61 (dk_at dksX0_count_0 1 rfl rfl)
theorem dX0_count_2 : decode cX0_count 2 = .ok (.iload_n 1, 1) := dk_27 (dk_at dksX0_count_0 2 rfl rfl)
theorem dX0_count_3 : decode cX0_count 3 = .ok (.tableswitch 136 0 6 #[41, 46, 51, 56, 61, 96, 131], 41) := by decide +kernel
theorem dX0_count_44 : decode cX0_count 44 = .ok (.aload_n 0, 1) := dk_42 (dk_at dksX0_count_2 0 rfl rfl)
theorem dX0_count_45 : decode cX0_count 45 = .ok (.getfield 104, 3) := dk_180 0 104 (dk_at dksX0_count_2 1 rfl rfl)
theorem dX0_count_48 : decode cX0_count 48 = .ok (.ireturn, 1) := dk_172 (dk_at dksX0_count_2 4 rfl rfl)
theorem dX0_count_49 : decode cX0_count 49 = .ok (.aload_n 0, 1) := dk_42 (dk_at dksX0_count_2 5 rfl rfl)
theorem dX0_count_50 : decode cX0_count 50 = .ok (.getfield 131, 3) := dk_180 0 131 (dk_at dksX0_count_2 6 rfl rfl)
theorem dX0_count_53 : decode cX0_count 53 = .ok (.ireturn, 1) := dk_172 (dk_at dksX0_count_2 9 rfl rfl)
theorem dX0_count_54 : decode cX0_count 54 = .ok (.aload_n 0, 1) := dk_42 (dk_at dksX0_count_2 10 rfl rfl)
theorem dX0_count_55 : decode cX0_count 55 = .ok (.getfield 204, 3) := dk_180 0 204 (dk_at dksX0_count_2 11 rfl rfl)
theorem dX0_count_58 : decode cX0_count 58 = .ok (.ireturn, 1) := dk_172 (dk_at dksX0_count_2 14 rfl rfl)
theorem dX0_count_59 : decode cX0_count 59 = .ok (.aload_n 0, 1) := dk_42 (dk_at dksX0_count_2 15 rfl rfl)
theorem dX0_count_60 : decode cX0_count 60 = .ok (.getfield 111, 3) := dk_180 0 111 (dk_at dksX0_count_2 16 rfl rfl)
theorem dX0_count_63 : decode cX0_count 63 = .ok (.ireturn, 1) := dk_172 (dk_at dksX0_count_2 19 rfl rfl)
theorem dX0_count_64 : decode cX0_count 64 = .ok (.iconst 0, 1) := dk_3 (dk_at dksX0_count_2 20 rfl rfl)
theorem dX0_count_65 : decode cX0_count 65 = .ok (.istore_n 3, 1) := dk_62 (dk_at dksX0_count_2 21 rfl rfl)
theorem dX0_count_66 : decode cX0_count 66 = .ok (.iload_n 3, 1) := dk_29 (dk_at dksX0_count_2 22 rfl rfl)
theorem dX0_count_67 : decode cX0_count 67 = .ok (.aload_n 0, 1) := dk_42 (dk_at dksX0_count_2 23 rfl rfl)
theorem dX0_count_68 : decode cX0_count 68 = .ok (.getfield 114, 3) := dk_180 0 114 (dk_at dksX0_count_3 0 rfl rfl)
theorem dX0_count_71 : decode cX0_count 71 = .ok (.if_icmp .ge 26, 3) := dk_162 0 26 (dk_at dksX0_count_3 3 rfl rfl)
theorem dX0_count_74 : decode cX0_count 74 = .ok (.iload_n 2, 1) := dk_28 (dk_at dksX0_count_3 6 rfl rfl)
theorem dX0_count_75 : decode cX0_count 75 = .ok (.aload_n 0, 1) := dk_42 (dk_at dksX0_count_3 7 rfl rfl)
theorem dX0_count_76 : decode cX0_count 76 = .ok (.getfield 55, 3) := dk_180 0 55 (dk_at dksX0_count_3 8 rfl rfl)
theorem dX0_count_79 : decode cX0_count 79 = .ok (.iload_n 3, 1) := dk_29 (dk_at dksX0_count_3 11 rfl rfl)
theorem dX0_count_80 : decode cX0_count 80 = .ok (.aaload, 1) := dk_50 (dk_at dksX0_count_3 12 rfl rfl)
theorem dX0_count_81 : decode cX0_count 81 = .ok (.ifnull 7, 3) := dk_198 0 7 (dk_at dksX0_count_3 13 rfl rfl)
theorem dX0_count_84 : decode cX0_count 84 = .ok (.iconst 1, 1) := dk_4 (dk_at dksX0_count_3 16 rfl rfl)
theorem dX0_count_85 : decode cX0_count 85 = .ok (.goto 4, 3) := dk_167 0 4 (dk_at dksX0_count_3 17 rfl rfl)
theorem dX0_count_88 : decode cX0_count 88 = .ok (.iconst 0, 1) := dk_3 (dk_at dksX0_count_3 20 rfl rfl)
theorem dX0_count_89 : decode cX0_count 89 = .ok (.iadd, 1) := dk_96 (dk_at dksX0_count_3 21 rfl rfl)
theorem dX0_count_90 : decode cX0_count 90 = .ok (.istore_n 2, 1) := dk_61 (dk_at dksX0_count_3 22 rfl rfl)
theorem dX0_count_91 : decode cX0_count 91 = .ok (.iinc 3 1, 3) := dk_132 3 1 (dk_at dksX0_count_4 0 rfl rfl)
theorem dX0_count_94 : decode cX0_count 94 = .ok (.goto (-28), 3) := dk_167 255 228 (dk_at dksX0_count_4 3 rfl rfl)
theorem dX0_count_97 : decode cX0_count 97 = .ok (.iload_n 2, 1) := dk_28 (dk_at dksX0_count_4 6 rfl rfl)
theorem dX0_count_98 : decode cX0_count 98 = .ok (.ireturn, 1) := dk_172 (dk_at dksX0_count_4 7 rfl rfl)
theorem dX0_count_99 : decode cX0_count 99 = .ok (.iconst 0, 1) := dk_3 (dk_at dksX0_count_4 8 rfl rfl)
theorem dX0_count_100 : decode cX0_count 100 = .ok (.istore_n 3, 1) := dk_62 (dk_at dksX0_count_4 9 rfl rfl)
theorem dX0_count_101 : decode cX0_count 101 = .ok (.iload_n 3, 1) := dk_29 (dk_at dksX0_count_4 10 rfl rfl)
theorem dX0_count_102 : decode cX0_count 102 = .ok (.aload_n 0, 1) := dk_42 (dk_at dksX0_count_4 11 rfl rfl)
theorem dX0_count_103 : decode cX0_count 103 = .ok (.getfield 117, 3) := dk_180 0 117 (dk_at dksX0_count_4 12 rfl rfl)
theorem dX0_count_106 : decode cX0_count 106 = .ok (.if_icmp .ge 26, 3) := dk_162 0 26 (dk_at dksX0_count_4 15 rfl rfl)
theorem dX0_count_109 : decode cX0_count 109 = .ok (.iload_n 2, 1) := dk_28 (dk_at dksX0_count_4 18 rfl rfl)
theorem dX0_count_110 : decode cX0_count 110 = .ok (.aload_n 0, 1) := dk_42 (dk_at dksX0_count_4 19 rfl rfl)
theorem dX0_count_111 : decode cX0_count 111 = .ok (.getfield 61, 3) := dk_180 0 61 (dk_at dksX0_count_4 20 rfl rfl)
theorem dX0_count_114 : decode cX0_count 114 = .ok (.iload_n 3, 1) := dk_29 (dk_at dksX0_count_4 23 rfl rfl)
theorem dX0_count_115 : decode cX0_count 115 = .ok (.aaload, 1) := dk_50 (dk_at dksX0_count_5 0 rfl rfl)
theorem dX0_count_116 : decode cX0_count 116 = .ok (.ifnull 7, 3) := dk_198 0 7 (dk_at dksX0_count_5 1 rfl rfl)
theorem dX0_count_119 : decode cX0_count 119 = .ok (.iconst 1, 1) := dk_4 (dk_at dksX0_count_5 4 rfl rfl)
theorem dX0_count_120 : decode cX0_count 120 = .ok (.goto 4, 3) := dk_167 0 4 (dk_at dksX0_count_5 5 rfl rfl)
theorem dX0_count_123 : decode cX0_count 123 = .ok (.iconst 0, 1) := dk_3 (dk_at dksX0_count_5 8 rfl rfl)
theorem dX0_count_124 : decode cX0_count 124 = .ok (.iadd, 1) := dk_96 (dk_at dksX0_count_5 9 rfl rfl)
theorem dX0_count_125 : decode cX0_count 125 = .ok (.istore_n 2, 1) := dk_61 (dk_at dksX0_count_5 10 rfl rfl)
theorem dX0_count_126 : decode cX0_count 126 = .ok (.iinc 3 1, 3) := dk_132 3 1 (dk_at dksX0_count_5 11 rfl rfl)
theorem dX0_count_129 : decode cX0_count 129 = .ok (.goto (-28), 3) := dk_167 255 228 (dk_at dksX0_count_5 14 rfl rfl)
theorem dX0_count_132 : decode cX0_count 132 = .ok (.iload_n 2, 1) := dk_28 (dk_at dksX0_count_5 17 rfl rfl)
theorem dX0_count_133 : decode cX0_count 133 = .ok (.ireturn, 1) := dk_172 (dk_at dksX0_count_5 18 rfl rfl)
theorem dX0_count_134 : decode cX0_count 134 = .ok (.aload_n 0, 1) := dk_42 (dk_at dksX0_count_5 19 rfl rfl)
theorem dX0_count_135 : decode cX0_count 135 = .ok (.getfield 367, 3) := dk_180 1 111 (dk_at dksX0_count_5 20 rfl rfl)
theorem dX0_count_138 : decode cX0_count 138 = .ok (.ireturn, 1) := dk_172 (dk_at dksX0_count_5 23 rfl rfl)
theorem dX0_count_139 : decode cX0_count 139 = .ok (.bipush (-2), 2) := dk_16 254 (dk_at dksX0_count_6 0 rfl rfl)
theorem dX0_count_141 : decode cX0_count 141 = .ok (.ireturn, 1) := dk_172 (dk_at dksX0_count_6 2 rfl rfl)
theorem q63 : (Jvm.Cond.initialized "StaveScore") ∈ lw_all := lw_g (lw_at lw_m1 1 rfl) rfl
theorem q95 : (Jvm.Cond.instantiable "StaveScore" (24 : Nat)) ∈ lw_all := lw_g (lw_at lw_m1 33 rfl) rfl
theorem q97 : (Jvm.Cond.instanceMethod ({ cls := "StaveScore", name := "<init>", desc := "()V" } : Jvm.MethodName)) ∈ lw_all := lw_g (lw_at lw_m1 35 rfl) rfl
theorem q98 : (Jvm.Cond.code ({ cls := "StaveScore", name := "<init>", desc := "()V" } : Jvm.MethodName) prog_1_method_2_code (2 : Nat) (Option.none : Option Jvm.ClassFile.FieldType)) ∈ lw_all := lw_g (lw_at lw_m1 36 rfl) rfl
theorem q99 : (Jvm.Cond.methodLink "StaveScore" (22 : Nat) ({ cls := "java/lang/Object", name := "<init>", desc := "()V" } : Jvm.MethodName)) ∈ lw_all := lw_g (lw_at lw_m1 37 rfl) rfl
theorem q102 : (Jvm.Cond.classLink "StaveScore" (29 : Nat) "StaveScore$Hears") ∈ lw_all := lw_g (lw_at lw_m1 40 rfl) rfl
theorem q104 : (Jvm.Cond.classLink "StaveScore" (35 : Nat) "StaveScore$Fraction") ∈ lw_all := lw_g (lw_at lw_m1 42 rfl) rfl
theorem q106 : (Jvm.Cond.classLink "StaveScore" (41 : Nat) "StaveScore$Voice") ∈ lw_all := lw_g (lw_at lw_m1 44 rfl) rfl
theorem q108 : (Jvm.Cond.classLink "StaveScore" (47 : Nat) "StaveScore$Event") ∈ lw_all := lw_g (lw_at lw_m1 46 rfl) rfl
theorem q110 : (Jvm.Cond.classLink "StaveScore" (53 : Nat) "StaveScore$Tuplet") ∈ lw_all := lw_g (lw_at lw_m1 48 rfl) rfl
theorem q112 : (Jvm.Cond.classLink "StaveScore" (59 : Nat) "StaveScore$Line") ∈ lw_all := lw_g (lw_at lw_m1 50 rfl) rfl
theorem q114 : (Jvm.Cond.classLink "StaveScore" (65 : Nat) "[LStaveScore$Event;") ∈ lw_all := lw_g (lw_at lw_m1 52 rfl) rfl
theorem q116 : (Jvm.Cond.classLink "StaveScore" (70 : Nat) "StaveScore$Shelf") ∈ lw_all := lw_g (lw_at lw_m1 54 rfl) rfl
theorem q119 : (Jvm.Cond.methodLinkNest "StaveScore" (90 : Nat) ({ cls := "StaveScore$Fraction", name := "<init>", desc := "()V" } : Jvm.MethodName) "StaveScore") ∈ lw_tbl := lw_at lw_m1 57 rfl
theorem q133 : (Jvm.Cond.methodLinkNest "StaveScore" (98 : Nat) ({ cls := "StaveScore$Voice", name := "<init>", desc := "()V" } : Jvm.MethodName) "StaveScore") ∈ lw_tbl := lw_at lw_m1 71 rfl
theorem q141 : (Jvm.Cond.fieldLinkNest "StaveScore" (162 : Nat) "StaveScore$Voice" "row" "[LStaveScore$Event;" "StaveScore") ∈ lw_tbl := lw_at lw_m1 79 rfl
theorem q142 : (Jvm.Cond.fieldLinkNest "StaveScore" (159 : Nat) "StaveScore$Voice" "many" "I" "StaveScore") ∈ lw_tbl := lw_at lw_m1 80 rfl
theorem q144 : (Jvm.Cond.fieldLinkNest "StaveScore" (280 : Nat) "StaveScore$Voice" "length" "LStaveScore$Fraction;" "StaveScore") ∈ lw_tbl := lw_at lw_m1 82 rfl
theorem q153 : (Jvm.Cond.methodLinkNest "StaveScore" (99 : Nat) ({ cls := "StaveScore$Shelf", name := "<init>", desc := "()V" } : Jvm.MethodName) "StaveScore") ∈ lw_tbl := lw_at lw_m1 91 rfl
theorem q164 : (Jvm.Cond.fieldLink "StaveScore" (31 : Nat) "StaveScore" "part" "[LStaveScore$Hears;") ∈ lw_all := lw_g (lw_at lw_m1 102 rfl) rfl
theorem q165 : (Jvm.Cond.fieldLink "StaveScore" (104 : Nat) "StaveScore" "parts" "I") ∈ lw_all := lw_g (lw_at lw_m1 103 rfl) rfl
theorem q166 : (Jvm.Cond.fieldLink "StaveScore" (37 : Nat) "StaveScore" "barBegin" "[LStaveScore$Fraction;") ∈ lw_all := lw_g (lw_at lw_m1 104 rfl) rfl
theorem q167 : (Jvm.Cond.fieldLink "StaveScore" (131 : Nat) "StaveScore" "bars" "I") ∈ lw_all := lw_g (lw_at lw_m1 105 rfl) rfl
theorem q168 : (Jvm.Cond.fieldLink "StaveScore" (43 : Nat) "StaveScore" "voice" "[LStaveScore$Voice;") ∈ lw_all := lw_g (lw_at lw_m1 106 rfl) rfl
theorem q169 : (Jvm.Cond.fieldLink "StaveScore" (49 : Nat) "StaveScore" "event" "[LStaveScore$Event;") ∈ lw_all := lw_g (lw_at lw_m1 107 rfl) rfl
theorem q170 : (Jvm.Cond.fieldLink "StaveScore" (111 : Nat) "StaveScore" "ever" "I") ∈ lw_all := lw_g (lw_at lw_m1 108 rfl) rfl
theorem q171 : (Jvm.Cond.fieldLink "StaveScore" (204 : Nat) "StaveScore" "there" "I") ∈ lw_all := lw_g (lw_at lw_m1 109 rfl) rfl
theorem q172 : (Jvm.Cond.fieldLink "StaveScore" (55 : Nat) "StaveScore" "tuplet" "[LStaveScore$Tuplet;") ∈ lw_all := lw_g (lw_at lw_m1 110 rfl) rfl
theorem q173 : (Jvm.Cond.fieldLink "StaveScore" (114 : Nat) "StaveScore" "tuplets" "I") ∈ lw_all := lw_g (lw_at lw_m1 111 rfl) rfl
theorem q174 : (Jvm.Cond.fieldLink "StaveScore" (61 : Nat) "StaveScore" "line" "[LStaveScore$Line;") ∈ lw_all := lw_g (lw_at lw_m1 112 rfl) rfl
theorem q175 : (Jvm.Cond.fieldLink "StaveScore" (117 : Nat) "StaveScore" "lines" "I") ∈ lw_all := lw_g (lw_at lw_m1 113 rfl) rfl
theorem q176 : (Jvm.Cond.fieldLink "StaveScore" (66 : Nat) "StaveScore" "racks" "[[LStaveScore$Event;") ∈ lw_all := lw_g (lw_at lw_m1 114 rfl) rfl
theorem q177 : (Jvm.Cond.fieldLink "StaveScore" (72 : Nat) "StaveScore" "shelves" "[LStaveScore$Shelf;") ∈ lw_all := lw_g (lw_at lw_m1 115 rfl) rfl
theorem q178 : (Jvm.Cond.fieldLink "StaveScore" (76 : Nat) "StaveScore" "walk" "[I") ∈ lw_all := lw_g (lw_at lw_m1 116 rfl) rfl
theorem q179 : (Jvm.Cond.fieldLink "StaveScore" (361 : Nat) "StaveScore" "walked" "I") ∈ lw_all := lw_g (lw_at lw_m1 117 rfl) rfl
theorem q180 : (Jvm.Cond.fieldLink "StaveScore" (80 : Nat) "StaveScore" "found" "[I") ∈ lw_all := lw_g (lw_at lw_m1 118 rfl) rfl
theorem q181 : (Jvm.Cond.fieldLink "StaveScore" (367 : Nat) "StaveScore" "findings" "I") ∈ lw_all := lw_g (lw_at lw_m1 119 rfl) rfl
theorem q182 : (Jvm.Cond.fieldLink "StaveScore" (83 : Nat) "StaveScore" "failures" "[I") ∈ lw_all := lw_g (lw_at lw_m1 120 rfl) rfl
theorem q183 : (Jvm.Cond.fieldLink "StaveScore" (100 : Nat) "StaveScore" "status" "I") ∈ lw_all := lw_g (lw_at lw_m1 121 rfl) rfl
theorem q189 : (Jvm.Cond.fieldLink "StaveScore" (429 : Nat) "StaveScore" "trace" "J") ∈ lw_all := lw_g (lw_at lw_m1 127 rfl) rfl
theorem q190 : (Jvm.Cond.fieldLink "StaveScore" (86 : Nat) "StaveScore" "scale" "[B") ∈ lw_all := lw_g (lw_at lw_m1 128 rfl) rfl
theorem q191 : (Jvm.Cond.fieldLink "StaveScore" (91 : Nat) "StaveScore" "part1" "LStaveScore$Fraction;") ∈ lw_all := lw_g (lw_at lw_m1 129 rfl) rfl
theorem q192 : (Jvm.Cond.fieldLink "StaveScore" (95 : Nat) "StaveScore" "sum" "LStaveScore$Fraction;") ∈ lw_all := lw_g (lw_at lw_m1 130 rfl) rfl
theorem q193 : (Jvm.Cond.laysFinal "StaveScore" "StaveScore" "part" "[LStaveScore$Hears;") ∈ lw_all := lw_g (lw_at lw_m1 131 rfl) rfl
theorem q194 : (Jvm.Cond.soleField "StaveScore" "part") ∈ lw_all := lw_g (lw_at lw_m1 132 rfl) rfl
theorem q195 : (Jvm.Cond.lays "StaveScore" "StaveScore" "parts" "I") ∈ lw_all := lw_g (lw_at lw_m1 133 rfl) rfl
theorem q196 : (Jvm.Cond.soleField "StaveScore" "parts") ∈ lw_all := lw_g (lw_at lw_m1 134 rfl) rfl
theorem q197 : (Jvm.Cond.laysFinal "StaveScore" "StaveScore" "barBegin" "[LStaveScore$Fraction;") ∈ lw_all := lw_g (lw_at lw_m1 135 rfl) rfl
theorem q198 : (Jvm.Cond.soleField "StaveScore" "barBegin") ∈ lw_all := lw_g (lw_at lw_m1 136 rfl) rfl
theorem q199 : (Jvm.Cond.lays "StaveScore" "StaveScore" "bars" "I") ∈ lw_all := lw_g (lw_at lw_m1 137 rfl) rfl
theorem q200 : (Jvm.Cond.soleField "StaveScore" "bars") ∈ lw_all := lw_g (lw_at lw_m1 138 rfl) rfl
theorem q201 : (Jvm.Cond.laysFinal "StaveScore" "StaveScore" "voice" "[LStaveScore$Voice;") ∈ lw_all := lw_g (lw_at lw_m1 139 rfl) rfl
theorem q202 : (Jvm.Cond.soleField "StaveScore" "voice") ∈ lw_all := lw_g (lw_at lw_m1 140 rfl) rfl
theorem q203 : (Jvm.Cond.laysFinal "StaveScore" "StaveScore" "event" "[LStaveScore$Event;") ∈ lw_all := lw_g (lw_at lw_m1 141 rfl) rfl
theorem q204 : (Jvm.Cond.soleField "StaveScore" "event") ∈ lw_all := lw_g (lw_at lw_m1 142 rfl) rfl
theorem q205 : (Jvm.Cond.lays "StaveScore" "StaveScore" "ever" "I") ∈ lw_all := lw_g (lw_at lw_m1 143 rfl) rfl
theorem q206 : (Jvm.Cond.soleField "StaveScore" "ever") ∈ lw_all := lw_g (lw_at lw_m1 144 rfl) rfl
theorem q207 : (Jvm.Cond.lays "StaveScore" "StaveScore" "there" "I") ∈ lw_all := lw_g (lw_at lw_m1 145 rfl) rfl
theorem q208 : (Jvm.Cond.soleField "StaveScore" "there") ∈ lw_all := lw_g (lw_at lw_m1 146 rfl) rfl
theorem q209 : (Jvm.Cond.laysFinal "StaveScore" "StaveScore" "tuplet" "[LStaveScore$Tuplet;") ∈ lw_all := lw_g (lw_at lw_m1 147 rfl) rfl
theorem q210 : (Jvm.Cond.soleField "StaveScore" "tuplet") ∈ lw_all := lw_g (lw_at lw_m1 148 rfl) rfl
theorem q211 : (Jvm.Cond.lays "StaveScore" "StaveScore" "tuplets" "I") ∈ lw_all := lw_g (lw_at lw_m1 149 rfl) rfl
theorem q212 : (Jvm.Cond.soleField "StaveScore" "tuplets") ∈ lw_all := lw_g (lw_at lw_m1 150 rfl) rfl
theorem q213 : (Jvm.Cond.laysFinal "StaveScore" "StaveScore" "line" "[LStaveScore$Line;") ∈ lw_all := lw_g (lw_at lw_m1 151 rfl) rfl
theorem q214 : (Jvm.Cond.soleField "StaveScore" "line") ∈ lw_all := lw_g (lw_at lw_m1 152 rfl) rfl
theorem q215 : (Jvm.Cond.lays "StaveScore" "StaveScore" "lines" "I") ∈ lw_all := lw_g (lw_at lw_m1 153 rfl) rfl
theorem q216 : (Jvm.Cond.soleField "StaveScore" "lines") ∈ lw_all := lw_g (lw_at lw_m1 154 rfl) rfl
theorem q217 : (Jvm.Cond.laysFinal "StaveScore" "StaveScore" "racks" "[[LStaveScore$Event;") ∈ lw_all := lw_g (lw_at lw_m1 155 rfl) rfl
theorem q218 : (Jvm.Cond.soleField "StaveScore" "racks") ∈ lw_all := lw_g (lw_at lw_m1 156 rfl) rfl
theorem q219 : (Jvm.Cond.laysFinal "StaveScore" "StaveScore" "shelves" "[LStaveScore$Shelf;") ∈ lw_all := lw_g (lw_at lw_m1 157 rfl) rfl
theorem q220 : (Jvm.Cond.soleField "StaveScore" "shelves") ∈ lw_all := lw_g (lw_at lw_m1 158 rfl) rfl
theorem q221 : (Jvm.Cond.laysFinal "StaveScore" "StaveScore" "walk" "[I") ∈ lw_all := lw_g (lw_at lw_m1 159 rfl) rfl
theorem q222 : (Jvm.Cond.soleField "StaveScore" "walk") ∈ lw_all := lw_g (lw_at lw_m1 160 rfl) rfl
theorem q223 : (Jvm.Cond.lays "StaveScore" "StaveScore" "walked" "I") ∈ lw_all := lw_g (lw_at lw_m1 161 rfl) rfl
theorem q224 : (Jvm.Cond.soleField "StaveScore" "walked") ∈ lw_all := lw_g (lw_at lw_m1 162 rfl) rfl
theorem q225 : (Jvm.Cond.laysFinal "StaveScore" "StaveScore" "found" "[I") ∈ lw_all := lw_g (lw_at lw_m1 163 rfl) rfl
theorem q226 : (Jvm.Cond.soleField "StaveScore" "found") ∈ lw_all := lw_g (lw_at lw_m1 164 rfl) rfl
theorem q227 : (Jvm.Cond.lays "StaveScore" "StaveScore" "findings" "I") ∈ lw_all := lw_g (lw_at lw_m1 165 rfl) rfl
theorem q228 : (Jvm.Cond.soleField "StaveScore" "findings") ∈ lw_all := lw_g (lw_at lw_m1 166 rfl) rfl
theorem q229 : (Jvm.Cond.laysFinal "StaveScore" "StaveScore" "failures" "[I") ∈ lw_all := lw_g (lw_at lw_m1 167 rfl) rfl
theorem q230 : (Jvm.Cond.soleField "StaveScore" "failures") ∈ lw_all := lw_g (lw_at lw_m1 168 rfl) rfl
theorem q231 : (Jvm.Cond.lays "StaveScore" "StaveScore" "status" "I") ∈ lw_all := lw_g (lw_at lw_m1 169 rfl) rfl
theorem q232 : (Jvm.Cond.soleField "StaveScore" "status") ∈ lw_all := lw_g (lw_at lw_m1 170 rfl) rfl
theorem q233 : (Jvm.Cond.lays "StaveScore" "StaveScore" "trace" "J") ∈ lw_all := lw_g (lw_at lw_m1 171 rfl) rfl
theorem q234 : (Jvm.Cond.soleField "StaveScore" "trace") ∈ lw_all := lw_g (lw_at lw_m1 172 rfl) rfl
theorem q235 : (Jvm.Cond.laysFinal "StaveScore" "StaveScore" "scale" "[B") ∈ lw_all := lw_g (lw_at lw_m1 173 rfl) rfl
theorem q236 : (Jvm.Cond.soleField "StaveScore" "scale") ∈ lw_all := lw_g (lw_at lw_m1 174 rfl) rfl
theorem q237 : (Jvm.Cond.laysFinal "StaveScore" "StaveScore" "part1" "LStaveScore$Fraction;") ∈ lw_all := lw_g (lw_at lw_m1 175 rfl) rfl
theorem q238 : (Jvm.Cond.soleField "StaveScore" "part1") ∈ lw_all := lw_g (lw_at lw_m1 176 rfl) rfl
theorem q239 : (Jvm.Cond.laysFinal "StaveScore" "StaveScore" "sum" "LStaveScore$Fraction;") ∈ lw_all := lw_g (lw_at lw_m1 177 rfl) rfl
theorem q240 : (Jvm.Cond.soleField "StaveScore" "sum") ∈ lw_all := lw_g (lw_at lw_m1 178 rfl) rfl
theorem q241 : (Jvm.Cond.superclass "StaveScore" "java/lang/Object") ∈ lw_all := lw_g (lw_at lw_m1 179 rfl) rfl
theorem q243 : (Jvm.Cond.instanceMethod ({ cls := "StaveScore", name := "part", desc := "(I)I" } : Jvm.MethodName)) ∈ lw_all := lw_g (lw_at lw_m1 181 rfl) rfl
theorem q244 : (Jvm.Cond.selects "StaveScore" ({ cls := "StaveScore", name := "part", desc := "(I)I" } : Jvm.MethodName) ({ cls := "StaveScore", name := "part", desc := "(I)I" } : Jvm.MethodName)) ∈ lw_all := lw_g (lw_at lw_m1 182 rfl) rfl
theorem q245 : (Jvm.Cond.code ({ cls := "StaveScore", name := "part", desc := "(I)I" } : Jvm.MethodName) prog_1_method_11_code (2 : Nat) (Option.some Jvm.ClassFile.FieldType.int)) ∈ lw_all := lw_g (lw_at lw_m1 183 rfl) rfl
theorem q246 : (Jvm.Cond.methodLink "StaveScore" (107 : Nat) ({ cls := "StaveScore", name := "in", desc := "(III)Z" } : Jvm.MethodName)) ∈ lw_all := lw_g (lw_at lw_m1 184 rfl) rfl
theorem q247 : (Jvm.Cond.static ({ cls := "StaveScore", name := "in", desc := "(III)Z" } : Jvm.MethodName)) ∈ lw_all := lw_g (lw_at lw_m1 185 rfl) rfl
theorem q248 : (Jvm.Cond.code ({ cls := "StaveScore", name := "in", desc := "(III)Z" } : Jvm.MethodName) prog_1_method_3_code (3 : Nat) (Option.some Jvm.ClassFile.FieldType.boolean)) ∈ lw_all := lw_g (lw_at lw_m1 186 rfl) rfl
theorem q249 : (Jvm.Cond.methodLink "StaveScore" (120 : Nat) ({ cls := "StaveScore", name := "refuses", desc := "(I)I" } : Jvm.MethodName)) ∈ lw_all := lw_g (lw_at lw_m1 187 rfl) rfl
theorem q250 : (Jvm.Cond.privateMethod ({ cls := "StaveScore", name := "refuses", desc := "(I)I" } : Jvm.MethodName)) ∈ lw_tbl := lw_at lw_m1 188 rfl
theorem q251 : (Jvm.Cond.instanceMethod ({ cls := "StaveScore", name := "refuses", desc := "(I)I" } : Jvm.MethodName)) ∈ lw_all := lw_g (lw_at lw_m1 189 rfl) rfl
theorem q252 : (Jvm.Cond.code ({ cls := "StaveScore", name := "refuses", desc := "(I)I" } : Jvm.MethodName) prog_1_method_5_code (2 : Nat) (Option.some Jvm.ClassFile.FieldType.int)) ∈ lw_all := lw_g (lw_at lw_m1 190 rfl) rfl
theorem q253 : (Jvm.Cond.methodLink "StaveScore" (124 : Nat) ({ cls := "StaveScore", name := "made", desc := "(I)LStaveScore$Hears;" } : Jvm.MethodName)) ∈ lw_all := lw_g (lw_at lw_m1 191 rfl) rfl
theorem q254 : (Jvm.Cond.privateMethod ({ cls := "StaveScore", name := "made", desc := "(I)LStaveScore$Hears;" } : Jvm.MethodName)) ∈ lw_tbl := lw_at lw_m1 192 rfl
theorem q255 : (Jvm.Cond.instanceMethod ({ cls := "StaveScore", name := "made", desc := "(I)LStaveScore$Hears;" } : Jvm.MethodName)) ∈ lw_all := lw_g (lw_at lw_m1 193 rfl) rfl
theorem q256 : (Jvm.Cond.code ({ cls := "StaveScore", name := "made", desc := "(I)LStaveScore$Hears;" } : Jvm.MethodName) prog_1_method_1_code (2 : Nat) (Option.some (Jvm.ClassFile.FieldType.object "StaveScore$Hears"))) ∈ lw_all := lw_g (lw_at lw_m1 194 rfl) rfl
theorem q257 : (Jvm.Cond.classLink "StaveScore" (1 : Nat) "StaveScore$Plain") ∈ lw_all := lw_g (lw_at lw_m1 195 rfl) rfl
theorem q259 : (Jvm.Cond.methodLinkNest "StaveScore" (3 : Nat) ({ cls := "StaveScore$Plain", name := "<init>", desc := "(LStaveScore;)V" } : Jvm.MethodName) "StaveScore") ∈ lw_tbl := lw_at lw_m1 197 rfl
theorem q267 : (Jvm.Cond.classLink "StaveScore" (7 : Nat) "StaveScore$Low") ∈ lw_all := lw_g (lw_at lw_m1 205 rfl) rfl
theorem q269 : (Jvm.Cond.methodLinkNest "StaveScore" (9 : Nat) ({ cls := "StaveScore$Low", name := "<init>", desc := "(LStaveScore;)V" } : Jvm.MethodName) "StaveScore") ∈ lw_tbl := lw_at lw_m1 207 rfl
theorem q278 : (Jvm.Cond.classLink "StaveScore" (10 : Nat) "StaveScore$Brass") ∈ lw_all := lw_g (lw_at lw_m1 216 rfl) rfl
theorem q280 : (Jvm.Cond.methodLinkNest "StaveScore" (12 : Nat) ({ cls := "StaveScore$Brass", name := "<init>", desc := "(LStaveScore;)V" } : Jvm.MethodName) "StaveScore") ∈ lw_tbl := lw_at lw_m1 218 rfl
theorem q289 : (Jvm.Cond.classLink "StaveScore" (13 : Nat) "StaveScore$Horn") ∈ lw_all := lw_g (lw_at lw_m1 227 rfl) rfl
theorem q291 : (Jvm.Cond.methodLinkNest "StaveScore" (15 : Nat) ({ cls := "StaveScore$Horn", name := "<init>", desc := "(LStaveScore;)V" } : Jvm.MethodName) "StaveScore") ∈ lw_tbl := lw_at lw_m1 229 rfl
theorem q301 : (Jvm.Cond.classLink "StaveScore" (16 : Nat) "StaveScore$LowHorn") ∈ lw_all := lw_g (lw_at lw_m1 239 rfl) rfl
theorem q303 : (Jvm.Cond.methodLinkNest "StaveScore" (18 : Nat) ({ cls := "StaveScore$LowHorn", name := "<init>", desc := "(LStaveScore;)V" } : Jvm.MethodName) "StaveScore") ∈ lw_tbl := lw_at lw_m2 1 rfl
theorem q314 : (Jvm.Cond.classLink "StaveScore" (19 : Nat) "StaveScore$Drum") ∈ lw_all := lw_g (lw_at lw_m2 12 rfl) rfl
theorem q316 : (Jvm.Cond.methodLinkNest "StaveScore" (21 : Nat) ({ cls := "StaveScore$Drum", name := "<init>", desc := "(LStaveScore;)V" } : Jvm.MethodName) "StaveScore") ∈ lw_tbl := lw_at lw_m2 14 rfl
theorem q325 : (Jvm.Cond.methodLink "StaveScore" (128 : Nat) ({ cls := "StaveScore", name := "says", desc := "(I)I" } : Jvm.MethodName)) ∈ lw_all := lw_g (lw_at lw_m2 23 rfl) rfl
theorem q326 : (Jvm.Cond.privateMethod ({ cls := "StaveScore", name := "says", desc := "(I)I" } : Jvm.MethodName)) ∈ lw_tbl := lw_at lw_m2 24 rfl
theorem q327 : (Jvm.Cond.instanceMethod ({ cls := "StaveScore", name := "says", desc := "(I)I" } : Jvm.MethodName)) ∈ lw_all := lw_g (lw_at lw_m2 25 rfl) rfl
theorem q328 : (Jvm.Cond.code ({ cls := "StaveScore", name := "says", desc := "(I)I" } : Jvm.MethodName) prog_1_method_4_code (2 : Nat) (Option.some Jvm.ClassFile.FieldType.int)) ∈ lw_all := lw_g (lw_at lw_m2 26 rfl) rfl
theorem q330 : (Jvm.Cond.instanceMethod ({ cls := "StaveScore", name := "bar", desc := "(II)I" } : Jvm.MethodName)) ∈ lw_all := lw_g (lw_at lw_m2 28 rfl) rfl
theorem q331 : (Jvm.Cond.selects "StaveScore" ({ cls := "StaveScore", name := "bar", desc := "(II)I" } : Jvm.MethodName) ({ cls := "StaveScore", name := "bar", desc := "(II)I" } : Jvm.MethodName)) ∈ lw_all := lw_g (lw_at lw_m2 29 rfl) rfl
theorem q332 : (Jvm.Cond.code ({ cls := "StaveScore", name := "bar", desc := "(II)I" } : Jvm.MethodName) prog_1_method_12_code (3 : Nat) (Option.some Jvm.ClassFile.FieldType.int)) ∈ lw_all := lw_g (lw_at lw_m2 30 rfl) rfl
theorem q333 : (Jvm.Cond.methodLink "StaveScore" (134 : Nat) ({ cls := "StaveScore$Fraction", name := "become", desc := "(JJ)V" } : Jvm.MethodName)) ∈ lw_all := lw_g (lw_at lw_m2 31 rfl) rfl
theorem q340 : (Jvm.Cond.methodLink "StaveScore" (138 : Nat) ({ cls := "StaveScore$Fraction", name := "add", desc := "(LStaveScore$Fraction;)V" } : Jvm.MethodName)) ∈ lw_all := lw_g (lw_at lw_m2 38 rfl) rfl
theorem q346 : (Jvm.Cond.instanceMethod ({ cls := "StaveScore", name := "put", desc := "(IIIIII)I" } : Jvm.MethodName)) ∈ lw_all := lw_g (lw_at lw_m2 44 rfl) rfl
theorem q347 : (Jvm.Cond.selects "StaveScore" ({ cls := "StaveScore", name := "put", desc := "(IIIIII)I" } : Jvm.MethodName) ({ cls := "StaveScore", name := "put", desc := "(IIIIII)I" } : Jvm.MethodName)) ∈ lw_all := lw_g (lw_at lw_m2 45 rfl) rfl
theorem q348 : (Jvm.Cond.code ({ cls := "StaveScore", name := "put", desc := "(IIIIII)I" } : Jvm.MethodName) prog_1_method_15_code (10 : Nat) (Option.some Jvm.ClassFile.FieldType.int)) ∈ lw_all := lw_g (lw_at lw_m2 46 rfl) rfl
theorem q349 : (Jvm.Cond.methodLink "StaveScore" (168 : Nat) ({ cls := "StaveScore", name := "isVoice", desc := "(I)Z" } : Jvm.MethodName)) ∈ lw_all := lw_g (lw_at lw_m2 47 rfl) rfl
theorem q350 : (Jvm.Cond.privateMethod ({ cls := "StaveScore", name := "isVoice", desc := "(I)Z" } : Jvm.MethodName)) ∈ lw_tbl := lw_at lw_m2 48 rfl
theorem q351 : (Jvm.Cond.instanceMethod ({ cls := "StaveScore", name := "isVoice", desc := "(I)Z" } : Jvm.MethodName)) ∈ lw_all := lw_g (lw_at lw_m2 49 rfl) rfl
theorem q352 : (Jvm.Cond.code ({ cls := "StaveScore", name := "isVoice", desc := "(I)Z" } : Jvm.MethodName) prog_1_method_7_code (2 : Nat) (Option.some Jvm.ClassFile.FieldType.boolean)) ∈ lw_all := lw_g (lw_at lw_m2 50 rfl) rfl
theorem q353 : (Jvm.Cond.methodLink "StaveScore" (172 : Nat) ({ cls := "StaveScore", name := "ofKind", desc := "(II)LStaveScore$Event;" } : Jvm.MethodName)) ∈ lw_all := lw_g (lw_at lw_m2 51 rfl) rfl
theorem q354 : (Jvm.Cond.static ({ cls := "StaveScore", name := "ofKind", desc := "(II)LStaveScore$Event;" } : Jvm.MethodName)) ∈ lw_all := lw_g (lw_at lw_m2 52 rfl) rfl
theorem q355 : (Jvm.Cond.code ({ cls := "StaveScore", name := "ofKind", desc := "(II)LStaveScore$Event;" } : Jvm.MethodName) prog_1_method_13_code (2 : Nat) (Option.some (Jvm.ClassFile.FieldType.object "StaveScore$Event"))) ∈ lw_all := lw_g (lw_at lw_m2 53 rfl) rfl
theorem q356 : (Jvm.Cond.classLink "StaveScore" (142 : Nat) "StaveScore$Note") ∈ lw_all := lw_g (lw_at lw_m2 54 rfl) rfl
theorem q358 : (Jvm.Cond.methodLink "StaveScore" (144 : Nat) ({ cls := "StaveScore$Note", name := "<init>", desc := "(I)V" } : Jvm.MethodName)) ∈ lw_all := lw_g (lw_at lw_m2 56 rfl) rfl
theorem q368 : (Jvm.Cond.fieldLink "StaveScore" (184 : Nat) "StaveScore$Note" "lowest" "I") ∈ lw_all := lw_g (lw_at lw_m2 66 rfl) rfl
theorem q370 : (Jvm.Cond.fieldLinkNest "StaveScore" (256 : Nat) "StaveScore$Note" "tied" "Z" "StaveScore") ∈ lw_tbl := lw_at lw_m2 68 rfl
theorem q372 : (Jvm.Cond.fieldLinkNest "StaveScore" (322 : Nat) "StaveScore$Event" "number" "I" "StaveScore") ∈ lw_tbl := lw_at lw_m2 70 rfl
theorem q373 : (Jvm.Cond.fieldLink "StaveScore" (176 : Nat) "StaveScore$Event" "voice" "I") ∈ lw_all := lw_g (lw_at lw_m2 71 rfl) rfl
theorem q374 : (Jvm.Cond.fieldLinkNest "StaveScore" (165 : Nat) "StaveScore$Event" "place" "I" "StaveScore") ∈ lw_tbl := lw_at lw_m2 72 rfl
theorem q376 : (Jvm.Cond.fieldLink "StaveScore" (178 : Nat) "StaveScore$Event" "value" "I") ∈ lw_all := lw_g (lw_at lw_m2 74 rfl) rfl
theorem q378 : (Jvm.Cond.fieldLink "StaveScore" (181 : Nat) "StaveScore$Event" "dots" "I") ∈ lw_all := lw_g (lw_at lw_m2 76 rfl) rfl
theorem q380 : (Jvm.Cond.fieldLinkNest "StaveScore" (283 : Nat) "StaveScore$Event" "begin" "LStaveScore$Fraction;" "StaveScore") ∈ lw_tbl := lw_at lw_m2 78 rfl
theorem q398 : (Jvm.Cond.classLink "StaveScore" (147 : Nat) "StaveScore$Chord") ∈ lw_all := lw_g (lw_at lw_m2 96 rfl) rfl
theorem q400 : (Jvm.Cond.methodLink "StaveScore" (149 : Nat) ({ cls := "StaveScore$Chord", name := "<init>", desc := "(I)V" } : Jvm.MethodName)) ∈ lw_all := lw_g (lw_at lw_m2 98 rfl) rfl
theorem q419 : (Jvm.Cond.classLink "StaveScore" (150 : Nat) "StaveScore$Grace") ∈ lw_all := lw_g (lw_at lw_m2 117 rfl) rfl
theorem q421 : (Jvm.Cond.methodLink "StaveScore" (152 : Nat) ({ cls := "StaveScore$Grace", name := "<init>", desc := "(I)V" } : Jvm.MethodName)) ∈ lw_all := lw_g (lw_at lw_m2 119 rfl) rfl
theorem q434 : (Jvm.Cond.classLink "StaveScore" (153 : Nat) "StaveScore$Rest") ∈ lw_all := lw_g (lw_at lw_m2 132 rfl) rfl
theorem q436 : (Jvm.Cond.methodLink "StaveScore" (155 : Nat) ({ cls := "StaveScore$Rest", name := "<init>", desc := "(I)V" } : Jvm.MethodName)) ∈ lw_all := lw_g (lw_at lw_m2 134 rfl) rfl
theorem q447 : (Jvm.Cond.classLink "StaveScore" (156 : Nat) "StaveScore$Breath") ∈ lw_all := lw_g (lw_at lw_m2 145 rfl) rfl
theorem q449 : (Jvm.Cond.methodLink "StaveScore" (158 : Nat) ({ cls := "StaveScore$Breath", name := "<init>", desc := "(I)V" } : Jvm.MethodName)) ∈ lw_all := lw_g (lw_at lw_m2 147 rfl) rfl
theorem q460 : (Jvm.Cond.methodLink "StaveScore" (187 : Nat) ({ cls := "java/lang/System", name := "arraycopy", desc := "(Ljava/lang/Object;ILjava/lang/Object;II)V" } : Jvm.MethodName)) ∈ lw_all := lw_g (lw_at lw_m2 158 rfl) rfl
theorem q463 : (Jvm.Cond.methodLink "StaveScore" (193 : Nat) ({ cls := "StaveScore", name := "number", desc := "(LStaveScore$Voice;I)V" } : Jvm.MethodName)) ∈ lw_all := lw_g (lw_at lw_m2 161 rfl) rfl
theorem q464 : (Jvm.Cond.privateMethod ({ cls := "StaveScore", name := "number", desc := "(LStaveScore$Voice;I)V" } : Jvm.MethodName)) ∈ lw_tbl := lw_at lw_m2 162 rfl
theorem q465 : (Jvm.Cond.instanceMethod ({ cls := "StaveScore", name := "number", desc := "(LStaveScore$Voice;I)V" } : Jvm.MethodName)) ∈ lw_all := lw_g (lw_at lw_m2 163 rfl) rfl
theorem q466 : (Jvm.Cond.code ({ cls := "StaveScore", name := "number", desc := "(LStaveScore$Voice;I)V" } : Jvm.MethodName) prog_1_method_14_code (4 : Nat) (Option.none : Option Jvm.ClassFile.FieldType)) ∈ lw_all := lw_g (lw_at lw_m2 164 rfl) rfl
theorem q468 : (Jvm.Cond.instanceMethod ({ cls := "StaveScore", name := "drop", desc := "(I)I" } : Jvm.MethodName)) ∈ lw_all := lw_g (lw_at lw_m2 166 rfl) rfl
theorem q469 : (Jvm.Cond.selects "StaveScore" ({ cls := "StaveScore", name := "drop", desc := "(I)I" } : Jvm.MethodName) ({ cls := "StaveScore", name := "drop", desc := "(I)I" } : Jvm.MethodName)) ∈ lw_all := lw_g (lw_at lw_m2 167 rfl) rfl
theorem q470 : (Jvm.Cond.code ({ cls := "StaveScore", name := "drop", desc := "(I)I" } : Jvm.MethodName) prog_1_method_16_code (6 : Nat) (Option.some Jvm.ClassFile.FieldType.int)) ∈ lw_all := lw_g (lw_at lw_m2 168 rfl) rfl
theorem q471 : (Jvm.Cond.methodLink "StaveScore" (207 : Nat) ({ cls := "StaveScore", name := "isEvent", desc := "(I)Z" } : Jvm.MethodName)) ∈ lw_all := lw_g (lw_at lw_m2 169 rfl) rfl
theorem q472 : (Jvm.Cond.privateMethod ({ cls := "StaveScore", name := "isEvent", desc := "(I)Z" } : Jvm.MethodName)) ∈ lw_tbl := lw_at lw_m2 170 rfl
theorem q473 : (Jvm.Cond.instanceMethod ({ cls := "StaveScore", name := "isEvent", desc := "(I)Z" } : Jvm.MethodName)) ∈ lw_all := lw_g (lw_at lw_m2 171 rfl) rfl
theorem q474 : (Jvm.Cond.code ({ cls := "StaveScore", name := "isEvent", desc := "(I)Z" } : Jvm.MethodName) prog_1_method_8_code (2 : Nat) (Option.some Jvm.ClassFile.FieldType.boolean)) ∈ lw_all := lw_g (lw_at lw_m2 172 rfl) rfl
theorem q475 : (Jvm.Cond.methodLink "StaveScore" (217 : Nat) ({ cls := "StaveScore", name := "leaves", desc := "(LStaveScore$Event;)V" } : Jvm.MethodName)) ∈ lw_all := lw_g (lw_at lw_m2 173 rfl) rfl
theorem q476 : (Jvm.Cond.privateMethod ({ cls := "StaveScore", name := "leaves", desc := "(LStaveScore$Event;)V" } : Jvm.MethodName)) ∈ lw_tbl := lw_at lw_m2 174 rfl
theorem q477 : (Jvm.Cond.instanceMethod ({ cls := "StaveScore", name := "leaves", desc := "(LStaveScore$Event;)V" } : Jvm.MethodName)) ∈ lw_all := lw_g (lw_at lw_m2 175 rfl) rfl
theorem q478 : (Jvm.Cond.code ({ cls := "StaveScore", name := "leaves", desc := "(LStaveScore$Event;)V" } : Jvm.MethodName) prog_1_method_17_code (7 : Nat) (Option.none : Option Jvm.ClassFile.FieldType)) ∈ lw_all := lw_g (lw_at lw_m2 176 rfl) rfl
theorem q480 : (Jvm.Cond.instanceMethod ({ cls := "StaveScore", name := "chord", desc := "(II)I" } : Jvm.MethodName)) ∈ lw_all := lw_g (lw_at lw_m2 178 rfl) rfl
theorem q481 : (Jvm.Cond.selects "StaveScore" ({ cls := "StaveScore", name := "chord", desc := "(II)I" } : Jvm.MethodName) ({ cls := "StaveScore", name := "chord", desc := "(II)I" } : Jvm.MethodName)) ∈ lw_all := lw_g (lw_at lw_m2 179 rfl) rfl
theorem q482 : (Jvm.Cond.codeWith ({ cls := "StaveScore", name := "chord", desc := "(II)I" } : Jvm.MethodName) prog_1_method_18_code (4 : Nat) (Option.some Jvm.ClassFile.FieldType.int) [((25 : Nat), (55 : Nat), (84 : Nat), (229 : Nat)), ((56 : Nat), (83 : Nat), (84 : Nat), (229 : Nat))]) ∈ lw_all := lw_g (lw_at lw_m2 180 rfl) rfl
theorem q483 : (Jvm.Cond.classLink "StaveScore" (229 : Nat) "java/lang/ClassCastException") ∈ lw_all := lw_g (lw_at lw_m2 181 rfl) rfl
theorem q568 : (Jvm.Cond.methodLink "StaveScore" (221 : Nat) ({ cls := "StaveScore$Chord", name := "many", desc := "()I" } : Jvm.MethodName)) ∈ lw_all := lw_g (lw_at lw_m3 26 rfl) rfl
theorem q575 : (Jvm.Cond.methodLink "StaveScore" (224 : Nat) ({ cls := "StaveScore$Chord", name := "pitchAt", desc := "(I)I" } : Jvm.MethodName)) ∈ lw_all := lw_g (lw_at lw_m3 33 rfl) rfl
theorem q582 : (Jvm.Cond.methodLink "StaveScore" (227 : Nat) ({ cls := "StaveScore$Chord", name := "add", desc := "(I)I" } : Jvm.MethodName)) ∈ lw_all := lw_g (lw_at lw_m3 40 rfl) rfl
theorem q587 : (Jvm.Cond.methodLink "StaveScore" (231 : Nat) ({ cls := "StaveScore", name := "fails", desc := "(I)I" } : Jvm.MethodName)) ∈ lw_all := lw_g (lw_at lw_m3 45 rfl) rfl
theorem q588 : (Jvm.Cond.privateMethod ({ cls := "StaveScore", name := "fails", desc := "(I)I" } : Jvm.MethodName)) ∈ lw_tbl := lw_at lw_m3 46 rfl
theorem q589 : (Jvm.Cond.instanceMethod ({ cls := "StaveScore", name := "fails", desc := "(I)I" } : Jvm.MethodName)) ∈ lw_all := lw_g (lw_at lw_m3 47 rfl) rfl
theorem q590 : (Jvm.Cond.code ({ cls := "StaveScore", name := "fails", desc := "(I)I" } : Jvm.MethodName) prog_1_method_6_code (2 : Nat) (Option.some Jvm.ClassFile.FieldType.int)) ∈ lw_all := lw_g (lw_at lw_m3 48 rfl) rfl
theorem q592 : (Jvm.Cond.instanceMethod ({ cls := "StaveScore", name := "pitch", desc := "(II)I" } : Jvm.MethodName)) ∈ lw_all := lw_g (lw_at lw_m3 50 rfl) rfl
theorem q593 : (Jvm.Cond.selects "StaveScore" ({ cls := "StaveScore", name := "pitch", desc := "(II)I" } : Jvm.MethodName) ({ cls := "StaveScore", name := "pitch", desc := "(II)I" } : Jvm.MethodName)) ∈ lw_all := lw_g (lw_at lw_m3 51 rfl) rfl
theorem q594 : (Jvm.Cond.codeWith ({ cls := "StaveScore", name := "pitch", desc := "(II)I" } : Jvm.MethodName) prog_1_method_19_code (4 : Nat) (Option.some Jvm.ClassFile.FieldType.int) [((15 : Nat), (52 : Nat), (53 : Nat), (229 : Nat))]) ∈ lw_all := lw_g (lw_at lw_m3 52 rfl) rfl
theorem q595 : (Jvm.Cond.methodLink "StaveScore" (234 : Nat) ({ cls := "StaveScore$Note", name := "many", desc := "()I" } : Jvm.MethodName)) ∈ lw_all := lw_g (lw_at lw_m3 53 rfl) rfl
theorem q596 : (Jvm.Cond.methodLink "StaveScore" (235 : Nat) ({ cls := "StaveScore$Note", name := "pitchAt", desc := "(I)I" } : Jvm.MethodName)) ∈ lw_all := lw_g (lw_at lw_m3 54 rfl) rfl
theorem q598 : (Jvm.Cond.instanceMethod ({ cls := "StaveScore", name := "heard", desc := "(II)I" } : Jvm.MethodName)) ∈ lw_all := lw_g (lw_at lw_m3 56 rfl) rfl
theorem q599 : (Jvm.Cond.selects "StaveScore" ({ cls := "StaveScore", name := "heard", desc := "(II)I" } : Jvm.MethodName) ({ cls := "StaveScore", name := "heard", desc := "(II)I" } : Jvm.MethodName)) ∈ lw_all := lw_g (lw_at lw_m3 57 rfl) rfl
theorem q600 : (Jvm.Cond.codeWith ({ cls := "StaveScore", name := "heard", desc := "(II)I" } : Jvm.MethodName) prog_1_method_22_code (5 : Nat) (Option.some Jvm.ClassFile.FieldType.int) [((26 : Nat), (79 : Nat), (80 : Nat), (229 : Nat))]) ∈ lw_all := lw_g (lw_at lw_m3 58 rfl) rfl
theorem q601 : (Jvm.Cond.methodLink "StaveScore" (239 : Nat) ({ cls := "StaveScore", name := "hears", desc := "(LStaveScore$Event;)LStaveScore$Hears;" } : Jvm.MethodName)) ∈ lw_all := lw_g (lw_at lw_m3 59 rfl) rfl
theorem q602 : (Jvm.Cond.privateMethod ({ cls := "StaveScore", name := "hears", desc := "(LStaveScore$Event;)LStaveScore$Hears;" } : Jvm.MethodName)) ∈ lw_tbl := lw_at lw_m3 60 rfl
theorem q603 : (Jvm.Cond.instanceMethod ({ cls := "StaveScore", name := "hears", desc := "(LStaveScore$Event;)LStaveScore$Hears;" } : Jvm.MethodName)) ∈ lw_all := lw_g (lw_at lw_m3 61 rfl) rfl
theorem q604 : (Jvm.Cond.code ({ cls := "StaveScore", name := "hears", desc := "(LStaveScore$Event;)LStaveScore$Hears;" } : Jvm.MethodName) prog_1_method_20_code (2 : Nat) (Option.some (Jvm.ClassFile.FieldType.object "StaveScore$Hears"))) ∈ lw_all := lw_g (lw_at lw_m3 62 rfl) rfl
theorem q605 : (Jvm.Cond.interfaceEntry "StaveScore" (243 : Nat)) ∈ lw_tbl := lw_at lw_m3 63 rfl
theorem q606 : (Jvm.Cond.methodLink "StaveScore" (243 : Nat) ({ cls := "StaveScore$Hears", name := "heard", desc := "(I)I" } : Jvm.MethodName)) ∈ lw_all := lw_g (lw_at lw_m3 64 rfl) rfl
theorem q651 : (Jvm.Cond.methodLink "StaveScore" (246 : Nat) ({ cls := "StaveScore", name := "higher", desc := "(LStaveScore$Event;)I" } : Jvm.MethodName)) ∈ lw_all := lw_g (lw_at lw_m3 109 rfl) rfl
theorem q652 : (Jvm.Cond.privateMethod ({ cls := "StaveScore", name := "higher", desc := "(LStaveScore$Event;)I" } : Jvm.MethodName)) ∈ lw_tbl := lw_at lw_m3 110 rfl
theorem q653 : (Jvm.Cond.instanceMethod ({ cls := "StaveScore", name := "higher", desc := "(LStaveScore$Event;)I" } : Jvm.MethodName)) ∈ lw_all := lw_g (lw_at lw_m3 111 rfl) rfl
theorem q654 : (Jvm.Cond.code ({ cls := "StaveScore", name := "higher", desc := "(LStaveScore$Event;)I" } : Jvm.MethodName) prog_1_method_21_code (5 : Nat) (Option.some Jvm.ClassFile.FieldType.int)) ∈ lw_all := lw_g (lw_at lw_m3 112 rfl) rfl
theorem q656 : (Jvm.Cond.instanceMethod ({ cls := "StaveScore", name := "shift", desc := "(II)I" } : Jvm.MethodName)) ∈ lw_all := lw_g (lw_at lw_m3 114 rfl) rfl
theorem q657 : (Jvm.Cond.selects "StaveScore" ({ cls := "StaveScore", name := "shift", desc := "(II)I" } : Jvm.MethodName) ({ cls := "StaveScore", name := "shift", desc := "(II)I" } : Jvm.MethodName)) ∈ lw_all := lw_g (lw_at lw_m3 115 rfl) rfl
theorem q658 : (Jvm.Cond.codeWith ({ cls := "StaveScore", name := "shift", desc := "(II)I" } : Jvm.MethodName) prog_1_method_23_code (4 : Nat) (Option.some Jvm.ClassFile.FieldType.int) [((15 : Nat), (42 : Nat), (43 : Nat), (229 : Nat)), ((15 : Nat), (42 : Nat), (51 : Nat), (254 : Nat))]) ∈ lw_all := lw_g (lw_at lw_m3 116 rfl) rfl
theorem q659 : (Jvm.Cond.classLink "StaveScore" (254 : Nat) "java/lang/ArrayIndexOutOfBoundsException") ∈ lw_all := lw_g (lw_at lw_m3 117 rfl) rfl
theorem q678 : (Jvm.Cond.methodLink "StaveScore" (250 : Nat) ({ cls := "StaveScore$Note", name := "shift", desc := "(I[B)V" } : Jvm.MethodName)) ∈ lw_all := lw_g (lw_at lw_m3 136 rfl) rfl
theorem q698 : (Jvm.Cond.instanceMethod ({ cls := "StaveScore", name := "transpose", desc := "(II)I" } : Jvm.MethodName)) ∈ lw_all := lw_g (lw_at lw_m3 156 rfl) rfl
theorem q699 : (Jvm.Cond.selects "StaveScore" ({ cls := "StaveScore", name := "transpose", desc := "(II)I" } : Jvm.MethodName) ({ cls := "StaveScore", name := "transpose", desc := "(II)I" } : Jvm.MethodName)) ∈ lw_all := lw_g (lw_at lw_m3 157 rfl) rfl
theorem q700 : (Jvm.Cond.codeWith ({ cls := "StaveScore", name := "transpose", desc := "(II)I" } : Jvm.MethodName) prog_1_method_24_code (6 : Nat) (Option.some Jvm.ClassFile.FieldType.int) [((30 : Nat), (82 : Nat), (85 : Nat), (254 : Nat))]) ∈ lw_all := lw_g (lw_at lw_m3 158 rfl) rfl
theorem q702 : (Jvm.Cond.instanceMethod ({ cls := "StaveScore", name := "tie", desc := "(IZ)I" } : Jvm.MethodName)) ∈ lw_all := lw_g (lw_at lw_m3 160 rfl) rfl
theorem q703 : (Jvm.Cond.selects "StaveScore" ({ cls := "StaveScore", name := "tie", desc := "(IZ)I" } : Jvm.MethodName) ({ cls := "StaveScore", name := "tie", desc := "(IZ)I" } : Jvm.MethodName)) ∈ lw_all := lw_g (lw_at lw_m3 161 rfl) rfl
theorem q704 : (Jvm.Cond.codeWith ({ cls := "StaveScore", name := "tie", desc := "(IZ)I" } : Jvm.MethodName) prog_1_method_25_code (5 : Nat) (Option.some Jvm.ClassFile.FieldType.int) [((15 : Nat), (50 : Nat), (51 : Nat), (229 : Nat))]) ∈ lw_all := lw_g (lw_at lw_m3 162 rfl) rfl
theorem q706 : (Jvm.Cond.instanceMethod ({ cls := "StaveScore", name := "value", desc := "(III)I" } : Jvm.MethodName)) ∈ lw_all := lw_g (lw_at lw_m3 164 rfl) rfl
theorem q707 : (Jvm.Cond.selects "StaveScore" ({ cls := "StaveScore", name := "value", desc := "(III)I" } : Jvm.MethodName) ({ cls := "StaveScore", name := "value", desc := "(III)I" } : Jvm.MethodName)) ∈ lw_all := lw_g (lw_at lw_m3 165 rfl) rfl
theorem q708 : (Jvm.Cond.code ({ cls := "StaveScore", name := "value", desc := "(III)I" } : Jvm.MethodName) prog_1_method_26_code (4 : Nat) (Option.some Jvm.ClassFile.FieldType.int)) ∈ lw_all := lw_g (lw_at lw_m3 166 rfl) rfl
theorem q710 : (Jvm.Cond.instanceMethod ({ cls := "StaveScore", name := "at", desc := "(II)I" } : Jvm.MethodName)) ∈ lw_all := lw_g (lw_at lw_m3 168 rfl) rfl
theorem q711 : (Jvm.Cond.selects "StaveScore" ({ cls := "StaveScore", name := "at", desc := "(II)I" } : Jvm.MethodName) ({ cls := "StaveScore", name := "at", desc := "(II)I" } : Jvm.MethodName)) ∈ lw_all := lw_g (lw_at lw_m3 169 rfl) rfl
theorem q712 : (Jvm.Cond.code ({ cls := "StaveScore", name := "at", desc := "(II)I" } : Jvm.MethodName) prog_1_method_30_code (4 : Nat) (Option.some Jvm.ClassFile.FieldType.int)) ∈ lw_all := lw_g (lw_at lw_m3 170 rfl) rfl
theorem q713 : (Jvm.Cond.methodLink "StaveScore" (297 : Nat) ({ cls := "StaveScore$Event", name := "kind", desc := "()I" } : Jvm.MethodName)) ∈ lw_all := lw_g (lw_at lw_m3 171 rfl) rfl
theorem q731 : (Jvm.Cond.methodLink "StaveScore" (299 : Nat) ({ cls := "StaveScore$Event", name := "many", desc := "()I" } : Jvm.MethodName)) ∈ lw_all := lw_g (lw_at lw_m3 189 rfl) rfl
theorem q740 : (Jvm.Cond.methodLink "StaveScore" (300 : Nat) ({ cls := "StaveScore$Event", name := "isTied", desc := "()Z" } : Jvm.MethodName)) ∈ lw_all := lw_g (lw_at lw_m3 198 rfl) rfl
theorem q751 : (Jvm.Cond.methodLink "StaveScore" (304 : Nat) ({ cls := "StaveScore", name := "nested", desc := "(II)I" } : Jvm.MethodName)) ∈ lw_all := lw_g (lw_at lw_m3 209 rfl) rfl
theorem q752 : (Jvm.Cond.privateMethod ({ cls := "StaveScore", name := "nested", desc := "(II)I" } : Jvm.MethodName)) ∈ lw_tbl := lw_at lw_m3 210 rfl
theorem q753 : (Jvm.Cond.instanceMethod ({ cls := "StaveScore", name := "nested", desc := "(II)I" } : Jvm.MethodName)) ∈ lw_all := lw_g (lw_at lw_m3 211 rfl) rfl
theorem q754 : (Jvm.Cond.code ({ cls := "StaveScore", name := "nested", desc := "(II)I" } : Jvm.MethodName) prog_1_method_31_code (5 : Nat) (Option.some Jvm.ClassFile.FieldType.int)) ∈ lw_all := lw_g (lw_at lw_m3 212 rfl) rfl
theorem q755 : (Jvm.Cond.methodLink "StaveScore" (263 : Nat) ({ cls := "StaveScore$Tuplet", name := "has", desc := "(II)Z" } : Jvm.MethodName)) ∈ lw_all := lw_g (lw_at lw_m3 213 rfl) rfl
theorem q759 : (Jvm.Cond.methodLink "StaveScore" (308 : Nat) ({ cls := "StaveScore", name := "reckon", desc := "(LStaveScore$Voice;)V" } : Jvm.MethodName)) ∈ lw_all := lw_g (lw_at lw_m3 217 rfl) rfl
theorem q760 : (Jvm.Cond.privateMethod ({ cls := "StaveScore", name := "reckon", desc := "(LStaveScore$Voice;)V" } : Jvm.MethodName)) ∈ lw_tbl := lw_at lw_m3 218 rfl
theorem q761 : (Jvm.Cond.instanceMethod ({ cls := "StaveScore", name := "reckon", desc := "(LStaveScore$Voice;)V" } : Jvm.MethodName)) ∈ lw_all := lw_g (lw_at lw_m3 219 rfl) rfl
theorem q762 : (Jvm.Cond.code ({ cls := "StaveScore", name := "reckon", desc := "(LStaveScore$Voice;)V" } : Jvm.MethodName) prog_1_method_28_code (3 : Nat) (Option.none : Option Jvm.ClassFile.FieldType)) ∈ lw_all := lw_g (lw_at lw_m3 220 rfl) rfl
theorem q763 : (Jvm.Cond.methodLink "StaveScore" (286 : Nat) ({ cls := "StaveScore$Fraction", name := "take", desc := "(LStaveScore$Fraction;)V" } : Jvm.MethodName)) ∈ lw_all := lw_g (lw_at lw_m3 221 rfl) rfl
theorem q767 : (Jvm.Cond.methodLink "StaveScore" (289 : Nat) ({ cls := "StaveScore", name := "timeOf", desc := "(LStaveScore$Event;LStaveScore$Tuplet;LStaveScore$Fraction;)V" } : Jvm.MethodName)) ∈ lw_all := lw_g (lw_at lw_m3 225 rfl) rfl
theorem q768 : (Jvm.Cond.privateMethod ({ cls := "StaveScore", name := "timeOf", desc := "(LStaveScore$Event;LStaveScore$Tuplet;LStaveScore$Fraction;)V" } : Jvm.MethodName)) ∈ lw_tbl := lw_at lw_m3 226 rfl
theorem q769 : (Jvm.Cond.instanceMethod ({ cls := "StaveScore", name := "timeOf", desc := "(LStaveScore$Event;LStaveScore$Tuplet;LStaveScore$Fraction;)V" } : Jvm.MethodName)) ∈ lw_all := lw_g (lw_at lw_m3 227 rfl) rfl
theorem q770 : (Jvm.Cond.code ({ cls := "StaveScore", name := "timeOf", desc := "(LStaveScore$Event;LStaveScore$Tuplet;LStaveScore$Fraction;)V" } : Jvm.MethodName) prog_1_method_27_code (6 : Nat) (Option.none : Option Jvm.ClassFile.FieldType)) ∈ lw_all := lw_g (lw_at lw_m3 228 rfl) rfl
theorem q771 : (Jvm.Cond.methodLink "StaveScore" (260 : Nat) ({ cls := "StaveScore$Event", name := "written", desc := "(LStaveScore$Fraction;)V" } : Jvm.MethodName)) ∈ lw_all := lw_g (lw_at lw_m3 229 rfl) rfl
theorem q794 : (Jvm.Cond.methodLink "StaveScore" (267 : Nat) ({ cls := "StaveScore$Tuplet", name := "isIn", desc := "(LStaveScore$Tuplet;)Z" } : Jvm.MethodName)) ∈ lw_all := lw_g (lw_at lw_m4 12 rfl) rfl
theorem q802 : (Jvm.Cond.methodLink "StaveScore" (277 : Nat) ({ cls := "StaveScore$Fraction", name := "multiply", desc := "(JJ)V" } : Jvm.MethodName)) ∈ lw_all := lw_g (lw_at lw_m4 20 rfl) rfl
theorem q803 : (Jvm.Cond.methodLink "StaveScore" (312 : Nat) ({ cls := "StaveScore", name := "barOf", desc := "(LStaveScore$Fraction;)I" } : Jvm.MethodName)) ∈ lw_all := lw_g (lw_at lw_m4 21 rfl) rfl
theorem q804 : (Jvm.Cond.privateMethod ({ cls := "StaveScore", name := "barOf", desc := "(LStaveScore$Fraction;)I" } : Jvm.MethodName)) ∈ lw_tbl := lw_at lw_m4 22 rfl
theorem q805 : (Jvm.Cond.instanceMethod ({ cls := "StaveScore", name := "barOf", desc := "(LStaveScore$Fraction;)I" } : Jvm.MethodName)) ∈ lw_all := lw_g (lw_at lw_m4 23 rfl) rfl
theorem q806 : (Jvm.Cond.code ({ cls := "StaveScore", name := "barOf", desc := "(LStaveScore$Fraction;)I" } : Jvm.MethodName) prog_1_method_29_code (3 : Nat) (Option.some Jvm.ClassFile.FieldType.int)) ∈ lw_all := lw_g (lw_at lw_m4 24 rfl) rfl
theorem q807 : (Jvm.Cond.methodLink "StaveScore" (293 : Nat) ({ cls := "StaveScore$Fraction", name := "compare", desc := "(LStaveScore$Fraction;)I" } : Jvm.MethodName)) ∈ lw_all := lw_g (lw_at lw_m4 25 rfl) rfl
theorem q815 : (Jvm.Cond.instanceMethod ({ cls := "StaveScore", name := "time", desc := "(II)J" } : Jvm.MethodName)) ∈ lw_all := lw_g (lw_at lw_m4 33 rfl) rfl
theorem q816 : (Jvm.Cond.selects "StaveScore" ({ cls := "StaveScore", name := "time", desc := "(II)J" } : Jvm.MethodName) ({ cls := "StaveScore", name := "time", desc := "(II)J" } : Jvm.MethodName)) ∈ lw_all := lw_g (lw_at lw_m4 34 rfl) rfl
theorem q817 : (Jvm.Cond.code ({ cls := "StaveScore", name := "time", desc := "(II)J" } : Jvm.MethodName) prog_1_method_32_code (5 : Nat) (Option.some Jvm.ClassFile.FieldType.long)) ∈ lw_all := lw_g (lw_at lw_m4 35 rfl) rfl
theorem q818 : (Jvm.Cond.methodLink "StaveScore" (315 : Nat) ({ cls := "StaveScore$Fraction", name := "told", desc := "(I)J" } : Jvm.MethodName)) ∈ lw_all := lw_g (lw_at lw_m4 36 rfl) rfl
theorem q822 : (Jvm.Cond.methodLink "StaveScore" (319 : Nat) ({ cls := "StaveScore$Fraction", name := "lessen", desc := "(LStaveScore$Fraction;)V" } : Jvm.MethodName)) ∈ lw_all := lw_g (lw_at lw_m4 40 rfl) rfl
theorem q827 : (Jvm.Cond.instanceMethod ({ cls := "StaveScore", name := "length", desc := "(II)J" } : Jvm.MethodName)) ∈ lw_all := lw_g (lw_at lw_m4 45 rfl) rfl
theorem q828 : (Jvm.Cond.selects "StaveScore" ({ cls := "StaveScore", name := "length", desc := "(II)J" } : Jvm.MethodName) ({ cls := "StaveScore", name := "length", desc := "(II)J" } : Jvm.MethodName)) ∈ lw_all := lw_g (lw_at lw_m4 46 rfl) rfl
theorem q829 : (Jvm.Cond.code ({ cls := "StaveScore", name := "length", desc := "(II)J" } : Jvm.MethodName) prog_1_method_33_code (3 : Nat) (Option.some Jvm.ClassFile.FieldType.long)) ∈ lw_all := lw_g (lw_at lw_m4 47 rfl) rfl
theorem q831 : (Jvm.Cond.instanceMethod ({ cls := "StaveScore", name := "event", desc := "(II)I" } : Jvm.MethodName)) ∈ lw_all := lw_g (lw_at lw_m4 49 rfl) rfl
theorem q832 : (Jvm.Cond.selects "StaveScore" ({ cls := "StaveScore", name := "event", desc := "(II)I" } : Jvm.MethodName) ({ cls := "StaveScore", name := "event", desc := "(II)I" } : Jvm.MethodName)) ∈ lw_all := lw_g (lw_at lw_m4 50 rfl) rfl
theorem q833 : (Jvm.Cond.code ({ cls := "StaveScore", name := "event", desc := "(II)I" } : Jvm.MethodName) prog_1_method_34_code (4 : Nat) (Option.some Jvm.ClassFile.FieldType.int)) ∈ lw_all := lw_g (lw_at lw_m4 51 rfl) rfl
theorem q835 : (Jvm.Cond.instanceMethod ({ cls := "StaveScore", name := "asks", desc := "(III)I" } : Jvm.MethodName)) ∈ lw_all := lw_g (lw_at lw_m4 53 rfl) rfl
theorem q836 : (Jvm.Cond.selects "StaveScore" ({ cls := "StaveScore", name := "asks", desc := "(III)I" } : Jvm.MethodName) ({ cls := "StaveScore", name := "asks", desc := "(III)I" } : Jvm.MethodName)) ∈ lw_all := lw_g (lw_at lw_m4 54 rfl) rfl
theorem q837 : (Jvm.Cond.code ({ cls := "StaveScore", name := "asks", desc := "(III)I" } : Jvm.MethodName) prog_1_method_35_code (5 : Nat) (Option.some Jvm.ClassFile.FieldType.int)) ∈ lw_all := lw_g (lw_at lw_m4 55 rfl) rfl
theorem q838 : (Jvm.Cond.interfaceEntry "StaveScore" (324 : Nat)) ∈ lw_tbl := lw_at lw_m4 56 rfl
theorem q839 : (Jvm.Cond.methodLink "StaveScore" (324 : Nat) ({ cls := "StaveScore$Hears", name := "least", desc := "()I" } : Jvm.MethodName)) ∈ lw_all := lw_g (lw_at lw_m4 57 rfl) rfl
theorem q867 : (Jvm.Cond.interfaceEntry "StaveScore" (327 : Nat)) ∈ lw_tbl := lw_at lw_m4 85 rfl
theorem q868 : (Jvm.Cond.methodLink "StaveScore" (327 : Nat) ({ cls := "StaveScore$Hears", name := "most", desc := "()I" } : Jvm.MethodName)) ∈ lw_all := lw_g (lw_at lw_m4 86 rfl) rfl
theorem q891 : (Jvm.Cond.instanceMethod ({ cls := "StaveScore", name := "tuplet", desc := "(IIIIII)I" } : Jvm.MethodName)) ∈ lw_all := lw_g (lw_at lw_m4 109 rfl) rfl
theorem q892 : (Jvm.Cond.selects "StaveScore" ({ cls := "StaveScore", name := "tuplet", desc := "(IIIIII)I" } : Jvm.MethodName) ({ cls := "StaveScore", name := "tuplet", desc := "(IIIIII)I" } : Jvm.MethodName)) ∈ lw_all := lw_g (lw_at lw_m4 110 rfl) rfl
theorem q893 : (Jvm.Cond.code ({ cls := "StaveScore", name := "tuplet", desc := "(IIIIII)I" } : Jvm.MethodName) prog_1_method_36_code (9 : Nat) (Option.some Jvm.ClassFile.FieldType.int)) ∈ lw_all := lw_g (lw_at lw_m4 111 rfl) rfl
theorem q895 : (Jvm.Cond.methodLink "StaveScore" (330 : Nat) ({ cls := "StaveScore$Tuplet", name := "<init>", desc := "(IIIIIII)V" } : Jvm.MethodName)) ∈ lw_all := lw_g (lw_at lw_m4 113 rfl) rfl
theorem q901 : (Jvm.Cond.fieldLinkNest "StaveScore" (197 : Nat) "StaveScore$Tuplet" "voice" "I" "StaveScore") ∈ lw_tbl := lw_at lw_m4 119 rfl
theorem q903 : (Jvm.Cond.fieldLinkNest "StaveScore" (201 : Nat) "StaveScore$Tuplet" "first" "I" "StaveScore") ∈ lw_tbl := lw_at lw_m4 121 rfl
theorem q905 : (Jvm.Cond.fieldLinkNest "StaveScore" (198 : Nat) "StaveScore$Tuplet" "last" "I" "StaveScore") ∈ lw_tbl := lw_at lw_m4 123 rfl
theorem q907 : (Jvm.Cond.fieldLinkNest "StaveScore" (274 : Nat) "StaveScore$Tuplet" "n" "I" "StaveScore") ∈ lw_tbl := lw_at lw_m4 125 rfl
theorem q909 : (Jvm.Cond.fieldLinkNest "StaveScore" (271 : Nat) "StaveScore$Tuplet" "m" "I" "StaveScore") ∈ lw_tbl := lw_at lw_m4 127 rfl
theorem q911 : (Jvm.Cond.fieldLinkNest "StaveScore" (345 : Nat) "StaveScore$Tuplet" "unit" "I" "StaveScore") ∈ lw_tbl := lw_at lw_m4 129 rfl
theorem q927 : (Jvm.Cond.methodLink "StaveScore" (333 : Nat) ({ cls := "StaveScore", name := "fits", desc := "(LStaveScore$Tuplet;)Z" } : Jvm.MethodName)) ∈ lw_all := lw_g (lw_at lw_m4 145 rfl) rfl
theorem q928 : (Jvm.Cond.privateMethod ({ cls := "StaveScore", name := "fits", desc := "(LStaveScore$Tuplet;)Z" } : Jvm.MethodName)) ∈ lw_tbl := lw_at lw_m4 146 rfl
theorem q929 : (Jvm.Cond.instanceMethod ({ cls := "StaveScore", name := "fits", desc := "(LStaveScore$Tuplet;)Z" } : Jvm.MethodName)) ∈ lw_all := lw_g (lw_at lw_m4 147 rfl) rfl
theorem q930 : (Jvm.Cond.code ({ cls := "StaveScore", name := "fits", desc := "(LStaveScore$Tuplet;)Z" } : Jvm.MethodName) prog_1_method_37_code (3 : Nat) (Option.some Jvm.ClassFile.FieldType.boolean)) ∈ lw_all := lw_g (lw_at lw_m4 148 rfl) rfl
theorem q931 : (Jvm.Cond.methodLink "StaveScore" (336 : Nat) ({ cls := "StaveScore$Tuplet", name := "isApart", desc := "(LStaveScore$Tuplet;)Z" } : Jvm.MethodName)) ∈ lw_all := lw_g (lw_at lw_m4 149 rfl) rfl
theorem q935 : (Jvm.Cond.methodLink "StaveScore" (339 : Nat) ({ cls := "StaveScore$Tuplet", name := "spans", desc := "(LStaveScore$Tuplet;)Z" } : Jvm.MethodName)) ∈ lw_all := lw_g (lw_at lw_m4 153 rfl) rfl
theorem q937 : (Jvm.Cond.instanceMethod ({ cls := "StaveScore", name := "untuplet", desc := "(I)I" } : Jvm.MethodName)) ∈ lw_all := lw_g (lw_at lw_m4 155 rfl) rfl
theorem q938 : (Jvm.Cond.selects "StaveScore" ({ cls := "StaveScore", name := "untuplet", desc := "(I)I" } : Jvm.MethodName) ({ cls := "StaveScore", name := "untuplet", desc := "(I)I" } : Jvm.MethodName)) ∈ lw_all := lw_g (lw_at lw_m4 156 rfl) rfl
theorem q939 : (Jvm.Cond.code ({ cls := "StaveScore", name := "untuplet", desc := "(I)I" } : Jvm.MethodName) prog_1_method_38_code (3 : Nat) (Option.some Jvm.ClassFile.FieldType.int)) ∈ lw_all := lw_g (lw_at lw_m4 157 rfl) rfl
theorem q940 : (Jvm.Cond.methodLink "StaveScore" (342 : Nat) ({ cls := "StaveScore", name := "isTuplet", desc := "(I)Z" } : Jvm.MethodName)) ∈ lw_all := lw_g (lw_at lw_m4 158 rfl) rfl
theorem q941 : (Jvm.Cond.privateMethod ({ cls := "StaveScore", name := "isTuplet", desc := "(I)Z" } : Jvm.MethodName)) ∈ lw_tbl := lw_at lw_m4 159 rfl
theorem q942 : (Jvm.Cond.instanceMethod ({ cls := "StaveScore", name := "isTuplet", desc := "(I)Z" } : Jvm.MethodName)) ∈ lw_all := lw_g (lw_at lw_m4 160 rfl) rfl
theorem q943 : (Jvm.Cond.code ({ cls := "StaveScore", name := "isTuplet", desc := "(I)Z" } : Jvm.MethodName) prog_1_method_9_code (2 : Nat) (Option.some Jvm.ClassFile.FieldType.boolean)) ∈ lw_all := lw_g (lw_at lw_m4 161 rfl) rfl
theorem q945 : (Jvm.Cond.instanceMethod ({ cls := "StaveScore", name := "tupletAt", desc := "(II)I" } : Jvm.MethodName)) ∈ lw_all := lw_g (lw_at lw_m4 163 rfl) rfl
theorem q946 : (Jvm.Cond.selects "StaveScore" ({ cls := "StaveScore", name := "tupletAt", desc := "(II)I" } : Jvm.MethodName) ({ cls := "StaveScore", name := "tupletAt", desc := "(II)I" } : Jvm.MethodName)) ∈ lw_all := lw_g (lw_at lw_m4 164 rfl) rfl
theorem q947 : (Jvm.Cond.code ({ cls := "StaveScore", name := "tupletAt", desc := "(II)I" } : Jvm.MethodName) prog_1_method_39_code (6 : Nat) (Option.some Jvm.ClassFile.FieldType.int)) ∈ lw_all := lw_g (lw_at lw_m4 165 rfl) rfl
theorem q949 : (Jvm.Cond.instanceMethod ({ cls := "StaveScore", name := "line", desc := "(III)I" } : Jvm.MethodName)) ∈ lw_all := lw_g (lw_at lw_m4 167 rfl) rfl
theorem q950 : (Jvm.Cond.selects "StaveScore" ({ cls := "StaveScore", name := "line", desc := "(III)I" } : Jvm.MethodName) ({ cls := "StaveScore", name := "line", desc := "(III)I" } : Jvm.MethodName)) ∈ lw_all := lw_g (lw_at lw_m4 168 rfl) rfl
theorem q951 : (Jvm.Cond.code ({ cls := "StaveScore", name := "line", desc := "(III)I" } : Jvm.MethodName) prog_1_method_42_code (4 : Nat) (Option.some Jvm.ClassFile.FieldType.int)) ∈ lw_all := lw_g (lw_at lw_m4 169 rfl) rfl
theorem q952 : (Jvm.Cond.methodLink "StaveScore" (348 : Nat) ({ cls := "StaveScore", name := "mayEnd", desc := "(I)Z" } : Jvm.MethodName)) ∈ lw_all := lw_g (lw_at lw_m4 170 rfl) rfl
theorem q953 : (Jvm.Cond.privateMethod ({ cls := "StaveScore", name := "mayEnd", desc := "(I)Z" } : Jvm.MethodName)) ∈ lw_tbl := lw_at lw_m4 171 rfl
theorem q954 : (Jvm.Cond.instanceMethod ({ cls := "StaveScore", name := "mayEnd", desc := "(I)Z" } : Jvm.MethodName)) ∈ lw_all := lw_g (lw_at lw_m4 172 rfl) rfl
theorem q955 : (Jvm.Cond.code ({ cls := "StaveScore", name := "mayEnd", desc := "(I)Z" } : Jvm.MethodName) prog_1_method_40_code (2 : Nat) (Option.some Jvm.ClassFile.FieldType.boolean)) ∈ lw_all := lw_g (lw_at lw_m4 173 rfl) rfl
theorem q957 : (Jvm.Cond.methodLink "StaveScore" (351 : Nat) ({ cls := "StaveScore", name := "eventOr", desc := "(I)LStaveScore$Event;" } : Jvm.MethodName)) ∈ lw_all := lw_g (lw_at lw_m4 175 rfl) rfl
theorem q958 : (Jvm.Cond.privateMethod ({ cls := "StaveScore", name := "eventOr", desc := "(I)LStaveScore$Event;" } : Jvm.MethodName)) ∈ lw_tbl := lw_at lw_m4 176 rfl
theorem q959 : (Jvm.Cond.instanceMethod ({ cls := "StaveScore", name := "eventOr", desc := "(I)LStaveScore$Event;" } : Jvm.MethodName)) ∈ lw_all := lw_g (lw_at lw_m4 177 rfl) rfl
theorem q960 : (Jvm.Cond.code ({ cls := "StaveScore", name := "eventOr", desc := "(I)LStaveScore$Event;" } : Jvm.MethodName) prog_1_method_41_code (2 : Nat) (Option.some (Jvm.ClassFile.FieldType.object "StaveScore$Event"))) ∈ lw_all := lw_g (lw_at lw_m4 178 rfl) rfl
theorem q961 : (Jvm.Cond.methodLink "StaveScore" (355 : Nat) ({ cls := "StaveScore$Line", name := "<init>", desc := "(ILStaveScore$Event;LStaveScore$Event;)V" } : Jvm.MethodName)) ∈ lw_all := lw_g (lw_at lw_m4 179 rfl) rfl
theorem q966 : (Jvm.Cond.fieldLinkNest "StaveScore" (236 : Nat) "StaveScore$Line" "kind" "I" "StaveScore") ∈ lw_tbl := lw_at lw_m4 184 rfl
theorem q968 : (Jvm.Cond.fieldLinkNest "StaveScore" (214 : Nat) "StaveScore$Line" "from" "LStaveScore$Event;" "StaveScore") ∈ lw_tbl := lw_at lw_m4 186 rfl
theorem q970 : (Jvm.Cond.fieldLinkNest "StaveScore" (210 : Nat) "StaveScore$Line" "to" "LStaveScore$Event;" "StaveScore") ∈ lw_tbl := lw_at lw_m4 188 rfl
theorem q979 : (Jvm.Cond.instanceMethod ({ cls := "StaveScore", name := "end", desc := "(II)I" } : Jvm.MethodName)) ∈ lw_all := lw_g (lw_at lw_m4 197 rfl) rfl
theorem q980 : (Jvm.Cond.selects "StaveScore" ({ cls := "StaveScore", name := "end", desc := "(II)I" } : Jvm.MethodName) ({ cls := "StaveScore", name := "end", desc := "(II)I" } : Jvm.MethodName)) ∈ lw_all := lw_g (lw_at lw_m4 198 rfl) rfl
theorem q981 : (Jvm.Cond.code ({ cls := "StaveScore", name := "end", desc := "(II)I" } : Jvm.MethodName) prog_1_method_43_code (3 : Nat) (Option.some Jvm.ClassFile.FieldType.int)) ∈ lw_all := lw_g (lw_at lw_m4 199 rfl) rfl
theorem q982 : (Jvm.Cond.methodLink "StaveScore" (358 : Nat) ({ cls := "StaveScore", name := "isLine", desc := "(I)Z" } : Jvm.MethodName)) ∈ lw_all := lw_g (lw_at lw_m4 200 rfl) rfl
theorem q983 : (Jvm.Cond.privateMethod ({ cls := "StaveScore", name := "isLine", desc := "(I)Z" } : Jvm.MethodName)) ∈ lw_tbl := lw_at lw_m4 201 rfl
theorem q984 : (Jvm.Cond.instanceMethod ({ cls := "StaveScore", name := "isLine", desc := "(I)Z" } : Jvm.MethodName)) ∈ lw_all := lw_g (lw_at lw_m4 202 rfl) rfl
theorem q985 : (Jvm.Cond.code ({ cls := "StaveScore", name := "isLine", desc := "(I)Z" } : Jvm.MethodName) prog_1_method_10_code (2 : Nat) (Option.some Jvm.ClassFile.FieldType.boolean)) ∈ lw_all := lw_g (lw_at lw_m4 203 rfl) rfl
theorem q987 : (Jvm.Cond.instanceMethod ({ cls := "StaveScore", name := "lineAt", desc := "(II)I" } : Jvm.MethodName)) ∈ lw_all := lw_g (lw_at lw_m4 205 rfl) rfl
theorem q988 : (Jvm.Cond.selects "StaveScore" ({ cls := "StaveScore", name := "lineAt", desc := "(II)I" } : Jvm.MethodName) ({ cls := "StaveScore", name := "lineAt", desc := "(II)I" } : Jvm.MethodName)) ∈ lw_all := lw_g (lw_at lw_m4 206 rfl) rfl
theorem q989 : (Jvm.Cond.code ({ cls := "StaveScore", name := "lineAt", desc := "(II)I" } : Jvm.MethodName) prog_1_method_44_code (4 : Nat) (Option.some Jvm.ClassFile.FieldType.int)) ∈ lw_all := lw_g (lw_at lw_m4 207 rfl) rfl
theorem q991 : (Jvm.Cond.instanceMethod ({ cls := "StaveScore", name := "walk", desc := "()I" } : Jvm.MethodName)) ∈ lw_all := lw_g (lw_at lw_m4 209 rfl) rfl
theorem q992 : (Jvm.Cond.selects "StaveScore" ({ cls := "StaveScore", name := "walk", desc := "()I" } : Jvm.MethodName) ({ cls := "StaveScore", name := "walk", desc := "()I" } : Jvm.MethodName)) ∈ lw_all := lw_g (lw_at lw_m4 210 rfl) rfl
theorem q993 : (Jvm.Cond.code ({ cls := "StaveScore", name := "walk", desc := "()I" } : Jvm.MethodName) prog_1_method_45_code (3 : Nat) (Option.some Jvm.ClassFile.FieldType.int)) ∈ lw_all := lw_g (lw_at lw_m4 211 rfl) rfl
theorem q994 : (Jvm.Cond.methodLink "StaveScore" (364 : Nat) ({ cls := "StaveScore", name := "comes", desc := "(LStaveScore$Event;)V" } : Jvm.MethodName)) ∈ lw_all := lw_g (lw_at lw_m4 212 rfl) rfl
theorem q995 : (Jvm.Cond.privateMethod ({ cls := "StaveScore", name := "comes", desc := "(LStaveScore$Event;)V" } : Jvm.MethodName)) ∈ lw_tbl := lw_at lw_m4 213 rfl
theorem q996 : (Jvm.Cond.instanceMethod ({ cls := "StaveScore", name := "comes", desc := "(LStaveScore$Event;)V" } : Jvm.MethodName)) ∈ lw_all := lw_g (lw_at lw_m4 214 rfl) rfl
theorem q997 : (Jvm.Cond.code ({ cls := "StaveScore", name := "comes", desc := "(LStaveScore$Event;)V" } : Jvm.MethodName) prog_1_method_46_code (3 : Nat) (Option.none : Option Jvm.ClassFile.FieldType)) ∈ lw_all := lw_g (lw_at lw_m4 215 rfl) rfl
theorem q999 : (Jvm.Cond.instanceMethod ({ cls := "StaveScore", name := "walked", desc := "(I)I" } : Jvm.MethodName)) ∈ lw_all := lw_g (lw_at lw_m4 217 rfl) rfl
theorem q1000 : (Jvm.Cond.selects "StaveScore" ({ cls := "StaveScore", name := "walked", desc := "(I)I" } : Jvm.MethodName) ({ cls := "StaveScore", name := "walked", desc := "(I)I" } : Jvm.MethodName)) ∈ lw_all := lw_g (lw_at lw_m4 218 rfl) rfl
theorem q1001 : (Jvm.Cond.code ({ cls := "StaveScore", name := "walked", desc := "(I)I" } : Jvm.MethodName) prog_1_method_47_code (2 : Nat) (Option.some Jvm.ClassFile.FieldType.int)) ∈ lw_all := lw_g (lw_at lw_m4 219 rfl) rfl
theorem q1003 : (Jvm.Cond.instanceMethod ({ cls := "StaveScore", name := "check", desc := "()I" } : Jvm.MethodName)) ∈ lw_all := lw_g (lw_at lw_m4 221 rfl) rfl
theorem q1004 : (Jvm.Cond.selects "StaveScore" ({ cls := "StaveScore", name := "check", desc := "()I" } : Jvm.MethodName) ({ cls := "StaveScore", name := "check", desc := "()I" } : Jvm.MethodName)) ∈ lw_all := lw_g (lw_at lw_m4 222 rfl) rfl
theorem q1005 : (Jvm.Cond.code ({ cls := "StaveScore", name := "check", desc := "()I" } : Jvm.MethodName) prog_1_method_49_code (3 : Nat) (Option.some Jvm.ClassFile.FieldType.int)) ∈ lw_all := lw_g (lw_at lw_m4 223 rfl) rfl
theorem q1006 : (Jvm.Cond.methodLink "StaveScore" (370 : Nat) ({ cls := "StaveScore", name := "checkEvent", desc := "(LStaveScore$Voice;LStaveScore$Event;)V" } : Jvm.MethodName)) ∈ lw_all := lw_g (lw_at lw_m4 224 rfl) rfl
theorem q1007 : (Jvm.Cond.privateMethod ({ cls := "StaveScore", name := "checkEvent", desc := "(LStaveScore$Voice;LStaveScore$Event;)V" } : Jvm.MethodName)) ∈ lw_tbl := lw_at lw_m4 225 rfl
theorem q1008 : (Jvm.Cond.instanceMethod ({ cls := "StaveScore", name := "checkEvent", desc := "(LStaveScore$Voice;LStaveScore$Event;)V" } : Jvm.MethodName)) ∈ lw_all := lw_g (lw_at lw_m4 226 rfl) rfl
theorem q1009 : (Jvm.Cond.code ({ cls := "StaveScore", name := "checkEvent", desc := "(LStaveScore$Voice;LStaveScore$Event;)V" } : Jvm.MethodName) prog_1_method_50_code (4 : Nat) (Option.none : Option Jvm.ClassFile.FieldType)) ∈ lw_all := lw_g (lw_at lw_m4 227 rfl) rfl
theorem q1010 : (Jvm.Cond.methodLink "StaveScore" (374 : Nat) ({ cls := "StaveScore", name := "finds", desc := "(III)V" } : Jvm.MethodName)) ∈ lw_all := lw_g (lw_at lw_m4 228 rfl) rfl
theorem q1011 : (Jvm.Cond.privateMethod ({ cls := "StaveScore", name := "finds", desc := "(III)V" } : Jvm.MethodName)) ∈ lw_tbl := lw_at lw_m4 229 rfl
theorem q1012 : (Jvm.Cond.instanceMethod ({ cls := "StaveScore", name := "finds", desc := "(III)V" } : Jvm.MethodName)) ∈ lw_all := lw_g (lw_at lw_m4 230 rfl) rfl
theorem q1013 : (Jvm.Cond.code ({ cls := "StaveScore", name := "finds", desc := "(III)V" } : Jvm.MethodName) prog_1_method_48_code (4 : Nat) (Option.none : Option Jvm.ClassFile.FieldType)) ∈ lw_all := lw_g (lw_at lw_m4 231 rfl) rfl
theorem q1014 : (Jvm.Cond.methodLink "StaveScore" (381 : Nat) ({ cls := "StaveScore", name := "goesOn", desc := "(LStaveScore$Voice;LStaveScore$Note;)Z" } : Jvm.MethodName)) ∈ lw_all := lw_g (lw_at lw_m4 232 rfl) rfl
theorem q1015 : (Jvm.Cond.static ({ cls := "StaveScore", name := "goesOn", desc := "(LStaveScore$Voice;LStaveScore$Note;)Z" } : Jvm.MethodName)) ∈ lw_all := lw_g (lw_at lw_m4 233 rfl) rfl
theorem q1016 : (Jvm.Cond.code ({ cls := "StaveScore", name := "goesOn", desc := "(LStaveScore$Voice;LStaveScore$Note;)Z" } : Jvm.MethodName) prog_1_method_51_code (3 : Nat) (Option.some Jvm.ClassFile.FieldType.boolean)) ∈ lw_all := lw_g (lw_at lw_m4 234 rfl) rfl
theorem q1017 : (Jvm.Cond.methodLink "StaveScore" (389 : Nat) ({ cls := "StaveScore$Event", name := "takes", desc := "()Z" } : Jvm.MethodName)) ∈ lw_all := lw_g (lw_at lw_m4 235 rfl) rfl
theorem q1033 : (Jvm.Cond.methodLink "StaveScore" (392 : Nat) ({ cls := "StaveScore$Note", name := "hasAll", desc := "(LStaveScore$Note;)Z" } : Jvm.MethodName)) ∈ lw_all := lw_g (lw_at lw_m5 11 rfl) rfl
theorem q1050 : (Jvm.Cond.methodLink "StaveScore" (385 : Nat) ({ cls := "StaveScore", name := "isOut", desc := "(LStaveScore$Note;)Z" } : Jvm.MethodName)) ∈ lw_all := lw_g (lw_at lw_m5 28 rfl) rfl
theorem q1051 : (Jvm.Cond.privateMethod ({ cls := "StaveScore", name := "isOut", desc := "(LStaveScore$Note;)Z" } : Jvm.MethodName)) ∈ lw_tbl := lw_at lw_m5 29 rfl
theorem q1052 : (Jvm.Cond.instanceMethod ({ cls := "StaveScore", name := "isOut", desc := "(LStaveScore$Note;)Z" } : Jvm.MethodName)) ∈ lw_all := lw_g (lw_at lw_m5 30 rfl) rfl
theorem q1053 : (Jvm.Cond.code ({ cls := "StaveScore", name := "isOut", desc := "(LStaveScore$Note;)Z" } : Jvm.MethodName) prog_1_method_52_code (6 : Nat) (Option.some Jvm.ClassFile.FieldType.boolean)) ∈ lw_all := lw_g (lw_at lw_m5 31 rfl) rfl
theorem q1054 : (Jvm.Cond.interfaceEntry "StaveScore" (395 : Nat)) ∈ lw_tbl := lw_at lw_m5 32 rfl
theorem q1055 : (Jvm.Cond.methodLink "StaveScore" (395 : Nat) ({ cls := "StaveScore$Hears", name := "has", desc := "(II)Z" } : Jvm.MethodName)) ∈ lw_all := lw_g (lw_at lw_m5 33 rfl) rfl
theorem q1073 : (Jvm.Cond.methodLink "StaveScore" (378 : Nat) ({ cls := "StaveScore", name := "isSum", desc := "(LStaveScore$Tuplet;)Z" } : Jvm.MethodName)) ∈ lw_all := lw_g (lw_at lw_m5 51 rfl) rfl
theorem q1074 : (Jvm.Cond.privateMethod ({ cls := "StaveScore", name := "isSum", desc := "(LStaveScore$Tuplet;)Z" } : Jvm.MethodName)) ∈ lw_tbl := lw_at lw_m5 52 rfl
theorem q1075 : (Jvm.Cond.instanceMethod ({ cls := "StaveScore", name := "isSum", desc := "(LStaveScore$Tuplet;)Z" } : Jvm.MethodName)) ∈ lw_all := lw_g (lw_at lw_m5 53 rfl) rfl
theorem q1076 : (Jvm.Cond.code ({ cls := "StaveScore", name := "isSum", desc := "(LStaveScore$Tuplet;)Z" } : Jvm.MethodName) prog_1_method_53_code (3 : Nat) (Option.some Jvm.ClassFile.FieldType.boolean)) ∈ lw_all := lw_g (lw_at lw_m5 54 rfl) rfl
theorem q1078 : (Jvm.Cond.instanceMethod ({ cls := "StaveScore", name := "finding", desc := "(II)I" } : Jvm.MethodName)) ∈ lw_all := lw_g (lw_at lw_m5 56 rfl) rfl
theorem q1079 : (Jvm.Cond.selects "StaveScore" ({ cls := "StaveScore", name := "finding", desc := "(II)I" } : Jvm.MethodName) ({ cls := "StaveScore", name := "finding", desc := "(II)I" } : Jvm.MethodName)) ∈ lw_all := lw_g (lw_at lw_m5 57 rfl) rfl
theorem q1080 : (Jvm.Cond.code ({ cls := "StaveScore", name := "finding", desc := "(II)I" } : Jvm.MethodName) prog_1_method_54_code (3 : Nat) (Option.some Jvm.ClassFile.FieldType.int)) ∈ lw_all := lw_g (lw_at lw_m5 58 rfl) rfl
theorem q1082 : (Jvm.Cond.instanceMethod ({ cls := "StaveScore", name := "equal", desc := "(II)I" } : Jvm.MethodName)) ∈ lw_all := lw_g (lw_at lw_m5 60 rfl) rfl
theorem q1083 : (Jvm.Cond.selects "StaveScore" ({ cls := "StaveScore", name := "equal", desc := "(II)I" } : Jvm.MethodName) ({ cls := "StaveScore", name := "equal", desc := "(II)I" } : Jvm.MethodName)) ∈ lw_all := lw_g (lw_at lw_m5 61 rfl) rfl
theorem q1084 : (Jvm.Cond.code ({ cls := "StaveScore", name := "equal", desc := "(II)I" } : Jvm.MethodName) prog_1_method_55_code (8 : Nat) (Option.some Jvm.ClassFile.FieldType.int)) ∈ lw_all := lw_g (lw_at lw_m5 62 rfl) rfl
theorem q1085 : (Jvm.Cond.methodLink "StaveScore" (396 : Nat) ({ cls := "StaveScore$Event", name := "isAlike", desc := "(LStaveScore$Event;)Z" } : Jvm.MethodName)) ∈ lw_all := lw_g (lw_at lw_m5 63 rfl) rfl
theorem q1102 : (Jvm.Cond.methodLink "StaveScore" (400 : Nat) ({ cls := "StaveScore", name := "next", desc := "(II)I" } : Jvm.MethodName)) ∈ lw_all := lw_g (lw_at lw_m5 80 rfl) rfl
theorem q1103 : (Jvm.Cond.privateMethod ({ cls := "StaveScore", name := "next", desc := "(II)I" } : Jvm.MethodName)) ∈ lw_tbl := lw_at lw_m5 81 rfl
theorem q1104 : (Jvm.Cond.instanceMethod ({ cls := "StaveScore", name := "next", desc := "(II)I" } : Jvm.MethodName)) ∈ lw_all := lw_g (lw_at lw_m5 82 rfl) rfl
theorem q1105 : (Jvm.Cond.code ({ cls := "StaveScore", name := "next", desc := "(II)I" } : Jvm.MethodName) prog_1_method_56_code (4 : Nat) (Option.some Jvm.ClassFile.FieldType.int)) ∈ lw_all := lw_g (lw_at lw_m5 83 rfl) rfl
theorem q1106 : (Jvm.Cond.methodLink "StaveScore" (403 : Nat) ({ cls := "StaveScore$Tuplet", name := "isAlike", desc := "(LStaveScore$Tuplet;)Z" } : Jvm.MethodName)) ∈ lw_all := lw_g (lw_at lw_m5 84 rfl) rfl
theorem q1111 : (Jvm.Cond.instanceMethod ({ cls := "StaveScore", name := "rack", desc := "(III)I" } : Jvm.MethodName)) ∈ lw_all := lw_g (lw_at lw_m5 89 rfl) rfl
theorem q1112 : (Jvm.Cond.selects "StaveScore" ({ cls := "StaveScore", name := "rack", desc := "(III)I" } : Jvm.MethodName) ({ cls := "StaveScore", name := "rack", desc := "(III)I" } : Jvm.MethodName)) ∈ lw_all := lw_g (lw_at lw_m5 90 rfl) rfl
theorem q1113 : (Jvm.Cond.codeWith ({ cls := "StaveScore", name := "rack", desc := "(III)I" } : Jvm.MethodName) prog_1_method_58_code (5 : Nat) (Option.some Jvm.ClassFile.FieldType.int) [((31 : Nat), (47 : Nat), (48 : Nat), (409 : Nat))]) ∈ lw_all := lw_g (lw_at lw_m5 91 rfl) rfl
theorem q1114 : (Jvm.Cond.classLink "StaveScore" (409 : Nat) "java/lang/NegativeArraySizeException") ∈ lw_all := lw_g (lw_at lw_m5 92 rfl) rfl
theorem q1128 : (Jvm.Cond.methodLink "StaveScore" (405 : Nat) ({ cls := "StaveScore", name := "rowOf", desc := "(II)[LStaveScore$Event;" } : Jvm.MethodName)) ∈ lw_all := lw_g (lw_at lw_m5 106 rfl) rfl
theorem q1129 : (Jvm.Cond.static ({ cls := "StaveScore", name := "rowOf", desc := "(II)[LStaveScore$Event;" } : Jvm.MethodName)) ∈ lw_all := lw_g (lw_at lw_m5 107 rfl) rfl
theorem q1130 : (Jvm.Cond.code ({ cls := "StaveScore", name := "rowOf", desc := "(II)[LStaveScore$Event;" } : Jvm.MethodName) prog_1_method_57_code (2 : Nat) (Option.some (Jvm.ClassFile.FieldType.array (Jvm.ClassFile.FieldType.object "StaveScore$Event")))) ∈ lw_all := lw_g (lw_at lw_m5 108 rfl) rfl
theorem q1137 : (Jvm.Cond.instanceMethod ({ cls := "StaveScore", name := "hold", desc := "(III)I" } : Jvm.MethodName)) ∈ lw_all := lw_g (lw_at lw_m5 115 rfl) rfl
theorem q1138 : (Jvm.Cond.selects "StaveScore" ({ cls := "StaveScore", name := "hold", desc := "(III)I" } : Jvm.MethodName) ({ cls := "StaveScore", name := "hold", desc := "(III)I" } : Jvm.MethodName)) ∈ lw_all := lw_g (lw_at lw_m5 116 rfl) rfl
theorem q1139 : (Jvm.Cond.codeWith ({ cls := "StaveScore", name := "hold", desc := "(III)I" } : Jvm.MethodName) prog_1_method_59_code (5 : Nat) (Option.some Jvm.ClassFile.FieldType.int) [((24 : Nat), (42 : Nat), (43 : Nat), (411 : Nat)), ((24 : Nat), (42 : Nat), (52 : Nat), (254 : Nat)), ((24 : Nat), (42 : Nat), (61 : Nat), (413 : Nat))]) ∈ lw_all := lw_g (lw_at lw_m5 117 rfl) rfl
theorem q1140 : (Jvm.Cond.classLink "StaveScore" (411 : Nat) "java/lang/NullPointerException") ∈ lw_all := lw_g (lw_at lw_m5 118 rfl) rfl
theorem q1165 : (Jvm.Cond.classLink "StaveScore" (413 : Nat) "java/lang/ArrayStoreException") ∈ lw_all := lw_g (lw_at lw_m5 143 rfl) rfl
theorem q1180 : (Jvm.Cond.instanceMethod ({ cls := "StaveScore", name := "held", desc := "(II)I" } : Jvm.MethodName)) ∈ lw_all := lw_g (lw_at lw_m5 158 rfl) rfl
theorem q1181 : (Jvm.Cond.selects "StaveScore" ({ cls := "StaveScore", name := "held", desc := "(II)I" } : Jvm.MethodName) ({ cls := "StaveScore", name := "held", desc := "(II)I" } : Jvm.MethodName)) ∈ lw_all := lw_g (lw_at lw_m5 159 rfl) rfl
theorem q1182 : (Jvm.Cond.codeWith ({ cls := "StaveScore", name := "held", desc := "(II)I" } : Jvm.MethodName) prog_1_method_60_code (4 : Nat) (Option.some Jvm.ClassFile.FieldType.int) [((16 : Nat), (31 : Nat), (32 : Nat), (411 : Nat)), ((16 : Nat), (31 : Nat), (40 : Nat), (254 : Nat))]) ∈ lw_all := lw_g (lw_at lw_m5 160 rfl) rfl
theorem q1184 : (Jvm.Cond.instanceMethod ({ cls := "StaveScore", name := "slide", desc := "(IIII)I" } : Jvm.MethodName)) ∈ lw_all := lw_g (lw_at lw_m5 162 rfl) rfl
theorem q1185 : (Jvm.Cond.selects "StaveScore" ({ cls := "StaveScore", name := "slide", desc := "(IIII)I" } : Jvm.MethodName) ({ cls := "StaveScore", name := "slide", desc := "(IIII)I" } : Jvm.MethodName)) ∈ lw_all := lw_g (lw_at lw_m5 163 rfl) rfl
theorem q1186 : (Jvm.Cond.codeWith ({ cls := "StaveScore", name := "slide", desc := "(IIII)I" } : Jvm.MethodName) prog_1_method_61_code (6 : Nat) (Option.some Jvm.ClassFile.FieldType.int) [((16 : Nat), (41 : Nat), (42 : Nat), (411 : Nat)), ((16 : Nat), (41 : Nat), (51 : Nat), (254 : Nat))]) ∈ lw_all := lw_g (lw_at lw_m5 164 rfl) rfl
theorem q1188 : (Jvm.Cond.instanceMethod ({ cls := "StaveScore", name := "shelf", desc := "(III)I" } : Jvm.MethodName)) ∈ lw_all := lw_g (lw_at lw_m5 166 rfl) rfl
theorem q1189 : (Jvm.Cond.selects "StaveScore" ({ cls := "StaveScore", name := "shelf", desc := "(III)I" } : Jvm.MethodName) ({ cls := "StaveScore", name := "shelf", desc := "(III)I" } : Jvm.MethodName)) ∈ lw_all := lw_g (lw_at lw_m5 167 rfl) rfl
theorem q1190 : (Jvm.Cond.codeWith ({ cls := "StaveScore", name := "shelf", desc := "(III)I" } : Jvm.MethodName) prog_1_method_62_code (5 : Nat) (Option.some Jvm.ClassFile.FieldType.int) [((31 : Nat), (47 : Nat), (48 : Nat), (409 : Nat))]) ∈ lw_all := lw_g (lw_at lw_m5 168 rfl) rfl
theorem q1191 : (Jvm.Cond.methodLink "StaveScore" (415 : Nat) ({ cls := "StaveScore$Shelf", name := "make", desc := "(II)V" } : Jvm.MethodName)) ∈ lw_all := lw_g (lw_at lw_m5 169 rfl) rfl
theorem q1198 : (Jvm.Cond.instanceMethod ({ cls := "StaveScore", name := "lay", desc := "(IZII)I" } : Jvm.MethodName)) ∈ lw_all := lw_g (lw_at lw_m5 176 rfl) rfl
theorem q1199 : (Jvm.Cond.selects "StaveScore" ({ cls := "StaveScore", name := "lay", desc := "(IZII)I" } : Jvm.MethodName) ({ cls := "StaveScore", name := "lay", desc := "(IZII)I" } : Jvm.MethodName)) ∈ lw_all := lw_g (lw_at lw_m5 177 rfl) rfl
theorem q1200 : (Jvm.Cond.codeWith ({ cls := "StaveScore", name := "lay", desc := "(IZII)I" } : Jvm.MethodName) prog_1_method_63_code (9 : Nat) (Option.some Jvm.ClassFile.FieldType.int) [((48 : Nat), (136 : Nat), (139 : Nat), (411 : Nat)), ((48 : Nat), (136 : Nat), (151 : Nat), (229 : Nat)), ((48 : Nat), (136 : Nat), (163 : Nat), (254 : Nat))]) ∈ lw_all := lw_g (lw_at lw_m5 178 rfl) rfl
theorem q1201 : (Jvm.Cond.methodLink "StaveScore" (419 : Nat) ({ cls := "StaveScore$Shelf", name := "put", desc := "(II)V" } : Jvm.MethodName)) ∈ lw_all := lw_g (lw_at lw_m5 179 rfl) rfl
theorem q1210 : (Jvm.Cond.instanceMethod ({ cls := "StaveScore", name := "item", desc := "(II)I" } : Jvm.MethodName)) ∈ lw_all := lw_g (lw_at lw_m5 188 rfl) rfl
theorem q1211 : (Jvm.Cond.selects "StaveScore" ({ cls := "StaveScore", name := "item", desc := "(II)I" } : Jvm.MethodName) ({ cls := "StaveScore", name := "item", desc := "(II)I" } : Jvm.MethodName)) ∈ lw_all := lw_g (lw_at lw_m5 189 rfl) rfl
theorem q1212 : (Jvm.Cond.codeWith ({ cls := "StaveScore", name := "item", desc := "(II)I" } : Jvm.MethodName) prog_1_method_64_code (4 : Nat) (Option.some Jvm.ClassFile.FieldType.int) [((20 : Nat), (34 : Nat), (35 : Nat), (411 : Nat)), ((20 : Nat), (34 : Nat), (47 : Nat), (254 : Nat))]) ∈ lw_all := lw_g (lw_at lw_m5 190 rfl) rfl
theorem q1213 : (Jvm.Cond.methodLink "StaveScore" (422 : Nat) ({ cls := "StaveScore$Shelf", name := "get", desc := "(I)I" } : Jvm.MethodName)) ∈ lw_all := lw_g (lw_at lw_m5 191 rfl) rfl
theorem q1218 : (Jvm.Cond.instanceMethod ({ cls := "StaveScore", name := "lift", desc := "(III)I" } : Jvm.MethodName)) ∈ lw_all := lw_g (lw_at lw_m5 196 rfl) rfl
theorem q1219 : (Jvm.Cond.selects "StaveScore" ({ cls := "StaveScore", name := "lift", desc := "(III)I" } : Jvm.MethodName) ({ cls := "StaveScore", name := "lift", desc := "(III)I" } : Jvm.MethodName)) ∈ lw_all := lw_g (lw_at lw_m5 197 rfl) rfl
theorem q1220 : (Jvm.Cond.codeWith ({ cls := "StaveScore", name := "lift", desc := "(III)I" } : Jvm.MethodName) prog_1_method_65_code (5 : Nat) (Option.some Jvm.ClassFile.FieldType.int) [((16 : Nat), (32 : Nat), (33 : Nat), (411 : Nat)), ((16 : Nat), (32 : Nat), (42 : Nat), (254 : Nat))]) ∈ lw_all := lw_g (lw_at lw_m5 198 rfl) rfl
theorem q1222 : (Jvm.Cond.instanceMethod ({ cls := "StaveScore", name := "copy", desc := "(IIIII)I" } : Jvm.MethodName)) ∈ lw_all := lw_g (lw_at lw_m5 200 rfl) rfl
theorem q1223 : (Jvm.Cond.selects "StaveScore" ({ cls := "StaveScore", name := "copy", desc := "(IIIII)I" } : Jvm.MethodName) ({ cls := "StaveScore", name := "copy", desc := "(IIIII)I" } : Jvm.MethodName)) ∈ lw_all := lw_g (lw_at lw_m5 201 rfl) rfl
theorem q1224 : (Jvm.Cond.codeWith ({ cls := "StaveScore", name := "copy", desc := "(IIIII)I" } : Jvm.MethodName) prog_1_method_66_code (7 : Nat) (Option.some Jvm.ClassFile.FieldType.int) [((25 : Nat), (51 : Nat), (52 : Nat), (411 : Nat)), ((25 : Nat), (51 : Nat), (61 : Nat), (229 : Nat)), ((25 : Nat), (51 : Nat), (70 : Nat), (254 : Nat))]) ∈ lw_all := lw_g (lw_at lw_m5 202 rfl) rfl
theorem q1225 : (Jvm.Cond.methodLink "StaveScore" (425 : Nat) ({ cls := "StaveScore$Shelf", name := "copy", desc := "(ILStaveScore$Shelf;II)V" } : Jvm.MethodName)) ∈ lw_all := lw_g (lw_at lw_m5 203 rfl) rfl
theorem q1235 : (Jvm.Cond.instanceMethod ({ cls := "StaveScore", name := "play", desc := "(II)I" } : Jvm.MethodName)) ∈ lw_all := lw_g (lw_at lw_m5 213 rfl) rfl
theorem q1236 : (Jvm.Cond.selects "StaveScore" ({ cls := "StaveScore", name := "play", desc := "(II)I" } : Jvm.MethodName) ({ cls := "StaveScore", name := "play", desc := "(II)I" } : Jvm.MethodName)) ∈ lw_all := lw_g (lw_at lw_m5 214 rfl) rfl
theorem q1237 : (Jvm.Cond.codeWith ({ cls := "StaveScore", name := "play", desc := "(II)I" } : Jvm.MethodName) prog_1_method_67_code (7 : Nat) (Option.some Jvm.ClassFile.FieldType.int) [((39 : Nat), (112 : Nat), (115 : Nat), (411 : Nat)), ((39 : Nat), (112 : Nat), (127 : Nat), (254 : Nat))]) ∈ lw_all := lw_g (lw_at lw_m5 215 rfl) rfl
theorem q1239 : (Jvm.Cond.instanceMethod ({ cls := "StaveScore", name := "failures", desc := "(I)I" } : Jvm.MethodName)) ∈ lw_all := lw_g (lw_at lw_m5 217 rfl) rfl
theorem q1240 : (Jvm.Cond.selects "StaveScore" ({ cls := "StaveScore", name := "failures", desc := "(I)I" } : Jvm.MethodName) ({ cls := "StaveScore", name := "failures", desc := "(I)I" } : Jvm.MethodName)) ∈ lw_all := lw_g (lw_at lw_m5 218 rfl) rfl
theorem q1241 : (Jvm.Cond.code ({ cls := "StaveScore", name := "failures", desc := "(I)I" } : Jvm.MethodName) prog_1_method_68_code (2 : Nat) (Option.some Jvm.ClassFile.FieldType.int)) ∈ lw_all := lw_g (lw_at lw_m5 219 rfl) rfl
theorem q1243 : (Jvm.Cond.instanceMethod ({ cls := "StaveScore", name := "status", desc := "()I" } : Jvm.MethodName)) ∈ lw_all := lw_g (lw_at lw_m5 221 rfl) rfl
theorem q1244 : (Jvm.Cond.selects "StaveScore" ({ cls := "StaveScore", name := "status", desc := "()I" } : Jvm.MethodName) ({ cls := "StaveScore", name := "status", desc := "()I" } : Jvm.MethodName)) ∈ lw_all := lw_g (lw_at lw_m5 222 rfl) rfl
theorem q1245 : (Jvm.Cond.code ({ cls := "StaveScore", name := "status", desc := "()I" } : Jvm.MethodName) prog_1_method_69_code (1 : Nat) (Option.some Jvm.ClassFile.FieldType.int)) ∈ lw_all := lw_g (lw_at lw_m5 223 rfl) rfl
theorem q1247 : (Jvm.Cond.instanceMethod ({ cls := "StaveScore", name := "trace", desc := "()J" } : Jvm.MethodName)) ∈ lw_all := lw_g (lw_at lw_m5 225 rfl) rfl
theorem q1248 : (Jvm.Cond.selects "StaveScore" ({ cls := "StaveScore", name := "trace", desc := "()J" } : Jvm.MethodName) ({ cls := "StaveScore", name := "trace", desc := "()J" } : Jvm.MethodName)) ∈ lw_all := lw_g (lw_at lw_m5 226 rfl) rfl
theorem q1249 : (Jvm.Cond.code ({ cls := "StaveScore", name := "trace", desc := "()J" } : Jvm.MethodName) prog_1_method_70_code (1 : Nat) (Option.some Jvm.ClassFile.FieldType.long)) ∈ lw_all := lw_g (lw_at lw_m5 227 rfl) rfl
theorem q1251 : (Jvm.Cond.instanceMethod ({ cls := "StaveScore", name := "count", desc := "(I)I" } : Jvm.MethodName)) ∈ lw_all := lw_g (lw_at lw_m5 229 rfl) rfl
theorem q1252 : (Jvm.Cond.selects "StaveScore" ({ cls := "StaveScore", name := "count", desc := "(I)I" } : Jvm.MethodName) ({ cls := "StaveScore", name := "count", desc := "(I)I" } : Jvm.MethodName)) ∈ lw_all := lw_g (lw_at lw_m5 230 rfl) rfl
theorem q1253 : (Jvm.Cond.code ({ cls := "StaveScore", name := "count", desc := "(I)I" } : Jvm.MethodName) prog_1_method_71_code (4 : Nat) (Option.some Jvm.ClassFile.FieldType.int)) ∈ lw_all := lw_g (lw_at lw_m5 231 rfl) rfl
theorem in_X0 : ∀ w ∈ wsX00, w ∈ lw_all := lw_in wsX00 [193, 195, 197, 199, 201, 203, 205, 207, 209, 211, 213, 215, 217, 219, 221, 223, 225, 227, 229, 231, 233, 235, 237, 239] (by decide +kernel) (by decide +kernel)
