/-! StaveScore$Fraction -/
set_option maxRecDepth 100000
def RX1 : String := "StaveScore$Fraction"
def TX1 : u_T := fun k => match k with
  | 0 => ("StaveScore$Fraction", "up", "J", false)
  | _ => ("StaveScore$Fraction", "down", "J", false)
def tyX1 : Nat → FieldType := fun k => match k with
  | 0 => .long
  | _ => .long
abbrev wsX10 : List Cond := u_ws RX1 TX1 2
theorem nmX1 : ∀ a, a < 2 → ∀ b, b < 2 → a ≠ b → (TX1 a).2.1 ≠ (TX1 b).2.1 := by decide +kernel
theorem tyX1_ok : ∀ k, k < 2 → parseFieldDescriptor (TX1 k).2.2.1 = some (tyX1 k) := by decide +kernel
abbrev cX1_init : ByteArray := prog_7_method_1_code
def yX1_init : MethodName := ⟨RX1, "<init>", "()V"⟩
def dkwX1_init_0 : List UInt8 := [42, 183, 0, 1, 42, 10, 181, 0, 7, 177]
abbrev dktX1_init_0 : List UInt8 := dkwX1_init_0 ++ []
theorem dksX1_init_0 : cX1_init.data.toList.drop 0 = dktX1_init_0 := by decide +kernel
theorem dX1_init_0 : decode cX1_init 0 = .ok (.aload_n 0, 1) := dk_42 (dk_at dksX1_init_0 0 rfl rfl)
theorem dX1_init_1 : decode cX1_init 1 = .ok (.invokespecial 1, 3) := dk_183 0 1 (dk_at dksX1_init_0 1 rfl rfl)
theorem dX1_init_4 : decode cX1_init 4 = .ok (.aload_n 0, 1) := dk_42 (dk_at dksX1_init_0 4 rfl rfl)
theorem dX1_init_5 : decode cX1_init 5 = .ok (.lconst 1, 1) := dk_10 (dk_at dksX1_init_0 5 rfl rfl)
theorem dX1_init_6 : decode cX1_init 6 = .ok (.putfield 7, 3) := dk_181 0 7 (dk_at dksX1_init_0 6 rfl rfl)
theorem dX1_init_9 : decode cX1_init 9 = .ok (.return_, 1) := dk_177 (dk_at dksX1_init_0 9 rfl rfl)
abbrev cX1_become : ByteArray := prog_7_method_3_code
def yX1_become : MethodName := ⟨RX1, "become", "(JJ)V"⟩
def dkwX1_become_1 : List UInt8 := [181, 0, 17, 42, 33, 22, 5, 109, 181, 0, 7, 177]
abbrev dktX1_become_1 : List UInt8 := dkwX1_become_1 ++ []
def dkwX1_become_0 : List UInt8 := [33, 31, 9, 148, 156, 0, 8, 31, 117, 167, 0, 4, 31, 184, 0, 13, 55, 5, 42, 31, 22, 5, 109]
abbrev dktX1_become_0 : List UInt8 := dkwX1_become_0 ++ dktX1_become_1
theorem dksX1_become_0 : cX1_become.data.toList.drop 0 = dktX1_become_0 := by decide +kernel
theorem dksX1_become_1 : cX1_become.data.toList.drop 23 = dktX1_become_1 := dk_seg dksX1_become_0 23 rfl rfl
theorem dX1_become_0 : decode cX1_become 0 = .ok (.lload_n 3, 1) := dk_33 (dk_at dksX1_become_0 0 rfl rfl)
theorem dX1_become_1 : decode cX1_become 1 = .ok (.lload_n 1, 1) := dk_31 (dk_at dksX1_become_0 1 rfl rfl)
theorem dX1_become_2 : decode cX1_become 2 = .ok (.lconst 0, 1) := dk_9 (dk_at dksX1_become_0 2 rfl rfl)
theorem dX1_become_3 : decode cX1_become 3 = .ok (.lcmp, 1) := dk_148 (dk_at dksX1_become_0 3 rfl rfl)
theorem dX1_become_4 : decode cX1_become 4 = .ok (.ifCond .ge 8, 3) := dk_156 0 8 (dk_at dksX1_become_0 4 rfl rfl)
theorem dX1_become_7 : decode cX1_become 7 = .ok (.lload_n 1, 1) := dk_31 (dk_at dksX1_become_0 7 rfl rfl)
theorem dX1_become_8 : decode cX1_become 8 = .ok (.lneg, 1) := dk_117 (dk_at dksX1_become_0 8 rfl rfl)
theorem dX1_become_9 : decode cX1_become 9 = .ok (.goto 4, 3) := dk_167 0 4 (dk_at dksX1_become_0 9 rfl rfl)
theorem dX1_become_12 : decode cX1_become 12 = .ok (.lload_n 1, 1) := dk_31 (dk_at dksX1_become_0 12 rfl rfl)
theorem dX1_become_13 : decode cX1_become 13 = .ok (.invokestatic 13, 3) := dk_184 0 13 (dk_at dksX1_become_0 13 rfl rfl)
theorem dX1_become_16 : decode cX1_become 16 = .ok (.lstore 5, 2) := dk_55 5 (dk_at dksX1_become_0 16 rfl rfl)
theorem dX1_become_18 : decode cX1_become 18 = .ok (.aload_n 0, 1) := dk_42 (dk_at dksX1_become_0 18 rfl rfl)
theorem dX1_become_19 : decode cX1_become 19 = .ok (.lload_n 1, 1) := dk_31 (dk_at dksX1_become_0 19 rfl rfl)
theorem dX1_become_20 : decode cX1_become 20 = .ok (.lload 5, 2) := dk_22 5 (dk_at dksX1_become_0 20 rfl rfl)
theorem dX1_become_22 : decode cX1_become 22 = .ok (.ldiv, 1) := dk_109 (dk_at dksX1_become_0 22 rfl rfl)
theorem dX1_become_23 : decode cX1_become 23 = .ok (.putfield 17, 3) := dk_181 0 17 (dk_at dksX1_become_1 0 rfl rfl)
theorem dX1_become_26 : decode cX1_become 26 = .ok (.aload_n 0, 1) := dk_42 (dk_at dksX1_become_1 3 rfl rfl)
theorem dX1_become_27 : decode cX1_become 27 = .ok (.lload_n 3, 1) := dk_33 (dk_at dksX1_become_1 4 rfl rfl)
theorem dX1_become_28 : decode cX1_become 28 = .ok (.lload 5, 2) := dk_22 5 (dk_at dksX1_become_1 5 rfl rfl)
theorem dX1_become_30 : decode cX1_become 30 = .ok (.ldiv, 1) := dk_109 (dk_at dksX1_become_1 7 rfl rfl)
theorem dX1_become_31 : decode cX1_become 31 = .ok (.putfield 7, 3) := dk_181 0 7 (dk_at dksX1_become_1 8 rfl rfl)
theorem dX1_become_34 : decode cX1_become 34 = .ok (.return_, 1) := dk_177 (dk_at dksX1_become_1 11 rfl rfl)
abbrev cX1_shared : ByteArray := prog_7_method_2_code
def yX1_shared : MethodName := ⟨RX1, "shared", "(JJ)J"⟩
def dkwX1_shared_1 : List UInt8 := [22, 8, 55, 6, 167, 255, 234, 22, 4, 173]
abbrev dktX1_shared_1 : List UInt8 := dkwX1_shared_1 ++ []
def dkwX1_shared_0 : List UInt8 := [30, 55, 4, 32, 55, 6, 22, 6, 9, 148, 158, 0, 21, 22, 4, 22, 6, 113, 55, 8, 22, 6, 55, 4]
abbrev dktX1_shared_0 : List UInt8 := dkwX1_shared_0 ++ dktX1_shared_1
theorem dksX1_shared_0 : cX1_shared.data.toList.drop 0 = dktX1_shared_0 := by decide +kernel
theorem dksX1_shared_1 : cX1_shared.data.toList.drop 24 = dktX1_shared_1 := dk_seg dksX1_shared_0 24 rfl rfl
theorem dX1_shared_0 : decode cX1_shared 0 = .ok (.lload_n 0, 1) := dk_30 (dk_at dksX1_shared_0 0 rfl rfl)
theorem dX1_shared_1 : decode cX1_shared 1 = .ok (.lstore 4, 2) := dk_55 4 (dk_at dksX1_shared_0 1 rfl rfl)
theorem dX1_shared_3 : decode cX1_shared 3 = .ok (.lload_n 2, 1) := dk_32 (dk_at dksX1_shared_0 3 rfl rfl)
theorem dX1_shared_4 : decode cX1_shared 4 = .ok (.lstore 6, 2) := dk_55 6 (dk_at dksX1_shared_0 4 rfl rfl)
theorem dX1_shared_6 : decode cX1_shared 6 = .ok (.lload 6, 2) := dk_22 6 (dk_at dksX1_shared_0 6 rfl rfl)
theorem dX1_shared_8 : decode cX1_shared 8 = .ok (.lconst 0, 1) := dk_9 (dk_at dksX1_shared_0 8 rfl rfl)
theorem dX1_shared_9 : decode cX1_shared 9 = .ok (.lcmp, 1) := dk_148 (dk_at dksX1_shared_0 9 rfl rfl)
theorem dX1_shared_10 : decode cX1_shared 10 = .ok (.ifCond .le 21, 3) := dk_158 0 21 (dk_at dksX1_shared_0 10 rfl rfl)
theorem dX1_shared_13 : decode cX1_shared 13 = .ok (.lload 4, 2) := dk_22 4 (dk_at dksX1_shared_0 13 rfl rfl)
theorem dX1_shared_15 : decode cX1_shared 15 = .ok (.lload 6, 2) := dk_22 6 (dk_at dksX1_shared_0 15 rfl rfl)
theorem dX1_shared_17 : decode cX1_shared 17 = .ok (.lrem, 1) := dk_113 (dk_at dksX1_shared_0 17 rfl rfl)
theorem dX1_shared_18 : decode cX1_shared 18 = .ok (.lstore 8, 2) := dk_55 8 (dk_at dksX1_shared_0 18 rfl rfl)
theorem dX1_shared_20 : decode cX1_shared 20 = .ok (.lload 6, 2) := dk_22 6 (dk_at dksX1_shared_0 20 rfl rfl)
theorem dX1_shared_22 : decode cX1_shared 22 = .ok (.lstore 4, 2) := dk_55 4 (dk_at dksX1_shared_0 22 rfl rfl)
theorem dX1_shared_24 : decode cX1_shared 24 = .ok (.lload 8, 2) := dk_22 8 (dk_at dksX1_shared_1 0 rfl rfl)
theorem dX1_shared_26 : decode cX1_shared 26 = .ok (.lstore 6, 2) := dk_55 6 (dk_at dksX1_shared_1 2 rfl rfl)
theorem dX1_shared_28 : decode cX1_shared 28 = .ok (.goto (-22), 3) := dk_167 255 234 (dk_at dksX1_shared_1 4 rfl rfl)
theorem dX1_shared_31 : decode cX1_shared 31 = .ok (.lload 4, 2) := dk_22 4 (dk_at dksX1_shared_1 7 rfl rfl)
theorem dX1_shared_33 : decode cX1_shared 33 = .ok (.lreturn, 1) := dk_173 (dk_at dksX1_shared_1 9 rfl rfl)
abbrev cX1_add : ByteArray := prog_7_method_5_code
def yX1_add : MethodName := ⟨RX1, "add", "(LStaveScore$Fraction;)V"⟩
def dkwX1_add_1 : List UInt8 := [43, 180, 0, 7, 105, 182, 0, 20, 177]
abbrev dktX1_add_1 : List UInt8 := dkwX1_add_1 ++ []
def dkwX1_add_0 : List UInt8 := [42, 42, 180, 0, 17, 43, 180, 0, 7, 105, 43, 180, 0, 17, 42, 180, 0, 7, 105, 97, 42, 180, 0, 7]
abbrev dktX1_add_0 : List UInt8 := dkwX1_add_0 ++ dktX1_add_1
theorem dksX1_add_0 : cX1_add.data.toList.drop 0 = dktX1_add_0 := by decide +kernel
theorem dksX1_add_1 : cX1_add.data.toList.drop 24 = dktX1_add_1 := dk_seg dksX1_add_0 24 rfl rfl
theorem dX1_add_0 : decode cX1_add 0 = .ok (.aload_n 0, 1) := dk_42 (dk_at dksX1_add_0 0 rfl rfl)
theorem dX1_add_1 : decode cX1_add 1 = .ok (.aload_n 0, 1) := dk_42 (dk_at dksX1_add_0 1 rfl rfl)
theorem dX1_add_2 : decode cX1_add 2 = .ok (.getfield 17, 3) := dk_180 0 17 (dk_at dksX1_add_0 2 rfl rfl)
theorem dX1_add_5 : decode cX1_add 5 = .ok (.aload_n 1, 1) := dk_43 (dk_at dksX1_add_0 5 rfl rfl)
theorem dX1_add_6 : decode cX1_add 6 = .ok (.getfield 7, 3) := dk_180 0 7 (dk_at dksX1_add_0 6 rfl rfl)
theorem dX1_add_9 : decode cX1_add 9 = .ok (.lmul, 1) := dk_105 (dk_at dksX1_add_0 9 rfl rfl)
theorem dX1_add_10 : decode cX1_add 10 = .ok (.aload_n 1, 1) := dk_43 (dk_at dksX1_add_0 10 rfl rfl)
theorem dX1_add_11 : decode cX1_add 11 = .ok (.getfield 17, 3) := dk_180 0 17 (dk_at dksX1_add_0 11 rfl rfl)
theorem dX1_add_14 : decode cX1_add 14 = .ok (.aload_n 0, 1) := dk_42 (dk_at dksX1_add_0 14 rfl rfl)
theorem dX1_add_15 : decode cX1_add 15 = .ok (.getfield 7, 3) := dk_180 0 7 (dk_at dksX1_add_0 15 rfl rfl)
theorem dX1_add_18 : decode cX1_add 18 = .ok (.lmul, 1) := dk_105 (dk_at dksX1_add_0 18 rfl rfl)
theorem dX1_add_19 : decode cX1_add 19 = .ok (.ladd, 1) := dk_97 (dk_at dksX1_add_0 19 rfl rfl)
theorem dX1_add_20 : decode cX1_add 20 = .ok (.aload_n 0, 1) := dk_42 (dk_at dksX1_add_0 20 rfl rfl)
theorem dX1_add_21 : decode cX1_add 21 = .ok (.getfield 7, 3) := dk_180 0 7 (dk_at dksX1_add_0 21 rfl rfl)
theorem dX1_add_24 : decode cX1_add 24 = .ok (.aload_n 1, 1) := dk_43 (dk_at dksX1_add_1 0 rfl rfl)
theorem dX1_add_25 : decode cX1_add 25 = .ok (.getfield 7, 3) := dk_180 0 7 (dk_at dksX1_add_1 1 rfl rfl)
theorem dX1_add_28 : decode cX1_add 28 = .ok (.lmul, 1) := dk_105 (dk_at dksX1_add_1 4 rfl rfl)
theorem dX1_add_29 : decode cX1_add 29 = .ok (.invokevirtual 20, 3) := dk_182 0 20 (dk_at dksX1_add_1 5 rfl rfl)
theorem dX1_add_32 : decode cX1_add 32 = .ok (.return_, 1) := dk_177 (dk_at dksX1_add_1 8 rfl rfl)
abbrev cX1_take : ByteArray := prog_7_method_4_code
def yX1_take : MethodName := ⟨RX1, "take", "(LStaveScore$Fraction;)V"⟩
def dkwX1_take_0 : List UInt8 := [42, 43, 180, 0, 17, 181, 0, 17, 42, 43, 180, 0, 7, 181, 0, 7, 177]
abbrev dktX1_take_0 : List UInt8 := dkwX1_take_0 ++ []
theorem dksX1_take_0 : cX1_take.data.toList.drop 0 = dktX1_take_0 := by decide +kernel
theorem dX1_take_0 : decode cX1_take 0 = .ok (.aload_n 0, 1) := dk_42 (dk_at dksX1_take_0 0 rfl rfl)
theorem dX1_take_1 : decode cX1_take 1 = .ok (.aload_n 1, 1) := dk_43 (dk_at dksX1_take_0 1 rfl rfl)
theorem dX1_take_2 : decode cX1_take 2 = .ok (.getfield 17, 3) := dk_180 0 17 (dk_at dksX1_take_0 2 rfl rfl)
theorem dX1_take_5 : decode cX1_take 5 = .ok (.putfield 17, 3) := dk_181 0 17 (dk_at dksX1_take_0 5 rfl rfl)
theorem dX1_take_8 : decode cX1_take 8 = .ok (.aload_n 0, 1) := dk_42 (dk_at dksX1_take_0 8 rfl rfl)
theorem dX1_take_9 : decode cX1_take 9 = .ok (.aload_n 1, 1) := dk_43 (dk_at dksX1_take_0 9 rfl rfl)
theorem dX1_take_10 : decode cX1_take 10 = .ok (.getfield 7, 3) := dk_180 0 7 (dk_at dksX1_take_0 10 rfl rfl)
theorem dX1_take_13 : decode cX1_take 13 = .ok (.putfield 7, 3) := dk_181 0 7 (dk_at dksX1_take_0 13 rfl rfl)
theorem dX1_take_16 : decode cX1_take 16 = .ok (.return_, 1) := dk_177 (dk_at dksX1_take_0 16 rfl rfl)
abbrev cX1_multiply : ByteArray := prog_7_method_7_code
def yX1_multiply : MethodName := ⟨RX1, "multiply", "(JJ)V"⟩
def dkwX1_multiply_0 : List UInt8 := [42, 42, 180, 0, 17, 31, 105, 42, 180, 0, 7, 33, 105, 182, 0, 20, 177]
abbrev dktX1_multiply_0 : List UInt8 := dkwX1_multiply_0 ++ []
theorem dksX1_multiply_0 : cX1_multiply.data.toList.drop 0 = dktX1_multiply_0 := by decide +kernel
theorem dX1_multiply_0 : decode cX1_multiply 0 = .ok (.aload_n 0, 1) := dk_42 (dk_at dksX1_multiply_0 0 rfl rfl)
theorem dX1_multiply_1 : decode cX1_multiply 1 = .ok (.aload_n 0, 1) := dk_42 (dk_at dksX1_multiply_0 1 rfl rfl)
theorem dX1_multiply_2 : decode cX1_multiply 2 = .ok (.getfield 17, 3) := dk_180 0 17 (dk_at dksX1_multiply_0 2 rfl rfl)
theorem dX1_multiply_5 : decode cX1_multiply 5 = .ok (.lload_n 1, 1) := dk_31 (dk_at dksX1_multiply_0 5 rfl rfl)
theorem dX1_multiply_6 : decode cX1_multiply 6 = .ok (.lmul, 1) := dk_105 (dk_at dksX1_multiply_0 6 rfl rfl)
theorem dX1_multiply_7 : decode cX1_multiply 7 = .ok (.aload_n 0, 1) := dk_42 (dk_at dksX1_multiply_0 7 rfl rfl)
theorem dX1_multiply_8 : decode cX1_multiply 8 = .ok (.getfield 7, 3) := dk_180 0 7 (dk_at dksX1_multiply_0 8 rfl rfl)
theorem dX1_multiply_11 : decode cX1_multiply 11 = .ok (.lload_n 3, 1) := dk_33 (dk_at dksX1_multiply_0 11 rfl rfl)
theorem dX1_multiply_12 : decode cX1_multiply 12 = .ok (.lmul, 1) := dk_105 (dk_at dksX1_multiply_0 12 rfl rfl)
theorem dX1_multiply_13 : decode cX1_multiply 13 = .ok (.invokevirtual 20, 3) := dk_182 0 20 (dk_at dksX1_multiply_0 13 rfl rfl)
theorem dX1_multiply_16 : decode cX1_multiply 16 = .ok (.return_, 1) := dk_177 (dk_at dksX1_multiply_0 16 rfl rfl)
abbrev cX1_compare : ByteArray := prog_7_method_8_code
def yX1_compare : MethodName := ⟨RX1, "compare", "(LStaveScore$Fraction;)I"⟩
def dkwX1_compare_0 : List UInt8 := [42, 180, 0, 17, 43, 180, 0, 7, 105, 43, 180, 0, 17, 42, 180, 0, 7, 105, 184, 0, 24, 172]
abbrev dktX1_compare_0 : List UInt8 := dkwX1_compare_0 ++ []
theorem dksX1_compare_0 : cX1_compare.data.toList.drop 0 = dktX1_compare_0 := by decide +kernel
theorem dX1_compare_0 : decode cX1_compare 0 = .ok (.aload_n 0, 1) := dk_42 (dk_at dksX1_compare_0 0 rfl rfl)
theorem dX1_compare_1 : decode cX1_compare 1 = .ok (.getfield 17, 3) := dk_180 0 17 (dk_at dksX1_compare_0 1 rfl rfl)
theorem dX1_compare_4 : decode cX1_compare 4 = .ok (.aload_n 1, 1) := dk_43 (dk_at dksX1_compare_0 4 rfl rfl)
theorem dX1_compare_5 : decode cX1_compare 5 = .ok (.getfield 7, 3) := dk_180 0 7 (dk_at dksX1_compare_0 5 rfl rfl)
theorem dX1_compare_8 : decode cX1_compare 8 = .ok (.lmul, 1) := dk_105 (dk_at dksX1_compare_0 8 rfl rfl)
theorem dX1_compare_9 : decode cX1_compare 9 = .ok (.aload_n 1, 1) := dk_43 (dk_at dksX1_compare_0 9 rfl rfl)
theorem dX1_compare_10 : decode cX1_compare 10 = .ok (.getfield 17, 3) := dk_180 0 17 (dk_at dksX1_compare_0 10 rfl rfl)
theorem dX1_compare_13 : decode cX1_compare 13 = .ok (.aload_n 0, 1) := dk_42 (dk_at dksX1_compare_0 13 rfl rfl)
theorem dX1_compare_14 : decode cX1_compare 14 = .ok (.getfield 7, 3) := dk_180 0 7 (dk_at dksX1_compare_0 14 rfl rfl)
theorem dX1_compare_17 : decode cX1_compare 17 = .ok (.lmul, 1) := dk_105 (dk_at dksX1_compare_0 17 rfl rfl)
theorem dX1_compare_18 : decode cX1_compare 18 = .ok (.invokestatic 24, 3) := dk_184 0 24 (dk_at dksX1_compare_0 18 rfl rfl)
theorem dX1_compare_21 : decode cX1_compare 21 = .ok (.ireturn, 1) := dk_172 (dk_at dksX1_compare_0 21 rfl rfl)
abbrev cX1_told : ByteArray := prog_7_method_9_code
def yX1_told : MethodName := ⟨RX1, "told", "(I)J"⟩
def dkwX1_told_0 : List UInt8 := [27, 154, 0, 10, 42, 180, 0, 17, 167, 0, 7, 42, 180, 0, 7, 173]
abbrev dktX1_told_0 : List UInt8 := dkwX1_told_0 ++ []
theorem dksX1_told_0 : cX1_told.data.toList.drop 0 = dktX1_told_0 := by decide +kernel
theorem dX1_told_0 : decode cX1_told 0 = .ok (.iload_n 1, 1) := dk_27 (dk_at dksX1_told_0 0 rfl rfl)
theorem dX1_told_1 : decode cX1_told 1 = .ok (.ifCond .ne 10, 3) := dk_154 0 10 (dk_at dksX1_told_0 1 rfl rfl)
theorem dX1_told_4 : decode cX1_told 4 = .ok (.aload_n 0, 1) := dk_42 (dk_at dksX1_told_0 4 rfl rfl)
theorem dX1_told_5 : decode cX1_told 5 = .ok (.getfield 17, 3) := dk_180 0 17 (dk_at dksX1_told_0 5 rfl rfl)
theorem dX1_told_8 : decode cX1_told 8 = .ok (.goto 7, 3) := dk_167 0 7 (dk_at dksX1_told_0 8 rfl rfl)
theorem dX1_told_11 : decode cX1_told 11 = .ok (.aload_n 0, 1) := dk_42 (dk_at dksX1_told_0 11 rfl rfl)
theorem dX1_told_12 : decode cX1_told 12 = .ok (.getfield 7, 3) := dk_180 0 7 (dk_at dksX1_told_0 12 rfl rfl)
theorem dX1_told_15 : decode cX1_told 15 = .ok (.lreturn, 1) := dk_173 (dk_at dksX1_told_0 15 rfl rfl)
abbrev cX1_lessen : ByteArray := prog_7_method_6_code
def yX1_lessen : MethodName := ⟨RX1, "lessen", "(LStaveScore$Fraction;)V"⟩
def dkwX1_lessen_1 : List UInt8 := [43, 180, 0, 7, 105, 182, 0, 20, 177]
abbrev dktX1_lessen_1 : List UInt8 := dkwX1_lessen_1 ++ []
def dkwX1_lessen_0 : List UInt8 := [42, 42, 180, 0, 17, 43, 180, 0, 7, 105, 43, 180, 0, 17, 42, 180, 0, 7, 105, 101, 42, 180, 0, 7]
abbrev dktX1_lessen_0 : List UInt8 := dkwX1_lessen_0 ++ dktX1_lessen_1
theorem dksX1_lessen_0 : cX1_lessen.data.toList.drop 0 = dktX1_lessen_0 := by decide +kernel
theorem dksX1_lessen_1 : cX1_lessen.data.toList.drop 24 = dktX1_lessen_1 := dk_seg dksX1_lessen_0 24 rfl rfl
theorem dX1_lessen_0 : decode cX1_lessen 0 = .ok (.aload_n 0, 1) := dk_42 (dk_at dksX1_lessen_0 0 rfl rfl)
theorem dX1_lessen_1 : decode cX1_lessen 1 = .ok (.aload_n 0, 1) := dk_42 (dk_at dksX1_lessen_0 1 rfl rfl)
theorem dX1_lessen_2 : decode cX1_lessen 2 = .ok (.getfield 17, 3) := dk_180 0 17 (dk_at dksX1_lessen_0 2 rfl rfl)
theorem dX1_lessen_5 : decode cX1_lessen 5 = .ok (.aload_n 1, 1) := dk_43 (dk_at dksX1_lessen_0 5 rfl rfl)
theorem dX1_lessen_6 : decode cX1_lessen 6 = .ok (.getfield 7, 3) := dk_180 0 7 (dk_at dksX1_lessen_0 6 rfl rfl)
theorem dX1_lessen_9 : decode cX1_lessen 9 = .ok (.lmul, 1) := dk_105 (dk_at dksX1_lessen_0 9 rfl rfl)
theorem dX1_lessen_10 : decode cX1_lessen 10 = .ok (.aload_n 1, 1) := dk_43 (dk_at dksX1_lessen_0 10 rfl rfl)
theorem dX1_lessen_11 : decode cX1_lessen 11 = .ok (.getfield 17, 3) := dk_180 0 17 (dk_at dksX1_lessen_0 11 rfl rfl)
theorem dX1_lessen_14 : decode cX1_lessen 14 = .ok (.aload_n 0, 1) := dk_42 (dk_at dksX1_lessen_0 14 rfl rfl)
theorem dX1_lessen_15 : decode cX1_lessen 15 = .ok (.getfield 7, 3) := dk_180 0 7 (dk_at dksX1_lessen_0 15 rfl rfl)
theorem dX1_lessen_18 : decode cX1_lessen 18 = .ok (.lmul, 1) := dk_105 (dk_at dksX1_lessen_0 18 rfl rfl)
theorem dX1_lessen_19 : decode cX1_lessen 19 = .ok (.lsub, 1) := dk_101 (dk_at dksX1_lessen_0 19 rfl rfl)
theorem dX1_lessen_20 : decode cX1_lessen 20 = .ok (.aload_n 0, 1) := dk_42 (dk_at dksX1_lessen_0 20 rfl rfl)
theorem dX1_lessen_21 : decode cX1_lessen 21 = .ok (.getfield 7, 3) := dk_180 0 7 (dk_at dksX1_lessen_0 21 rfl rfl)
theorem dX1_lessen_24 : decode cX1_lessen 24 = .ok (.aload_n 1, 1) := dk_43 (dk_at dksX1_lessen_1 0 rfl rfl)
theorem dX1_lessen_25 : decode cX1_lessen 25 = .ok (.getfield 7, 3) := dk_180 0 7 (dk_at dksX1_lessen_1 1 rfl rfl)
theorem dX1_lessen_28 : decode cX1_lessen 28 = .ok (.lmul, 1) := dk_105 (dk_at dksX1_lessen_1 4 rfl rfl)
theorem dX1_lessen_29 : decode cX1_lessen 29 = .ok (.invokevirtual 20, 3) := dk_182 0 20 (dk_at dksX1_lessen_1 5 rfl rfl)
theorem dX1_lessen_32 : decode cX1_lessen 32 = .ok (.return_, 1) := dk_177 (dk_at dksX1_lessen_1 8 rfl rfl)
theorem q64 : (Jvm.Cond.initialized "StaveScore$Fraction") ∈ lw_all := lw_g (lw_at lw_m1 2 rfl) rfl
theorem q118 : (Jvm.Cond.instantiable "StaveScore$Fraction" (2 : Nat)) ∈ lw_all := lw_g (lw_at lw_m1 56 rfl) rfl
theorem q120 : (Jvm.Cond.instanceMethod ({ cls := "StaveScore$Fraction", name := "<init>", desc := "()V" } : Jvm.MethodName)) ∈ lw_all := lw_g (lw_at lw_m1 58 rfl) rfl
theorem q121 : (Jvm.Cond.code ({ cls := "StaveScore$Fraction", name := "<init>", desc := "()V" } : Jvm.MethodName) prog_7_method_1_code (1 : Nat) (Option.none : Option Jvm.ClassFile.FieldType)) ∈ lw_all := lw_g (lw_at lw_m1 59 rfl) rfl
theorem q122 : (Jvm.Cond.methodLink "StaveScore$Fraction" (1 : Nat) ({ cls := "java/lang/Object", name := "<init>", desc := "()V" } : Jvm.MethodName)) ∈ lw_all := lw_g (lw_at lw_m1 60 rfl) rfl
theorem q123 : (Jvm.Cond.fieldLink "StaveScore$Fraction" (17 : Nat) "StaveScore$Fraction" "up" "J") ∈ lw_all := lw_g (lw_at lw_m1 61 rfl) rfl
theorem q124 : (Jvm.Cond.fieldLink "StaveScore$Fraction" (7 : Nat) "StaveScore$Fraction" "down" "J") ∈ lw_all := lw_g (lw_at lw_m1 62 rfl) rfl
theorem q125 : (Jvm.Cond.lays "StaveScore$Fraction" "StaveScore$Fraction" "up" "J") ∈ lw_all := lw_g (lw_at lw_m1 63 rfl) rfl
theorem q126 : (Jvm.Cond.soleField "StaveScore$Fraction" "up") ∈ lw_all := lw_g (lw_at lw_m1 64 rfl) rfl
theorem q127 : (Jvm.Cond.lays "StaveScore$Fraction" "StaveScore$Fraction" "down" "J") ∈ lw_all := lw_g (lw_at lw_m1 65 rfl) rfl
theorem q128 : (Jvm.Cond.soleField "StaveScore$Fraction" "down") ∈ lw_all := lw_g (lw_at lw_m1 66 rfl) rfl
theorem q129 : (Jvm.Cond.superclass "StaveScore$Fraction" "java/lang/Object") ∈ lw_all := lw_g (lw_at lw_m1 67 rfl) rfl
theorem q334 : (Jvm.Cond.instanceMethod ({ cls := "StaveScore$Fraction", name := "become", desc := "(JJ)V" } : Jvm.MethodName)) ∈ lw_all := lw_g (lw_at lw_m2 32 rfl) rfl
theorem q335 : (Jvm.Cond.selects "StaveScore$Fraction" ({ cls := "StaveScore$Fraction", name := "become", desc := "(JJ)V" } : Jvm.MethodName) ({ cls := "StaveScore$Fraction", name := "become", desc := "(JJ)V" } : Jvm.MethodName)) ∈ lw_all := lw_g (lw_at lw_m2 33 rfl) rfl
theorem q336 : (Jvm.Cond.code ({ cls := "StaveScore$Fraction", name := "become", desc := "(JJ)V" } : Jvm.MethodName) prog_7_method_3_code (7 : Nat) (Option.none : Option Jvm.ClassFile.FieldType)) ∈ lw_all := lw_g (lw_at lw_m2 34 rfl) rfl
theorem q337 : (Jvm.Cond.methodLink "StaveScore$Fraction" (13 : Nat) ({ cls := "StaveScore$Fraction", name := "shared", desc := "(JJ)J" } : Jvm.MethodName)) ∈ lw_all := lw_g (lw_at lw_m2 35 rfl) rfl
theorem q338 : (Jvm.Cond.static ({ cls := "StaveScore$Fraction", name := "shared", desc := "(JJ)J" } : Jvm.MethodName)) ∈ lw_all := lw_g (lw_at lw_m2 36 rfl) rfl
theorem q339 : (Jvm.Cond.code ({ cls := "StaveScore$Fraction", name := "shared", desc := "(JJ)J" } : Jvm.MethodName) prog_7_method_2_code (10 : Nat) (Option.some Jvm.ClassFile.FieldType.long)) ∈ lw_all := lw_g (lw_at lw_m2 37 rfl) rfl
theorem q341 : (Jvm.Cond.instanceMethod ({ cls := "StaveScore$Fraction", name := "add", desc := "(LStaveScore$Fraction;)V" } : Jvm.MethodName)) ∈ lw_all := lw_g (lw_at lw_m2 39 rfl) rfl
theorem q342 : (Jvm.Cond.selects "StaveScore$Fraction" ({ cls := "StaveScore$Fraction", name := "add", desc := "(LStaveScore$Fraction;)V" } : Jvm.MethodName) ({ cls := "StaveScore$Fraction", name := "add", desc := "(LStaveScore$Fraction;)V" } : Jvm.MethodName)) ∈ lw_all := lw_g (lw_at lw_m2 40 rfl) rfl
theorem q343 : (Jvm.Cond.code ({ cls := "StaveScore$Fraction", name := "add", desc := "(LStaveScore$Fraction;)V" } : Jvm.MethodName) prog_7_method_5_code (2 : Nat) (Option.none : Option Jvm.ClassFile.FieldType)) ∈ lw_all := lw_g (lw_at lw_m2 41 rfl) rfl
theorem q344 : (Jvm.Cond.methodLink "StaveScore$Fraction" (20 : Nat) ({ cls := "StaveScore$Fraction", name := "become", desc := "(JJ)V" } : Jvm.MethodName)) ∈ lw_all := lw_g (lw_at lw_m2 42 rfl) rfl
theorem q764 : (Jvm.Cond.instanceMethod ({ cls := "StaveScore$Fraction", name := "take", desc := "(LStaveScore$Fraction;)V" } : Jvm.MethodName)) ∈ lw_all := lw_g (lw_at lw_m3 222 rfl) rfl
theorem q765 : (Jvm.Cond.selects "StaveScore$Fraction" ({ cls := "StaveScore$Fraction", name := "take", desc := "(LStaveScore$Fraction;)V" } : Jvm.MethodName) ({ cls := "StaveScore$Fraction", name := "take", desc := "(LStaveScore$Fraction;)V" } : Jvm.MethodName)) ∈ lw_all := lw_g (lw_at lw_m3 223 rfl) rfl
theorem q766 : (Jvm.Cond.code ({ cls := "StaveScore$Fraction", name := "take", desc := "(LStaveScore$Fraction;)V" } : Jvm.MethodName) prog_7_method_4_code (2 : Nat) (Option.none : Option Jvm.ClassFile.FieldType)) ∈ lw_all := lw_g (lw_at lw_m3 224 rfl) rfl
theorem q784 : (Jvm.Cond.instanceMethod ({ cls := "StaveScore$Fraction", name := "multiply", desc := "(JJ)V" } : Jvm.MethodName)) ∈ lw_all := lw_g (lw_at lw_m4 2 rfl) rfl
theorem q785 : (Jvm.Cond.selects "StaveScore$Fraction" ({ cls := "StaveScore$Fraction", name := "multiply", desc := "(JJ)V" } : Jvm.MethodName) ({ cls := "StaveScore$Fraction", name := "multiply", desc := "(JJ)V" } : Jvm.MethodName)) ∈ lw_all := lw_g (lw_at lw_m4 3 rfl) rfl
theorem q786 : (Jvm.Cond.code ({ cls := "StaveScore$Fraction", name := "multiply", desc := "(JJ)V" } : Jvm.MethodName) prog_7_method_7_code (5 : Nat) (Option.none : Option Jvm.ClassFile.FieldType)) ∈ lw_all := lw_g (lw_at lw_m4 4 rfl) rfl
theorem q808 : (Jvm.Cond.instanceMethod ({ cls := "StaveScore$Fraction", name := "compare", desc := "(LStaveScore$Fraction;)I" } : Jvm.MethodName)) ∈ lw_all := lw_g (lw_at lw_m4 26 rfl) rfl
theorem q809 : (Jvm.Cond.selects "StaveScore$Fraction" ({ cls := "StaveScore$Fraction", name := "compare", desc := "(LStaveScore$Fraction;)I" } : Jvm.MethodName) ({ cls := "StaveScore$Fraction", name := "compare", desc := "(LStaveScore$Fraction;)I" } : Jvm.MethodName)) ∈ lw_all := lw_g (lw_at lw_m4 27 rfl) rfl
theorem q810 : (Jvm.Cond.code ({ cls := "StaveScore$Fraction", name := "compare", desc := "(LStaveScore$Fraction;)I" } : Jvm.MethodName) prog_7_method_8_code (2 : Nat) (Option.some Jvm.ClassFile.FieldType.int)) ∈ lw_all := lw_g (lw_at lw_m4 28 rfl) rfl
theorem q811 : (Jvm.Cond.methodLink "StaveScore$Fraction" (24 : Nat) ({ cls := "java/lang/Long", name := "compare", desc := "(JJ)I" } : Jvm.MethodName)) ∈ lw_all := lw_g (lw_at lw_m4 29 rfl) rfl
theorem q819 : (Jvm.Cond.instanceMethod ({ cls := "StaveScore$Fraction", name := "told", desc := "(I)J" } : Jvm.MethodName)) ∈ lw_all := lw_g (lw_at lw_m4 37 rfl) rfl
theorem q820 : (Jvm.Cond.selects "StaveScore$Fraction" ({ cls := "StaveScore$Fraction", name := "told", desc := "(I)J" } : Jvm.MethodName) ({ cls := "StaveScore$Fraction", name := "told", desc := "(I)J" } : Jvm.MethodName)) ∈ lw_all := lw_g (lw_at lw_m4 38 rfl) rfl
theorem q821 : (Jvm.Cond.code ({ cls := "StaveScore$Fraction", name := "told", desc := "(I)J" } : Jvm.MethodName) prog_7_method_9_code (2 : Nat) (Option.some Jvm.ClassFile.FieldType.long)) ∈ lw_all := lw_g (lw_at lw_m4 39 rfl) rfl
theorem q823 : (Jvm.Cond.instanceMethod ({ cls := "StaveScore$Fraction", name := "lessen", desc := "(LStaveScore$Fraction;)V" } : Jvm.MethodName)) ∈ lw_all := lw_g (lw_at lw_m4 41 rfl) rfl
theorem q824 : (Jvm.Cond.selects "StaveScore$Fraction" ({ cls := "StaveScore$Fraction", name := "lessen", desc := "(LStaveScore$Fraction;)V" } : Jvm.MethodName) ({ cls := "StaveScore$Fraction", name := "lessen", desc := "(LStaveScore$Fraction;)V" } : Jvm.MethodName)) ∈ lw_all := lw_g (lw_at lw_m4 42 rfl) rfl
theorem q825 : (Jvm.Cond.code ({ cls := "StaveScore$Fraction", name := "lessen", desc := "(LStaveScore$Fraction;)V" } : Jvm.MethodName) prog_7_method_6_code (2 : Nat) (Option.none : Option Jvm.ClassFile.FieldType)) ∈ lw_all := lw_g (lw_at lw_m4 43 rfl) rfl
theorem in_X1 : ∀ w ∈ wsX10, w ∈ lw_all := lw_in wsX10 [125, 127] (by decide +kernel) (by decide +kernel)

/-! StaveScore$Voice -/
set_option maxRecDepth 100000
def RX2 : String := "StaveScore$Voice"
def TX2 : u_T := fun k => match k with
  | 0 => ("StaveScore$Voice", "row", "[LStaveScore$Event;", true)
  | 1 => ("StaveScore$Voice", "many", "I", false)
  | _ => ("StaveScore$Voice", "length", "LStaveScore$Fraction;", true)
def tyX2 : Nat → FieldType := fun k => match k with
  | 0 => .array (.object "StaveScore$Event")
  | 1 => .int
  | _ => .object "StaveScore$Fraction"
abbrev wsX20 : List Cond := u_ws RX2 TX2 3
theorem nmX2 : ∀ a, a < 3 → ∀ b, b < 3 → a ≠ b → (TX2 a).2.1 ≠ (TX2 b).2.1 := by decide +kernel
theorem tyX2_ok : ∀ k, k < 3 → parseFieldDescriptor (TX2 k).2.2.1 = some (tyX2 k) := by decide +kernel
abbrev cX2_init : ByteArray := prog_19_method_1_code
def yX2_init : MethodName := ⟨RX2, "<init>", "()V"⟩
def dkwX2_init_1 : List UInt8 := [177]
abbrev dktX2_init_1 : List UInt8 := dkwX2_init_1 ++ []
def dkwX2_init_0 : List UInt8 := [42, 183, 0, 3, 42, 16, 40, 189, 0, 9, 181, 0, 11, 42, 187, 0, 17, 89, 183, 0, 19, 181, 0, 20]
abbrev dktX2_init_0 : List UInt8 := dkwX2_init_0 ++ dktX2_init_1
theorem dksX2_init_0 : cX2_init.data.toList.drop 0 = dktX2_init_0 := by decide +kernel
theorem dksX2_init_1 : cX2_init.data.toList.drop 24 = dktX2_init_1 := dk_seg dksX2_init_0 24 rfl rfl
theorem dX2_init_0 : decode cX2_init 0 = .ok (.aload_n 0, 1) := dk_42 (dk_at dksX2_init_0 0 rfl rfl)
theorem dX2_init_1 : decode cX2_init 1 = .ok (.invokespecial 3, 3) := dk_183 0 3 (dk_at dksX2_init_0 1 rfl rfl)
theorem dX2_init_4 : decode cX2_init 4 = .ok (.aload_n 0, 1) := dk_42 (dk_at dksX2_init_0 4 rfl rfl)
theorem dX2_init_5 : decode cX2_init 5 = .ok (.bipush 40, 2) := dk_16 40 (dk_at dksX2_init_0 5 rfl rfl)
theorem dX2_init_7 : decode cX2_init 7 = .ok (.anewarray 9, 3) := dk_189 0 9 (dk_at dksX2_init_0 7 rfl rfl)
theorem dX2_init_10 : decode cX2_init 10 = .ok (.putfield 11, 3) := dk_181 0 11 (dk_at dksX2_init_0 10 rfl rfl)
theorem dX2_init_13 : decode cX2_init 13 = .ok (.aload_n 0, 1) := dk_42 (dk_at dksX2_init_0 13 rfl rfl)
theorem dX2_init_14 : decode cX2_init 14 = .ok (.new 17, 3) := dk_187 0 17 (dk_at dksX2_init_0 14 rfl rfl)
theorem dX2_init_17 : decode cX2_init 17 = .ok (.dup, 1) := dk_89 (dk_at dksX2_init_0 17 rfl rfl)
theorem dX2_init_18 : decode cX2_init 18 = .ok (.invokespecial 19, 3) := dk_183 0 19 (dk_at dksX2_init_0 18 rfl rfl)
theorem dX2_init_21 : decode cX2_init 21 = .ok (.putfield 20, 3) := dk_181 0 20 (dk_at dksX2_init_0 21 rfl rfl)
theorem dX2_init_24 : decode cX2_init 24 = .ok (.return_, 1) := dk_177 (dk_at dksX2_init_1 0 rfl rfl)
theorem q65 : (Jvm.Cond.initialized "StaveScore$Voice") ∈ lw_all := lw_g (lw_at lw_m1 3 rfl) rfl
theorem q132 : (Jvm.Cond.instantiable "StaveScore$Voice" (3 : Nat)) ∈ lw_all := lw_g (lw_at lw_m1 70 rfl) rfl
theorem q134 : (Jvm.Cond.instanceMethod ({ cls := "StaveScore$Voice", name := "<init>", desc := "()V" } : Jvm.MethodName)) ∈ lw_all := lw_g (lw_at lw_m1 72 rfl) rfl
theorem q135 : (Jvm.Cond.code ({ cls := "StaveScore$Voice", name := "<init>", desc := "()V" } : Jvm.MethodName) prog_19_method_1_code (1 : Nat) (Option.none : Option Jvm.ClassFile.FieldType)) ∈ lw_all := lw_g (lw_at lw_m1 73 rfl) rfl
theorem q136 : (Jvm.Cond.methodLink "StaveScore$Voice" (3 : Nat) ({ cls := "java/lang/Object", name := "<init>", desc := "()V" } : Jvm.MethodName)) ∈ lw_all := lw_g (lw_at lw_m1 74 rfl) rfl
theorem q137 : (Jvm.Cond.classLink "StaveScore$Voice" (9 : Nat) "StaveScore$Event") ∈ lw_all := lw_g (lw_at lw_m1 75 rfl) rfl
theorem q138 : (Jvm.Cond.classLink "StaveScore$Voice" (17 : Nat) "StaveScore$Fraction") ∈ lw_all := lw_g (lw_at lw_m1 76 rfl) rfl
theorem q139 : (Jvm.Cond.methodLinkNest "StaveScore$Voice" (19 : Nat) ({ cls := "StaveScore$Fraction", name := "<init>", desc := "()V" } : Jvm.MethodName) "StaveScore") ∈ lw_tbl := lw_at lw_m1 77 rfl
theorem q140 : (Jvm.Cond.fieldLink "StaveScore$Voice" (11 : Nat) "StaveScore$Voice" "row" "[LStaveScore$Event;") ∈ lw_all := lw_g (lw_at lw_m1 78 rfl) rfl
theorem q143 : (Jvm.Cond.fieldLink "StaveScore$Voice" (20 : Nat) "StaveScore$Voice" "length" "LStaveScore$Fraction;") ∈ lw_all := lw_g (lw_at lw_m1 81 rfl) rfl
theorem q145 : (Jvm.Cond.laysFinal "StaveScore$Voice" "StaveScore$Voice" "row" "[LStaveScore$Event;") ∈ lw_all := lw_g (lw_at lw_m1 83 rfl) rfl
theorem q146 : (Jvm.Cond.soleField "StaveScore$Voice" "row") ∈ lw_all := lw_g (lw_at lw_m1 84 rfl) rfl
theorem q147 : (Jvm.Cond.lays "StaveScore$Voice" "StaveScore$Voice" "many" "I") ∈ lw_all := lw_g (lw_at lw_m1 85 rfl) rfl
theorem q148 : (Jvm.Cond.soleField "StaveScore$Voice" "many") ∈ lw_all := lw_g (lw_at lw_m1 86 rfl) rfl
theorem q149 : (Jvm.Cond.laysFinal "StaveScore$Voice" "StaveScore$Voice" "length" "LStaveScore$Fraction;") ∈ lw_all := lw_g (lw_at lw_m1 87 rfl) rfl
theorem q150 : (Jvm.Cond.soleField "StaveScore$Voice" "length") ∈ lw_all := lw_g (lw_at lw_m1 88 rfl) rfl
theorem q151 : (Jvm.Cond.superclass "StaveScore$Voice" "java/lang/Object") ∈ lw_all := lw_g (lw_at lw_m1 89 rfl) rfl
theorem in_X2 : ∀ w ∈ wsX20, w ∈ lw_all := lw_in wsX20 [145, 147, 149] (by decide +kernel) (by decide +kernel)

/-! StaveScore$Shelf -/
set_option maxRecDepth 100000
def RX3 : String := "StaveScore$Shelf"
def TX3 : u_T := fun k => match k with
  | 0 => ("StaveScore$Shelf", "row", "Ljava/lang/Object;", false)
  | _ => ("StaveScore$Shelf", "kind", "I", false)
def tyX3 : Nat → FieldType := fun k => match k with
  | 0 => .object "java/lang/Object"
  | _ => .int
abbrev wsX30 : List Cond := u_ws RX3 TX3 2
theorem nmX3 : ∀ a, a < 2 → ∀ b, b < 2 → a ≠ b → (TX3 a).2.1 ≠ (TX3 b).2.1 := by decide +kernel
theorem tyX3_ok : ∀ k, k < 2 → parseFieldDescriptor (TX3 k).2.2.1 = some (tyX3 k) := by decide +kernel
abbrev cX3_init : ByteArray := prog_17_method_1_code
def yX3_init : MethodName := ⟨RX3, "<init>", "()V"⟩
theorem dX3_init_0 : decode cX3_init 0 = .ok (.aload_n 0, 1) := by decide +kernel
theorem dX3_init_1 : decode cX3_init 1 = .ok (.invokespecial 1, 3) := by decide +kernel
theorem dX3_init_4 : decode cX3_init 4 = .ok (.return_, 1) := by decide +kernel
abbrev cX3_make : ByteArray := prog_17_method_2_code
def yX3_make : MethodName := ⟨RX3, "make", "(II)V"⟩
def dkwX3_make_1 : List UInt8 := [160, 0, 9, 28, 188, 5, 167, 0, 6, 28, 188, 10, 78, 42, 45, 181, 0, 7, 42, 27, 181, 0, 13, 177]
abbrev dktX3_make_1 : List UInt8 := dkwX3_make_1 ++ []
def dkwX3_make_0 : List UInt8 := [27, 154, 0, 9, 28, 188, 8, 167, 0, 28, 27, 4, 160, 0, 9, 28, 188, 9, 167, 0, 17, 27, 5]
abbrev dktX3_make_0 : List UInt8 := dkwX3_make_0 ++ dktX3_make_1
theorem dksX3_make_0 : cX3_make.data.toList.drop 0 = dktX3_make_0 := by decide +kernel
theorem dksX3_make_1 : cX3_make.data.toList.drop 23 = dktX3_make_1 := dk_seg dksX3_make_0 23 rfl rfl
theorem dX3_make_0 : decode cX3_make 0 = .ok (.iload_n 1, 1) := dk_27 (dk_at dksX3_make_0 0 rfl rfl)
theorem dX3_make_1 : decode cX3_make 1 = .ok (.ifCond .ne 9, 3) := dk_154 0 9 (dk_at dksX3_make_0 1 rfl rfl)
theorem dX3_make_4 : decode cX3_make 4 = .ok (.iload_n 2, 1) := dk_28 (dk_at dksX3_make_0 4 rfl rfl)
theorem dX3_make_5 : decode cX3_make 5 = .ok (.newarray .byte, 2) := dk_188_8 (dk_at dksX3_make_0 5 rfl rfl)
theorem dX3_make_7 : decode cX3_make 7 = .ok (.goto 28, 3) := dk_167 0 28 (dk_at dksX3_make_0 7 rfl rfl)
theorem dX3_make_10 : decode cX3_make 10 = .ok (.iload_n 1, 1) := dk_27 (dk_at dksX3_make_0 10 rfl rfl)
theorem dX3_make_11 : decode cX3_make 11 = .ok (.iconst 1, 1) := dk_4 (dk_at dksX3_make_0 11 rfl rfl)
theorem dX3_make_12 : decode cX3_make 12 = .ok (.if_icmp .ne 9, 3) := dk_160 0 9 (dk_at dksX3_make_0 12 rfl rfl)
theorem dX3_make_15 : decode cX3_make 15 = .ok (.iload_n 2, 1) := dk_28 (dk_at dksX3_make_0 15 rfl rfl)
theorem dX3_make_16 : decode cX3_make 16 = .ok (.newarray .short, 2) := dk_188_9 (dk_at dksX3_make_0 16 rfl rfl)
theorem dX3_make_18 : decode cX3_make 18 = .ok (.goto 17, 3) := dk_167 0 17 (dk_at dksX3_make_0 18 rfl rfl)
theorem dX3_make_21 : decode cX3_make 21 = .ok (.iload_n 1, 1) := dk_27 (dk_at dksX3_make_0 21 rfl rfl)
theorem dX3_make_22 : decode cX3_make 22 = .ok (.iconst 2, 1) := dk_5 (dk_at dksX3_make_0 22 rfl rfl)
theorem dX3_make_23 : decode cX3_make 23 = .ok (.if_icmp .ne 9, 3) := dk_160 0 9 (dk_at dksX3_make_1 0 rfl rfl)
theorem dX3_make_26 : decode cX3_make 26 = .ok (.iload_n 2, 1) := dk_28 (dk_at dksX3_make_1 3 rfl rfl)
theorem dX3_make_27 : decode cX3_make 27 = .ok (.newarray .char, 2) := dk_188_5 (dk_at dksX3_make_1 4 rfl rfl)
theorem dX3_make_29 : decode cX3_make 29 = .ok (.goto 6, 3) := dk_167 0 6 (dk_at dksX3_make_1 6 rfl rfl)
theorem dX3_make_32 : decode cX3_make 32 = .ok (.iload_n 2, 1) := dk_28 (dk_at dksX3_make_1 9 rfl rfl)
theorem dX3_make_33 : decode cX3_make 33 = .ok (.newarray .int, 2) := dk_188_10 (dk_at dksX3_make_1 10 rfl rfl)
theorem dX3_make_35 : decode cX3_make 35 = .ok (.astore_n 3, 1) := dk_78 (dk_at dksX3_make_1 12 rfl rfl)
theorem dX3_make_36 : decode cX3_make 36 = .ok (.aload_n 0, 1) := dk_42 (dk_at dksX3_make_1 13 rfl rfl)
theorem dX3_make_37 : decode cX3_make 37 = .ok (.aload_n 3, 1) := dk_45 (dk_at dksX3_make_1 14 rfl rfl)
theorem dX3_make_38 : decode cX3_make 38 = .ok (.putfield 7, 3) := dk_181 0 7 (dk_at dksX3_make_1 15 rfl rfl)
theorem dX3_make_41 : decode cX3_make 41 = .ok (.aload_n 0, 1) := dk_42 (dk_at dksX3_make_1 18 rfl rfl)
theorem dX3_make_42 : decode cX3_make 42 = .ok (.iload_n 1, 1) := dk_27 (dk_at dksX3_make_1 19 rfl rfl)
theorem dX3_make_43 : decode cX3_make 43 = .ok (.putfield 13, 3) := dk_181 0 13 (dk_at dksX3_make_1 20 rfl rfl)
theorem dX3_make_46 : decode cX3_make 46 = .ok (.return_, 1) := dk_177 (dk_at dksX3_make_1 23 rfl rfl)
abbrev cX3_put : ByteArray := prog_17_method_5_code
def yX3_put : MethodName := ⟨RX3, "put", "(II)V"⟩
def dkwX3_put_4 : List UInt8 := [192, 0, 23, 27, 28, 79, 177]
abbrev dktX3_put_4 : List UInt8 := dkwX3_put_4 ++ []
def dkwX3_put_3 : List UInt8 := [86, 167, 0, 27, 42, 180, 0, 7, 192, 0, 21, 27, 28, 146, 85, 167, 0, 13, 42, 180, 0, 7]
abbrev dktX3_put_3 : List UInt8 := dkwX3_put_3 ++ dktX3_put_4
def dkwX3_put_2 : List UInt8 := [42, 180, 0, 7, 192, 0, 17, 27, 28, 145, 84, 167, 0, 41, 42, 180, 0, 7, 192, 0, 19, 27, 28, 147]
abbrev dktX3_put_2 : List UInt8 := dkwX3_put_2 ++ dktX3_put_3
def dkwX3_put_1 : List UInt8 := [170, 0, 0, 0, 0, 0, 0, 70, 0, 0, 0, 0, 0, 0, 0, 2, 0, 0, 0, 28, 0, 0, 0, 42, 0, 0, 0, 56]
abbrev dktX3_put_1 : List UInt8 := dkwX3_put_1 ++ dktX3_put_2
def dkwX3_put_0 : List UInt8 := [42, 180, 0, 13]
abbrev dktX3_put_0 : List UInt8 := dkwX3_put_0 ++ dktX3_put_1
theorem dksX3_put_0 : cX3_put.data.toList.drop 0 = dktX3_put_0 := by decide +kernel
theorem dksX3_put_1 : cX3_put.data.toList.drop 4 = dktX3_put_1 := dk_seg dksX3_put_0 4 rfl rfl
theorem dksX3_put_2 : cX3_put.data.toList.drop 32 = dktX3_put_2 := dk_seg dksX3_put_1 28 rfl rfl
theorem dksX3_put_3 : cX3_put.data.toList.drop 56 = dktX3_put_3 := dk_seg dksX3_put_2 24 rfl rfl
theorem dksX3_put_4 : cX3_put.data.toList.drop 78 = dktX3_put_4 := dk_seg dksX3_put_3 22 rfl rfl
theorem dX3_put_0 : decode cX3_put 0 = .ok (.aload_n 0, 1) := dk_42 (dk_at dksX3_put_0 0 rfl rfl)
theorem dX3_put_1 : decode cX3_put 1 = .ok (.getfield 13, 3) := dk_180 0 13 (dk_at dksX3_put_0 1 rfl rfl)
theorem dX3_put_4 : decode cX3_put 4 = .ok (.tableswitch 70 0 2 #[28, 42, 56], 28) := by decide +kernel
theorem dX3_put_32 : decode cX3_put 32 = .ok (.aload_n 0, 1) := dk_42 (dk_at dksX3_put_2 0 rfl rfl)
theorem dX3_put_33 : decode cX3_put 33 = .ok (.getfield 7, 3) := dk_180 0 7 (dk_at dksX3_put_2 1 rfl rfl)
theorem dX3_put_36 : decode cX3_put 36 = .ok (.checkcast 17, 3) := dk_192 0 17 (dk_at dksX3_put_2 4 rfl rfl)
theorem dX3_put_39 : decode cX3_put 39 = .ok (.iload_n 1, 1) := dk_27 (dk_at dksX3_put_2 7 rfl rfl)
theorem dX3_put_40 : decode cX3_put 40 = .ok (.iload_n 2, 1) := dk_28 (dk_at dksX3_put_2 8 rfl rfl)
theorem dX3_put_41 : decode cX3_put 41 = .ok (.i2b, 1) := dk_145 (dk_at dksX3_put_2 9 rfl rfl)
theorem dX3_put_42 : decode cX3_put 42 = .ok (.bastore, 1) := dk_84 (dk_at dksX3_put_2 10 rfl rfl)
theorem dX3_put_43 : decode cX3_put 43 = .ok (.goto 41, 3) := dk_167 0 41 (dk_at dksX3_put_2 11 rfl rfl)
theorem dX3_put_46 : decode cX3_put 46 = .ok (.aload_n 0, 1) := dk_42 (dk_at dksX3_put_2 14 rfl rfl)
theorem dX3_put_47 : decode cX3_put 47 = .ok (.getfield 7, 3) := dk_180 0 7 (dk_at dksX3_put_2 15 rfl rfl)
theorem dX3_put_50 : decode cX3_put 50 = .ok (.checkcast 19, 3) := dk_192 0 19 (dk_at dksX3_put_2 18 rfl rfl)
theorem dX3_put_53 : decode cX3_put 53 = .ok (.iload_n 1, 1) := dk_27 (dk_at dksX3_put_2 21 rfl rfl)
theorem dX3_put_54 : decode cX3_put 54 = .ok (.iload_n 2, 1) := dk_28 (dk_at dksX3_put_2 22 rfl rfl)
theorem dX3_put_55 : decode cX3_put 55 = .ok (.i2s, 1) := dk_147 (dk_at dksX3_put_2 23 rfl rfl)
theorem dX3_put_56 : decode cX3_put 56 = .ok (.sastore, 1) := dk_86 (dk_at dksX3_put_3 0 rfl rfl)
theorem dX3_put_57 : decode cX3_put 57 = .ok (.goto 27, 3) := dk_167 0 27 (dk_at dksX3_put_3 1 rfl rfl)
theorem dX3_put_60 : decode cX3_put 60 = .ok (.aload_n 0, 1) := dk_42 (dk_at dksX3_put_3 4 rfl rfl)
theorem dX3_put_61 : decode cX3_put 61 = .ok (.getfield 7, 3) := dk_180 0 7 (dk_at dksX3_put_3 5 rfl rfl)
theorem dX3_put_64 : decode cX3_put 64 = .ok (.checkcast 21, 3) := dk_192 0 21 (dk_at dksX3_put_3 8 rfl rfl)
theorem dX3_put_67 : decode cX3_put 67 = .ok (.iload_n 1, 1) := dk_27 (dk_at dksX3_put_3 11 rfl rfl)
theorem dX3_put_68 : decode cX3_put 68 = .ok (.iload_n 2, 1) := dk_28 (dk_at dksX3_put_3 12 rfl rfl)
theorem dX3_put_69 : decode cX3_put 69 = .ok (.i2c, 1) := dk_146 (dk_at dksX3_put_3 13 rfl rfl)
theorem dX3_put_70 : decode cX3_put 70 = .ok (.castore, 1) := dk_85 (dk_at dksX3_put_3 14 rfl rfl)
theorem dX3_put_71 : decode cX3_put 71 = .ok (.goto 13, 3) := dk_167 0 13 (dk_at dksX3_put_3 15 rfl rfl)
theorem dX3_put_74 : decode cX3_put 74 = .ok (.aload_n 0, 1) := dk_42 (dk_at dksX3_put_3 18 rfl rfl)
theorem dX3_put_75 : decode cX3_put 75 = .ok (.getfield 7, 3) := dk_180 0 7 (dk_at dksX3_put_3 19 rfl rfl)
theorem dX3_put_78 : decode cX3_put 78 = .ok (.checkcast 23, 3) := dk_192 0 23 (dk_at dksX3_put_4 0 rfl rfl)
theorem dX3_put_81 : decode cX3_put 81 = .ok (.iload_n 1, 1) := dk_27 (dk_at dksX3_put_4 3 rfl rfl)
theorem dX3_put_82 : decode cX3_put 82 = .ok (.iload_n 2, 1) := dk_28 (dk_at dksX3_put_4 4 rfl rfl)
theorem dX3_put_83 : decode cX3_put 83 = .ok (.iastore, 1) := dk_79 (dk_at dksX3_put_4 5 rfl rfl)
theorem dX3_put_84 : decode cX3_put 84 = .ok (.return_, 1) := dk_177 (dk_at dksX3_put_4 6 rfl rfl)
abbrev cX3_get : ByteArray := prog_17_method_4_code
def yX3_get : MethodName := ⟨RX3, "get", "(I)I"⟩
def dkwX3_get_3 : List UInt8 := [192, 0, 21, 27, 52, 172, 42, 180, 0, 7, 192, 0, 23, 27, 46, 172]
abbrev dktX3_get_3 : List UInt8 := dkwX3_get_3 ++ []
def dkwX3_get_2 : List UInt8 := [42, 180, 0, 7, 192, 0, 17, 27, 51, 172, 42, 180, 0, 7, 192, 0, 19, 27, 53, 172, 42, 180, 0, 7]
abbrev dktX3_get_2 : List UInt8 := dkwX3_get_2 ++ dktX3_get_3
def dkwX3_get_1 : List UInt8 := [170, 0, 0, 0, 0, 0, 0, 58, 0, 0, 0, 0, 0, 0, 0, 2, 0, 0, 0, 28, 0, 0, 0, 38, 0, 0, 0, 48]
abbrev dktX3_get_1 : List UInt8 := dkwX3_get_1 ++ dktX3_get_2
def dkwX3_get_0 : List UInt8 := [42, 180, 0, 13]
abbrev dktX3_get_0 : List UInt8 := dkwX3_get_0 ++ dktX3_get_1
theorem dksX3_get_0 : cX3_get.data.toList.drop 0 = dktX3_get_0 := by decide +kernel
theorem dksX3_get_1 : cX3_get.data.toList.drop 4 = dktX3_get_1 := dk_seg dksX3_get_0 4 rfl rfl
theorem dksX3_get_2 : cX3_get.data.toList.drop 32 = dktX3_get_2 := dk_seg dksX3_get_1 28 rfl rfl
theorem dksX3_get_3 : cX3_get.data.toList.drop 56 = dktX3_get_3 := dk_seg dksX3_get_2 24 rfl rfl
theorem dX3_get_0 : decode cX3_get 0 = .ok (.aload_n 0, 1) := dk_42 (dk_at dksX3_get_0 0 rfl rfl)
theorem dX3_get_1 : decode cX3_get 1 = .ok (.getfield 13, 3) := dk_180 0 13 (dk_at dksX3_get_0 1 rfl rfl)
theorem dX3_get_4 : decode cX3_get 4 = .ok (.tableswitch 58 0 2 #[28, 38, 48], 28) := by decide +kernel
theorem dX3_get_32 : decode cX3_get 32 = .ok (.aload_n 0, 1) := dk_42 (dk_at dksX3_get_2 0 rfl rfl)
theorem dX3_get_33 : decode cX3_get 33 = .ok (.getfield 7, 3) := dk_180 0 7 (dk_at dksX3_get_2 1 rfl rfl)
theorem dX3_get_36 : decode cX3_get 36 = .ok (.checkcast 17, 3) := dk_192 0 17 (dk_at dksX3_get_2 4 rfl rfl)
theorem dX3_get_39 : decode cX3_get 39 = .ok (.iload_n 1, 1) := dk_27 (dk_at dksX3_get_2 7 rfl rfl)
theorem dX3_get_40 : decode cX3_get 40 = .ok (.baload, 1) := dk_51 (dk_at dksX3_get_2 8 rfl rfl)
theorem dX3_get_41 : decode cX3_get 41 = .ok (.ireturn, 1) := dk_172 (dk_at dksX3_get_2 9 rfl rfl)
theorem dX3_get_42 : decode cX3_get 42 = .ok (.aload_n 0, 1) := dk_42 (dk_at dksX3_get_2 10 rfl rfl)
theorem dX3_get_43 : decode cX3_get 43 = .ok (.getfield 7, 3) := dk_180 0 7 (dk_at dksX3_get_2 11 rfl rfl)
theorem dX3_get_46 : decode cX3_get 46 = .ok (.checkcast 19, 3) := dk_192 0 19 (dk_at dksX3_get_2 14 rfl rfl)
theorem dX3_get_49 : decode cX3_get 49 = .ok (.iload_n 1, 1) := dk_27 (dk_at dksX3_get_2 17 rfl rfl)
theorem dX3_get_50 : decode cX3_get 50 = .ok (.saload, 1) := dk_53 (dk_at dksX3_get_2 18 rfl rfl)
theorem dX3_get_51 : decode cX3_get 51 = .ok (.ireturn, 1) := dk_172 (dk_at dksX3_get_2 19 rfl rfl)
theorem dX3_get_52 : decode cX3_get 52 = .ok (.aload_n 0, 1) := dk_42 (dk_at dksX3_get_2 20 rfl rfl)
theorem dX3_get_53 : decode cX3_get 53 = .ok (.getfield 7, 3) := dk_180 0 7 (dk_at dksX3_get_2 21 rfl rfl)
theorem dX3_get_56 : decode cX3_get 56 = .ok (.checkcast 21, 3) := dk_192 0 21 (dk_at dksX3_get_3 0 rfl rfl)
theorem dX3_get_59 : decode cX3_get 59 = .ok (.iload_n 1, 1) := dk_27 (dk_at dksX3_get_3 3 rfl rfl)
theorem dX3_get_60 : decode cX3_get 60 = .ok (.caload, 1) := dk_52 (dk_at dksX3_get_3 4 rfl rfl)
theorem dX3_get_61 : decode cX3_get 61 = .ok (.ireturn, 1) := dk_172 (dk_at dksX3_get_3 5 rfl rfl)
theorem dX3_get_62 : decode cX3_get 62 = .ok (.aload_n 0, 1) := dk_42 (dk_at dksX3_get_3 6 rfl rfl)
theorem dX3_get_63 : decode cX3_get 63 = .ok (.getfield 7, 3) := dk_180 0 7 (dk_at dksX3_get_3 7 rfl rfl)
theorem dX3_get_66 : decode cX3_get 66 = .ok (.checkcast 23, 3) := dk_192 0 23 (dk_at dksX3_get_3 10 rfl rfl)
theorem dX3_get_69 : decode cX3_get 69 = .ok (.iload_n 1, 1) := dk_27 (dk_at dksX3_get_3 13 rfl rfl)
theorem dX3_get_70 : decode cX3_get 70 = .ok (.iaload, 1) := dk_46 (dk_at dksX3_get_3 14 rfl rfl)
theorem dX3_get_71 : decode cX3_get 71 = .ok (.ireturn, 1) := dk_172 (dk_at dksX3_get_3 15 rfl rfl)
abbrev cX3_copy : ByteArray := prog_17_method_6_code
def yX3_copy : MethodName := ⟨RX3, "copy", "(ILStaveScore$Shelf;II)V"⟩
def dkwX3_copy_5 : List UInt8 := [192, 0, 23, 27, 44, 180, 0, 7, 192, 0, 23, 29, 21, 4, 184, 0, 29, 177]
abbrev dktX3_copy_5 : List UInt8 := dkwX3_copy_5 ++ []
def dkwX3_copy_4 : List UInt8 := [192, 0, 21, 27, 44, 180, 0, 7, 192, 0, 21, 29, 21, 4, 184, 0, 29, 167, 0, 24, 42, 180, 0, 7]
abbrev dktX3_copy_4 : List UInt8 := dkwX3_copy_4 ++ dktX3_copy_5
def dkwX3_copy_3 : List UInt8 := [29, 21, 4, 184, 0, 29, 167, 0, 58, 42, 180, 0, 7, 193, 0, 21, 153, 0, 27, 42, 180, 0, 7]
abbrev dktX3_copy_3 : List UInt8 := dkwX3_copy_3 ++ dktX3_copy_4
def dkwX3_copy_2 : List UInt8 := [180, 0, 7, 193, 0, 19, 153, 0, 27, 42, 180, 0, 7, 192, 0, 19, 27, 44, 180, 0, 7, 192, 0, 19]
abbrev dktX3_copy_2 : List UInt8 := dkwX3_copy_2 ++ dktX3_copy_3
def dkwX3_copy_1 : List UInt8 := [180, 0, 7, 192, 0, 17, 27, 44, 180, 0, 7, 192, 0, 17, 29, 21, 4, 184, 0, 29, 167, 0, 92, 42]
abbrev dktX3_copy_1 : List UInt8 := dkwX3_copy_1 ++ dktX3_copy_2
def dkwX3_copy_0 : List UInt8 := [42, 182, 0, 25, 44, 182, 0, 25, 96, 54, 5, 42, 180, 0, 7, 193, 0, 17, 153, 0, 27, 42]
abbrev dktX3_copy_0 : List UInt8 := dkwX3_copy_0 ++ dktX3_copy_1
theorem dksX3_copy_0 : cX3_copy.data.toList.drop 0 = dktX3_copy_0 := by decide +kernel
theorem dksX3_copy_1 : cX3_copy.data.toList.drop 22 = dktX3_copy_1 := dk_seg dksX3_copy_0 22 rfl rfl
theorem dksX3_copy_2 : cX3_copy.data.toList.drop 46 = dktX3_copy_2 := dk_seg dksX3_copy_1 24 rfl rfl
theorem dksX3_copy_3 : cX3_copy.data.toList.drop 70 = dktX3_copy_3 := dk_seg dksX3_copy_2 24 rfl rfl
theorem dksX3_copy_4 : cX3_copy.data.toList.drop 93 = dktX3_copy_4 := dk_seg dksX3_copy_3 23 rfl rfl
theorem dksX3_copy_5 : cX3_copy.data.toList.drop 117 = dktX3_copy_5 := dk_seg dksX3_copy_4 24 rfl rfl
theorem dX3_copy_0 : decode cX3_copy 0 = .ok (.aload_n 0, 1) := dk_42 (dk_at dksX3_copy_0 0 rfl rfl)
theorem dX3_copy_1 : decode cX3_copy 1 = .ok (.invokevirtual 25, 3) := dk_182 0 25 (dk_at dksX3_copy_0 1 rfl rfl)
theorem dX3_copy_4 : decode cX3_copy 4 = .ok (.aload_n 2, 1) := dk_44 (dk_at dksX3_copy_0 4 rfl rfl)
theorem dX3_copy_5 : decode cX3_copy 5 = .ok (.invokevirtual 25, 3) := dk_182 0 25 (dk_at dksX3_copy_0 5 rfl rfl)
theorem dX3_copy_8 : decode cX3_copy 8 = .ok (.iadd, 1) := dk_96 (dk_at dksX3_copy_0 8 rfl rfl)
theorem dX3_copy_9 : decode cX3_copy 9 = .ok (.istore 5, 2) := dk_54 5 (dk_at dksX3_copy_0 9 rfl rfl)
theorem dX3_copy_11 : decode cX3_copy 11 = .ok (.aload_n 0, 1) := dk_42 (dk_at dksX3_copy_0 11 rfl rfl)
theorem dX3_copy_12 : decode cX3_copy 12 = .ok (.getfield 7, 3) := dk_180 0 7 (dk_at dksX3_copy_0 12 rfl rfl)
theorem dX3_copy_15 : decode cX3_copy 15 = .ok (.instanceof 17, 3) := dk_193 0 17 (dk_at dksX3_copy_0 15 rfl rfl)
theorem dX3_copy_18 : decode cX3_copy 18 = .ok (.ifCond .eq 27, 3) := dk_153 0 27 (dk_at dksX3_copy_0 18 rfl rfl)
theorem dX3_copy_21 : decode cX3_copy 21 = .ok (.aload_n 0, 1) := dk_42 (dk_at dksX3_copy_0 21 rfl rfl)
theorem dX3_copy_22 : decode cX3_copy 22 = .ok (.getfield 7, 3) := dk_180 0 7 (dk_at dksX3_copy_1 0 rfl rfl)
theorem dX3_copy_25 : decode cX3_copy 25 = .ok (.checkcast 17, 3) := dk_192 0 17 (dk_at dksX3_copy_1 3 rfl rfl)
theorem dX3_copy_28 : decode cX3_copy 28 = .ok (.iload_n 1, 1) := dk_27 (dk_at dksX3_copy_1 6 rfl rfl)
theorem dX3_copy_29 : decode cX3_copy 29 = .ok (.aload_n 2, 1) := dk_44 (dk_at dksX3_copy_1 7 rfl rfl)
theorem dX3_copy_30 : decode cX3_copy 30 = .ok (.getfield 7, 3) := dk_180 0 7 (dk_at dksX3_copy_1 8 rfl rfl)
theorem dX3_copy_33 : decode cX3_copy 33 = .ok (.checkcast 17, 3) := dk_192 0 17 (dk_at dksX3_copy_1 11 rfl rfl)
theorem dX3_copy_36 : decode cX3_copy 36 = .ok (.iload_n 3, 1) := dk_29 (dk_at dksX3_copy_1 14 rfl rfl)
theorem dX3_copy_37 : decode cX3_copy 37 = .ok (.iload 4, 2) := dk_21 4 (dk_at dksX3_copy_1 15 rfl rfl)
theorem dX3_copy_39 : decode cX3_copy 39 = .ok (.invokestatic 29, 3) := dk_184 0 29 (dk_at dksX3_copy_1 17 rfl rfl)
theorem dX3_copy_42 : decode cX3_copy 42 = .ok (.goto 92, 3) := dk_167 0 92 (dk_at dksX3_copy_1 20 rfl rfl)
theorem dX3_copy_45 : decode cX3_copy 45 = .ok (.aload_n 0, 1) := dk_42 (dk_at dksX3_copy_1 23 rfl rfl)
theorem dX3_copy_46 : decode cX3_copy 46 = .ok (.getfield 7, 3) := dk_180 0 7 (dk_at dksX3_copy_2 0 rfl rfl)
theorem dX3_copy_49 : decode cX3_copy 49 = .ok (.instanceof 19, 3) := dk_193 0 19 (dk_at dksX3_copy_2 3 rfl rfl)
theorem dX3_copy_52 : decode cX3_copy 52 = .ok (.ifCond .eq 27, 3) := dk_153 0 27 (dk_at dksX3_copy_2 6 rfl rfl)
theorem dX3_copy_55 : decode cX3_copy 55 = .ok (.aload_n 0, 1) := dk_42 (dk_at dksX3_copy_2 9 rfl rfl)
theorem dX3_copy_56 : decode cX3_copy 56 = .ok (.getfield 7, 3) := dk_180 0 7 (dk_at dksX3_copy_2 10 rfl rfl)
theorem dX3_copy_59 : decode cX3_copy 59 = .ok (.checkcast 19, 3) := dk_192 0 19 (dk_at dksX3_copy_2 13 rfl rfl)
theorem dX3_copy_62 : decode cX3_copy 62 = .ok (.iload_n 1, 1) := dk_27 (dk_at dksX3_copy_2 16 rfl rfl)
theorem dX3_copy_63 : decode cX3_copy 63 = .ok (.aload_n 2, 1) := dk_44 (dk_at dksX3_copy_2 17 rfl rfl)
theorem dX3_copy_64 : decode cX3_copy 64 = .ok (.getfield 7, 3) := dk_180 0 7 (dk_at dksX3_copy_2 18 rfl rfl)
theorem dX3_copy_67 : decode cX3_copy 67 = .ok (.checkcast 19, 3) := dk_192 0 19 (dk_at dksX3_copy_2 21 rfl rfl)
theorem dX3_copy_70 : decode cX3_copy 70 = .ok (.iload_n 3, 1) := dk_29 (dk_at dksX3_copy_3 0 rfl rfl)
theorem dX3_copy_71 : decode cX3_copy 71 = .ok (.iload 4, 2) := dk_21 4 (dk_at dksX3_copy_3 1 rfl rfl)
theorem dX3_copy_73 : decode cX3_copy 73 = .ok (.invokestatic 29, 3) := dk_184 0 29 (dk_at dksX3_copy_3 3 rfl rfl)
theorem dX3_copy_76 : decode cX3_copy 76 = .ok (.goto 58, 3) := dk_167 0 58 (dk_at dksX3_copy_3 6 rfl rfl)
theorem dX3_copy_79 : decode cX3_copy 79 = .ok (.aload_n 0, 1) := dk_42 (dk_at dksX3_copy_3 9 rfl rfl)
theorem dX3_copy_80 : decode cX3_copy 80 = .ok (.getfield 7, 3) := dk_180 0 7 (dk_at dksX3_copy_3 10 rfl rfl)
theorem dX3_copy_83 : decode cX3_copy 83 = .ok (.instanceof 21, 3) := dk_193 0 21 (dk_at dksX3_copy_3 13 rfl rfl)
theorem dX3_copy_86 : decode cX3_copy 86 = .ok (.ifCond .eq 27, 3) := dk_153 0 27 (dk_at dksX3_copy_3 16 rfl rfl)
theorem dX3_copy_89 : decode cX3_copy 89 = .ok (.aload_n 0, 1) := dk_42 (dk_at dksX3_copy_3 19 rfl rfl)
theorem dX3_copy_90 : decode cX3_copy 90 = .ok (.getfield 7, 3) := dk_180 0 7 (dk_at dksX3_copy_3 20 rfl rfl)
theorem dX3_copy_93 : decode cX3_copy 93 = .ok (.checkcast 21, 3) := dk_192 0 21 (dk_at dksX3_copy_4 0 rfl rfl)
theorem dX3_copy_96 : decode cX3_copy 96 = .ok (.iload_n 1, 1) := dk_27 (dk_at dksX3_copy_4 3 rfl rfl)
theorem dX3_copy_97 : decode cX3_copy 97 = .ok (.aload_n 2, 1) := dk_44 (dk_at dksX3_copy_4 4 rfl rfl)
theorem dX3_copy_98 : decode cX3_copy 98 = .ok (.getfield 7, 3) := dk_180 0 7 (dk_at dksX3_copy_4 5 rfl rfl)
theorem dX3_copy_101 : decode cX3_copy 101 = .ok (.checkcast 21, 3) := dk_192 0 21 (dk_at dksX3_copy_4 8 rfl rfl)
theorem dX3_copy_104 : decode cX3_copy 104 = .ok (.iload_n 3, 1) := dk_29 (dk_at dksX3_copy_4 11 rfl rfl)
theorem dX3_copy_105 : decode cX3_copy 105 = .ok (.iload 4, 2) := dk_21 4 (dk_at dksX3_copy_4 12 rfl rfl)
theorem dX3_copy_107 : decode cX3_copy 107 = .ok (.invokestatic 29, 3) := dk_184 0 29 (dk_at dksX3_copy_4 14 rfl rfl)
theorem dX3_copy_110 : decode cX3_copy 110 = .ok (.goto 24, 3) := dk_167 0 24 (dk_at dksX3_copy_4 17 rfl rfl)
theorem dX3_copy_113 : decode cX3_copy 113 = .ok (.aload_n 0, 1) := dk_42 (dk_at dksX3_copy_4 20 rfl rfl)
theorem dX3_copy_114 : decode cX3_copy 114 = .ok (.getfield 7, 3) := dk_180 0 7 (dk_at dksX3_copy_4 21 rfl rfl)
theorem dX3_copy_117 : decode cX3_copy 117 = .ok (.checkcast 23, 3) := dk_192 0 23 (dk_at dksX3_copy_5 0 rfl rfl)
theorem dX3_copy_120 : decode cX3_copy 120 = .ok (.iload_n 1, 1) := dk_27 (dk_at dksX3_copy_5 3 rfl rfl)
theorem dX3_copy_121 : decode cX3_copy 121 = .ok (.aload_n 2, 1) := dk_44 (dk_at dksX3_copy_5 4 rfl rfl)
theorem dX3_copy_122 : decode cX3_copy 122 = .ok (.getfield 7, 3) := dk_180 0 7 (dk_at dksX3_copy_5 5 rfl rfl)
theorem dX3_copy_125 : decode cX3_copy 125 = .ok (.checkcast 23, 3) := dk_192 0 23 (dk_at dksX3_copy_5 8 rfl rfl)
theorem dX3_copy_128 : decode cX3_copy 128 = .ok (.iload_n 3, 1) := dk_29 (dk_at dksX3_copy_5 11 rfl rfl)
theorem dX3_copy_129 : decode cX3_copy 129 = .ok (.iload 4, 2) := dk_21 4 (dk_at dksX3_copy_5 12 rfl rfl)
theorem dX3_copy_131 : decode cX3_copy 131 = .ok (.invokestatic 29, 3) := dk_184 0 29 (dk_at dksX3_copy_5 14 rfl rfl)
theorem dX3_copy_134 : decode cX3_copy 134 = .ok (.return_, 1) := dk_177 (dk_at dksX3_copy_5 17 rfl rfl)
abbrev cX3_size : ByteArray := prog_17_method_3_code
def yX3_size : MethodName := ⟨RX3, "size", "()I"⟩
def dkwX3_size_3 : List UInt8 := [192, 0, 21, 190, 172, 42, 180, 0, 7, 192, 0, 23, 190, 172]
abbrev dktX3_size_3 : List UInt8 := dkwX3_size_3 ++ []
def dkwX3_size_2 : List UInt8 := [42, 180, 0, 7, 192, 0, 17, 190, 172, 42, 180, 0, 7, 192, 0, 19, 190, 172, 42, 180, 0, 7]
abbrev dktX3_size_2 : List UInt8 := dkwX3_size_2 ++ dktX3_size_3
def dkwX3_size_1 : List UInt8 := [170, 0, 0, 0, 0, 0, 0, 55, 0, 0, 0, 0, 0, 0, 0, 2, 0, 0, 0, 28, 0, 0, 0, 37, 0, 0, 0, 46]
abbrev dktX3_size_1 : List UInt8 := dkwX3_size_1 ++ dktX3_size_2
def dkwX3_size_0 : List UInt8 := [42, 180, 0, 13]
abbrev dktX3_size_0 : List UInt8 := dkwX3_size_0 ++ dktX3_size_1
theorem dksX3_size_0 : cX3_size.data.toList.drop 0 = dktX3_size_0 := by decide +kernel
theorem dksX3_size_1 : cX3_size.data.toList.drop 4 = dktX3_size_1 := dk_seg dksX3_size_0 4 rfl rfl
theorem dksX3_size_2 : cX3_size.data.toList.drop 32 = dktX3_size_2 := dk_seg dksX3_size_1 28 rfl rfl
theorem dksX3_size_3 : cX3_size.data.toList.drop 54 = dktX3_size_3 := dk_seg dksX3_size_2 22 rfl rfl
theorem dX3_size_0 : decode cX3_size 0 = .ok (.aload_n 0, 1) := dk_42 (dk_at dksX3_size_0 0 rfl rfl)
theorem dX3_size_1 : decode cX3_size 1 = .ok (.getfield 13, 3) := dk_180 0 13 (dk_at dksX3_size_0 1 rfl rfl)
theorem dX3_size_4 : decode cX3_size 4 = .ok (.tableswitch 55 0 2 #[28, 37, 46], 28) := by decide +kernel
theorem dX3_size_32 : decode cX3_size 32 = .ok (.aload_n 0, 1) := dk_42 (dk_at dksX3_size_2 0 rfl rfl)
theorem dX3_size_33 : decode cX3_size 33 = .ok (.getfield 7, 3) := dk_180 0 7 (dk_at dksX3_size_2 1 rfl rfl)
theorem dX3_size_36 : decode cX3_size 36 = .ok (.checkcast 17, 3) := dk_192 0 17 (dk_at dksX3_size_2 4 rfl rfl)
theorem dX3_size_39 : decode cX3_size 39 = .ok (.arraylength, 1) := dk_190 (dk_at dksX3_size_2 7 rfl rfl)
theorem dX3_size_40 : decode cX3_size 40 = .ok (.ireturn, 1) := dk_172 (dk_at dksX3_size_2 8 rfl rfl)
theorem dX3_size_41 : decode cX3_size 41 = .ok (.aload_n 0, 1) := dk_42 (dk_at dksX3_size_2 9 rfl rfl)
theorem dX3_size_42 : decode cX3_size 42 = .ok (.getfield 7, 3) := dk_180 0 7 (dk_at dksX3_size_2 10 rfl rfl)
theorem dX3_size_45 : decode cX3_size 45 = .ok (.checkcast 19, 3) := dk_192 0 19 (dk_at dksX3_size_2 13 rfl rfl)
theorem dX3_size_48 : decode cX3_size 48 = .ok (.arraylength, 1) := dk_190 (dk_at dksX3_size_2 16 rfl rfl)
theorem dX3_size_49 : decode cX3_size 49 = .ok (.ireturn, 1) := dk_172 (dk_at dksX3_size_2 17 rfl rfl)
theorem dX3_size_50 : decode cX3_size 50 = .ok (.aload_n 0, 1) := dk_42 (dk_at dksX3_size_2 18 rfl rfl)
theorem dX3_size_51 : decode cX3_size 51 = .ok (.getfield 7, 3) := dk_180 0 7 (dk_at dksX3_size_2 19 rfl rfl)
theorem dX3_size_54 : decode cX3_size 54 = .ok (.checkcast 21, 3) := dk_192 0 21 (dk_at dksX3_size_3 0 rfl rfl)
theorem dX3_size_57 : decode cX3_size 57 = .ok (.arraylength, 1) := dk_190 (dk_at dksX3_size_3 3 rfl rfl)
theorem dX3_size_58 : decode cX3_size 58 = .ok (.ireturn, 1) := dk_172 (dk_at dksX3_size_3 4 rfl rfl)
theorem dX3_size_59 : decode cX3_size 59 = .ok (.aload_n 0, 1) := dk_42 (dk_at dksX3_size_3 5 rfl rfl)
theorem dX3_size_60 : decode cX3_size 60 = .ok (.getfield 7, 3) := dk_180 0 7 (dk_at dksX3_size_3 6 rfl rfl)
theorem dX3_size_63 : decode cX3_size 63 = .ok (.checkcast 23, 3) := dk_192 0 23 (dk_at dksX3_size_3 9 rfl rfl)
theorem dX3_size_66 : decode cX3_size 66 = .ok (.arraylength, 1) := dk_190 (dk_at dksX3_size_3 12 rfl rfl)
theorem dX3_size_67 : decode cX3_size 67 = .ok (.ireturn, 1) := dk_172 (dk_at dksX3_size_3 13 rfl rfl)
theorem q66 : (Jvm.Cond.initialized "StaveScore$Shelf") ∈ lw_all := lw_g (lw_at lw_m1 4 rfl) rfl
theorem q152 : (Jvm.Cond.instantiable "StaveScore$Shelf" (2 : Nat)) ∈ lw_all := lw_g (lw_at lw_m1 90 rfl) rfl
theorem q154 : (Jvm.Cond.instanceMethod ({ cls := "StaveScore$Shelf", name := "<init>", desc := "()V" } : Jvm.MethodName)) ∈ lw_all := lw_g (lw_at lw_m1 92 rfl) rfl
theorem q155 : (Jvm.Cond.code ({ cls := "StaveScore$Shelf", name := "<init>", desc := "()V" } : Jvm.MethodName) prog_17_method_1_code (1 : Nat) (Option.none : Option Jvm.ClassFile.FieldType)) ∈ lw_all := lw_g (lw_at lw_m1 93 rfl) rfl
theorem q156 : (Jvm.Cond.methodLink "StaveScore$Shelf" (1 : Nat) ({ cls := "java/lang/Object", name := "<init>", desc := "()V" } : Jvm.MethodName)) ∈ lw_all := lw_g (lw_at lw_m1 94 rfl) rfl
theorem q157 : (Jvm.Cond.fieldLink "StaveScore$Shelf" (7 : Nat) "StaveScore$Shelf" "row" "Ljava/lang/Object;") ∈ lw_all := lw_g (lw_at lw_m1 95 rfl) rfl
theorem q158 : (Jvm.Cond.fieldLink "StaveScore$Shelf" (13 : Nat) "StaveScore$Shelf" "kind" "I") ∈ lw_all := lw_g (lw_at lw_m1 96 rfl) rfl
theorem q159 : (Jvm.Cond.lays "StaveScore$Shelf" "StaveScore$Shelf" "row" "Ljava/lang/Object;") ∈ lw_all := lw_g (lw_at lw_m1 97 rfl) rfl
theorem q160 : (Jvm.Cond.soleField "StaveScore$Shelf" "row") ∈ lw_all := lw_g (lw_at lw_m1 98 rfl) rfl
theorem q161 : (Jvm.Cond.lays "StaveScore$Shelf" "StaveScore$Shelf" "kind" "I") ∈ lw_all := lw_g (lw_at lw_m1 99 rfl) rfl
theorem q162 : (Jvm.Cond.soleField "StaveScore$Shelf" "kind") ∈ lw_all := lw_g (lw_at lw_m1 100 rfl) rfl
theorem q163 : (Jvm.Cond.superclass "StaveScore$Shelf" "java/lang/Object") ∈ lw_all := lw_g (lw_at lw_m1 101 rfl) rfl
theorem q1192 : (Jvm.Cond.instanceMethod ({ cls := "StaveScore$Shelf", name := "make", desc := "(II)V" } : Jvm.MethodName)) ∈ lw_all := lw_g (lw_at lw_m5 170 rfl) rfl
theorem q1193 : (Jvm.Cond.selects "StaveScore$Shelf" ({ cls := "StaveScore$Shelf", name := "make", desc := "(II)V" } : Jvm.MethodName) ({ cls := "StaveScore$Shelf", name := "make", desc := "(II)V" } : Jvm.MethodName)) ∈ lw_all := lw_g (lw_at lw_m5 171 rfl) rfl
theorem q1194 : (Jvm.Cond.code ({ cls := "StaveScore$Shelf", name := "make", desc := "(II)V" } : Jvm.MethodName) prog_17_method_2_code (4 : Nat) (Option.none : Option Jvm.ClassFile.FieldType)) ∈ lw_all := lw_g (lw_at lw_m5 172 rfl) rfl
theorem q1202 : (Jvm.Cond.instanceMethod ({ cls := "StaveScore$Shelf", name := "put", desc := "(II)V" } : Jvm.MethodName)) ∈ lw_all := lw_g (lw_at lw_m5 180 rfl) rfl
theorem q1203 : (Jvm.Cond.selects "StaveScore$Shelf" ({ cls := "StaveScore$Shelf", name := "put", desc := "(II)V" } : Jvm.MethodName) ({ cls := "StaveScore$Shelf", name := "put", desc := "(II)V" } : Jvm.MethodName)) ∈ lw_all := lw_g (lw_at lw_m5 181 rfl) rfl
theorem q1204 : (Jvm.Cond.code ({ cls := "StaveScore$Shelf", name := "put", desc := "(II)V" } : Jvm.MethodName) prog_17_method_5_code (3 : Nat) (Option.none : Option Jvm.ClassFile.FieldType)) ∈ lw_all := lw_g (lw_at lw_m5 182 rfl) rfl
theorem q1205 : (Jvm.Cond.classLink "StaveScore$Shelf" (17 : Nat) "[B") ∈ lw_all := lw_g (lw_at lw_m5 183 rfl) rfl
theorem q1206 : (Jvm.Cond.classLink "StaveScore$Shelf" (19 : Nat) "[S") ∈ lw_all := lw_g (lw_at lw_m5 184 rfl) rfl
theorem q1207 : (Jvm.Cond.classLink "StaveScore$Shelf" (21 : Nat) "[C") ∈ lw_all := lw_g (lw_at lw_m5 185 rfl) rfl
theorem q1208 : (Jvm.Cond.classLink "StaveScore$Shelf" (23 : Nat) "[I") ∈ lw_all := lw_g (lw_at lw_m5 186 rfl) rfl
theorem q1214 : (Jvm.Cond.instanceMethod ({ cls := "StaveScore$Shelf", name := "get", desc := "(I)I" } : Jvm.MethodName)) ∈ lw_all := lw_g (lw_at lw_m5 192 rfl) rfl
theorem q1215 : (Jvm.Cond.selects "StaveScore$Shelf" ({ cls := "StaveScore$Shelf", name := "get", desc := "(I)I" } : Jvm.MethodName) ({ cls := "StaveScore$Shelf", name := "get", desc := "(I)I" } : Jvm.MethodName)) ∈ lw_all := lw_g (lw_at lw_m5 193 rfl) rfl
theorem q1216 : (Jvm.Cond.code ({ cls := "StaveScore$Shelf", name := "get", desc := "(I)I" } : Jvm.MethodName) prog_17_method_4_code (2 : Nat) (Option.some Jvm.ClassFile.FieldType.int)) ∈ lw_all := lw_g (lw_at lw_m5 194 rfl) rfl
theorem q1226 : (Jvm.Cond.instanceMethod ({ cls := "StaveScore$Shelf", name := "copy", desc := "(ILStaveScore$Shelf;II)V" } : Jvm.MethodName)) ∈ lw_all := lw_g (lw_at lw_m5 204 rfl) rfl
theorem q1227 : (Jvm.Cond.selects "StaveScore$Shelf" ({ cls := "StaveScore$Shelf", name := "copy", desc := "(ILStaveScore$Shelf;II)V" } : Jvm.MethodName) ({ cls := "StaveScore$Shelf", name := "copy", desc := "(ILStaveScore$Shelf;II)V" } : Jvm.MethodName)) ∈ lw_all := lw_g (lw_at lw_m5 205 rfl) rfl
theorem q1228 : (Jvm.Cond.code ({ cls := "StaveScore$Shelf", name := "copy", desc := "(ILStaveScore$Shelf;II)V" } : Jvm.MethodName) prog_17_method_6_code (6 : Nat) (Option.none : Option Jvm.ClassFile.FieldType)) ∈ lw_all := lw_g (lw_at lw_m5 206 rfl) rfl
theorem q1229 : (Jvm.Cond.methodLink "StaveScore$Shelf" (25 : Nat) ({ cls := "StaveScore$Shelf", name := "size", desc := "()I" } : Jvm.MethodName)) ∈ lw_all := lw_g (lw_at lw_m5 207 rfl) rfl
theorem q1230 : (Jvm.Cond.instanceMethod ({ cls := "StaveScore$Shelf", name := "size", desc := "()I" } : Jvm.MethodName)) ∈ lw_all := lw_g (lw_at lw_m5 208 rfl) rfl
theorem q1231 : (Jvm.Cond.selects "StaveScore$Shelf" ({ cls := "StaveScore$Shelf", name := "size", desc := "()I" } : Jvm.MethodName) ({ cls := "StaveScore$Shelf", name := "size", desc := "()I" } : Jvm.MethodName)) ∈ lw_all := lw_g (lw_at lw_m5 209 rfl) rfl
theorem q1232 : (Jvm.Cond.code ({ cls := "StaveScore$Shelf", name := "size", desc := "()I" } : Jvm.MethodName) prog_17_method_3_code (1 : Nat) (Option.some Jvm.ClassFile.FieldType.int)) ∈ lw_all := lw_g (lw_at lw_m5 210 rfl) rfl
theorem q1233 : (Jvm.Cond.methodLink "StaveScore$Shelf" (29 : Nat) ({ cls := "java/lang/System", name := "arraycopy", desc := "(Ljava/lang/Object;ILjava/lang/Object;II)V" } : Jvm.MethodName)) ∈ lw_all := lw_g (lw_at lw_m5 211 rfl) rfl
theorem in_X3 : ∀ w ∈ wsX30, w ∈ lw_all := lw_in wsX30 [159, 161] (by decide +kernel) (by decide +kernel)

/-! StaveScore$Plain -/
set_option maxRecDepth 100000
def RX5 : String := "StaveScore$Plain"
def TX5 : u_T := fun k => match k with
  | _ => ("StaveScore$Plain", "this$0", "LStaveScore;", true)
def tyX5 : Nat → FieldType := fun k => match k with
  | _ => .object "StaveScore"
abbrev wsX50 : List Cond := u_ws RX5 TX5 1
theorem nmX5 : ∀ a, a < 1 → ∀ b, b < 1 → a ≠ b → (TX5 a).2.1 ≠ (TX5 b).2.1 := by decide +kernel
theorem tyX5_ok : ∀ k, k < 1 → parseFieldDescriptor (TX5 k).2.2.1 = some (tyX5 k) := by decide +kernel
abbrev cX5_init : ByteArray := prog_15_method_1_code
def yX5_init : MethodName := ⟨RX5, "<init>", "(LStaveScore;)V"⟩
def dkwX5_init_0 : List UInt8 := [42, 43, 181, 0, 1, 42, 183, 0, 7, 177]
abbrev dktX5_init_0 : List UInt8 := dkwX5_init_0 ++ []
theorem dksX5_init_0 : cX5_init.data.toList.drop 0 = dktX5_init_0 := by decide +kernel
theorem dX5_init_0 : decode cX5_init 0 = .ok (.aload_n 0, 1) := dk_42 (dk_at dksX5_init_0 0 rfl rfl)
theorem dX5_init_1 : decode cX5_init 1 = .ok (.aload_n 1, 1) := dk_43 (dk_at dksX5_init_0 1 rfl rfl)
theorem dX5_init_2 : decode cX5_init 2 = .ok (.putfield 1, 3) := dk_181 0 1 (dk_at dksX5_init_0 2 rfl rfl)
theorem dX5_init_5 : decode cX5_init 5 = .ok (.aload_n 0, 1) := dk_42 (dk_at dksX5_init_0 5 rfl rfl)
theorem dX5_init_6 : decode cX5_init 6 = .ok (.invokespecial 7, 3) := dk_183 0 7 (dk_at dksX5_init_0 6 rfl rfl)
theorem dX5_init_9 : decode cX5_init 9 = .ok (.return_, 1) := dk_177 (dk_at dksX5_init_0 9 rfl rfl)
abbrev cX5_heard : ByteArray := prog_15_method_2_code
def yX5_heard : MethodName := ⟨RX5, "heard", "(I)I"⟩
def dkwX5_heard_0 : List UInt8 := [42, 180, 0, 1, 89, 180, 0, 13, 10, 97, 181, 0, 13, 27, 172]
abbrev dktX5_heard_0 : List UInt8 := dkwX5_heard_0 ++ []
theorem dksX5_heard_0 : cX5_heard.data.toList.drop 0 = dktX5_heard_0 := by decide +kernel
theorem dX5_heard_0 : decode cX5_heard 0 = .ok (.aload_n 0, 1) := dk_42 (dk_at dksX5_heard_0 0 rfl rfl)
theorem dX5_heard_1 : decode cX5_heard 1 = .ok (.getfield 1, 3) := dk_180 0 1 (dk_at dksX5_heard_0 1 rfl rfl)
theorem dX5_heard_4 : decode cX5_heard 4 = .ok (.dup, 1) := dk_89 (dk_at dksX5_heard_0 4 rfl rfl)
theorem dX5_heard_5 : decode cX5_heard 5 = .ok (.getfield 13, 3) := dk_180 0 13 (dk_at dksX5_heard_0 5 rfl rfl)
theorem dX5_heard_8 : decode cX5_heard 8 = .ok (.lconst 1, 1) := dk_10 (dk_at dksX5_heard_0 8 rfl rfl)
theorem dX5_heard_9 : decode cX5_heard 9 = .ok (.ladd, 1) := dk_97 (dk_at dksX5_heard_0 9 rfl rfl)
theorem dX5_heard_10 : decode cX5_heard 10 = .ok (.putfield 13, 3) := dk_181 0 13 (dk_at dksX5_heard_0 10 rfl rfl)
theorem dX5_heard_13 : decode cX5_heard 13 = .ok (.iload_n 1, 1) := dk_27 (dk_at dksX5_heard_0 13 rfl rfl)
theorem dX5_heard_14 : decode cX5_heard 14 = .ok (.ireturn, 1) := dk_172 (dk_at dksX5_heard_0 14 rfl rfl)
abbrev cX5_least : ByteArray := prog_15_method_3_code
def yX5_least : MethodName := ⟨RX5, "least", "()I"⟩
theorem dX5_least_0 : decode cX5_least 0 = .ok (.bipush 21, 2) := by decide +kernel
theorem dX5_least_2 : decode cX5_least 2 = .ok (.ireturn, 1) := by decide +kernel
abbrev cX5_most : ByteArray := prog_15_method_4_code
def yX5_most : MethodName := ⟨RX5, "most", "()I"⟩
theorem dX5_most_0 : decode cX5_most 0 = .ok (.bipush 108, 2) := by decide +kernel
theorem dX5_most_2 : decode cX5_most 2 = .ok (.ireturn, 1) := by decide +kernel
theorem q68 : (Jvm.Cond.initialized "StaveScore$Plain") ∈ lw_all := lw_g (lw_at lw_m1 6 rfl) rfl
theorem q184 : (Jvm.Cond.fieldLinkNest "StaveScore$Plain" (13 : Nat) "StaveScore" "trace" "J" "StaveScore") ∈ lw_tbl := lw_at lw_m1 122 rfl
theorem q258 : (Jvm.Cond.instantiable "StaveScore$Plain" (1 : Nat)) ∈ lw_all := lw_g (lw_at lw_m1 196 rfl) rfl
theorem q260 : (Jvm.Cond.instanceMethod ({ cls := "StaveScore$Plain", name := "<init>", desc := "(LStaveScore;)V" } : Jvm.MethodName)) ∈ lw_all := lw_g (lw_at lw_m1 198 rfl) rfl
theorem q261 : (Jvm.Cond.code ({ cls := "StaveScore$Plain", name := "<init>", desc := "(LStaveScore;)V" } : Jvm.MethodName) prog_15_method_1_code (2 : Nat) (Option.none : Option Jvm.ClassFile.FieldType)) ∈ lw_all := lw_g (lw_at lw_m1 199 rfl) rfl
theorem q262 : (Jvm.Cond.methodLink "StaveScore$Plain" (7 : Nat) ({ cls := "java/lang/Object", name := "<init>", desc := "()V" } : Jvm.MethodName)) ∈ lw_all := lw_g (lw_at lw_m1 200 rfl) rfl
theorem q263 : (Jvm.Cond.fieldLink "StaveScore$Plain" (1 : Nat) "StaveScore$Plain" "this$0" "LStaveScore;") ∈ lw_all := lw_g (lw_at lw_m1 201 rfl) rfl
theorem q264 : (Jvm.Cond.laysFinal "StaveScore$Plain" "StaveScore$Plain" "this$0" "LStaveScore;") ∈ lw_all := lw_g (lw_at lw_m1 202 rfl) rfl
theorem q265 : (Jvm.Cond.soleField "StaveScore$Plain" "this$0") ∈ lw_all := lw_g (lw_at lw_m1 203 rfl) rfl
theorem q266 : (Jvm.Cond.superclass "StaveScore$Plain" "java/lang/Object") ∈ lw_all := lw_g (lw_at lw_m1 204 rfl) rfl
theorem q612 : (Jvm.Cond.instanceMethod ({ cls := "StaveScore$Plain", name := "heard", desc := "(I)I" } : Jvm.MethodName)) ∈ lw_all := lw_g (lw_at lw_m3 70 rfl) rfl
theorem q613 : (Jvm.Cond.publicMethod ({ cls := "StaveScore$Plain", name := "heard", desc := "(I)I" } : Jvm.MethodName)) ∈ lw_tbl := lw_at lw_m3 71 rfl
theorem q614 : (Jvm.Cond.code ({ cls := "StaveScore$Plain", name := "heard", desc := "(I)I" } : Jvm.MethodName) prog_15_method_2_code (2 : Nat) (Option.some Jvm.ClassFile.FieldType.int)) ∈ lw_all := lw_g (lw_at lw_m3 72 rfl) rfl
theorem q631 : (Jvm.Cond.declares ({ cls := "StaveScore$Plain", name := "heard", desc := "(I)I" } : Jvm.MethodName)) ∈ lw_tbl := lw_at lw_m3 89 rfl
theorem q648 : (Jvm.Cond.castable "StaveScore$Plain" "StaveScore$Hears") ∈ lw_tbl := lw_at lw_m3 106 rfl
theorem q649 : (Jvm.Cond.selects "StaveScore$Plain" ({ cls := "StaveScore$Hears", name := "heard", desc := "(I)I" } : Jvm.MethodName) ({ cls := "StaveScore$Plain", name := "heard", desc := "(I)I" } : Jvm.MethodName)) ∈ lw_all := lw_g (lw_at lw_m3 107 rfl) rfl
theorem q650 : (Jvm.Cond.unhidden "StaveScore$Plain" "heard" "(I)I") ∈ lw_tbl := lw_at lw_m3 108 rfl
theorem q849 : (Jvm.Cond.instanceMethod ({ cls := "StaveScore$Plain", name := "least", desc := "()I" } : Jvm.MethodName)) ∈ lw_all := lw_g (lw_at lw_m4 67 rfl) rfl
theorem q850 : (Jvm.Cond.publicMethod ({ cls := "StaveScore$Plain", name := "least", desc := "()I" } : Jvm.MethodName)) ∈ lw_tbl := lw_at lw_m4 68 rfl
theorem q851 : (Jvm.Cond.code ({ cls := "StaveScore$Plain", name := "least", desc := "()I" } : Jvm.MethodName) prog_15_method_3_code (1 : Nat) (Option.some Jvm.ClassFile.FieldType.int)) ∈ lw_all := lw_g (lw_at lw_m4 69 rfl) rfl
theorem q865 : (Jvm.Cond.selects "StaveScore$Plain" ({ cls := "StaveScore$Hears", name := "least", desc := "()I" } : Jvm.MethodName) ({ cls := "StaveScore$Plain", name := "least", desc := "()I" } : Jvm.MethodName)) ∈ lw_all := lw_g (lw_at lw_m4 83 rfl) rfl
theorem q866 : (Jvm.Cond.unhidden "StaveScore$Plain" "least" "()I") ∈ lw_tbl := lw_at lw_m4 84 rfl
theorem q877 : (Jvm.Cond.instanceMethod ({ cls := "StaveScore$Plain", name := "most", desc := "()I" } : Jvm.MethodName)) ∈ lw_all := lw_g (lw_at lw_m4 95 rfl) rfl
theorem q878 : (Jvm.Cond.code ({ cls := "StaveScore$Plain", name := "most", desc := "()I" } : Jvm.MethodName) prog_15_method_4_code (1 : Nat) (Option.some Jvm.ClassFile.FieldType.int)) ∈ lw_all := lw_g (lw_at lw_m4 96 rfl) rfl
theorem q881 : (Jvm.Cond.publicMethod ({ cls := "StaveScore$Plain", name := "most", desc := "()I" } : Jvm.MethodName)) ∈ lw_tbl := lw_at lw_m4 99 rfl
theorem q888 : (Jvm.Cond.selects "StaveScore$Plain" ({ cls := "StaveScore$Hears", name := "most", desc := "()I" } : Jvm.MethodName) ({ cls := "StaveScore$Plain", name := "most", desc := "()I" } : Jvm.MethodName)) ∈ lw_all := lw_g (lw_at lw_m4 106 rfl) rfl
theorem q889 : (Jvm.Cond.unhidden "StaveScore$Plain" "most" "()I") ∈ lw_tbl := lw_at lw_m4 107 rfl
theorem q1072 : (Jvm.Cond.unhidden "StaveScore$Plain" "has" "(II)Z") ∈ lw_tbl := lw_at lw_m5 50 rfl
theorem q1760 : (Jvm.Cond.sameMethod "StaveScore$Plain" "StaveScore$Plain" "heard" "(I)I") ∈ lw_all := lw_g (lw_at lw_m8 18 rfl) rfl
theorem q1762 : (Jvm.Cond.sameMethod "StaveScore$Plain" "StaveScore$Plain" "most" "()I") ∈ lw_all := lw_g (lw_at lw_m8 20 rfl) rfl
theorem in_X5 : ∀ w ∈ wsX50, w ∈ lw_all := lw_in wsX50 [264] (by decide +kernel) (by decide +kernel)

/-! StaveScore$Low -/
set_option maxRecDepth 100000
def RX6 : String := "StaveScore$Low"
def TX6 : u_T := fun k => match k with
  | 0 => ("StaveScore$Plain", "this$0", "LStaveScore;", true)
  | _ => ("StaveScore$Low", "this$0", "LStaveScore;", true)
def tyX6 : Nat → FieldType := fun k => match k with
  | 0 => .object "StaveScore"
  | _ => .object "StaveScore"
abbrev wsX60 : List Cond := u_ws RX6 TX6 2
-- two fields of one name: no nmX6
theorem tyX6_ok : ∀ k, k < 2 → parseFieldDescriptor (TX6 k).2.2.1 = some (tyX6 k) := by decide +kernel
abbrev cX6_init : ByteArray := prog_12_method_1_code
def yX6_init : MethodName := ⟨RX6, "<init>", "(LStaveScore;)V"⟩
def dkwX6_init_0 : List UInt8 := [42, 43, 181, 0, 1, 42, 43, 183, 0, 7, 177]
abbrev dktX6_init_0 : List UInt8 := dkwX6_init_0 ++ []
theorem dksX6_init_0 : cX6_init.data.toList.drop 0 = dktX6_init_0 := by decide +kernel
theorem dX6_init_0 : decode cX6_init 0 = .ok (.aload_n 0, 1) := dk_42 (dk_at dksX6_init_0 0 rfl rfl)
theorem dX6_init_1 : decode cX6_init 1 = .ok (.aload_n 1, 1) := dk_43 (dk_at dksX6_init_0 1 rfl rfl)
theorem dX6_init_2 : decode cX6_init 2 = .ok (.putfield 1, 3) := dk_181 0 1 (dk_at dksX6_init_0 2 rfl rfl)
theorem dX6_init_5 : decode cX6_init 5 = .ok (.aload_n 0, 1) := dk_42 (dk_at dksX6_init_0 5 rfl rfl)
theorem dX6_init_6 : decode cX6_init 6 = .ok (.aload_n 1, 1) := dk_43 (dk_at dksX6_init_0 6 rfl rfl)
theorem dX6_init_7 : decode cX6_init 7 = .ok (.invokespecial 7, 3) := dk_183 0 7 (dk_at dksX6_init_0 7 rfl rfl)
theorem dX6_init_10 : decode cX6_init 10 = .ok (.return_, 1) := dk_177 (dk_at dksX6_init_0 10 rfl rfl)
abbrev cX6_heard : ByteArray := prog_12_method_2_code
def yX6_heard : MethodName := ⟨RX6, "heard", "(I)I"⟩
def dkwX6_heard_0 : List UInt8 := [42, 180, 0, 1, 89, 180, 0, 13, 20, 0, 19, 97, 181, 0, 13, 42, 27, 183, 0, 21, 16, 12, 100, 172]
abbrev dktX6_heard_0 : List UInt8 := dkwX6_heard_0 ++ []
theorem dksX6_heard_0 : cX6_heard.data.toList.drop 0 = dktX6_heard_0 := by decide +kernel
theorem dX6_heard_0 : decode cX6_heard 0 = .ok (.aload_n 0, 1) := dk_42 (dk_at dksX6_heard_0 0 rfl rfl)
theorem dX6_heard_1 : decode cX6_heard 1 = .ok (.getfield 1, 3) := dk_180 0 1 (dk_at dksX6_heard_0 1 rfl rfl)
theorem dX6_heard_4 : decode cX6_heard 4 = .ok (.dup, 1) := dk_89 (dk_at dksX6_heard_0 4 rfl rfl)
theorem dX6_heard_5 : decode cX6_heard 5 = .ok (.getfield 13, 3) := dk_180 0 13 (dk_at dksX6_heard_0 5 rfl rfl)
theorem dX6_heard_8 : decode cX6_heard 8 = .ok (.ldc2_w 19, 3) := dk_20 0 19 (dk_at dksX6_heard_0 8 rfl rfl)
theorem dX6_heard_11 : decode cX6_heard 11 = .ok (.ladd, 1) := dk_97 (dk_at dksX6_heard_0 11 rfl rfl)
theorem dX6_heard_12 : decode cX6_heard 12 = .ok (.putfield 13, 3) := dk_181 0 13 (dk_at dksX6_heard_0 12 rfl rfl)
theorem dX6_heard_15 : decode cX6_heard 15 = .ok (.aload_n 0, 1) := dk_42 (dk_at dksX6_heard_0 15 rfl rfl)
theorem dX6_heard_16 : decode cX6_heard 16 = .ok (.iload_n 1, 1) := dk_27 (dk_at dksX6_heard_0 16 rfl rfl)
theorem dX6_heard_17 : decode cX6_heard 17 = .ok (.invokespecial 21, 3) := dk_183 0 21 (dk_at dksX6_heard_0 17 rfl rfl)
theorem dX6_heard_20 : decode cX6_heard 20 = .ok (.bipush 12, 2) := dk_16 12 (dk_at dksX6_heard_0 20 rfl rfl)
theorem dX6_heard_22 : decode cX6_heard 22 = .ok (.isub, 1) := dk_100 (dk_at dksX6_heard_0 22 rfl rfl)
theorem dX6_heard_23 : decode cX6_heard 23 = .ok (.ireturn, 1) := dk_172 (dk_at dksX6_heard_0 23 rfl rfl)
theorem q69 : (Jvm.Cond.initialized "StaveScore$Low") ∈ lw_all := lw_g (lw_at lw_m1 7 rfl) rfl
theorem q187 : (Jvm.Cond.fieldLinkNest "StaveScore$Low" (13 : Nat) "StaveScore" "trace" "J" "StaveScore") ∈ lw_tbl := lw_at lw_m1 125 rfl
theorem q268 : (Jvm.Cond.instantiable "StaveScore$Low" (2 : Nat)) ∈ lw_all := lw_g (lw_at lw_m1 206 rfl) rfl
theorem q270 : (Jvm.Cond.instanceMethod ({ cls := "StaveScore$Low", name := "<init>", desc := "(LStaveScore;)V" } : Jvm.MethodName)) ∈ lw_all := lw_g (lw_at lw_m1 208 rfl) rfl
theorem q271 : (Jvm.Cond.code ({ cls := "StaveScore$Low", name := "<init>", desc := "(LStaveScore;)V" } : Jvm.MethodName) prog_12_method_1_code (2 : Nat) (Option.none : Option Jvm.ClassFile.FieldType)) ∈ lw_all := lw_g (lw_at lw_m1 209 rfl) rfl
theorem q272 : (Jvm.Cond.methodLinkNest "StaveScore$Low" (7 : Nat) ({ cls := "StaveScore$Plain", name := "<init>", desc := "(LStaveScore;)V" } : Jvm.MethodName) "StaveScore") ∈ lw_tbl := lw_at lw_m1 210 rfl
theorem q273 : (Jvm.Cond.fieldLink "StaveScore$Low" (1 : Nat) "StaveScore$Low" "this$0" "LStaveScore;") ∈ lw_all := lw_g (lw_at lw_m1 211 rfl) rfl
theorem q274 : (Jvm.Cond.laysFinal "StaveScore$Low" "StaveScore$Low" "this$0" "LStaveScore;") ∈ lw_all := lw_g (lw_at lw_m1 212 rfl) rfl
theorem q275 : (Jvm.Cond.soleField "StaveScore$Low" "this$0") ∈ lw_all := lw_g (lw_at lw_m1 213 rfl) rfl
theorem q276 : (Jvm.Cond.laysFinal "StaveScore$Low" "StaveScore$Plain" "this$0" "LStaveScore;") ∈ lw_all := lw_g (lw_at lw_m1 214 rfl) rfl
theorem q277 : (Jvm.Cond.superclass "StaveScore$Low" "StaveScore$Plain") ∈ lw_all := lw_g (lw_at lw_m1 215 rfl) rfl
theorem q632 : (Jvm.Cond.castable "StaveScore$Low" "StaveScore$Hears") ∈ lw_tbl := lw_at lw_m3 90 rfl
theorem q633 : (Jvm.Cond.selects "StaveScore$Low" ({ cls := "StaveScore$Hears", name := "heard", desc := "(I)I" } : Jvm.MethodName) ({ cls := "StaveScore$Low", name := "heard", desc := "(I)I" } : Jvm.MethodName)) ∈ lw_all := lw_g (lw_at lw_m3 91 rfl) rfl
theorem q634 : (Jvm.Cond.unhidden "StaveScore$Low" "heard" "(I)I") ∈ lw_tbl := lw_at lw_m3 92 rfl
theorem q635 : (Jvm.Cond.instanceMethod ({ cls := "StaveScore$Low", name := "heard", desc := "(I)I" } : Jvm.MethodName)) ∈ lw_all := lw_g (lw_at lw_m3 93 rfl) rfl
theorem q636 : (Jvm.Cond.publicMethod ({ cls := "StaveScore$Low", name := "heard", desc := "(I)I" } : Jvm.MethodName)) ∈ lw_tbl := lw_at lw_m3 94 rfl
theorem q637 : (Jvm.Cond.code ({ cls := "StaveScore$Low", name := "heard", desc := "(I)I" } : Jvm.MethodName) prog_12_method_2_code (2 : Nat) (Option.some Jvm.ClassFile.FieldType.int)) ∈ lw_all := lw_g (lw_at lw_m3 95 rfl) rfl
theorem q638 : (Jvm.Cond.constantLong "StaveScore$Low" (19 : Nat) (10 : Int64)) ∈ lw_all := lw_g (lw_at lw_m3 96 rfl) rfl
theorem q639 : (Jvm.Cond.methodLink "StaveScore$Low" (21 : Nat) ({ cls := "StaveScore$Plain", name := "heard", desc := "(I)I" } : Jvm.MethodName)) ∈ lw_all := lw_g (lw_at lw_m3 97 rfl) rfl
theorem q854 : (Jvm.Cond.selects "StaveScore$Low" ({ cls := "StaveScore$Hears", name := "least", desc := "()I" } : Jvm.MethodName) ({ cls := "StaveScore$Plain", name := "least", desc := "()I" } : Jvm.MethodName)) ∈ lw_all := lw_g (lw_at lw_m4 72 rfl) rfl
theorem q855 : (Jvm.Cond.unhidden "StaveScore$Low" "least" "()I") ∈ lw_tbl := lw_at lw_m4 73 rfl
theorem q884 : (Jvm.Cond.selects "StaveScore$Low" ({ cls := "StaveScore$Hears", name := "most", desc := "()I" } : Jvm.MethodName) ({ cls := "StaveScore$Plain", name := "most", desc := "()I" } : Jvm.MethodName)) ∈ lw_all := lw_g (lw_at lw_m4 102 rfl) rfl
theorem q885 : (Jvm.Cond.unhidden "StaveScore$Low" "most" "()I") ∈ lw_tbl := lw_at lw_m4 103 rfl
theorem q1070 : (Jvm.Cond.unhidden "StaveScore$Low" "has" "(II)Z") ∈ lw_tbl := lw_at lw_m5 48 rfl
theorem in_X6 : ∀ w ∈ wsX60, w ∈ lw_all := lw_in wsX60 [276, 274] (by decide +kernel) (by decide +kernel)

/-! StaveScore$Brass -/
set_option maxRecDepth 100000
def RX7 : String := "StaveScore$Brass"
def TX7 : u_T := fun k => match k with
  | 0 => ("StaveScore$Plain", "this$0", "LStaveScore;", true)
  | _ => ("StaveScore$Brass", "this$0", "LStaveScore;", true)
def tyX7 : Nat → FieldType := fun k => match k with
  | 0 => .object "StaveScore"
  | _ => .object "StaveScore"
abbrev wsX70 : List Cond := u_ws RX7 TX7 2
-- two fields of one name: no nmX7
theorem tyX7_ok : ∀ k, k < 2 → parseFieldDescriptor (TX7 k).2.2.1 = some (tyX7 k) := by decide +kernel
abbrev cX7_init : ByteArray := prog_2_method_1_code
def yX7_init : MethodName := ⟨RX7, "<init>", "(LStaveScore;)V"⟩
def dkwX7_init_0 : List UInt8 := [42, 43, 181, 0, 1, 42, 43, 183, 0, 7, 177]
abbrev dktX7_init_0 : List UInt8 := dkwX7_init_0 ++ []
theorem dksX7_init_0 : cX7_init.data.toList.drop 0 = dktX7_init_0 := by decide +kernel
theorem dX7_init_0 : decode cX7_init 0 = .ok (.aload_n 0, 1) := dk_42 (dk_at dksX7_init_0 0 rfl rfl)
theorem dX7_init_1 : decode cX7_init 1 = .ok (.aload_n 1, 1) := dk_43 (dk_at dksX7_init_0 1 rfl rfl)
theorem dX7_init_2 : decode cX7_init 2 = .ok (.putfield 1, 3) := dk_181 0 1 (dk_at dksX7_init_0 2 rfl rfl)
theorem dX7_init_5 : decode cX7_init 5 = .ok (.aload_n 0, 1) := dk_42 (dk_at dksX7_init_0 5 rfl rfl)
theorem dX7_init_6 : decode cX7_init 6 = .ok (.aload_n 1, 1) := dk_43 (dk_at dksX7_init_0 6 rfl rfl)
theorem dX7_init_7 : decode cX7_init 7 = .ok (.invokespecial 7, 3) := dk_183 0 7 (dk_at dksX7_init_0 7 rfl rfl)
theorem dX7_init_10 : decode cX7_init 10 = .ok (.return_, 1) := dk_177 (dk_at dksX7_init_0 10 rfl rfl)
abbrev cX7_least : ByteArray := prog_2_method_2_code
def yX7_least : MethodName := ⟨RX7, "least", "()I"⟩
theorem dX7_least_0 : decode cX7_least 0 = .ok (.bipush 28, 2) := by decide +kernel
theorem dX7_least_2 : decode cX7_least 2 = .ok (.ireturn, 1) := by decide +kernel
abbrev cX7_most : ByteArray := prog_2_method_3_code
def yX7_most : MethodName := ⟨RX7, "most", "()I"⟩
def dkwX7_most_0 : List UInt8 := [42, 183, 0, 13, 16, 26, 100, 172]
abbrev dktX7_most_0 : List UInt8 := dkwX7_most_0 ++ []
theorem dksX7_most_0 : cX7_most.data.toList.drop 0 = dktX7_most_0 := by decide +kernel
theorem dX7_most_0 : decode cX7_most 0 = .ok (.aload_n 0, 1) := dk_42 (dk_at dksX7_most_0 0 rfl rfl)
theorem dX7_most_1 : decode cX7_most 1 = .ok (.invokespecial 13, 3) := dk_183 0 13 (dk_at dksX7_most_0 1 rfl rfl)
theorem dX7_most_4 : decode cX7_most 4 = .ok (.bipush 26, 2) := dk_16 26 (dk_at dksX7_most_0 4 rfl rfl)
theorem dX7_most_6 : decode cX7_most 6 = .ok (.isub, 1) := dk_100 (dk_at dksX7_most_0 6 rfl rfl)
theorem dX7_most_7 : decode cX7_most 7 = .ok (.ireturn, 1) := dk_172 (dk_at dksX7_most_0 7 rfl rfl)
theorem q70 : (Jvm.Cond.initialized "StaveScore$Brass") ∈ lw_all := lw_g (lw_at lw_m1 8 rfl) rfl
theorem q279 : (Jvm.Cond.instantiable "StaveScore$Brass" (2 : Nat)) ∈ lw_all := lw_g (lw_at lw_m1 217 rfl) rfl
theorem q281 : (Jvm.Cond.instanceMethod ({ cls := "StaveScore$Brass", name := "<init>", desc := "(LStaveScore;)V" } : Jvm.MethodName)) ∈ lw_all := lw_g (lw_at lw_m1 219 rfl) rfl
theorem q282 : (Jvm.Cond.code ({ cls := "StaveScore$Brass", name := "<init>", desc := "(LStaveScore;)V" } : Jvm.MethodName) prog_2_method_1_code (2 : Nat) (Option.none : Option Jvm.ClassFile.FieldType)) ∈ lw_all := lw_g (lw_at lw_m1 220 rfl) rfl
theorem q283 : (Jvm.Cond.methodLinkNest "StaveScore$Brass" (7 : Nat) ({ cls := "StaveScore$Plain", name := "<init>", desc := "(LStaveScore;)V" } : Jvm.MethodName) "StaveScore") ∈ lw_tbl := lw_at lw_m1 221 rfl
theorem q284 : (Jvm.Cond.fieldLink "StaveScore$Brass" (1 : Nat) "StaveScore$Brass" "this$0" "LStaveScore;") ∈ lw_all := lw_g (lw_at lw_m1 222 rfl) rfl
theorem q285 : (Jvm.Cond.laysFinal "StaveScore$Brass" "StaveScore$Brass" "this$0" "LStaveScore;") ∈ lw_all := lw_g (lw_at lw_m1 223 rfl) rfl
theorem q286 : (Jvm.Cond.soleField "StaveScore$Brass" "this$0") ∈ lw_all := lw_g (lw_at lw_m1 224 rfl) rfl
theorem q287 : (Jvm.Cond.laysFinal "StaveScore$Brass" "StaveScore$Plain" "this$0" "LStaveScore;") ∈ lw_all := lw_g (lw_at lw_m1 225 rfl) rfl
theorem q288 : (Jvm.Cond.superclass "StaveScore$Brass" "StaveScore$Plain") ∈ lw_all := lw_g (lw_at lw_m1 226 rfl) rfl
theorem q609 : (Jvm.Cond.castable "StaveScore$Brass" "StaveScore$Hears") ∈ lw_tbl := lw_at lw_m3 67 rfl
theorem q610 : (Jvm.Cond.selects "StaveScore$Brass" ({ cls := "StaveScore$Hears", name := "heard", desc := "(I)I" } : Jvm.MethodName) ({ cls := "StaveScore$Plain", name := "heard", desc := "(I)I" } : Jvm.MethodName)) ∈ lw_all := lw_g (lw_at lw_m3 68 rfl) rfl
theorem q611 : (Jvm.Cond.unhidden "StaveScore$Brass" "heard" "(I)I") ∈ lw_tbl := lw_at lw_m3 69 rfl
theorem q630 : (Jvm.Cond.sameMethod "StaveScore$Brass" "StaveScore$Plain" "heard" "(I)I") ∈ lw_all := lw_g (lw_at lw_m3 88 rfl) rfl
theorem q842 : (Jvm.Cond.selects "StaveScore$Brass" ({ cls := "StaveScore$Hears", name := "least", desc := "()I" } : Jvm.MethodName) ({ cls := "StaveScore$Brass", name := "least", desc := "()I" } : Jvm.MethodName)) ∈ lw_all := lw_g (lw_at lw_m4 60 rfl) rfl
theorem q843 : (Jvm.Cond.unhidden "StaveScore$Brass" "least" "()I") ∈ lw_tbl := lw_at lw_m4 61 rfl
theorem q844 : (Jvm.Cond.instanceMethod ({ cls := "StaveScore$Brass", name := "least", desc := "()I" } : Jvm.MethodName)) ∈ lw_all := lw_g (lw_at lw_m4 62 rfl) rfl
theorem q845 : (Jvm.Cond.publicMethod ({ cls := "StaveScore$Brass", name := "least", desc := "()I" } : Jvm.MethodName)) ∈ lw_tbl := lw_at lw_m4 63 rfl
theorem q846 : (Jvm.Cond.code ({ cls := "StaveScore$Brass", name := "least", desc := "()I" } : Jvm.MethodName) prog_2_method_2_code (1 : Nat) (Option.some Jvm.ClassFile.FieldType.int)) ∈ lw_all := lw_g (lw_at lw_m4 64 rfl) rfl
theorem q864 : (Jvm.Cond.declares ({ cls := "StaveScore$Brass", name := "least", desc := "()I" } : Jvm.MethodName)) ∈ lw_tbl := lw_at lw_m4 82 rfl
theorem q871 : (Jvm.Cond.selects "StaveScore$Brass" ({ cls := "StaveScore$Hears", name := "most", desc := "()I" } : Jvm.MethodName) ({ cls := "StaveScore$Brass", name := "most", desc := "()I" } : Jvm.MethodName)) ∈ lw_all := lw_g (lw_at lw_m4 89 rfl) rfl
theorem q872 : (Jvm.Cond.unhidden "StaveScore$Brass" "most" "()I") ∈ lw_tbl := lw_at lw_m4 90 rfl
theorem q873 : (Jvm.Cond.instanceMethod ({ cls := "StaveScore$Brass", name := "most", desc := "()I" } : Jvm.MethodName)) ∈ lw_all := lw_g (lw_at lw_m4 91 rfl) rfl
theorem q874 : (Jvm.Cond.publicMethod ({ cls := "StaveScore$Brass", name := "most", desc := "()I" } : Jvm.MethodName)) ∈ lw_tbl := lw_at lw_m4 92 rfl
theorem q875 : (Jvm.Cond.code ({ cls := "StaveScore$Brass", name := "most", desc := "()I" } : Jvm.MethodName) prog_2_method_3_code (1 : Nat) (Option.some Jvm.ClassFile.FieldType.int)) ∈ lw_all := lw_g (lw_at lw_m4 93 rfl) rfl
theorem q876 : (Jvm.Cond.methodLink "StaveScore$Brass" (13 : Nat) ({ cls := "StaveScore$Plain", name := "most", desc := "()I" } : Jvm.MethodName)) ∈ lw_all := lw_g (lw_at lw_m4 94 rfl) rfl
theorem q1058 : (Jvm.Cond.unhidden "StaveScore$Brass" "has" "(II)Z") ∈ lw_tbl := lw_at lw_m5 36 rfl
theorem in_X7 : ∀ w ∈ wsX70, w ∈ lw_all := lw_in wsX70 [287, 285] (by decide +kernel) (by decide +kernel)

/-! StaveScore$Horn -/
set_option maxRecDepth 100000
def RX8 : String := "StaveScore$Horn"
def TX8 : u_T := fun k => match k with
  | 0 => ("StaveScore$Plain", "this$0", "LStaveScore;", true)
  | 1 => ("StaveScore$Brass", "this$0", "LStaveScore;", true)
  | _ => ("StaveScore$Horn", "this$0", "LStaveScore;", true)
def tyX8 : Nat → FieldType := fun k => match k with
  | 0 => .object "StaveScore"
  | 1 => .object "StaveScore"
  | _ => .object "StaveScore"
abbrev wsX80 : List Cond := u_ws RX8 TX8 3
-- two fields of one name: no nmX8
theorem tyX8_ok : ∀ k, k < 3 → parseFieldDescriptor (TX8 k).2.2.1 = some (tyX8 k) := by decide +kernel
abbrev cX8_init : ByteArray := prog_10_method_1_code
def yX8_init : MethodName := ⟨RX8, "<init>", "(LStaveScore;)V"⟩
def dkwX8_init_0 : List UInt8 := [42, 43, 181, 0, 1, 42, 43, 183, 0, 7, 177]
abbrev dktX8_init_0 : List UInt8 := dkwX8_init_0 ++ []
theorem dksX8_init_0 : cX8_init.data.toList.drop 0 = dktX8_init_0 := by decide +kernel
theorem dX8_init_0 : decode cX8_init 0 = .ok (.aload_n 0, 1) := dk_42 (dk_at dksX8_init_0 0 rfl rfl)
theorem dX8_init_1 : decode cX8_init 1 = .ok (.aload_n 1, 1) := dk_43 (dk_at dksX8_init_0 1 rfl rfl)
theorem dX8_init_2 : decode cX8_init 2 = .ok (.putfield 1, 3) := dk_181 0 1 (dk_at dksX8_init_0 2 rfl rfl)
theorem dX8_init_5 : decode cX8_init 5 = .ok (.aload_n 0, 1) := dk_42 (dk_at dksX8_init_0 5 rfl rfl)
theorem dX8_init_6 : decode cX8_init 6 = .ok (.aload_n 1, 1) := dk_43 (dk_at dksX8_init_0 6 rfl rfl)
theorem dX8_init_7 : decode cX8_init 7 = .ok (.invokespecial 7, 3) := dk_183 0 7 (dk_at dksX8_init_0 7 rfl rfl)
theorem dX8_init_10 : decode cX8_init 10 = .ok (.return_, 1) := dk_177 (dk_at dksX8_init_0 10 rfl rfl)
abbrev cX8_heard : ByteArray := prog_10_method_2_code
def yX8_heard : MethodName := ⟨RX8, "heard", "(I)I"⟩
def dkwX8_heard_0 : List UInt8 := [42, 180, 0, 1, 89, 180, 0, 13, 20, 0, 19, 97, 181, 0, 13, 42, 27, 183, 0, 21, 16, 7, 100, 172]
abbrev dktX8_heard_0 : List UInt8 := dkwX8_heard_0 ++ []
theorem dksX8_heard_0 : cX8_heard.data.toList.drop 0 = dktX8_heard_0 := by decide +kernel
theorem dX8_heard_0 : decode cX8_heard 0 = .ok (.aload_n 0, 1) := dk_42 (dk_at dksX8_heard_0 0 rfl rfl)
theorem dX8_heard_1 : decode cX8_heard 1 = .ok (.getfield 1, 3) := dk_180 0 1 (dk_at dksX8_heard_0 1 rfl rfl)
theorem dX8_heard_4 : decode cX8_heard 4 = .ok (.dup, 1) := dk_89 (dk_at dksX8_heard_0 4 rfl rfl)
theorem dX8_heard_5 : decode cX8_heard 5 = .ok (.getfield 13, 3) := dk_180 0 13 (dk_at dksX8_heard_0 5 rfl rfl)
theorem dX8_heard_8 : decode cX8_heard 8 = .ok (.ldc2_w 19, 3) := dk_20 0 19 (dk_at dksX8_heard_0 8 rfl rfl)
theorem dX8_heard_11 : decode cX8_heard 11 = .ok (.ladd, 1) := dk_97 (dk_at dksX8_heard_0 11 rfl rfl)
theorem dX8_heard_12 : decode cX8_heard 12 = .ok (.putfield 13, 3) := dk_181 0 13 (dk_at dksX8_heard_0 12 rfl rfl)
theorem dX8_heard_15 : decode cX8_heard 15 = .ok (.aload_n 0, 1) := dk_42 (dk_at dksX8_heard_0 15 rfl rfl)
theorem dX8_heard_16 : decode cX8_heard 16 = .ok (.iload_n 1, 1) := dk_27 (dk_at dksX8_heard_0 16 rfl rfl)
theorem dX8_heard_17 : decode cX8_heard 17 = .ok (.invokespecial 21, 3) := dk_183 0 21 (dk_at dksX8_heard_0 17 rfl rfl)
theorem dX8_heard_20 : decode cX8_heard 20 = .ok (.bipush 7, 2) := dk_16 7 (dk_at dksX8_heard_0 20 rfl rfl)
theorem dX8_heard_22 : decode cX8_heard 22 = .ok (.isub, 1) := dk_100 (dk_at dksX8_heard_0 22 rfl rfl)
theorem dX8_heard_23 : decode cX8_heard 23 = .ok (.ireturn, 1) := dk_172 (dk_at dksX8_heard_0 23 rfl rfl)
theorem q71 : (Jvm.Cond.initialized "StaveScore$Horn") ∈ lw_all := lw_g (lw_at lw_m1 9 rfl) rfl
theorem q186 : (Jvm.Cond.fieldLinkNest "StaveScore$Horn" (13 : Nat) "StaveScore" "trace" "J" "StaveScore") ∈ lw_tbl := lw_at lw_m1 124 rfl
theorem q290 : (Jvm.Cond.instantiable "StaveScore$Horn" (3 : Nat)) ∈ lw_all := lw_g (lw_at lw_m1 228 rfl) rfl
theorem q292 : (Jvm.Cond.instanceMethod ({ cls := "StaveScore$Horn", name := "<init>", desc := "(LStaveScore;)V" } : Jvm.MethodName)) ∈ lw_all := lw_g (lw_at lw_m1 230 rfl) rfl
theorem q293 : (Jvm.Cond.code ({ cls := "StaveScore$Horn", name := "<init>", desc := "(LStaveScore;)V" } : Jvm.MethodName) prog_10_method_1_code (2 : Nat) (Option.none : Option Jvm.ClassFile.FieldType)) ∈ lw_all := lw_g (lw_at lw_m1 231 rfl) rfl
theorem q294 : (Jvm.Cond.methodLinkNest "StaveScore$Horn" (7 : Nat) ({ cls := "StaveScore$Brass", name := "<init>", desc := "(LStaveScore;)V" } : Jvm.MethodName) "StaveScore") ∈ lw_tbl := lw_at lw_m1 232 rfl
theorem q295 : (Jvm.Cond.fieldLink "StaveScore$Horn" (1 : Nat) "StaveScore$Horn" "this$0" "LStaveScore;") ∈ lw_all := lw_g (lw_at lw_m1 233 rfl) rfl
theorem q296 : (Jvm.Cond.laysFinal "StaveScore$Horn" "StaveScore$Horn" "this$0" "LStaveScore;") ∈ lw_all := lw_g (lw_at lw_m1 234 rfl) rfl
theorem q297 : (Jvm.Cond.soleField "StaveScore$Horn" "this$0") ∈ lw_all := lw_g (lw_at lw_m1 235 rfl) rfl
theorem q298 : (Jvm.Cond.laysFinal "StaveScore$Horn" "StaveScore$Brass" "this$0" "LStaveScore;") ∈ lw_all := lw_g (lw_at lw_m1 236 rfl) rfl
theorem q299 : (Jvm.Cond.laysFinal "StaveScore$Horn" "StaveScore$Plain" "this$0" "LStaveScore;") ∈ lw_all := lw_g (lw_at lw_m1 237 rfl) rfl
theorem q300 : (Jvm.Cond.superclass "StaveScore$Horn" "StaveScore$Brass") ∈ lw_all := lw_g (lw_at lw_m1 238 rfl) rfl
theorem q622 : (Jvm.Cond.castable "StaveScore$Horn" "StaveScore$Hears") ∈ lw_tbl := lw_at lw_m3 80 rfl
theorem q623 : (Jvm.Cond.selects "StaveScore$Horn" ({ cls := "StaveScore$Hears", name := "heard", desc := "(I)I" } : Jvm.MethodName) ({ cls := "StaveScore$Horn", name := "heard", desc := "(I)I" } : Jvm.MethodName)) ∈ lw_all := lw_g (lw_at lw_m3 81 rfl) rfl
theorem q624 : (Jvm.Cond.unhidden "StaveScore$Horn" "heard" "(I)I") ∈ lw_tbl := lw_at lw_m3 82 rfl
theorem q625 : (Jvm.Cond.instanceMethod ({ cls := "StaveScore$Horn", name := "heard", desc := "(I)I" } : Jvm.MethodName)) ∈ lw_all := lw_g (lw_at lw_m3 83 rfl) rfl
theorem q626 : (Jvm.Cond.publicMethod ({ cls := "StaveScore$Horn", name := "heard", desc := "(I)I" } : Jvm.MethodName)) ∈ lw_tbl := lw_at lw_m3 84 rfl
theorem q627 : (Jvm.Cond.code ({ cls := "StaveScore$Horn", name := "heard", desc := "(I)I" } : Jvm.MethodName) prog_10_method_2_code (2 : Nat) (Option.some Jvm.ClassFile.FieldType.int)) ∈ lw_all := lw_g (lw_at lw_m3 85 rfl) rfl
theorem q628 : (Jvm.Cond.constantLong "StaveScore$Horn" (19 : Nat) (100 : Int64)) ∈ lw_all := lw_g (lw_at lw_m3 86 rfl) rfl
theorem q629 : (Jvm.Cond.methodLink "StaveScore$Horn" (21 : Nat) ({ cls := "StaveScore$Brass", name := "heard", desc := "(I)I" } : Jvm.MethodName)) ∈ lw_all := lw_g (lw_at lw_m3 87 rfl) rfl
theorem q852 : (Jvm.Cond.selects "StaveScore$Horn" ({ cls := "StaveScore$Hears", name := "least", desc := "()I" } : Jvm.MethodName) ({ cls := "StaveScore$Brass", name := "least", desc := "()I" } : Jvm.MethodName)) ∈ lw_all := lw_g (lw_at lw_m4 70 rfl) rfl
theorem q853 : (Jvm.Cond.unhidden "StaveScore$Horn" "least" "()I") ∈ lw_tbl := lw_at lw_m4 71 rfl
theorem q863 : (Jvm.Cond.sameMethod "StaveScore$Horn" "StaveScore$Brass" "least" "()I") ∈ lw_all := lw_g (lw_at lw_m4 81 rfl) rfl
theorem q882 : (Jvm.Cond.selects "StaveScore$Horn" ({ cls := "StaveScore$Hears", name := "most", desc := "()I" } : Jvm.MethodName) ({ cls := "StaveScore$Brass", name := "most", desc := "()I" } : Jvm.MethodName)) ∈ lw_all := lw_g (lw_at lw_m4 100 rfl) rfl
theorem q883 : (Jvm.Cond.unhidden "StaveScore$Horn" "most" "()I") ∈ lw_tbl := lw_at lw_m4 101 rfl
theorem q1069 : (Jvm.Cond.unhidden "StaveScore$Horn" "has" "(II)Z") ∈ lw_tbl := lw_at lw_m5 47 rfl
theorem q1761 : (Jvm.Cond.sameMethod "StaveScore$Horn" "StaveScore$Horn" "heard" "(I)I") ∈ lw_all := lw_g (lw_at lw_m8 19 rfl) rfl
theorem in_X8 : ∀ w ∈ wsX80, w ∈ lw_all := lw_in wsX80 [299, 298, 296] (by decide +kernel) (by decide +kernel)

/-! StaveScore$LowHorn -/
set_option maxRecDepth 100000
def RX9 : String := "StaveScore$LowHorn"
def TX9 : u_T := fun k => match k with
  | 0 => ("StaveScore$Plain", "this$0", "LStaveScore;", true)
  | 1 => ("StaveScore$Brass", "this$0", "LStaveScore;", true)
  | 2 => ("StaveScore$Horn", "this$0", "LStaveScore;", true)
  | _ => ("StaveScore$LowHorn", "this$0", "LStaveScore;", true)
def tyX9 : Nat → FieldType := fun k => match k with
  | 0 => .object "StaveScore"
  | 1 => .object "StaveScore"
  | 2 => .object "StaveScore"
  | _ => .object "StaveScore"
abbrev wsX90 : List Cond := u_ws RX9 TX9 4
-- two fields of one name: no nmX9
theorem tyX9_ok : ∀ k, k < 4 → parseFieldDescriptor (TX9 k).2.2.1 = some (tyX9 k) := by decide +kernel
abbrev cX9_init : ByteArray := prog_13_method_1_code
def yX9_init : MethodName := ⟨RX9, "<init>", "(LStaveScore;)V"⟩
def dkwX9_init_0 : List UInt8 := [42, 43, 181, 0, 1, 42, 43, 183, 0, 7, 177]
abbrev dktX9_init_0 : List UInt8 := dkwX9_init_0 ++ []
theorem dksX9_init_0 : cX9_init.data.toList.drop 0 = dktX9_init_0 := by decide +kernel
theorem dX9_init_0 : decode cX9_init 0 = .ok (.aload_n 0, 1) := dk_42 (dk_at dksX9_init_0 0 rfl rfl)
theorem dX9_init_1 : decode cX9_init 1 = .ok (.aload_n 1, 1) := dk_43 (dk_at dksX9_init_0 1 rfl rfl)
theorem dX9_init_2 : decode cX9_init 2 = .ok (.putfield 1, 3) := dk_181 0 1 (dk_at dksX9_init_0 2 rfl rfl)
theorem dX9_init_5 : decode cX9_init 5 = .ok (.aload_n 0, 1) := dk_42 (dk_at dksX9_init_0 5 rfl rfl)
theorem dX9_init_6 : decode cX9_init 6 = .ok (.aload_n 1, 1) := dk_43 (dk_at dksX9_init_0 6 rfl rfl)
theorem dX9_init_7 : decode cX9_init 7 = .ok (.invokespecial 7, 3) := dk_183 0 7 (dk_at dksX9_init_0 7 rfl rfl)
theorem dX9_init_10 : decode cX9_init 10 = .ok (.return_, 1) := dk_177 (dk_at dksX9_init_0 10 rfl rfl)
abbrev cX9_heard : ByteArray := prog_13_method_2_code
def yX9_heard : MethodName := ⟨RX9, "heard", "(I)I"⟩
def dkwX9_heard_0 : List UInt8 := [42, 180, 0, 1, 89, 180, 0, 13, 20, 0, 19, 97, 181, 0, 13, 42, 27, 183, 0, 21, 16, 12, 100, 172]
abbrev dktX9_heard_0 : List UInt8 := dkwX9_heard_0 ++ []
theorem dksX9_heard_0 : cX9_heard.data.toList.drop 0 = dktX9_heard_0 := by decide +kernel
theorem dX9_heard_0 : decode cX9_heard 0 = .ok (.aload_n 0, 1) := dk_42 (dk_at dksX9_heard_0 0 rfl rfl)
theorem dX9_heard_1 : decode cX9_heard 1 = .ok (.getfield 1, 3) := dk_180 0 1 (dk_at dksX9_heard_0 1 rfl rfl)
theorem dX9_heard_4 : decode cX9_heard 4 = .ok (.dup, 1) := dk_89 (dk_at dksX9_heard_0 4 rfl rfl)
theorem dX9_heard_5 : decode cX9_heard 5 = .ok (.getfield 13, 3) := dk_180 0 13 (dk_at dksX9_heard_0 5 rfl rfl)
theorem dX9_heard_8 : decode cX9_heard 8 = .ok (.ldc2_w 19, 3) := dk_20 0 19 (dk_at dksX9_heard_0 8 rfl rfl)
theorem dX9_heard_11 : decode cX9_heard 11 = .ok (.ladd, 1) := dk_97 (dk_at dksX9_heard_0 11 rfl rfl)
theorem dX9_heard_12 : decode cX9_heard 12 = .ok (.putfield 13, 3) := dk_181 0 13 (dk_at dksX9_heard_0 12 rfl rfl)
theorem dX9_heard_15 : decode cX9_heard 15 = .ok (.aload_n 0, 1) := dk_42 (dk_at dksX9_heard_0 15 rfl rfl)
theorem dX9_heard_16 : decode cX9_heard 16 = .ok (.iload_n 1, 1) := dk_27 (dk_at dksX9_heard_0 16 rfl rfl)
theorem dX9_heard_17 : decode cX9_heard 17 = .ok (.invokespecial 21, 3) := dk_183 0 21 (dk_at dksX9_heard_0 17 rfl rfl)
theorem dX9_heard_20 : decode cX9_heard 20 = .ok (.bipush 12, 2) := dk_16 12 (dk_at dksX9_heard_0 20 rfl rfl)
theorem dX9_heard_22 : decode cX9_heard 22 = .ok (.isub, 1) := dk_100 (dk_at dksX9_heard_0 22 rfl rfl)
theorem dX9_heard_23 : decode cX9_heard 23 = .ok (.ireturn, 1) := dk_172 (dk_at dksX9_heard_0 23 rfl rfl)
abbrev cX9_least : ByteArray := prog_13_method_3_code
def yX9_least : MethodName := ⟨RX9, "least", "()I"⟩
def dkwX9_least_0 : List UInt8 := [42, 180, 0, 1, 89, 180, 0, 13, 20, 0, 25, 97, 181, 0, 13, 42, 183, 0, 27, 8, 100, 172]
abbrev dktX9_least_0 : List UInt8 := dkwX9_least_0 ++ []
theorem dksX9_least_0 : cX9_least.data.toList.drop 0 = dktX9_least_0 := by decide +kernel
theorem dX9_least_0 : decode cX9_least 0 = .ok (.aload_n 0, 1) := dk_42 (dk_at dksX9_least_0 0 rfl rfl)
theorem dX9_least_1 : decode cX9_least 1 = .ok (.getfield 1, 3) := dk_180 0 1 (dk_at dksX9_least_0 1 rfl rfl)
theorem dX9_least_4 : decode cX9_least 4 = .ok (.dup, 1) := dk_89 (dk_at dksX9_least_0 4 rfl rfl)
theorem dX9_least_5 : decode cX9_least 5 = .ok (.getfield 13, 3) := dk_180 0 13 (dk_at dksX9_least_0 5 rfl rfl)
theorem dX9_least_8 : decode cX9_least 8 = .ok (.ldc2_w 25, 3) := dk_20 0 25 (dk_at dksX9_least_0 8 rfl rfl)
theorem dX9_least_11 : decode cX9_least 11 = .ok (.ladd, 1) := dk_97 (dk_at dksX9_least_0 11 rfl rfl)
theorem dX9_least_12 : decode cX9_least 12 = .ok (.putfield 13, 3) := dk_181 0 13 (dk_at dksX9_least_0 12 rfl rfl)
theorem dX9_least_15 : decode cX9_least 15 = .ok (.aload_n 0, 1) := dk_42 (dk_at dksX9_least_0 15 rfl rfl)
theorem dX9_least_16 : decode cX9_least 16 = .ok (.invokespecial 27, 3) := dk_183 0 27 (dk_at dksX9_least_0 16 rfl rfl)
theorem dX9_least_19 : decode cX9_least 19 = .ok (.iconst 5, 1) := dk_8 (dk_at dksX9_least_0 19 rfl rfl)
theorem dX9_least_20 : decode cX9_least 20 = .ok (.isub, 1) := dk_100 (dk_at dksX9_least_0 20 rfl rfl)
theorem dX9_least_21 : decode cX9_least 21 = .ok (.ireturn, 1) := dk_172 (dk_at dksX9_least_0 21 rfl rfl)
theorem q72 : (Jvm.Cond.initialized "StaveScore$LowHorn") ∈ lw_all := lw_g (lw_at lw_m1 10 rfl) rfl
theorem q188 : (Jvm.Cond.fieldLinkNest "StaveScore$LowHorn" (13 : Nat) "StaveScore" "trace" "J" "StaveScore") ∈ lw_tbl := lw_at lw_m1 126 rfl
theorem q302 : (Jvm.Cond.instantiable "StaveScore$LowHorn" (4 : Nat)) ∈ lw_all := lw_g (lw_at lw_m2 0 rfl) rfl
theorem q304 : (Jvm.Cond.instanceMethod ({ cls := "StaveScore$LowHorn", name := "<init>", desc := "(LStaveScore;)V" } : Jvm.MethodName)) ∈ lw_all := lw_g (lw_at lw_m2 2 rfl) rfl
theorem q305 : (Jvm.Cond.code ({ cls := "StaveScore$LowHorn", name := "<init>", desc := "(LStaveScore;)V" } : Jvm.MethodName) prog_13_method_1_code (2 : Nat) (Option.none : Option Jvm.ClassFile.FieldType)) ∈ lw_all := lw_g (lw_at lw_m2 3 rfl) rfl
theorem q306 : (Jvm.Cond.methodLinkNest "StaveScore$LowHorn" (7 : Nat) ({ cls := "StaveScore$Horn", name := "<init>", desc := "(LStaveScore;)V" } : Jvm.MethodName) "StaveScore") ∈ lw_tbl := lw_at lw_m2 4 rfl
theorem q307 : (Jvm.Cond.fieldLink "StaveScore$LowHorn" (1 : Nat) "StaveScore$LowHorn" "this$0" "LStaveScore;") ∈ lw_all := lw_g (lw_at lw_m2 5 rfl) rfl
theorem q308 : (Jvm.Cond.laysFinal "StaveScore$LowHorn" "StaveScore$LowHorn" "this$0" "LStaveScore;") ∈ lw_all := lw_g (lw_at lw_m2 6 rfl) rfl
theorem q309 : (Jvm.Cond.soleField "StaveScore$LowHorn" "this$0") ∈ lw_all := lw_g (lw_at lw_m2 7 rfl) rfl
theorem q310 : (Jvm.Cond.laysFinal "StaveScore$LowHorn" "StaveScore$Horn" "this$0" "LStaveScore;") ∈ lw_all := lw_g (lw_at lw_m2 8 rfl) rfl
theorem q311 : (Jvm.Cond.laysFinal "StaveScore$LowHorn" "StaveScore$Brass" "this$0" "LStaveScore;") ∈ lw_all := lw_g (lw_at lw_m2 9 rfl) rfl
theorem q312 : (Jvm.Cond.laysFinal "StaveScore$LowHorn" "StaveScore$Plain" "this$0" "LStaveScore;") ∈ lw_all := lw_g (lw_at lw_m2 10 rfl) rfl
theorem q313 : (Jvm.Cond.superclass "StaveScore$LowHorn" "StaveScore$Horn") ∈ lw_all := lw_g (lw_at lw_m2 11 rfl) rfl
theorem q640 : (Jvm.Cond.castable "StaveScore$LowHorn" "StaveScore$Hears") ∈ lw_tbl := lw_at lw_m3 98 rfl
theorem q641 : (Jvm.Cond.selects "StaveScore$LowHorn" ({ cls := "StaveScore$Hears", name := "heard", desc := "(I)I" } : Jvm.MethodName) ({ cls := "StaveScore$LowHorn", name := "heard", desc := "(I)I" } : Jvm.MethodName)) ∈ lw_all := lw_g (lw_at lw_m3 99 rfl) rfl
theorem q642 : (Jvm.Cond.unhidden "StaveScore$LowHorn" "heard" "(I)I") ∈ lw_tbl := lw_at lw_m3 100 rfl
theorem q643 : (Jvm.Cond.instanceMethod ({ cls := "StaveScore$LowHorn", name := "heard", desc := "(I)I" } : Jvm.MethodName)) ∈ lw_all := lw_g (lw_at lw_m3 101 rfl) rfl
theorem q644 : (Jvm.Cond.publicMethod ({ cls := "StaveScore$LowHorn", name := "heard", desc := "(I)I" } : Jvm.MethodName)) ∈ lw_tbl := lw_at lw_m3 102 rfl
theorem q645 : (Jvm.Cond.code ({ cls := "StaveScore$LowHorn", name := "heard", desc := "(I)I" } : Jvm.MethodName) prog_13_method_2_code (2 : Nat) (Option.some Jvm.ClassFile.FieldType.int)) ∈ lw_all := lw_g (lw_at lw_m3 103 rfl) rfl
theorem q646 : (Jvm.Cond.constantLong "StaveScore$LowHorn" (19 : Nat) (1000 : Int64)) ∈ lw_all := lw_g (lw_at lw_m3 104 rfl) rfl
theorem q647 : (Jvm.Cond.methodLink "StaveScore$LowHorn" (21 : Nat) ({ cls := "StaveScore$Horn", name := "heard", desc := "(I)I" } : Jvm.MethodName)) ∈ lw_all := lw_g (lw_at lw_m3 105 rfl) rfl
theorem q856 : (Jvm.Cond.selects "StaveScore$LowHorn" ({ cls := "StaveScore$Hears", name := "least", desc := "()I" } : Jvm.MethodName) ({ cls := "StaveScore$LowHorn", name := "least", desc := "()I" } : Jvm.MethodName)) ∈ lw_all := lw_g (lw_at lw_m4 74 rfl) rfl
theorem q857 : (Jvm.Cond.unhidden "StaveScore$LowHorn" "least" "()I") ∈ lw_tbl := lw_at lw_m4 75 rfl
theorem q858 : (Jvm.Cond.instanceMethod ({ cls := "StaveScore$LowHorn", name := "least", desc := "()I" } : Jvm.MethodName)) ∈ lw_all := lw_g (lw_at lw_m4 76 rfl) rfl
theorem q859 : (Jvm.Cond.publicMethod ({ cls := "StaveScore$LowHorn", name := "least", desc := "()I" } : Jvm.MethodName)) ∈ lw_tbl := lw_at lw_m4 77 rfl
theorem q860 : (Jvm.Cond.code ({ cls := "StaveScore$LowHorn", name := "least", desc := "()I" } : Jvm.MethodName) prog_13_method_3_code (1 : Nat) (Option.some Jvm.ClassFile.FieldType.int)) ∈ lw_all := lw_g (lw_at lw_m4 78 rfl) rfl
theorem q861 : (Jvm.Cond.constantLong "StaveScore$LowHorn" (25 : Nat) (100000 : Int64)) ∈ lw_all := lw_g (lw_at lw_m4 79 rfl) rfl
theorem q862 : (Jvm.Cond.methodLink "StaveScore$LowHorn" (27 : Nat) ({ cls := "StaveScore$Horn", name := "least", desc := "()I" } : Jvm.MethodName)) ∈ lw_all := lw_g (lw_at lw_m4 80 rfl) rfl
theorem q886 : (Jvm.Cond.selects "StaveScore$LowHorn" ({ cls := "StaveScore$Hears", name := "most", desc := "()I" } : Jvm.MethodName) ({ cls := "StaveScore$Brass", name := "most", desc := "()I" } : Jvm.MethodName)) ∈ lw_all := lw_g (lw_at lw_m4 104 rfl) rfl
theorem q887 : (Jvm.Cond.unhidden "StaveScore$LowHorn" "most" "()I") ∈ lw_tbl := lw_at lw_m4 105 rfl
theorem q1071 : (Jvm.Cond.unhidden "StaveScore$LowHorn" "has" "(II)Z") ∈ lw_tbl := lw_at lw_m5 49 rfl
theorem in_X9 : ∀ w ∈ wsX90, w ∈ lw_all := lw_in wsX90 [312, 311, 310, 308] (by decide +kernel) (by decide +kernel)

/-! StaveScore$Drum -/
set_option maxRecDepth 100000
def RX10 : String := "StaveScore$Drum"
def TX10 : u_T := fun k => match k with
  | 0 => ("StaveScore$Plain", "this$0", "LStaveScore;", true)
  | _ => ("StaveScore$Drum", "this$0", "LStaveScore;", true)
def tyX10 : Nat → FieldType := fun k => match k with
  | 0 => .object "StaveScore"
  | _ => .object "StaveScore"
abbrev wsX100 : List Cond := u_ws RX10 TX10 2
-- two fields of one name: no nmX10
theorem tyX10_ok : ∀ k, k < 2 → parseFieldDescriptor (TX10 k).2.2.1 = some (tyX10 k) := by decide +kernel
abbrev cX10_init : ByteArray := prog_5_method_1_code
def yX10_init : MethodName := ⟨RX10, "<init>", "(LStaveScore;)V"⟩
def dkwX10_init_0 : List UInt8 := [42, 43, 181, 0, 1, 42, 43, 183, 0, 7, 177]
abbrev dktX10_init_0 : List UInt8 := dkwX10_init_0 ++ []
theorem dksX10_init_0 : cX10_init.data.toList.drop 0 = dktX10_init_0 := by decide +kernel
theorem dX10_init_0 : decode cX10_init 0 = .ok (.aload_n 0, 1) := dk_42 (dk_at dksX10_init_0 0 rfl rfl)
theorem dX10_init_1 : decode cX10_init 1 = .ok (.aload_n 1, 1) := dk_43 (dk_at dksX10_init_0 1 rfl rfl)
theorem dX10_init_2 : decode cX10_init 2 = .ok (.putfield 1, 3) := dk_181 0 1 (dk_at dksX10_init_0 2 rfl rfl)
theorem dX10_init_5 : decode cX10_init 5 = .ok (.aload_n 0, 1) := dk_42 (dk_at dksX10_init_0 5 rfl rfl)
theorem dX10_init_6 : decode cX10_init 6 = .ok (.aload_n 1, 1) := dk_43 (dk_at dksX10_init_0 6 rfl rfl)
theorem dX10_init_7 : decode cX10_init 7 = .ok (.invokespecial 7, 3) := dk_183 0 7 (dk_at dksX10_init_0 7 rfl rfl)
theorem dX10_init_10 : decode cX10_init 10 = .ok (.return_, 1) := dk_177 (dk_at dksX10_init_0 10 rfl rfl)
abbrev cX10_heard : ByteArray := prog_5_method_2_code
def yX10_heard : MethodName := ⟨RX10, "heard", "(I)I"⟩
def dkwX10_heard_0 : List UInt8 := [42, 180, 0, 1, 89, 180, 0, 13, 20, 0, 19, 97, 181, 0, 13, 16, 35, 172]
abbrev dktX10_heard_0 : List UInt8 := dkwX10_heard_0 ++ []
theorem dksX10_heard_0 : cX10_heard.data.toList.drop 0 = dktX10_heard_0 := by decide +kernel
theorem dX10_heard_0 : decode cX10_heard 0 = .ok (.aload_n 0, 1) := dk_42 (dk_at dksX10_heard_0 0 rfl rfl)
theorem dX10_heard_1 : decode cX10_heard 1 = .ok (.getfield 1, 3) := dk_180 0 1 (dk_at dksX10_heard_0 1 rfl rfl)
theorem dX10_heard_4 : decode cX10_heard 4 = .ok (.dup, 1) := dk_89 (dk_at dksX10_heard_0 4 rfl rfl)
theorem dX10_heard_5 : decode cX10_heard 5 = .ok (.getfield 13, 3) := dk_180 0 13 (dk_at dksX10_heard_0 5 rfl rfl)
theorem dX10_heard_8 : decode cX10_heard 8 = .ok (.ldc2_w 19, 3) := dk_20 0 19 (dk_at dksX10_heard_0 8 rfl rfl)
theorem dX10_heard_11 : decode cX10_heard 11 = .ok (.ladd, 1) := dk_97 (dk_at dksX10_heard_0 11 rfl rfl)
theorem dX10_heard_12 : decode cX10_heard 12 = .ok (.putfield 13, 3) := dk_181 0 13 (dk_at dksX10_heard_0 12 rfl rfl)
theorem dX10_heard_15 : decode cX10_heard 15 = .ok (.bipush 35, 2) := dk_16 35 (dk_at dksX10_heard_0 15 rfl rfl)
theorem dX10_heard_17 : decode cX10_heard 17 = .ok (.ireturn, 1) := dk_172 (dk_at dksX10_heard_0 17 rfl rfl)
theorem q73 : (Jvm.Cond.initialized "StaveScore$Drum") ∈ lw_all := lw_g (lw_at lw_m1 11 rfl) rfl
theorem q185 : (Jvm.Cond.fieldLinkNest "StaveScore$Drum" (13 : Nat) "StaveScore" "trace" "J" "StaveScore") ∈ lw_tbl := lw_at lw_m1 123 rfl
theorem q315 : (Jvm.Cond.instantiable "StaveScore$Drum" (2 : Nat)) ∈ lw_all := lw_g (lw_at lw_m2 13 rfl) rfl
theorem q317 : (Jvm.Cond.instanceMethod ({ cls := "StaveScore$Drum", name := "<init>", desc := "(LStaveScore;)V" } : Jvm.MethodName)) ∈ lw_all := lw_g (lw_at lw_m2 15 rfl) rfl
theorem q318 : (Jvm.Cond.code ({ cls := "StaveScore$Drum", name := "<init>", desc := "(LStaveScore;)V" } : Jvm.MethodName) prog_5_method_1_code (2 : Nat) (Option.none : Option Jvm.ClassFile.FieldType)) ∈ lw_all := lw_g (lw_at lw_m2 16 rfl) rfl
theorem q319 : (Jvm.Cond.methodLinkNest "StaveScore$Drum" (7 : Nat) ({ cls := "StaveScore$Plain", name := "<init>", desc := "(LStaveScore;)V" } : Jvm.MethodName) "StaveScore") ∈ lw_tbl := lw_at lw_m2 17 rfl
theorem q320 : (Jvm.Cond.fieldLink "StaveScore$Drum" (1 : Nat) "StaveScore$Drum" "this$0" "LStaveScore;") ∈ lw_all := lw_g (lw_at lw_m2 18 rfl) rfl
theorem q321 : (Jvm.Cond.laysFinal "StaveScore$Drum" "StaveScore$Drum" "this$0" "LStaveScore;") ∈ lw_all := lw_g (lw_at lw_m2 19 rfl) rfl
theorem q322 : (Jvm.Cond.soleField "StaveScore$Drum" "this$0") ∈ lw_all := lw_g (lw_at lw_m2 20 rfl) rfl
theorem q323 : (Jvm.Cond.laysFinal "StaveScore$Drum" "StaveScore$Plain" "this$0" "LStaveScore;") ∈ lw_all := lw_g (lw_at lw_m2 21 rfl) rfl
theorem q324 : (Jvm.Cond.superclass "StaveScore$Drum" "StaveScore$Plain") ∈ lw_all := lw_g (lw_at lw_m2 22 rfl) rfl
theorem q615 : (Jvm.Cond.castable "StaveScore$Drum" "StaveScore$Hears") ∈ lw_tbl := lw_at lw_m3 73 rfl
theorem q616 : (Jvm.Cond.selects "StaveScore$Drum" ({ cls := "StaveScore$Hears", name := "heard", desc := "(I)I" } : Jvm.MethodName) ({ cls := "StaveScore$Drum", name := "heard", desc := "(I)I" } : Jvm.MethodName)) ∈ lw_all := lw_g (lw_at lw_m3 74 rfl) rfl
theorem q617 : (Jvm.Cond.unhidden "StaveScore$Drum" "heard" "(I)I") ∈ lw_tbl := lw_at lw_m3 75 rfl
theorem q618 : (Jvm.Cond.instanceMethod ({ cls := "StaveScore$Drum", name := "heard", desc := "(I)I" } : Jvm.MethodName)) ∈ lw_all := lw_g (lw_at lw_m3 76 rfl) rfl
theorem q619 : (Jvm.Cond.publicMethod ({ cls := "StaveScore$Drum", name := "heard", desc := "(I)I" } : Jvm.MethodName)) ∈ lw_tbl := lw_at lw_m3 77 rfl
theorem q620 : (Jvm.Cond.code ({ cls := "StaveScore$Drum", name := "heard", desc := "(I)I" } : Jvm.MethodName) prog_5_method_2_code (2 : Nat) (Option.some Jvm.ClassFile.FieldType.int)) ∈ lw_all := lw_g (lw_at lw_m3 78 rfl) rfl
theorem q621 : (Jvm.Cond.constantLong "StaveScore$Drum" (19 : Nat) (10000 : Int64)) ∈ lw_all := lw_g (lw_at lw_m3 79 rfl) rfl
theorem q847 : (Jvm.Cond.selects "StaveScore$Drum" ({ cls := "StaveScore$Hears", name := "least", desc := "()I" } : Jvm.MethodName) ({ cls := "StaveScore$Plain", name := "least", desc := "()I" } : Jvm.MethodName)) ∈ lw_all := lw_g (lw_at lw_m4 65 rfl) rfl
theorem q848 : (Jvm.Cond.unhidden "StaveScore$Drum" "least" "()I") ∈ lw_tbl := lw_at lw_m4 66 rfl
theorem q879 : (Jvm.Cond.selects "StaveScore$Drum" ({ cls := "StaveScore$Hears", name := "most", desc := "()I" } : Jvm.MethodName) ({ cls := "StaveScore$Plain", name := "most", desc := "()I" } : Jvm.MethodName)) ∈ lw_all := lw_g (lw_at lw_m4 97 rfl) rfl
theorem q880 : (Jvm.Cond.unhidden "StaveScore$Drum" "most" "()I") ∈ lw_tbl := lw_at lw_m4 98 rfl
theorem q1068 : (Jvm.Cond.unhidden "StaveScore$Drum" "has" "(II)Z") ∈ lw_tbl := lw_at lw_m5 46 rfl
theorem in_X10 : ∀ w ∈ wsX100, w ∈ lw_all := lw_in wsX100 [323, 321] (by decide +kernel) (by decide +kernel)

/-! StaveScore$Event -/
set_option maxRecDepth 100000
def RX11 : String := "StaveScore$Event"
abbrev cX11_init : ByteArray := prog_6_method_1_code
def yX11_init : MethodName := ⟨RX11, "<init>", "(I)V"⟩
def dkwX11_init_0 : List UInt8 := [42, 183, 0, 1, 42, 187, 0, 7, 89, 183, 0, 9, 181, 0, 10, 42, 27, 181, 0, 16, 177]
abbrev dktX11_init_0 : List UInt8 := dkwX11_init_0 ++ []
theorem dksX11_init_0 : cX11_init.data.toList.drop 0 = dktX11_init_0 := by decide +kernel
theorem dX11_init_0 : decode cX11_init 0 = .ok (.aload_n 0, 1) := dk_42 (dk_at dksX11_init_0 0 rfl rfl)
theorem dX11_init_1 : decode cX11_init 1 = .ok (.invokespecial 1, 3) := dk_183 0 1 (dk_at dksX11_init_0 1 rfl rfl)
theorem dX11_init_4 : decode cX11_init 4 = .ok (.aload_n 0, 1) := dk_42 (dk_at dksX11_init_0 4 rfl rfl)
theorem dX11_init_5 : decode cX11_init 5 = .ok (.new 7, 3) := dk_187 0 7 (dk_at dksX11_init_0 5 rfl rfl)
theorem dX11_init_8 : decode cX11_init 8 = .ok (.dup, 1) := dk_89 (dk_at dksX11_init_0 8 rfl rfl)
theorem dX11_init_9 : decode cX11_init 9 = .ok (.invokespecial 9, 3) := dk_183 0 9 (dk_at dksX11_init_0 9 rfl rfl)
theorem dX11_init_12 : decode cX11_init 12 = .ok (.putfield 10, 3) := dk_181 0 10 (dk_at dksX11_init_0 12 rfl rfl)
theorem dX11_init_15 : decode cX11_init 15 = .ok (.aload_n 0, 1) := dk_42 (dk_at dksX11_init_0 15 rfl rfl)
theorem dX11_init_16 : decode cX11_init 16 = .ok (.iload_n 1, 1) := dk_27 (dk_at dksX11_init_0 16 rfl rfl)
theorem dX11_init_17 : decode cX11_init 17 = .ok (.putfield 16, 3) := dk_181 0 16 (dk_at dksX11_init_0 17 rfl rfl)
theorem dX11_init_20 : decode cX11_init 20 = .ok (.return_, 1) := dk_177 (dk_at dksX11_init_0 20 rfl rfl)
abbrev cX11_many : ByteArray := prog_6_method_5_code
def yX11_many : MethodName := ⟨RX11, "many", "()I"⟩
theorem dX11_many_0 : decode cX11_many 0 = .ok (.iconst 0, 1) := by decide +kernel
theorem dX11_many_1 : decode cX11_many 1 = .ok (.ireturn, 1) := by decide +kernel
abbrev cX11_isTied : ByteArray := prog_6_method_6_code
def yX11_isTied : MethodName := ⟨RX11, "isTied", "()Z"⟩
theorem dX11_isTied_0 : decode cX11_isTied 0 = .ok (.iconst 0, 1) := by decide +kernel
theorem dX11_isTied_1 : decode cX11_isTied 1 = .ok (.ireturn, 1) := by decide +kernel
abbrev cX11_written : ByteArray := prog_6_method_3_code
def yX11_written : MethodName := ⟨RX11, "written", "(LStaveScore$Fraction;)V"⟩
def dkwX11_written_1 : List UInt8 := [182, 0, 28, 177]
abbrev dktX11_written_1 : List UInt8 := dkwX11_written_1 ++ []
def dkwX11_written_0 : List UInt8 := [43, 20, 0, 20, 42, 180, 0, 22, 121, 10, 101, 10, 42, 180, 0, 25, 42, 180, 0, 22, 96, 121]
abbrev dktX11_written_0 : List UInt8 := dkwX11_written_0 ++ dktX11_written_1
theorem dksX11_written_0 : cX11_written.data.toList.drop 0 = dktX11_written_0 := by decide +kernel
theorem dksX11_written_1 : cX11_written.data.toList.drop 22 = dktX11_written_1 := dk_seg dksX11_written_0 22 rfl rfl
theorem dX11_written_0 : decode cX11_written 0 = .ok (.aload_n 1, 1) := dk_43 (dk_at dksX11_written_0 0 rfl rfl)
theorem dX11_written_1 : decode cX11_written 1 = .ok (.ldc2_w 20, 3) := dk_20 0 20 (dk_at dksX11_written_0 1 rfl rfl)
theorem dX11_written_4 : decode cX11_written 4 = .ok (.aload_n 0, 1) := dk_42 (dk_at dksX11_written_0 4 rfl rfl)
theorem dX11_written_5 : decode cX11_written 5 = .ok (.getfield 22, 3) := dk_180 0 22 (dk_at dksX11_written_0 5 rfl rfl)
theorem dX11_written_8 : decode cX11_written 8 = .ok (.lshl, 1) := dk_121 (dk_at dksX11_written_0 8 rfl rfl)
theorem dX11_written_9 : decode cX11_written 9 = .ok (.lconst 1, 1) := dk_10 (dk_at dksX11_written_0 9 rfl rfl)
theorem dX11_written_10 : decode cX11_written 10 = .ok (.lsub, 1) := dk_101 (dk_at dksX11_written_0 10 rfl rfl)
theorem dX11_written_11 : decode cX11_written 11 = .ok (.lconst 1, 1) := dk_10 (dk_at dksX11_written_0 11 rfl rfl)
theorem dX11_written_12 : decode cX11_written 12 = .ok (.aload_n 0, 1) := dk_42 (dk_at dksX11_written_0 12 rfl rfl)
theorem dX11_written_13 : decode cX11_written 13 = .ok (.getfield 25, 3) := dk_180 0 25 (dk_at dksX11_written_0 13 rfl rfl)
theorem dX11_written_16 : decode cX11_written 16 = .ok (.aload_n 0, 1) := dk_42 (dk_at dksX11_written_0 16 rfl rfl)
theorem dX11_written_17 : decode cX11_written 17 = .ok (.getfield 22, 3) := dk_180 0 22 (dk_at dksX11_written_0 17 rfl rfl)
theorem dX11_written_20 : decode cX11_written 20 = .ok (.iadd, 1) := dk_96 (dk_at dksX11_written_0 20 rfl rfl)
theorem dX11_written_21 : decode cX11_written 21 = .ok (.lshl, 1) := dk_121 (dk_at dksX11_written_0 21 rfl rfl)
theorem dX11_written_22 : decode cX11_written 22 = .ok (.invokevirtual 28, 3) := dk_182 0 28 (dk_at dksX11_written_1 0 rfl rfl)
theorem dX11_written_25 : decode cX11_written 25 = .ok (.return_, 1) := dk_177 (dk_at dksX11_written_1 3 rfl rfl)
abbrev cX11_takes : ByteArray := prog_6_method_4_code
def yX11_takes : MethodName := ⟨RX11, "takes", "()Z"⟩
theorem dX11_takes_0 : decode cX11_takes 0 = .ok (.iconst 1, 1) := by decide +kernel
theorem dX11_takes_1 : decode cX11_takes 1 = .ok (.ireturn, 1) := by decide +kernel
abbrev cX11_isAlike : ByteArray := prog_6_method_7_code
def yX11_isAlike : MethodName := ⟨RX11, "isAlike", "(LStaveScore$Event;)Z"⟩
def dkwX11_isAlike_1 : List UInt8 := [180, 0, 22, 43, 180, 0, 22, 160, 0, 7, 4, 167, 0, 4, 3, 172]
abbrev dktX11_isAlike_1 : List UInt8 := dkwX11_isAlike_1 ++ []
def dkwX11_isAlike_0 : List UInt8 := [42, 182, 0, 32, 43, 182, 0, 32, 160, 0, 29, 42, 180, 0, 25, 43, 180, 0, 25, 160, 0, 18, 42]
abbrev dktX11_isAlike_0 : List UInt8 := dkwX11_isAlike_0 ++ dktX11_isAlike_1
theorem dksX11_isAlike_0 : cX11_isAlike.data.toList.drop 0 = dktX11_isAlike_0 := by decide +kernel
theorem dksX11_isAlike_1 : cX11_isAlike.data.toList.drop 23 = dktX11_isAlike_1 := dk_seg dksX11_isAlike_0 23 rfl rfl
theorem dX11_isAlike_0 : decode cX11_isAlike 0 = .ok (.aload_n 0, 1) := dk_42 (dk_at dksX11_isAlike_0 0 rfl rfl)
theorem dX11_isAlike_1 : decode cX11_isAlike 1 = .ok (.invokevirtual 32, 3) := dk_182 0 32 (dk_at dksX11_isAlike_0 1 rfl rfl)
theorem dX11_isAlike_4 : decode cX11_isAlike 4 = .ok (.aload_n 1, 1) := dk_43 (dk_at dksX11_isAlike_0 4 rfl rfl)
theorem dX11_isAlike_5 : decode cX11_isAlike 5 = .ok (.invokevirtual 32, 3) := dk_182 0 32 (dk_at dksX11_isAlike_0 5 rfl rfl)
theorem dX11_isAlike_8 : decode cX11_isAlike 8 = .ok (.if_icmp .ne 29, 3) := dk_160 0 29 (dk_at dksX11_isAlike_0 8 rfl rfl)
theorem dX11_isAlike_11 : decode cX11_isAlike 11 = .ok (.aload_n 0, 1) := dk_42 (dk_at dksX11_isAlike_0 11 rfl rfl)
theorem dX11_isAlike_12 : decode cX11_isAlike 12 = .ok (.getfield 25, 3) := dk_180 0 25 (dk_at dksX11_isAlike_0 12 rfl rfl)
theorem dX11_isAlike_15 : decode cX11_isAlike 15 = .ok (.aload_n 1, 1) := dk_43 (dk_at dksX11_isAlike_0 15 rfl rfl)
theorem dX11_isAlike_16 : decode cX11_isAlike 16 = .ok (.getfield 25, 3) := dk_180 0 25 (dk_at dksX11_isAlike_0 16 rfl rfl)
theorem dX11_isAlike_19 : decode cX11_isAlike 19 = .ok (.if_icmp .ne 18, 3) := dk_160 0 18 (dk_at dksX11_isAlike_0 19 rfl rfl)
theorem dX11_isAlike_22 : decode cX11_isAlike 22 = .ok (.aload_n 0, 1) := dk_42 (dk_at dksX11_isAlike_0 22 rfl rfl)
theorem dX11_isAlike_23 : decode cX11_isAlike 23 = .ok (.getfield 22, 3) := dk_180 0 22 (dk_at dksX11_isAlike_1 0 rfl rfl)
theorem dX11_isAlike_26 : decode cX11_isAlike 26 = .ok (.aload_n 1, 1) := dk_43 (dk_at dksX11_isAlike_1 3 rfl rfl)
theorem dX11_isAlike_27 : decode cX11_isAlike 27 = .ok (.getfield 22, 3) := dk_180 0 22 (dk_at dksX11_isAlike_1 4 rfl rfl)
theorem dX11_isAlike_30 : decode cX11_isAlike 30 = .ok (.if_icmp .ne 7, 3) := dk_160 0 7 (dk_at dksX11_isAlike_1 7 rfl rfl)
theorem dX11_isAlike_33 : decode cX11_isAlike 33 = .ok (.iconst 1, 1) := dk_4 (dk_at dksX11_isAlike_1 10 rfl rfl)
theorem dX11_isAlike_34 : decode cX11_isAlike 34 = .ok (.goto 4, 3) := dk_167 0 4 (dk_at dksX11_isAlike_1 11 rfl rfl)
theorem dX11_isAlike_37 : decode cX11_isAlike 37 = .ok (.iconst 0, 1) := dk_3 (dk_at dksX11_isAlike_1 14 rfl rfl)
theorem dX11_isAlike_38 : decode cX11_isAlike 38 = .ok (.ireturn, 1) := dk_172 (dk_at dksX11_isAlike_1 15 rfl rfl)
theorem q74 : (Jvm.Cond.initialized "StaveScore$Event") ∈ lw_all := lw_g (lw_at lw_m1 12 rfl) rfl
theorem q362 : (Jvm.Cond.instanceMethod ({ cls := "StaveScore$Event", name := "<init>", desc := "(I)V" } : Jvm.MethodName)) ∈ lw_all := lw_g (lw_at lw_m2 60 rfl) rfl
theorem q363 : (Jvm.Cond.code ({ cls := "StaveScore$Event", name := "<init>", desc := "(I)V" } : Jvm.MethodName) prog_6_method_1_code (2 : Nat) (Option.none : Option Jvm.ClassFile.FieldType)) ∈ lw_all := lw_g (lw_at lw_m2 61 rfl) rfl
theorem q364 : (Jvm.Cond.methodLink "StaveScore$Event" (1 : Nat) ({ cls := "java/lang/Object", name := "<init>", desc := "()V" } : Jvm.MethodName)) ∈ lw_all := lw_g (lw_at lw_m2 62 rfl) rfl
theorem q365 : (Jvm.Cond.classLink "StaveScore$Event" (7 : Nat) "StaveScore$Fraction") ∈ lw_all := lw_g (lw_at lw_m2 63 rfl) rfl
theorem q366 : (Jvm.Cond.methodLinkNest "StaveScore$Event" (9 : Nat) ({ cls := "StaveScore$Fraction", name := "<init>", desc := "()V" } : Jvm.MethodName) "StaveScore") ∈ lw_tbl := lw_at lw_m2 64 rfl
theorem q371 : (Jvm.Cond.fieldLink "StaveScore$Event" (16 : Nat) "StaveScore$Event" "number" "I") ∈ lw_all := lw_g (lw_at lw_m2 69 rfl) rfl
theorem q375 : (Jvm.Cond.fieldLink "StaveScore$Event" (25 : Nat) "StaveScore$Event" "value" "I") ∈ lw_all := lw_g (lw_at lw_m2 73 rfl) rfl
theorem q377 : (Jvm.Cond.fieldLink "StaveScore$Event" (22 : Nat) "StaveScore$Event" "dots" "I") ∈ lw_all := lw_g (lw_at lw_m2 75 rfl) rfl
theorem q379 : (Jvm.Cond.fieldLink "StaveScore$Event" (10 : Nat) "StaveScore$Event" "begin" "LStaveScore$Fraction;") ∈ lw_all := lw_g (lw_at lw_m2 77 rfl) rfl
theorem q386 : (Jvm.Cond.soleField "StaveScore$Event" "number") ∈ lw_all := lw_g (lw_at lw_m2 84 rfl) rfl
theorem q388 : (Jvm.Cond.soleField "StaveScore$Event" "voice") ∈ lw_all := lw_g (lw_at lw_m2 86 rfl) rfl
theorem q390 : (Jvm.Cond.soleField "StaveScore$Event" "place") ∈ lw_all := lw_g (lw_at lw_m2 88 rfl) rfl
theorem q392 : (Jvm.Cond.soleField "StaveScore$Event" "value") ∈ lw_all := lw_g (lw_at lw_m2 90 rfl) rfl
theorem q394 : (Jvm.Cond.soleField "StaveScore$Event" "dots") ∈ lw_all := lw_g (lw_at lw_m2 92 rfl) rfl
theorem q396 : (Jvm.Cond.soleField "StaveScore$Event" "begin") ∈ lw_all := lw_g (lw_at lw_m2 94 rfl) rfl
theorem q714 : (Jvm.Cond.declares ({ cls := "StaveScore$Event", name := "kind", desc := "()I" } : Jvm.MethodName)) ∈ lw_tbl := lw_at lw_m3 172 rfl
theorem q715 : (Jvm.Cond.sameMethod "StaveScore$Event" "StaveScore$Event" "kind" "()I") ∈ lw_all := lw_g (lw_at lw_m3 173 rfl) rfl
theorem q732 : (Jvm.Cond.instanceMethod ({ cls := "StaveScore$Event", name := "many", desc := "()I" } : Jvm.MethodName)) ∈ lw_all := lw_g (lw_at lw_m3 190 rfl) rfl
theorem q733 : (Jvm.Cond.sameMethod "StaveScore$Event" "StaveScore$Event" "many" "()I") ∈ lw_all := lw_g (lw_at lw_m3 191 rfl) rfl
theorem q739 : (Jvm.Cond.code ({ cls := "StaveScore$Event", name := "many", desc := "()I" } : Jvm.MethodName) prog_6_method_5_code (1 : Nat) (Option.some Jvm.ClassFile.FieldType.int)) ∈ lw_all := lw_g (lw_at lw_m3 197 rfl) rfl
theorem q741 : (Jvm.Cond.instanceMethod ({ cls := "StaveScore$Event", name := "isTied", desc := "()Z" } : Jvm.MethodName)) ∈ lw_all := lw_g (lw_at lw_m3 199 rfl) rfl
theorem q742 : (Jvm.Cond.sameMethod "StaveScore$Event" "StaveScore$Event" "isTied" "()Z") ∈ lw_all := lw_g (lw_at lw_m3 200 rfl) rfl
theorem q750 : (Jvm.Cond.code ({ cls := "StaveScore$Event", name := "isTied", desc := "()Z" } : Jvm.MethodName) prog_6_method_6_code (1 : Nat) (Option.some Jvm.ClassFile.FieldType.boolean)) ∈ lw_all := lw_g (lw_at lw_m3 208 rfl) rfl
theorem q772 : (Jvm.Cond.instanceMethod ({ cls := "StaveScore$Event", name := "written", desc := "(LStaveScore$Fraction;)V" } : Jvm.MethodName)) ∈ lw_all := lw_g (lw_at lw_m3 230 rfl) rfl
theorem q773 : (Jvm.Cond.sameMethod "StaveScore$Event" "StaveScore$Event" "written" "(LStaveScore$Fraction;)V") ∈ lw_all := lw_g (lw_at lw_m3 231 rfl) rfl
theorem q779 : (Jvm.Cond.declares ({ cls := "StaveScore$Event", name := "written", desc := "(LStaveScore$Fraction;)V" } : Jvm.MethodName)) ∈ lw_tbl := lw_at lw_m3 237 rfl
theorem q780 : (Jvm.Cond.code ({ cls := "StaveScore$Event", name := "written", desc := "(LStaveScore$Fraction;)V" } : Jvm.MethodName) prog_6_method_3_code (2 : Nat) (Option.none : Option Jvm.ClassFile.FieldType)) ∈ lw_all := lw_g (lw_at lw_m3 238 rfl) rfl
theorem q781 : (Jvm.Cond.constantLong "StaveScore$Event" (20 : Nat) (2 : Int64)) ∈ lw_all := lw_g (lw_at lw_m3 239 rfl) rfl
theorem q782 : (Jvm.Cond.methodLink "StaveScore$Event" (28 : Nat) ({ cls := "StaveScore$Fraction", name := "become", desc := "(JJ)V" } : Jvm.MethodName)) ∈ lw_all := lw_g (lw_at lw_m4 0 rfl) rfl
theorem q1018 : (Jvm.Cond.instanceMethod ({ cls := "StaveScore$Event", name := "takes", desc := "()Z" } : Jvm.MethodName)) ∈ lw_all := lw_g (lw_at lw_m4 236 rfl) rfl
theorem q1019 : (Jvm.Cond.sameMethod "StaveScore$Event" "StaveScore$Event" "takes" "()Z") ∈ lw_all := lw_g (lw_at lw_m4 237 rfl) rfl
theorem q1025 : (Jvm.Cond.declares ({ cls := "StaveScore$Event", name := "takes", desc := "()Z" } : Jvm.MethodName)) ∈ lw_tbl := lw_at lw_m5 3 rfl
theorem q1026 : (Jvm.Cond.code ({ cls := "StaveScore$Event", name := "takes", desc := "()Z" } : Jvm.MethodName) prog_6_method_4_code (1 : Nat) (Option.some Jvm.ClassFile.FieldType.boolean)) ∈ lw_all := lw_g (lw_at lw_m5 4 rfl) rfl
theorem q1086 : (Jvm.Cond.instanceMethod ({ cls := "StaveScore$Event", name := "isAlike", desc := "(LStaveScore$Event;)Z" } : Jvm.MethodName)) ∈ lw_all := lw_g (lw_at lw_m5 64 rfl) rfl
theorem q1087 : (Jvm.Cond.sameMethod "StaveScore$Event" "StaveScore$Event" "isAlike" "(LStaveScore$Event;)Z") ∈ lw_all := lw_g (lw_at lw_m5 65 rfl) rfl
theorem q1093 : (Jvm.Cond.code ({ cls := "StaveScore$Event", name := "isAlike", desc := "(LStaveScore$Event;)Z" } : Jvm.MethodName) prog_6_method_7_code (2 : Nat) (Option.some Jvm.ClassFile.FieldType.boolean)) ∈ lw_all := lw_g (lw_at lw_m5 71 rfl) rfl
theorem q1094 : (Jvm.Cond.methodLink "StaveScore$Event" (32 : Nat) ({ cls := "StaveScore$Event", name := "kind", desc := "()I" } : Jvm.MethodName)) ∈ lw_all := lw_g (lw_at lw_m5 72 rfl) rfl

/-! StaveScore$Note -/
set_option maxRecDepth 100000
def RX12 : String := "StaveScore$Note"
def TX12 : u_T := fun k => match k with
  | 0 => ("StaveScore$Event", "number", "I", true)
  | 1 => ("StaveScore$Event", "voice", "I", false)
  | 2 => ("StaveScore$Event", "place", "I", false)
  | 3 => ("StaveScore$Event", "value", "I", false)
  | 4 => ("StaveScore$Event", "dots", "I", false)
  | 5 => ("StaveScore$Event", "begin", "LStaveScore$Fraction;", true)
  | 6 => ("StaveScore$Note", "lowest", "I", false)
  | _ => ("StaveScore$Note", "tied", "Z", false)
def tyX12 : Nat → FieldType := fun k => match k with
  | 0 => .int
  | 1 => .int
  | 2 => .int
  | 3 => .int
  | 4 => .int
  | 5 => .object "StaveScore$Fraction"
  | 6 => .int
  | _ => .boolean
abbrev wsX120 : List Cond := u_ws RX12 TX12 8
theorem nmX12 : ∀ a, a < 8 → ∀ b, b < 8 → a ≠ b → (TX12 a).2.1 ≠ (TX12 b).2.1 := by decide +kernel
theorem tyX12_ok : ∀ k, k < 8 → parseFieldDescriptor (TX12 k).2.2.1 = some (tyX12 k) := by decide +kernel
abbrev cX12_init : ByteArray := prog_14_method_1_code
def yX12_init : MethodName := ⟨RX12, "<init>", "(I)V"⟩
def dkwX12_init_0 : List UInt8 := [42, 27, 183, 0, 1, 177]
abbrev dktX12_init_0 : List UInt8 := dkwX12_init_0 ++ []
theorem dksX12_init_0 : cX12_init.data.toList.drop 0 = dktX12_init_0 := by decide +kernel
theorem dX12_init_0 : decode cX12_init 0 = .ok (.aload_n 0, 1) := dk_42 (dk_at dksX12_init_0 0 rfl rfl)
theorem dX12_init_1 : decode cX12_init 1 = .ok (.iload_n 1, 1) := dk_27 (dk_at dksX12_init_0 1 rfl rfl)
theorem dX12_init_2 : decode cX12_init 2 = .ok (.invokespecial 1, 3) := dk_183 0 1 (dk_at dksX12_init_0 2 rfl rfl)
theorem dX12_init_5 : decode cX12_init 5 = .ok (.return_, 1) := dk_177 (dk_at dksX12_init_0 5 rfl rfl)
abbrev cX12_many : ByteArray := prog_14_method_3_code
def yX12_many : MethodName := ⟨RX12, "many", "()I"⟩
theorem dX12_many_0 : decode cX12_many 0 = .ok (.iconst 1, 1) := by decide +kernel
theorem dX12_many_1 : decode cX12_many 1 = .ok (.ireturn, 1) := by decide +kernel
abbrev cX12_pitchAt : ByteArray := prog_14_method_4_code
def yX12_pitchAt : MethodName := ⟨RX12, "pitchAt", "(I)I"⟩
theorem dX12_pitchAt_0 : decode cX12_pitchAt 0 = .ok (.aload_n 0, 1) := by decide +kernel
theorem dX12_pitchAt_1 : decode cX12_pitchAt 1 = .ok (.getfield 7, 3) := by decide +kernel
theorem dX12_pitchAt_4 : decode cX12_pitchAt 4 = .ok (.ireturn, 1) := by decide +kernel
abbrev cX12_shift : ByteArray := prog_14_method_6_code
def yX12_shift : MethodName := ⟨RX12, "shift", "(I[B)V"⟩
def dkwX12_shift_1 : List UInt8 := [51, 96, 62, 132, 4, 1, 167, 255, 231, 42, 27, 182, 0, 25, 177]
abbrev dktX12_shift_1 : List UInt8 := dkwX12_shift_1 ++ []
def dkwX12_shift_0 : List UInt8 := [3, 62, 3, 54, 4, 21, 4, 42, 182, 0, 17, 162, 0, 22, 29, 44, 42, 21, 4, 182, 0, 21, 27, 96]
abbrev dktX12_shift_0 : List UInt8 := dkwX12_shift_0 ++ dktX12_shift_1
theorem dksX12_shift_0 : cX12_shift.data.toList.drop 0 = dktX12_shift_0 := by decide +kernel
theorem dksX12_shift_1 : cX12_shift.data.toList.drop 24 = dktX12_shift_1 := dk_seg dksX12_shift_0 24 rfl rfl
theorem dX12_shift_0 : decode cX12_shift 0 = .ok (.iconst 0, 1) := dk_3 (dk_at dksX12_shift_0 0 rfl rfl)
theorem dX12_shift_1 : decode cX12_shift 1 = .ok (.istore_n 3, 1) := dk_62 (dk_at dksX12_shift_0 1 rfl rfl)
theorem dX12_shift_2 : decode cX12_shift 2 = .ok (.iconst 0, 1) := dk_3 (dk_at dksX12_shift_0 2 rfl rfl)
theorem dX12_shift_3 : decode cX12_shift 3 = .ok (.istore 4, 2) := dk_54 4 (dk_at dksX12_shift_0 3 rfl rfl)
theorem dX12_shift_5 : decode cX12_shift 5 = .ok (.iload 4, 2) := dk_21 4 (dk_at dksX12_shift_0 5 rfl rfl)
theorem dX12_shift_7 : decode cX12_shift 7 = .ok (.aload_n 0, 1) := dk_42 (dk_at dksX12_shift_0 7 rfl rfl)
theorem dX12_shift_8 : decode cX12_shift 8 = .ok (.invokevirtual 17, 3) := dk_182 0 17 (dk_at dksX12_shift_0 8 rfl rfl)
theorem dX12_shift_11 : decode cX12_shift 11 = .ok (.if_icmp .ge 22, 3) := dk_162 0 22 (dk_at dksX12_shift_0 11 rfl rfl)
theorem dX12_shift_14 : decode cX12_shift 14 = .ok (.iload_n 3, 1) := dk_29 (dk_at dksX12_shift_0 14 rfl rfl)
theorem dX12_shift_15 : decode cX12_shift 15 = .ok (.aload_n 2, 1) := dk_44 (dk_at dksX12_shift_0 15 rfl rfl)
theorem dX12_shift_16 : decode cX12_shift 16 = .ok (.aload_n 0, 1) := dk_42 (dk_at dksX12_shift_0 16 rfl rfl)
theorem dX12_shift_17 : decode cX12_shift 17 = .ok (.iload 4, 2) := dk_21 4 (dk_at dksX12_shift_0 17 rfl rfl)
theorem dX12_shift_19 : decode cX12_shift 19 = .ok (.invokevirtual 21, 3) := dk_182 0 21 (dk_at dksX12_shift_0 19 rfl rfl)
theorem dX12_shift_22 : decode cX12_shift 22 = .ok (.iload_n 1, 1) := dk_27 (dk_at dksX12_shift_0 22 rfl rfl)
theorem dX12_shift_23 : decode cX12_shift 23 = .ok (.iadd, 1) := dk_96 (dk_at dksX12_shift_0 23 rfl rfl)
theorem dX12_shift_24 : decode cX12_shift 24 = .ok (.baload, 1) := dk_51 (dk_at dksX12_shift_1 0 rfl rfl)
theorem dX12_shift_25 : decode cX12_shift 25 = .ok (.iadd, 1) := dk_96 (dk_at dksX12_shift_1 1 rfl rfl)
theorem dX12_shift_26 : decode cX12_shift 26 = .ok (.istore_n 3, 1) := dk_62 (dk_at dksX12_shift_1 2 rfl rfl)
theorem dX12_shift_27 : decode cX12_shift 27 = .ok (.iinc 4 1, 3) := dk_132 4 1 (dk_at dksX12_shift_1 3 rfl rfl)
theorem dX12_shift_30 : decode cX12_shift 30 = .ok (.goto (-25), 3) := dk_167 255 231 (dk_at dksX12_shift_1 6 rfl rfl)
theorem dX12_shift_33 : decode cX12_shift 33 = .ok (.aload_n 0, 1) := dk_42 (dk_at dksX12_shift_1 9 rfl rfl)
theorem dX12_shift_34 : decode cX12_shift 34 = .ok (.iload_n 1, 1) := dk_27 (dk_at dksX12_shift_1 10 rfl rfl)
theorem dX12_shift_35 : decode cX12_shift 35 = .ok (.invokevirtual 25, 3) := dk_182 0 25 (dk_at dksX12_shift_1 11 rfl rfl)
theorem dX12_shift_38 : decode cX12_shift 38 = .ok (.return_, 1) := dk_177 (dk_at dksX12_shift_1 14 rfl rfl)
abbrev cX12_go : ByteArray := prog_14_method_7_code
def yX12_go : MethodName := ⟨RX12, "go", "(I)V"⟩
def dkwX12_go_0 : List UInt8 := [42, 89, 180, 0, 7, 27, 96, 181, 0, 7, 177]
abbrev dktX12_go_0 : List UInt8 := dkwX12_go_0 ++ []
theorem dksX12_go_0 : cX12_go.data.toList.drop 0 = dktX12_go_0 := by decide +kernel
theorem dX12_go_0 : decode cX12_go 0 = .ok (.aload_n 0, 1) := dk_42 (dk_at dksX12_go_0 0 rfl rfl)
theorem dX12_go_1 : decode cX12_go 1 = .ok (.dup, 1) := dk_89 (dk_at dksX12_go_0 1 rfl rfl)
theorem dX12_go_2 : decode cX12_go 2 = .ok (.getfield 7, 3) := dk_180 0 7 (dk_at dksX12_go_0 2 rfl rfl)
theorem dX12_go_5 : decode cX12_go 5 = .ok (.iload_n 1, 1) := dk_27 (dk_at dksX12_go_0 5 rfl rfl)
theorem dX12_go_6 : decode cX12_go 6 = .ok (.iadd, 1) := dk_96 (dk_at dksX12_go_0 6 rfl rfl)
theorem dX12_go_7 : decode cX12_go 7 = .ok (.putfield 7, 3) := dk_181 0 7 (dk_at dksX12_go_0 7 rfl rfl)
theorem dX12_go_10 : decode cX12_go 10 = .ok (.return_, 1) := dk_177 (dk_at dksX12_go_0 10 rfl rfl)
abbrev cX12_kind : ByteArray := prog_14_method_2_code
def yX12_kind : MethodName := ⟨RX12, "kind", "()I"⟩
theorem dX12_kind_0 : decode cX12_kind 0 = .ok (.iconst 0, 1) := by decide +kernel
theorem dX12_kind_1 : decode cX12_kind 1 = .ok (.ireturn, 1) := by decide +kernel
abbrev cX12_isTied : ByteArray := prog_14_method_5_code
def yX12_isTied : MethodName := ⟨RX12, "isTied", "()Z"⟩
theorem dX12_isTied_0 : decode cX12_isTied 0 = .ok (.aload_n 0, 1) := by decide +kernel
theorem dX12_isTied_1 : decode cX12_isTied 1 = .ok (.getfield 13, 3) := by decide +kernel
theorem dX12_isTied_4 : decode cX12_isTied 4 = .ok (.ireturn, 1) := by decide +kernel
abbrev cX12_hasAll : ByteArray := prog_14_method_8_code
def yX12_hasAll : MethodName := ⟨RX12, "hasAll", "(LStaveScore$Note;)Z"⟩
def dkwX12_hasAll_1 : List UInt8 := [182, 0, 28, 61, 132, 3, 1, 167, 255, 231, 28, 172]
abbrev dktX12_hasAll_1 : List UInt8 := dkwX12_hasAll_1 ++ []
def dkwX12_hasAll_0 : List UInt8 := [4, 61, 3, 62, 29, 43, 182, 0, 17, 162, 0, 23, 28, 153, 0, 19, 42, 43, 29, 182, 0, 21]
abbrev dktX12_hasAll_0 : List UInt8 := dkwX12_hasAll_0 ++ dktX12_hasAll_1
theorem dksX12_hasAll_0 : cX12_hasAll.data.toList.drop 0 = dktX12_hasAll_0 := by decide +kernel
theorem dksX12_hasAll_1 : cX12_hasAll.data.toList.drop 22 = dktX12_hasAll_1 := dk_seg dksX12_hasAll_0 22 rfl rfl
theorem dX12_hasAll_0 : decode cX12_hasAll 0 = .ok (.iconst 1, 1) := dk_4 (dk_at dksX12_hasAll_0 0 rfl rfl)
theorem dX12_hasAll_1 : decode cX12_hasAll 1 = .ok (.istore_n 2, 1) := dk_61 (dk_at dksX12_hasAll_0 1 rfl rfl)
theorem dX12_hasAll_2 : decode cX12_hasAll 2 = .ok (.iconst 0, 1) := dk_3 (dk_at dksX12_hasAll_0 2 rfl rfl)
theorem dX12_hasAll_3 : decode cX12_hasAll 3 = .ok (.istore_n 3, 1) := dk_62 (dk_at dksX12_hasAll_0 3 rfl rfl)
theorem dX12_hasAll_4 : decode cX12_hasAll 4 = .ok (.iload_n 3, 1) := dk_29 (dk_at dksX12_hasAll_0 4 rfl rfl)
theorem dX12_hasAll_5 : decode cX12_hasAll 5 = .ok (.aload_n 1, 1) := dk_43 (dk_at dksX12_hasAll_0 5 rfl rfl)
theorem dX12_hasAll_6 : decode cX12_hasAll 6 = .ok (.invokevirtual 17, 3) := dk_182 0 17 (dk_at dksX12_hasAll_0 6 rfl rfl)
theorem dX12_hasAll_9 : decode cX12_hasAll 9 = .ok (.if_icmp .ge 23, 3) := dk_162 0 23 (dk_at dksX12_hasAll_0 9 rfl rfl)
theorem dX12_hasAll_12 : decode cX12_hasAll 12 = .ok (.iload_n 2, 1) := dk_28 (dk_at dksX12_hasAll_0 12 rfl rfl)
theorem dX12_hasAll_13 : decode cX12_hasAll 13 = .ok (.ifCond .eq 19, 3) := dk_153 0 19 (dk_at dksX12_hasAll_0 13 rfl rfl)
theorem dX12_hasAll_16 : decode cX12_hasAll 16 = .ok (.aload_n 0, 1) := dk_42 (dk_at dksX12_hasAll_0 16 rfl rfl)
theorem dX12_hasAll_17 : decode cX12_hasAll 17 = .ok (.aload_n 1, 1) := dk_43 (dk_at dksX12_hasAll_0 17 rfl rfl)
theorem dX12_hasAll_18 : decode cX12_hasAll 18 = .ok (.iload_n 3, 1) := dk_29 (dk_at dksX12_hasAll_0 18 rfl rfl)
theorem dX12_hasAll_19 : decode cX12_hasAll 19 = .ok (.invokevirtual 21, 3) := dk_182 0 21 (dk_at dksX12_hasAll_0 19 rfl rfl)
theorem dX12_hasAll_22 : decode cX12_hasAll 22 = .ok (.invokevirtual 28, 3) := dk_182 0 28 (dk_at dksX12_hasAll_1 0 rfl rfl)
theorem dX12_hasAll_25 : decode cX12_hasAll 25 = .ok (.istore_n 2, 1) := dk_61 (dk_at dksX12_hasAll_1 3 rfl rfl)
theorem dX12_hasAll_26 : decode cX12_hasAll 26 = .ok (.iinc 3 1, 3) := dk_132 3 1 (dk_at dksX12_hasAll_1 4 rfl rfl)
theorem dX12_hasAll_29 : decode cX12_hasAll 29 = .ok (.goto (-25), 3) := dk_167 255 231 (dk_at dksX12_hasAll_1 7 rfl rfl)
theorem dX12_hasAll_32 : decode cX12_hasAll 32 = .ok (.iload_n 2, 1) := dk_28 (dk_at dksX12_hasAll_1 10 rfl rfl)
theorem dX12_hasAll_33 : decode cX12_hasAll 33 = .ok (.ireturn, 1) := dk_172 (dk_at dksX12_hasAll_1 11 rfl rfl)
abbrev cX12_has : ByteArray := prog_14_method_9_code
def yX12_has : MethodName := ⟨RX12, "has", "(I)Z"⟩
def dkwX12_has_0 : List UInt8 := [42, 180, 0, 7, 27, 160, 0, 7, 4, 167, 0, 4, 3, 172]
abbrev dktX12_has_0 : List UInt8 := dkwX12_has_0 ++ []
theorem dksX12_has_0 : cX12_has.data.toList.drop 0 = dktX12_has_0 := by decide +kernel
theorem dX12_has_0 : decode cX12_has 0 = .ok (.aload_n 0, 1) := dk_42 (dk_at dksX12_has_0 0 rfl rfl)
theorem dX12_has_1 : decode cX12_has 1 = .ok (.getfield 7, 3) := dk_180 0 7 (dk_at dksX12_has_0 1 rfl rfl)
theorem dX12_has_4 : decode cX12_has 4 = .ok (.iload_n 1, 1) := dk_27 (dk_at dksX12_has_0 4 rfl rfl)
theorem dX12_has_5 : decode cX12_has 5 = .ok (.if_icmp .ne 7, 3) := dk_160 0 7 (dk_at dksX12_has_0 5 rfl rfl)
theorem dX12_has_8 : decode cX12_has 8 = .ok (.iconst 1, 1) := dk_4 (dk_at dksX12_has_0 8 rfl rfl)
theorem dX12_has_9 : decode cX12_has 9 = .ok (.goto 4, 3) := dk_167 0 4 (dk_at dksX12_has_0 9 rfl rfl)
theorem dX12_has_12 : decode cX12_has 12 = .ok (.iconst 0, 1) := dk_3 (dk_at dksX12_has_0 12 rfl rfl)
theorem dX12_has_13 : decode cX12_has 13 = .ok (.ireturn, 1) := dk_172 (dk_at dksX12_has_0 13 rfl rfl)
abbrev cX12_isAlike : ByteArray := prog_14_method_10_code
def yX12_isAlike : MethodName := ⟨RX12, "isAlike", "(LStaveScore$Event;)Z"⟩
def dkwX12_isAlike_1 : List UInt8 := [182, 0, 40, 160, 0, 18, 42, 43, 192, 0, 8, 182, 0, 41, 153, 0, 7, 4, 167, 0, 4, 3, 172]
abbrev dktX12_isAlike_1 : List UInt8 := dkwX12_isAlike_1 ++ []
def dkwX12_isAlike_0 : List UInt8 := [42, 43, 183, 0, 32, 153, 0, 40, 42, 180, 0, 13, 43, 182, 0, 36, 160, 0, 29, 42, 182, 0, 17, 43]
abbrev dktX12_isAlike_0 : List UInt8 := dkwX12_isAlike_0 ++ dktX12_isAlike_1
theorem dksX12_isAlike_0 : cX12_isAlike.data.toList.drop 0 = dktX12_isAlike_0 := by decide +kernel
theorem dksX12_isAlike_1 : cX12_isAlike.data.toList.drop 24 = dktX12_isAlike_1 := dk_seg dksX12_isAlike_0 24 rfl rfl
theorem dX12_isAlike_0 : decode cX12_isAlike 0 = .ok (.aload_n 0, 1) := dk_42 (dk_at dksX12_isAlike_0 0 rfl rfl)
theorem dX12_isAlike_1 : decode cX12_isAlike 1 = .ok (.aload_n 1, 1) := dk_43 (dk_at dksX12_isAlike_0 1 rfl rfl)
theorem dX12_isAlike_2 : decode cX12_isAlike 2 = .ok (.invokespecial 32, 3) := dk_183 0 32 (dk_at dksX12_isAlike_0 2 rfl rfl)
theorem dX12_isAlike_5 : decode cX12_isAlike 5 = .ok (.ifCond .eq 40, 3) := dk_153 0 40 (dk_at dksX12_isAlike_0 5 rfl rfl)
theorem dX12_isAlike_8 : decode cX12_isAlike 8 = .ok (.aload_n 0, 1) := dk_42 (dk_at dksX12_isAlike_0 8 rfl rfl)
theorem dX12_isAlike_9 : decode cX12_isAlike 9 = .ok (.getfield 13, 3) := dk_180 0 13 (dk_at dksX12_isAlike_0 9 rfl rfl)
theorem dX12_isAlike_12 : decode cX12_isAlike 12 = .ok (.aload_n 1, 1) := dk_43 (dk_at dksX12_isAlike_0 12 rfl rfl)
theorem dX12_isAlike_13 : decode cX12_isAlike 13 = .ok (.invokevirtual 36, 3) := dk_182 0 36 (dk_at dksX12_isAlike_0 13 rfl rfl)
theorem dX12_isAlike_16 : decode cX12_isAlike 16 = .ok (.if_icmp .ne 29, 3) := dk_160 0 29 (dk_at dksX12_isAlike_0 16 rfl rfl)
theorem dX12_isAlike_19 : decode cX12_isAlike 19 = .ok (.aload_n 0, 1) := dk_42 (dk_at dksX12_isAlike_0 19 rfl rfl)
theorem dX12_isAlike_20 : decode cX12_isAlike 20 = .ok (.invokevirtual 17, 3) := dk_182 0 17 (dk_at dksX12_isAlike_0 20 rfl rfl)
theorem dX12_isAlike_23 : decode cX12_isAlike 23 = .ok (.aload_n 1, 1) := dk_43 (dk_at dksX12_isAlike_0 23 rfl rfl)
theorem dX12_isAlike_24 : decode cX12_isAlike 24 = .ok (.invokevirtual 40, 3) := dk_182 0 40 (dk_at dksX12_isAlike_1 0 rfl rfl)
theorem dX12_isAlike_27 : decode cX12_isAlike 27 = .ok (.if_icmp .ne 18, 3) := dk_160 0 18 (dk_at dksX12_isAlike_1 3 rfl rfl)
theorem dX12_isAlike_30 : decode cX12_isAlike 30 = .ok (.aload_n 0, 1) := dk_42 (dk_at dksX12_isAlike_1 6 rfl rfl)
theorem dX12_isAlike_31 : decode cX12_isAlike 31 = .ok (.aload_n 1, 1) := dk_43 (dk_at dksX12_isAlike_1 7 rfl rfl)
theorem dX12_isAlike_32 : decode cX12_isAlike 32 = .ok (.checkcast 8, 3) := dk_192 0 8 (dk_at dksX12_isAlike_1 8 rfl rfl)
theorem dX12_isAlike_35 : decode cX12_isAlike 35 = .ok (.invokevirtual 41, 3) := dk_182 0 41 (dk_at dksX12_isAlike_1 11 rfl rfl)
theorem dX12_isAlike_38 : decode cX12_isAlike 38 = .ok (.ifCond .eq 7, 3) := dk_153 0 7 (dk_at dksX12_isAlike_1 14 rfl rfl)
theorem dX12_isAlike_41 : decode cX12_isAlike 41 = .ok (.iconst 1, 1) := dk_4 (dk_at dksX12_isAlike_1 17 rfl rfl)
theorem dX12_isAlike_42 : decode cX12_isAlike 42 = .ok (.goto 4, 3) := dk_167 0 4 (dk_at dksX12_isAlike_1 18 rfl rfl)
theorem dX12_isAlike_45 : decode cX12_isAlike 45 = .ok (.iconst 0, 1) := dk_3 (dk_at dksX12_isAlike_1 21 rfl rfl)
theorem dX12_isAlike_46 : decode cX12_isAlike 46 = .ok (.ireturn, 1) := dk_172 (dk_at dksX12_isAlike_1 22 rfl rfl)
theorem q75 : (Jvm.Cond.initialized "StaveScore$Note") ∈ lw_all := lw_g (lw_at lw_m1 13 rfl) rfl
theorem q357 : (Jvm.Cond.instantiable "StaveScore$Note" (8 : Nat)) ∈ lw_all := lw_g (lw_at lw_m2 55 rfl) rfl
theorem q359 : (Jvm.Cond.instanceMethod ({ cls := "StaveScore$Note", name := "<init>", desc := "(I)V" } : Jvm.MethodName)) ∈ lw_all := lw_g (lw_at lw_m2 57 rfl) rfl
theorem q360 : (Jvm.Cond.code ({ cls := "StaveScore$Note", name := "<init>", desc := "(I)V" } : Jvm.MethodName) prog_14_method_1_code (2 : Nat) (Option.none : Option Jvm.ClassFile.FieldType)) ∈ lw_all := lw_g (lw_at lw_m2 58 rfl) rfl
theorem q361 : (Jvm.Cond.methodLink "StaveScore$Note" (1 : Nat) ({ cls := "StaveScore$Event", name := "<init>", desc := "(I)V" } : Jvm.MethodName)) ∈ lw_all := lw_g (lw_at lw_m2 59 rfl) rfl
theorem q367 : (Jvm.Cond.fieldLink "StaveScore$Note" (7 : Nat) "StaveScore$Note" "lowest" "I") ∈ lw_all := lw_g (lw_at lw_m2 65 rfl) rfl
theorem q369 : (Jvm.Cond.fieldLink "StaveScore$Note" (13 : Nat) "StaveScore$Note" "tied" "Z") ∈ lw_all := lw_g (lw_at lw_m2 67 rfl) rfl
theorem q381 : (Jvm.Cond.lays "StaveScore$Note" "StaveScore$Note" "lowest" "I") ∈ lw_all := lw_g (lw_at lw_m2 79 rfl) rfl
theorem q382 : (Jvm.Cond.soleField "StaveScore$Note" "lowest") ∈ lw_all := lw_g (lw_at lw_m2 80 rfl) rfl
theorem q383 : (Jvm.Cond.lays "StaveScore$Note" "StaveScore$Note" "tied" "Z") ∈ lw_all := lw_g (lw_at lw_m2 81 rfl) rfl
theorem q384 : (Jvm.Cond.soleField "StaveScore$Note" "tied") ∈ lw_all := lw_g (lw_at lw_m2 82 rfl) rfl
theorem q385 : (Jvm.Cond.laysFinal "StaveScore$Note" "StaveScore$Event" "number" "I") ∈ lw_all := lw_g (lw_at lw_m2 83 rfl) rfl
theorem q387 : (Jvm.Cond.lays "StaveScore$Note" "StaveScore$Event" "voice" "I") ∈ lw_all := lw_g (lw_at lw_m2 85 rfl) rfl
theorem q389 : (Jvm.Cond.lays "StaveScore$Note" "StaveScore$Event" "place" "I") ∈ lw_all := lw_g (lw_at lw_m2 87 rfl) rfl
theorem q391 : (Jvm.Cond.lays "StaveScore$Note" "StaveScore$Event" "value" "I") ∈ lw_all := lw_g (lw_at lw_m2 89 rfl) rfl
theorem q393 : (Jvm.Cond.lays "StaveScore$Note" "StaveScore$Event" "dots" "I") ∈ lw_all := lw_g (lw_at lw_m2 91 rfl) rfl
theorem q395 : (Jvm.Cond.laysFinal "StaveScore$Note" "StaveScore$Event" "begin" "LStaveScore$Fraction;") ∈ lw_all := lw_g (lw_at lw_m2 93 rfl) rfl
theorem q397 : (Jvm.Cond.superclass "StaveScore$Note" "StaveScore$Event") ∈ lw_all := lw_g (lw_at lw_m2 95 rfl) rfl
theorem q573 : (Jvm.Cond.instanceMethod ({ cls := "StaveScore$Note", name := "many", desc := "()I" } : Jvm.MethodName)) ∈ lw_all := lw_g (lw_at lw_m3 31 rfl) rfl
theorem q574 : (Jvm.Cond.code ({ cls := "StaveScore$Note", name := "many", desc := "()I" } : Jvm.MethodName) prog_14_method_3_code (1 : Nat) (Option.some Jvm.ClassFile.FieldType.int)) ∈ lw_all := lw_g (lw_at lw_m3 32 rfl) rfl
theorem q580 : (Jvm.Cond.instanceMethod ({ cls := "StaveScore$Note", name := "pitchAt", desc := "(I)I" } : Jvm.MethodName)) ∈ lw_all := lw_g (lw_at lw_m3 38 rfl) rfl
theorem q581 : (Jvm.Cond.code ({ cls := "StaveScore$Note", name := "pitchAt", desc := "(I)I" } : Jvm.MethodName) prog_14_method_4_code (2 : Nat) (Option.some Jvm.ClassFile.FieldType.int)) ∈ lw_all := lw_g (lw_at lw_m3 39 rfl) rfl
theorem q679 : (Jvm.Cond.instanceMethod ({ cls := "StaveScore$Note", name := "shift", desc := "(I[B)V" } : Jvm.MethodName)) ∈ lw_all := lw_g (lw_at lw_m3 137 rfl) rfl
theorem q680 : (Jvm.Cond.selects "StaveScore$Note" ({ cls := "StaveScore$Note", name := "shift", desc := "(I[B)V" } : Jvm.MethodName) ({ cls := "StaveScore$Note", name := "shift", desc := "(I[B)V" } : Jvm.MethodName)) ∈ lw_all := lw_g (lw_at lw_m3 138 rfl) rfl
theorem q681 : (Jvm.Cond.sameMethod "StaveScore$Note" "StaveScore$Note" "shift" "(I[B)V") ∈ lw_all := lw_g (lw_at lw_m3 139 rfl) rfl
theorem q684 : (Jvm.Cond.code ({ cls := "StaveScore$Note", name := "shift", desc := "(I[B)V" } : Jvm.MethodName) prog_14_method_6_code (5 : Nat) (Option.none : Option Jvm.ClassFile.FieldType)) ∈ lw_all := lw_g (lw_at lw_m3 142 rfl) rfl
theorem q685 : (Jvm.Cond.methodLink "StaveScore$Note" (17 : Nat) ({ cls := "StaveScore$Note", name := "many", desc := "()I" } : Jvm.MethodName)) ∈ lw_all := lw_g (lw_at lw_m3 143 rfl) rfl
theorem q686 : (Jvm.Cond.methodLink "StaveScore$Note" (21 : Nat) ({ cls := "StaveScore$Note", name := "pitchAt", desc := "(I)I" } : Jvm.MethodName)) ∈ lw_all := lw_g (lw_at lw_m3 144 rfl) rfl
theorem q687 : (Jvm.Cond.methodLink "StaveScore$Note" (25 : Nat) ({ cls := "StaveScore$Note", name := "go", desc := "(I)V" } : Jvm.MethodName)) ∈ lw_all := lw_g (lw_at lw_m3 145 rfl) rfl
theorem q688 : (Jvm.Cond.instanceMethod ({ cls := "StaveScore$Note", name := "go", desc := "(I)V" } : Jvm.MethodName)) ∈ lw_all := lw_g (lw_at lw_m3 146 rfl) rfl
theorem q689 : (Jvm.Cond.selects "StaveScore$Note" ({ cls := "StaveScore$Note", name := "go", desc := "(I)V" } : Jvm.MethodName) ({ cls := "StaveScore$Note", name := "go", desc := "(I)V" } : Jvm.MethodName)) ∈ lw_all := lw_g (lw_at lw_m3 147 rfl) rfl
theorem q690 : (Jvm.Cond.sameMethod "StaveScore$Note" "StaveScore$Note" "go" "(I)V") ∈ lw_all := lw_g (lw_at lw_m3 148 rfl) rfl
theorem q695 : (Jvm.Cond.code ({ cls := "StaveScore$Note", name := "go", desc := "(I)V" } : Jvm.MethodName) prog_14_method_7_code (2 : Nat) (Option.none : Option Jvm.ClassFile.FieldType)) ∈ lw_all := lw_g (lw_at lw_m3 153 rfl) rfl
theorem q725 : (Jvm.Cond.selects "StaveScore$Note" ({ cls := "StaveScore$Event", name := "kind", desc := "()I" } : Jvm.MethodName) ({ cls := "StaveScore$Note", name := "kind", desc := "()I" } : Jvm.MethodName)) ∈ lw_all := lw_g (lw_at lw_m3 183 rfl) rfl
theorem q726 : (Jvm.Cond.instanceMethod ({ cls := "StaveScore$Note", name := "kind", desc := "()I" } : Jvm.MethodName)) ∈ lw_all := lw_g (lw_at lw_m3 184 rfl) rfl
theorem q727 : (Jvm.Cond.code ({ cls := "StaveScore$Note", name := "kind", desc := "()I" } : Jvm.MethodName) prog_14_method_2_code (1 : Nat) (Option.some Jvm.ClassFile.FieldType.int)) ∈ lw_all := lw_g (lw_at lw_m3 185 rfl) rfl
theorem q737 : (Jvm.Cond.selects "StaveScore$Note" ({ cls := "StaveScore$Event", name := "many", desc := "()I" } : Jvm.MethodName) ({ cls := "StaveScore$Note", name := "many", desc := "()I" } : Jvm.MethodName)) ∈ lw_all := lw_g (lw_at lw_m3 195 rfl) rfl
theorem q745 : (Jvm.Cond.instanceMethod ({ cls := "StaveScore$Note", name := "isTied", desc := "()Z" } : Jvm.MethodName)) ∈ lw_all := lw_g (lw_at lw_m3 203 rfl) rfl
theorem q746 : (Jvm.Cond.code ({ cls := "StaveScore$Note", name := "isTied", desc := "()Z" } : Jvm.MethodName) prog_14_method_5_code (1 : Nat) (Option.some Jvm.ClassFile.FieldType.boolean)) ∈ lw_all := lw_g (lw_at lw_m3 204 rfl) rfl
theorem q748 : (Jvm.Cond.selects "StaveScore$Note" ({ cls := "StaveScore$Event", name := "isTied", desc := "()Z" } : Jvm.MethodName) ({ cls := "StaveScore$Note", name := "isTied", desc := "()Z" } : Jvm.MethodName)) ∈ lw_all := lw_g (lw_at lw_m3 206 rfl) rfl
theorem q792 : (Jvm.Cond.selects "StaveScore$Note" ({ cls := "StaveScore$Event", name := "written", desc := "(LStaveScore$Fraction;)V" } : Jvm.MethodName) ({ cls := "StaveScore$Event", name := "written", desc := "(LStaveScore$Fraction;)V" } : Jvm.MethodName)) ∈ lw_all := lw_g (lw_at lw_m4 10 rfl) rfl
theorem q1031 : (Jvm.Cond.selects "StaveScore$Note" ({ cls := "StaveScore$Event", name := "takes", desc := "()Z" } : Jvm.MethodName) ({ cls := "StaveScore$Event", name := "takes", desc := "()Z" } : Jvm.MethodName)) ∈ lw_all := lw_g (lw_at lw_m5 9 rfl) rfl
theorem q1034 : (Jvm.Cond.instanceMethod ({ cls := "StaveScore$Note", name := "hasAll", desc := "(LStaveScore$Note;)Z" } : Jvm.MethodName)) ∈ lw_all := lw_g (lw_at lw_m5 12 rfl) rfl
theorem q1035 : (Jvm.Cond.selects "StaveScore$Note" ({ cls := "StaveScore$Note", name := "hasAll", desc := "(LStaveScore$Note;)Z" } : Jvm.MethodName) ({ cls := "StaveScore$Note", name := "hasAll", desc := "(LStaveScore$Note;)Z" } : Jvm.MethodName)) ∈ lw_all := lw_g (lw_at lw_m5 13 rfl) rfl
theorem q1036 : (Jvm.Cond.sameMethod "StaveScore$Note" "StaveScore$Note" "hasAll" "(LStaveScore$Note;)Z") ∈ lw_all := lw_g (lw_at lw_m5 14 rfl) rfl
theorem q1039 : (Jvm.Cond.code ({ cls := "StaveScore$Note", name := "hasAll", desc := "(LStaveScore$Note;)Z" } : Jvm.MethodName) prog_14_method_8_code (4 : Nat) (Option.some Jvm.ClassFile.FieldType.boolean)) ∈ lw_all := lw_g (lw_at lw_m5 17 rfl) rfl
theorem q1040 : (Jvm.Cond.methodLink "StaveScore$Note" (28 : Nat) ({ cls := "StaveScore$Note", name := "has", desc := "(I)Z" } : Jvm.MethodName)) ∈ lw_all := lw_g (lw_at lw_m5 18 rfl) rfl
theorem q1041 : (Jvm.Cond.instanceMethod ({ cls := "StaveScore$Note", name := "has", desc := "(I)Z" } : Jvm.MethodName)) ∈ lw_all := lw_g (lw_at lw_m5 19 rfl) rfl
theorem q1042 : (Jvm.Cond.selects "StaveScore$Note" ({ cls := "StaveScore$Note", name := "has", desc := "(I)Z" } : Jvm.MethodName) ({ cls := "StaveScore$Note", name := "has", desc := "(I)Z" } : Jvm.MethodName)) ∈ lw_all := lw_g (lw_at lw_m5 20 rfl) rfl
theorem q1043 : (Jvm.Cond.sameMethod "StaveScore$Note" "StaveScore$Note" "has" "(I)Z") ∈ lw_all := lw_g (lw_at lw_m5 21 rfl) rfl
theorem q1048 : (Jvm.Cond.code ({ cls := "StaveScore$Note", name := "has", desc := "(I)Z" } : Jvm.MethodName) prog_14_method_9_code (2 : Nat) (Option.some Jvm.ClassFile.FieldType.boolean)) ∈ lw_all := lw_g (lw_at lw_m5 26 rfl) rfl
theorem q1090 : (Jvm.Cond.instanceMethod ({ cls := "StaveScore$Note", name := "isAlike", desc := "(LStaveScore$Event;)Z" } : Jvm.MethodName)) ∈ lw_all := lw_g (lw_at lw_m5 68 rfl) rfl
theorem q1091 : (Jvm.Cond.code ({ cls := "StaveScore$Note", name := "isAlike", desc := "(LStaveScore$Event;)Z" } : Jvm.MethodName) prog_14_method_10_code (2 : Nat) (Option.some Jvm.ClassFile.FieldType.boolean)) ∈ lw_all := lw_g (lw_at lw_m5 69 rfl) rfl
theorem q1092 : (Jvm.Cond.methodLink "StaveScore$Note" (32 : Nat) ({ cls := "StaveScore$Event", name := "isAlike", desc := "(LStaveScore$Event;)Z" } : Jvm.MethodName)) ∈ lw_all := lw_g (lw_at lw_m5 70 rfl) rfl
theorem q1095 : (Jvm.Cond.methodLink "StaveScore$Note" (36 : Nat) ({ cls := "StaveScore$Event", name := "isTied", desc := "()Z" } : Jvm.MethodName)) ∈ lw_all := lw_g (lw_at lw_m5 73 rfl) rfl
theorem q1096 : (Jvm.Cond.methodLink "StaveScore$Note" (40 : Nat) ({ cls := "StaveScore$Event", name := "many", desc := "()I" } : Jvm.MethodName)) ∈ lw_all := lw_g (lw_at lw_m5 74 rfl) rfl
theorem q1097 : (Jvm.Cond.classLink "StaveScore$Note" (8 : Nat) "StaveScore$Note") ∈ lw_all := lw_g (lw_at lw_m5 75 rfl) rfl
theorem q1098 : (Jvm.Cond.methodLink "StaveScore$Note" (41 : Nat) ({ cls := "StaveScore$Note", name := "hasAll", desc := "(LStaveScore$Note;)Z" } : Jvm.MethodName)) ∈ lw_all := lw_g (lw_at lw_m5 76 rfl) rfl
theorem q1100 : (Jvm.Cond.selects "StaveScore$Note" ({ cls := "StaveScore$Event", name := "isAlike", desc := "(LStaveScore$Event;)Z" } : Jvm.MethodName) ({ cls := "StaveScore$Note", name := "isAlike", desc := "(LStaveScore$Event;)Z" } : Jvm.MethodName)) ∈ lw_all := lw_g (lw_at lw_m5 78 rfl) rfl
theorem q1752 : (Jvm.Cond.sameMethod "StaveScore$Note" "StaveScore$Note" "many" "()I") ∈ lw_all := lw_g (lw_at lw_m8 10 rfl) rfl
theorem q1753 : (Jvm.Cond.sameMethod "StaveScore$Note" "StaveScore$Note" "pitchAt" "(I)I") ∈ lw_all := lw_g (lw_at lw_m8 11 rfl) rfl
theorem q1756 : (Jvm.Cond.selects "StaveScore$Note" ({ cls := "StaveScore$Note", name := "many", desc := "()I" } : Jvm.MethodName) ({ cls := "StaveScore$Note", name := "many", desc := "()I" } : Jvm.MethodName)) ∈ lw_all := lw_g (lw_at lw_m8 14 rfl) rfl
theorem q1759 : (Jvm.Cond.selects "StaveScore$Note" ({ cls := "StaveScore$Note", name := "pitchAt", desc := "(I)I" } : Jvm.MethodName) ({ cls := "StaveScore$Note", name := "pitchAt", desc := "(I)I" } : Jvm.MethodName)) ∈ lw_all := lw_g (lw_at lw_m8 17 rfl) rfl
theorem q1766 : (Jvm.Cond.castable "StaveScore$Note" "StaveScore$Event") ∈ lw_tbl := lw_at lw_m8 24 rfl
theorem in_X12 : ∀ w ∈ wsX120, w ∈ lw_all := lw_in wsX120 [385, 387, 389, 391, 393, 395, 381, 383] (by decide +kernel) (by decide +kernel)

/-! StaveScore$Chord -/
set_option maxRecDepth 100000
def RX13 : String := "StaveScore$Chord"
def TX13 : u_T := fun k => match k with
  | 0 => ("StaveScore$Event", "number", "I", true)
  | 1 => ("StaveScore$Event", "voice", "I", false)
  | 2 => ("StaveScore$Event", "place", "I", false)
  | 3 => ("StaveScore$Event", "value", "I", false)
  | 4 => ("StaveScore$Event", "dots", "I", false)
  | 5 => ("StaveScore$Event", "begin", "LStaveScore$Fraction;", true)
  | 6 => ("StaveScore$Note", "lowest", "I", false)
  | 7 => ("StaveScore$Note", "tied", "Z", false)
  | 8 => ("StaveScore$Chord", "further", "[I", true)
  | _ => ("StaveScore$Chord", "more", "I", false)
def tyX13 : Nat → FieldType := fun k => match k with
  | 0 => .int
  | 1 => .int
  | 2 => .int
  | 3 => .int
  | 4 => .int
  | 5 => .object "StaveScore$Fraction"
  | 6 => .int
  | 7 => .boolean
  | 8 => .array .int
  | _ => .int
abbrev wsX130 : List Cond := u_ws RX13 TX13 10
theorem nmX13 : ∀ a, a < 10 → ∀ b, b < 10 → a ≠ b → (TX13 a).2.1 ≠ (TX13 b).2.1 := by decide +kernel
theorem tyX13_ok : ∀ k, k < 10 → parseFieldDescriptor (TX13 k).2.2.1 = some (tyX13 k) := by decide +kernel
abbrev cX13_init : ByteArray := prog_4_method_1_code
def yX13_init : MethodName := ⟨RX13, "<init>", "(I)V"⟩
def dkwX13_init_0 : List UInt8 := [42, 27, 183, 0, 3, 42, 8, 188, 10, 181, 0, 9, 177]
abbrev dktX13_init_0 : List UInt8 := dkwX13_init_0 ++ []
theorem dksX13_init_0 : cX13_init.data.toList.drop 0 = dktX13_init_0 := by decide +kernel
theorem dX13_init_0 : decode cX13_init 0 = .ok (.aload_n 0, 1) := dk_42 (dk_at dksX13_init_0 0 rfl rfl)
theorem dX13_init_1 : decode cX13_init 1 = .ok (.iload_n 1, 1) := dk_27 (dk_at dksX13_init_0 1 rfl rfl)
theorem dX13_init_2 : decode cX13_init 2 = .ok (.invokespecial 3, 3) := dk_183 0 3 (dk_at dksX13_init_0 2 rfl rfl)
theorem dX13_init_5 : decode cX13_init 5 = .ok (.aload_n 0, 1) := dk_42 (dk_at dksX13_init_0 5 rfl rfl)
theorem dX13_init_6 : decode cX13_init 6 = .ok (.iconst 5, 1) := dk_8 (dk_at dksX13_init_0 6 rfl rfl)
theorem dX13_init_7 : decode cX13_init 7 = .ok (.newarray .int, 2) := dk_188_10 (dk_at dksX13_init_0 7 rfl rfl)
theorem dX13_init_9 : decode cX13_init 9 = .ok (.putfield 9, 3) := dk_181 0 9 (dk_at dksX13_init_0 9 rfl rfl)
theorem dX13_init_12 : decode cX13_init 12 = .ok (.return_, 1) := dk_177 (dk_at dksX13_init_0 12 rfl rfl)
abbrev cX13_many : ByteArray := prog_4_method_3_code
def yX13_many : MethodName := ⟨RX13, "many", "()I"⟩
def dkwX13_many_0 : List UInt8 := [42, 183, 0, 15, 42, 180, 0, 19, 96, 172]
abbrev dktX13_many_0 : List UInt8 := dkwX13_many_0 ++ []
theorem dksX13_many_0 : cX13_many.data.toList.drop 0 = dktX13_many_0 := by decide +kernel
theorem dX13_many_0 : decode cX13_many 0 = .ok (.aload_n 0, 1) := dk_42 (dk_at dksX13_many_0 0 rfl rfl)
theorem dX13_many_1 : decode cX13_many 1 = .ok (.invokespecial 15, 3) := dk_183 0 15 (dk_at dksX13_many_0 1 rfl rfl)
theorem dX13_many_4 : decode cX13_many 4 = .ok (.aload_n 0, 1) := dk_42 (dk_at dksX13_many_0 4 rfl rfl)
theorem dX13_many_5 : decode cX13_many 5 = .ok (.getfield 19, 3) := dk_180 0 19 (dk_at dksX13_many_0 5 rfl rfl)
theorem dX13_many_8 : decode cX13_many 8 = .ok (.iadd, 1) := dk_96 (dk_at dksX13_many_0 8 rfl rfl)
theorem dX13_many_9 : decode cX13_many 9 = .ok (.ireturn, 1) := dk_172 (dk_at dksX13_many_0 9 rfl rfl)
abbrev cX13_pitchAt : ByteArray := prog_4_method_4_code
def yX13_pitchAt : MethodName := ⟨RX13, "pitchAt", "(I)I"⟩
def dkwX13_pitchAt_0 : List UInt8 := [27, 154, 0, 11, 42, 27, 183, 0, 23, 167, 0, 11, 42, 180, 0, 9, 27, 4, 100, 46, 172]
abbrev dktX13_pitchAt_0 : List UInt8 := dkwX13_pitchAt_0 ++ []
theorem dksX13_pitchAt_0 : cX13_pitchAt.data.toList.drop 0 = dktX13_pitchAt_0 := by decide +kernel
theorem dX13_pitchAt_0 : decode cX13_pitchAt 0 = .ok (.iload_n 1, 1) := dk_27 (dk_at dksX13_pitchAt_0 0 rfl rfl)
theorem dX13_pitchAt_1 : decode cX13_pitchAt 1 = .ok (.ifCond .ne 11, 3) := dk_154 0 11 (dk_at dksX13_pitchAt_0 1 rfl rfl)
theorem dX13_pitchAt_4 : decode cX13_pitchAt 4 = .ok (.aload_n 0, 1) := dk_42 (dk_at dksX13_pitchAt_0 4 rfl rfl)
theorem dX13_pitchAt_5 : decode cX13_pitchAt 5 = .ok (.iload_n 1, 1) := dk_27 (dk_at dksX13_pitchAt_0 5 rfl rfl)
theorem dX13_pitchAt_6 : decode cX13_pitchAt 6 = .ok (.invokespecial 23, 3) := dk_183 0 23 (dk_at dksX13_pitchAt_0 6 rfl rfl)
theorem dX13_pitchAt_9 : decode cX13_pitchAt 9 = .ok (.goto 11, 3) := dk_167 0 11 (dk_at dksX13_pitchAt_0 9 rfl rfl)
theorem dX13_pitchAt_12 : decode cX13_pitchAt 12 = .ok (.aload_n 0, 1) := dk_42 (dk_at dksX13_pitchAt_0 12 rfl rfl)
theorem dX13_pitchAt_13 : decode cX13_pitchAt 13 = .ok (.getfield 9, 3) := dk_180 0 9 (dk_at dksX13_pitchAt_0 13 rfl rfl)
theorem dX13_pitchAt_16 : decode cX13_pitchAt 16 = .ok (.iload_n 1, 1) := dk_27 (dk_at dksX13_pitchAt_0 16 rfl rfl)
theorem dX13_pitchAt_17 : decode cX13_pitchAt 17 = .ok (.iconst 1, 1) := dk_4 (dk_at dksX13_pitchAt_0 17 rfl rfl)
theorem dX13_pitchAt_18 : decode cX13_pitchAt 18 = .ok (.isub, 1) := dk_100 (dk_at dksX13_pitchAt_0 18 rfl rfl)
theorem dX13_pitchAt_19 : decode cX13_pitchAt 19 = .ok (.iaload, 1) := dk_46 (dk_at dksX13_pitchAt_0 19 rfl rfl)
theorem dX13_pitchAt_20 : decode cX13_pitchAt 20 = .ok (.ireturn, 1) := dk_172 (dk_at dksX13_pitchAt_0 20 rfl rfl)
abbrev cX13_add : ByteArray := prog_4_method_5_code
def yX13_add : MethodName := ⟨RX13, "add", "(I)I"⟩
def dkwX13_add_1 : List UInt8 := [172]
abbrev dktX13_add_1 : List UInt8 := dkwX13_add_1 ++ []
def dkwX13_add_0 : List UInt8 := [42, 180, 0, 9, 42, 180, 0, 19, 27, 79, 42, 89, 180, 0, 19, 4, 96, 181, 0, 19, 42, 182, 0, 27]
abbrev dktX13_add_0 : List UInt8 := dkwX13_add_0 ++ dktX13_add_1
theorem dksX13_add_0 : cX13_add.data.toList.drop 0 = dktX13_add_0 := by decide +kernel
theorem dksX13_add_1 : cX13_add.data.toList.drop 24 = dktX13_add_1 := dk_seg dksX13_add_0 24 rfl rfl
theorem dX13_add_0 : decode cX13_add 0 = .ok (.aload_n 0, 1) := dk_42 (dk_at dksX13_add_0 0 rfl rfl)
theorem dX13_add_1 : decode cX13_add 1 = .ok (.getfield 9, 3) := dk_180 0 9 (dk_at dksX13_add_0 1 rfl rfl)
theorem dX13_add_4 : decode cX13_add 4 = .ok (.aload_n 0, 1) := dk_42 (dk_at dksX13_add_0 4 rfl rfl)
theorem dX13_add_5 : decode cX13_add 5 = .ok (.getfield 19, 3) := dk_180 0 19 (dk_at dksX13_add_0 5 rfl rfl)
theorem dX13_add_8 : decode cX13_add 8 = .ok (.iload_n 1, 1) := dk_27 (dk_at dksX13_add_0 8 rfl rfl)
theorem dX13_add_9 : decode cX13_add 9 = .ok (.iastore, 1) := dk_79 (dk_at dksX13_add_0 9 rfl rfl)
theorem dX13_add_10 : decode cX13_add 10 = .ok (.aload_n 0, 1) := dk_42 (dk_at dksX13_add_0 10 rfl rfl)
theorem dX13_add_11 : decode cX13_add 11 = .ok (.dup, 1) := dk_89 (dk_at dksX13_add_0 11 rfl rfl)
theorem dX13_add_12 : decode cX13_add 12 = .ok (.getfield 19, 3) := dk_180 0 19 (dk_at dksX13_add_0 12 rfl rfl)
theorem dX13_add_15 : decode cX13_add 15 = .ok (.iconst 1, 1) := dk_4 (dk_at dksX13_add_0 15 rfl rfl)
theorem dX13_add_16 : decode cX13_add 16 = .ok (.iadd, 1) := dk_96 (dk_at dksX13_add_0 16 rfl rfl)
theorem dX13_add_17 : decode cX13_add 17 = .ok (.putfield 19, 3) := dk_181 0 19 (dk_at dksX13_add_0 17 rfl rfl)
theorem dX13_add_20 : decode cX13_add 20 = .ok (.aload_n 0, 1) := dk_42 (dk_at dksX13_add_0 20 rfl rfl)
theorem dX13_add_21 : decode cX13_add 21 = .ok (.invokevirtual 27, 3) := dk_182 0 27 (dk_at dksX13_add_0 21 rfl rfl)
theorem dX13_add_24 : decode cX13_add 24 = .ok (.ireturn, 1) := dk_172 (dk_at dksX13_add_1 0 rfl rfl)
abbrev cX13_go : ByteArray := prog_4_method_6_code
def yX13_go : MethodName := ⟨RX13, "go", "(I)V"⟩
def dkwX13_go_1 : List UInt8 := [79, 132, 2, 1, 167, 255, 235, 177]
abbrev dktX13_go_1 : List UInt8 := dkwX13_go_1 ++ []
def dkwX13_go_0 : List UInt8 := [42, 27, 183, 0, 28, 3, 61, 28, 42, 180, 0, 19, 162, 0, 19, 42, 180, 0, 9, 28, 92, 46, 27, 96]
abbrev dktX13_go_0 : List UInt8 := dkwX13_go_0 ++ dktX13_go_1
theorem dksX13_go_0 : cX13_go.data.toList.drop 0 = dktX13_go_0 := by decide +kernel
theorem dksX13_go_1 : cX13_go.data.toList.drop 24 = dktX13_go_1 := dk_seg dksX13_go_0 24 rfl rfl
theorem dX13_go_0 : decode cX13_go 0 = .ok (.aload_n 0, 1) := dk_42 (dk_at dksX13_go_0 0 rfl rfl)
theorem dX13_go_1 : decode cX13_go 1 = .ok (.iload_n 1, 1) := dk_27 (dk_at dksX13_go_0 1 rfl rfl)
theorem dX13_go_2 : decode cX13_go 2 = .ok (.invokespecial 28, 3) := dk_183 0 28 (dk_at dksX13_go_0 2 rfl rfl)
theorem dX13_go_5 : decode cX13_go 5 = .ok (.iconst 0, 1) := dk_3 (dk_at dksX13_go_0 5 rfl rfl)
theorem dX13_go_6 : decode cX13_go 6 = .ok (.istore_n 2, 1) := dk_61 (dk_at dksX13_go_0 6 rfl rfl)
theorem dX13_go_7 : decode cX13_go 7 = .ok (.iload_n 2, 1) := dk_28 (dk_at dksX13_go_0 7 rfl rfl)
theorem dX13_go_8 : decode cX13_go 8 = .ok (.aload_n 0, 1) := dk_42 (dk_at dksX13_go_0 8 rfl rfl)
theorem dX13_go_9 : decode cX13_go 9 = .ok (.getfield 19, 3) := dk_180 0 19 (dk_at dksX13_go_0 9 rfl rfl)
theorem dX13_go_12 : decode cX13_go 12 = .ok (.if_icmp .ge 19, 3) := dk_162 0 19 (dk_at dksX13_go_0 12 rfl rfl)
theorem dX13_go_15 : decode cX13_go 15 = .ok (.aload_n 0, 1) := dk_42 (dk_at dksX13_go_0 15 rfl rfl)
theorem dX13_go_16 : decode cX13_go 16 = .ok (.getfield 9, 3) := dk_180 0 9 (dk_at dksX13_go_0 16 rfl rfl)
theorem dX13_go_19 : decode cX13_go 19 = .ok (.iload_n 2, 1) := dk_28 (dk_at dksX13_go_0 19 rfl rfl)
theorem dX13_go_20 : decode cX13_go 20 = .ok (.dup2, 1) := dk_92 (dk_at dksX13_go_0 20 rfl rfl)
theorem dX13_go_21 : decode cX13_go 21 = .ok (.iaload, 1) := dk_46 (dk_at dksX13_go_0 21 rfl rfl)
theorem dX13_go_22 : decode cX13_go 22 = .ok (.iload_n 1, 1) := dk_27 (dk_at dksX13_go_0 22 rfl rfl)
theorem dX13_go_23 : decode cX13_go 23 = .ok (.iadd, 1) := dk_96 (dk_at dksX13_go_0 23 rfl rfl)
theorem dX13_go_24 : decode cX13_go 24 = .ok (.iastore, 1) := dk_79 (dk_at dksX13_go_1 0 rfl rfl)
theorem dX13_go_25 : decode cX13_go 25 = .ok (.iinc 2 1, 3) := dk_132 2 1 (dk_at dksX13_go_1 1 rfl rfl)
theorem dX13_go_28 : decode cX13_go 28 = .ok (.goto (-21), 3) := dk_167 255 235 (dk_at dksX13_go_1 4 rfl rfl)
theorem dX13_go_31 : decode cX13_go 31 = .ok (.return_, 1) := dk_177 (dk_at dksX13_go_1 7 rfl rfl)
abbrev cX13_kind : ByteArray := prog_4_method_2_code
def yX13_kind : MethodName := ⟨RX13, "kind", "()I"⟩
theorem dX13_kind_0 : decode cX13_kind 0 = .ok (.iconst 1, 1) := by decide +kernel
theorem dX13_kind_1 : decode cX13_kind 1 = .ok (.ireturn, 1) := by decide +kernel
abbrev cX13_has : ByteArray := prog_4_method_7_code
def yX13_has : MethodName := ⟨RX13, "has", "(I)Z"⟩
def dkwX13_has_1 : List UInt8 := [29, 46, 27, 160, 0, 7, 4, 167, 0, 4, 3, 61, 132, 3, 1, 167, 255, 225, 28, 172]
abbrev dktX13_has_1 : List UInt8 := dkwX13_has_1 ++ []
def dkwX13_has_0 : List UInt8 := [42, 27, 183, 0, 31, 61, 3, 62, 29, 42, 180, 0, 19, 162, 0, 29, 28, 154, 0, 25, 42, 180, 0, 9]
abbrev dktX13_has_0 : List UInt8 := dkwX13_has_0 ++ dktX13_has_1
theorem dksX13_has_0 : cX13_has.data.toList.drop 0 = dktX13_has_0 := by decide +kernel
theorem dksX13_has_1 : cX13_has.data.toList.drop 24 = dktX13_has_1 := dk_seg dksX13_has_0 24 rfl rfl
theorem dX13_has_0 : decode cX13_has 0 = .ok (.aload_n 0, 1) := dk_42 (dk_at dksX13_has_0 0 rfl rfl)
theorem dX13_has_1 : decode cX13_has 1 = .ok (.iload_n 1, 1) := dk_27 (dk_at dksX13_has_0 1 rfl rfl)
theorem dX13_has_2 : decode cX13_has 2 = .ok (.invokespecial 31, 3) := dk_183 0 31 (dk_at dksX13_has_0 2 rfl rfl)
theorem dX13_has_5 : decode cX13_has 5 = .ok (.istore_n 2, 1) := dk_61 (dk_at dksX13_has_0 5 rfl rfl)
theorem dX13_has_6 : decode cX13_has 6 = .ok (.iconst 0, 1) := dk_3 (dk_at dksX13_has_0 6 rfl rfl)
theorem dX13_has_7 : decode cX13_has 7 = .ok (.istore_n 3, 1) := dk_62 (dk_at dksX13_has_0 7 rfl rfl)
theorem dX13_has_8 : decode cX13_has 8 = .ok (.iload_n 3, 1) := dk_29 (dk_at dksX13_has_0 8 rfl rfl)
theorem dX13_has_9 : decode cX13_has 9 = .ok (.aload_n 0, 1) := dk_42 (dk_at dksX13_has_0 9 rfl rfl)
theorem dX13_has_10 : decode cX13_has 10 = .ok (.getfield 19, 3) := dk_180 0 19 (dk_at dksX13_has_0 10 rfl rfl)
theorem dX13_has_13 : decode cX13_has 13 = .ok (.if_icmp .ge 29, 3) := dk_162 0 29 (dk_at dksX13_has_0 13 rfl rfl)
theorem dX13_has_16 : decode cX13_has 16 = .ok (.iload_n 2, 1) := dk_28 (dk_at dksX13_has_0 16 rfl rfl)
theorem dX13_has_17 : decode cX13_has 17 = .ok (.ifCond .ne 25, 3) := dk_154 0 25 (dk_at dksX13_has_0 17 rfl rfl)
theorem dX13_has_20 : decode cX13_has 20 = .ok (.aload_n 0, 1) := dk_42 (dk_at dksX13_has_0 20 rfl rfl)
theorem dX13_has_21 : decode cX13_has 21 = .ok (.getfield 9, 3) := dk_180 0 9 (dk_at dksX13_has_0 21 rfl rfl)
theorem dX13_has_24 : decode cX13_has 24 = .ok (.iload_n 3, 1) := dk_29 (dk_at dksX13_has_1 0 rfl rfl)
theorem dX13_has_25 : decode cX13_has 25 = .ok (.iaload, 1) := dk_46 (dk_at dksX13_has_1 1 rfl rfl)
theorem dX13_has_26 : decode cX13_has 26 = .ok (.iload_n 1, 1) := dk_27 (dk_at dksX13_has_1 2 rfl rfl)
theorem dX13_has_27 : decode cX13_has 27 = .ok (.if_icmp .ne 7, 3) := dk_160 0 7 (dk_at dksX13_has_1 3 rfl rfl)
theorem dX13_has_30 : decode cX13_has 30 = .ok (.iconst 1, 1) := dk_4 (dk_at dksX13_has_1 6 rfl rfl)
theorem dX13_has_31 : decode cX13_has 31 = .ok (.goto 4, 3) := dk_167 0 4 (dk_at dksX13_has_1 7 rfl rfl)
theorem dX13_has_34 : decode cX13_has 34 = .ok (.iconst 0, 1) := dk_3 (dk_at dksX13_has_1 10 rfl rfl)
theorem dX13_has_35 : decode cX13_has 35 = .ok (.istore_n 2, 1) := dk_61 (dk_at dksX13_has_1 11 rfl rfl)
theorem dX13_has_36 : decode cX13_has 36 = .ok (.iinc 3 1, 3) := dk_132 3 1 (dk_at dksX13_has_1 12 rfl rfl)
theorem dX13_has_39 : decode cX13_has 39 = .ok (.goto (-31), 3) := dk_167 255 225 (dk_at dksX13_has_1 15 rfl rfl)
theorem dX13_has_42 : decode cX13_has 42 = .ok (.iload_n 2, 1) := dk_28 (dk_at dksX13_has_1 18 rfl rfl)
theorem dX13_has_43 : decode cX13_has 43 = .ok (.ireturn, 1) := dk_172 (dk_at dksX13_has_1 19 rfl rfl)
theorem q76 : (Jvm.Cond.initialized "StaveScore$Chord") ∈ lw_all := lw_g (lw_at lw_m1 14 rfl) rfl
theorem q399 : (Jvm.Cond.instantiable "StaveScore$Chord" (10 : Nat)) ∈ lw_all := lw_g (lw_at lw_m2 97 rfl) rfl
theorem q401 : (Jvm.Cond.instanceMethod ({ cls := "StaveScore$Chord", name := "<init>", desc := "(I)V" } : Jvm.MethodName)) ∈ lw_all := lw_g (lw_at lw_m2 99 rfl) rfl
theorem q402 : (Jvm.Cond.code ({ cls := "StaveScore$Chord", name := "<init>", desc := "(I)V" } : Jvm.MethodName) prog_4_method_1_code (2 : Nat) (Option.none : Option Jvm.ClassFile.FieldType)) ∈ lw_all := lw_g (lw_at lw_m2 100 rfl) rfl
theorem q403 : (Jvm.Cond.methodLink "StaveScore$Chord" (3 : Nat) ({ cls := "StaveScore$Note", name := "<init>", desc := "(I)V" } : Jvm.MethodName)) ∈ lw_all := lw_g (lw_at lw_m2 101 rfl) rfl
theorem q404 : (Jvm.Cond.fieldLink "StaveScore$Chord" (9 : Nat) "StaveScore$Chord" "further" "[I") ∈ lw_all := lw_g (lw_at lw_m2 102 rfl) rfl
theorem q405 : (Jvm.Cond.fieldLink "StaveScore$Chord" (19 : Nat) "StaveScore$Chord" "more" "I") ∈ lw_all := lw_g (lw_at lw_m2 103 rfl) rfl
theorem q406 : (Jvm.Cond.laysFinal "StaveScore$Chord" "StaveScore$Chord" "further" "[I") ∈ lw_all := lw_g (lw_at lw_m2 104 rfl) rfl
theorem q407 : (Jvm.Cond.soleField "StaveScore$Chord" "further") ∈ lw_all := lw_g (lw_at lw_m2 105 rfl) rfl
theorem q408 : (Jvm.Cond.lays "StaveScore$Chord" "StaveScore$Chord" "more" "I") ∈ lw_all := lw_g (lw_at lw_m2 106 rfl) rfl
theorem q409 : (Jvm.Cond.soleField "StaveScore$Chord" "more") ∈ lw_all := lw_g (lw_at lw_m2 107 rfl) rfl
theorem q410 : (Jvm.Cond.lays "StaveScore$Chord" "StaveScore$Note" "lowest" "I") ∈ lw_all := lw_g (lw_at lw_m2 108 rfl) rfl
theorem q411 : (Jvm.Cond.lays "StaveScore$Chord" "StaveScore$Note" "tied" "Z") ∈ lw_all := lw_g (lw_at lw_m2 109 rfl) rfl
theorem q412 : (Jvm.Cond.laysFinal "StaveScore$Chord" "StaveScore$Event" "number" "I") ∈ lw_all := lw_g (lw_at lw_m2 110 rfl) rfl
theorem q413 : (Jvm.Cond.lays "StaveScore$Chord" "StaveScore$Event" "voice" "I") ∈ lw_all := lw_g (lw_at lw_m2 111 rfl) rfl
theorem q414 : (Jvm.Cond.lays "StaveScore$Chord" "StaveScore$Event" "place" "I") ∈ lw_all := lw_g (lw_at lw_m2 112 rfl) rfl
theorem q415 : (Jvm.Cond.lays "StaveScore$Chord" "StaveScore$Event" "value" "I") ∈ lw_all := lw_g (lw_at lw_m2 113 rfl) rfl
theorem q416 : (Jvm.Cond.lays "StaveScore$Chord" "StaveScore$Event" "dots" "I") ∈ lw_all := lw_g (lw_at lw_m2 114 rfl) rfl
theorem q417 : (Jvm.Cond.laysFinal "StaveScore$Chord" "StaveScore$Event" "begin" "LStaveScore$Fraction;") ∈ lw_all := lw_g (lw_at lw_m2 115 rfl) rfl
theorem q418 : (Jvm.Cond.superclass "StaveScore$Chord" "StaveScore$Note") ∈ lw_all := lw_g (lw_at lw_m2 116 rfl) rfl
theorem q569 : (Jvm.Cond.instanceMethod ({ cls := "StaveScore$Chord", name := "many", desc := "()I" } : Jvm.MethodName)) ∈ lw_all := lw_g (lw_at lw_m3 27 rfl) rfl
theorem q570 : (Jvm.Cond.selects "StaveScore$Chord" ({ cls := "StaveScore$Chord", name := "many", desc := "()I" } : Jvm.MethodName) ({ cls := "StaveScore$Chord", name := "many", desc := "()I" } : Jvm.MethodName)) ∈ lw_all := lw_g (lw_at lw_m3 28 rfl) rfl
theorem q571 : (Jvm.Cond.code ({ cls := "StaveScore$Chord", name := "many", desc := "()I" } : Jvm.MethodName) prog_4_method_3_code (1 : Nat) (Option.some Jvm.ClassFile.FieldType.int)) ∈ lw_all := lw_g (lw_at lw_m3 29 rfl) rfl
theorem q572 : (Jvm.Cond.methodLink "StaveScore$Chord" (15 : Nat) ({ cls := "StaveScore$Note", name := "many", desc := "()I" } : Jvm.MethodName)) ∈ lw_all := lw_g (lw_at lw_m3 30 rfl) rfl
theorem q576 : (Jvm.Cond.instanceMethod ({ cls := "StaveScore$Chord", name := "pitchAt", desc := "(I)I" } : Jvm.MethodName)) ∈ lw_all := lw_g (lw_at lw_m3 34 rfl) rfl
theorem q577 : (Jvm.Cond.selects "StaveScore$Chord" ({ cls := "StaveScore$Chord", name := "pitchAt", desc := "(I)I" } : Jvm.MethodName) ({ cls := "StaveScore$Chord", name := "pitchAt", desc := "(I)I" } : Jvm.MethodName)) ∈ lw_all := lw_g (lw_at lw_m3 35 rfl) rfl
theorem q578 : (Jvm.Cond.code ({ cls := "StaveScore$Chord", name := "pitchAt", desc := "(I)I" } : Jvm.MethodName) prog_4_method_4_code (2 : Nat) (Option.some Jvm.ClassFile.FieldType.int)) ∈ lw_all := lw_g (lw_at lw_m3 36 rfl) rfl
theorem q579 : (Jvm.Cond.methodLink "StaveScore$Chord" (23 : Nat) ({ cls := "StaveScore$Note", name := "pitchAt", desc := "(I)I" } : Jvm.MethodName)) ∈ lw_all := lw_g (lw_at lw_m3 37 rfl) rfl
theorem q583 : (Jvm.Cond.instanceMethod ({ cls := "StaveScore$Chord", name := "add", desc := "(I)I" } : Jvm.MethodName)) ∈ lw_all := lw_g (lw_at lw_m3 41 rfl) rfl
theorem q584 : (Jvm.Cond.selects "StaveScore$Chord" ({ cls := "StaveScore$Chord", name := "add", desc := "(I)I" } : Jvm.MethodName) ({ cls := "StaveScore$Chord", name := "add", desc := "(I)I" } : Jvm.MethodName)) ∈ lw_all := lw_g (lw_at lw_m3 42 rfl) rfl
theorem q585 : (Jvm.Cond.code ({ cls := "StaveScore$Chord", name := "add", desc := "(I)I" } : Jvm.MethodName) prog_4_method_5_code (2 : Nat) (Option.some Jvm.ClassFile.FieldType.int)) ∈ lw_all := lw_g (lw_at lw_m3 43 rfl) rfl
theorem q586 : (Jvm.Cond.methodLink "StaveScore$Chord" (27 : Nat) ({ cls := "StaveScore$Chord", name := "many", desc := "()I" } : Jvm.MethodName)) ∈ lw_all := lw_g (lw_at lw_m3 44 rfl) rfl
theorem q682 : (Jvm.Cond.selects "StaveScore$Chord" ({ cls := "StaveScore$Note", name := "shift", desc := "(I[B)V" } : Jvm.MethodName) ({ cls := "StaveScore$Note", name := "shift", desc := "(I[B)V" } : Jvm.MethodName)) ∈ lw_all := lw_g (lw_at lw_m3 140 rfl) rfl
theorem q691 : (Jvm.Cond.selects "StaveScore$Chord" ({ cls := "StaveScore$Note", name := "go", desc := "(I)V" } : Jvm.MethodName) ({ cls := "StaveScore$Chord", name := "go", desc := "(I)V" } : Jvm.MethodName)) ∈ lw_all := lw_g (lw_at lw_m3 149 rfl) rfl
theorem q692 : (Jvm.Cond.instanceMethod ({ cls := "StaveScore$Chord", name := "go", desc := "(I)V" } : Jvm.MethodName)) ∈ lw_all := lw_g (lw_at lw_m3 150 rfl) rfl
theorem q693 : (Jvm.Cond.code ({ cls := "StaveScore$Chord", name := "go", desc := "(I)V" } : Jvm.MethodName) prog_4_method_6_code (3 : Nat) (Option.none : Option Jvm.ClassFile.FieldType)) ∈ lw_all := lw_g (lw_at lw_m3 151 rfl) rfl
theorem q694 : (Jvm.Cond.methodLink "StaveScore$Chord" (28 : Nat) ({ cls := "StaveScore$Note", name := "go", desc := "(I)V" } : Jvm.MethodName)) ∈ lw_all := lw_g (lw_at lw_m3 152 rfl) rfl
theorem q719 : (Jvm.Cond.selects "StaveScore$Chord" ({ cls := "StaveScore$Event", name := "kind", desc := "()I" } : Jvm.MethodName) ({ cls := "StaveScore$Chord", name := "kind", desc := "()I" } : Jvm.MethodName)) ∈ lw_all := lw_g (lw_at lw_m3 177 rfl) rfl
theorem q720 : (Jvm.Cond.instanceMethod ({ cls := "StaveScore$Chord", name := "kind", desc := "()I" } : Jvm.MethodName)) ∈ lw_all := lw_g (lw_at lw_m3 178 rfl) rfl
theorem q721 : (Jvm.Cond.code ({ cls := "StaveScore$Chord", name := "kind", desc := "()I" } : Jvm.MethodName) prog_4_method_2_code (1 : Nat) (Option.some Jvm.ClassFile.FieldType.int)) ∈ lw_all := lw_g (lw_at lw_m3 179 rfl) rfl
theorem q735 : (Jvm.Cond.selects "StaveScore$Chord" ({ cls := "StaveScore$Event", name := "many", desc := "()I" } : Jvm.MethodName) ({ cls := "StaveScore$Chord", name := "many", desc := "()I" } : Jvm.MethodName)) ∈ lw_all := lw_g (lw_at lw_m3 193 rfl) rfl
theorem q744 : (Jvm.Cond.selects "StaveScore$Chord" ({ cls := "StaveScore$Event", name := "isTied", desc := "()Z" } : Jvm.MethodName) ({ cls := "StaveScore$Note", name := "isTied", desc := "()Z" } : Jvm.MethodName)) ∈ lw_all := lw_g (lw_at lw_m3 202 rfl) rfl
theorem q787 : (Jvm.Cond.selects "StaveScore$Chord" ({ cls := "StaveScore$Event", name := "written", desc := "(LStaveScore$Fraction;)V" } : Jvm.MethodName) ({ cls := "StaveScore$Event", name := "written", desc := "(LStaveScore$Fraction;)V" } : Jvm.MethodName)) ∈ lw_all := lw_g (lw_at lw_m4 5 rfl) rfl
theorem q1027 : (Jvm.Cond.selects "StaveScore$Chord" ({ cls := "StaveScore$Event", name := "takes", desc := "()Z" } : Jvm.MethodName) ({ cls := "StaveScore$Event", name := "takes", desc := "()Z" } : Jvm.MethodName)) ∈ lw_all := lw_g (lw_at lw_m5 5 rfl) rfl
theorem q1037 : (Jvm.Cond.selects "StaveScore$Chord" ({ cls := "StaveScore$Note", name := "hasAll", desc := "(LStaveScore$Note;)Z" } : Jvm.MethodName) ({ cls := "StaveScore$Note", name := "hasAll", desc := "(LStaveScore$Note;)Z" } : Jvm.MethodName)) ∈ lw_all := lw_g (lw_at lw_m5 15 rfl) rfl
theorem q1044 : (Jvm.Cond.selects "StaveScore$Chord" ({ cls := "StaveScore$Note", name := "has", desc := "(I)Z" } : Jvm.MethodName) ({ cls := "StaveScore$Chord", name := "has", desc := "(I)Z" } : Jvm.MethodName)) ∈ lw_all := lw_g (lw_at lw_m5 22 rfl) rfl
theorem q1045 : (Jvm.Cond.instanceMethod ({ cls := "StaveScore$Chord", name := "has", desc := "(I)Z" } : Jvm.MethodName)) ∈ lw_all := lw_g (lw_at lw_m5 23 rfl) rfl
theorem q1046 : (Jvm.Cond.code ({ cls := "StaveScore$Chord", name := "has", desc := "(I)Z" } : Jvm.MethodName) prog_4_method_7_code (4 : Nat) (Option.some Jvm.ClassFile.FieldType.boolean)) ∈ lw_all := lw_g (lw_at lw_m5 24 rfl) rfl
theorem q1047 : (Jvm.Cond.methodLink "StaveScore$Chord" (31 : Nat) ({ cls := "StaveScore$Note", name := "has", desc := "(I)Z" } : Jvm.MethodName)) ∈ lw_all := lw_g (lw_at lw_m5 25 rfl) rfl
theorem q1089 : (Jvm.Cond.selects "StaveScore$Chord" ({ cls := "StaveScore$Event", name := "isAlike", desc := "(LStaveScore$Event;)Z" } : Jvm.MethodName) ({ cls := "StaveScore$Note", name := "isAlike", desc := "(LStaveScore$Event;)Z" } : Jvm.MethodName)) ∈ lw_all := lw_g (lw_at lw_m5 67 rfl) rfl
theorem q1754 : (Jvm.Cond.selects "StaveScore$Chord" ({ cls := "StaveScore$Note", name := "many", desc := "()I" } : Jvm.MethodName) ({ cls := "StaveScore$Chord", name := "many", desc := "()I" } : Jvm.MethodName)) ∈ lw_all := lw_g (lw_at lw_m8 12 rfl) rfl
theorem q1757 : (Jvm.Cond.selects "StaveScore$Chord" ({ cls := "StaveScore$Note", name := "pitchAt", desc := "(I)I" } : Jvm.MethodName) ({ cls := "StaveScore$Chord", name := "pitchAt", desc := "(I)I" } : Jvm.MethodName)) ∈ lw_all := lw_g (lw_at lw_m8 15 rfl) rfl
theorem q1764 : (Jvm.Cond.castable "StaveScore$Chord" "StaveScore$Note") ∈ lw_tbl := lw_at lw_m8 22 rfl
theorem q1767 : (Jvm.Cond.castable "StaveScore$Chord" "StaveScore$Event") ∈ lw_tbl := lw_at lw_m8 25 rfl
theorem in_X13 : ∀ w ∈ wsX130, w ∈ lw_all := lw_in wsX130 [412, 413, 414, 415, 416, 417, 410, 411, 406, 408] (by decide +kernel) (by decide +kernel)

/-! StaveScore$Grace -/
set_option maxRecDepth 100000
def RX14 : String := "StaveScore$Grace"
def TX14 : u_T := fun k => match k with
  | 0 => ("StaveScore$Event", "number", "I", true)
  | 1 => ("StaveScore$Event", "voice", "I", false)
  | 2 => ("StaveScore$Event", "place", "I", false)
  | 3 => ("StaveScore$Event", "value", "I", false)
  | 4 => ("StaveScore$Event", "dots", "I", false)
  | 5 => ("StaveScore$Event", "begin", "LStaveScore$Fraction;", true)
  | 6 => ("StaveScore$Note", "lowest", "I", false)
  | _ => ("StaveScore$Note", "tied", "Z", false)
def tyX14 : Nat → FieldType := fun k => match k with
  | 0 => .int
  | 1 => .int
  | 2 => .int
  | 3 => .int
  | 4 => .int
  | 5 => .object "StaveScore$Fraction"
  | 6 => .int
  | _ => .boolean
abbrev wsX140 : List Cond := u_ws RX14 TX14 8
theorem nmX14 : ∀ a, a < 8 → ∀ b, b < 8 → a ≠ b → (TX14 a).2.1 ≠ (TX14 b).2.1 := by decide +kernel
theorem tyX14_ok : ∀ k, k < 8 → parseFieldDescriptor (TX14 k).2.2.1 = some (tyX14 k) := by decide +kernel
abbrev cX14_init : ByteArray := prog_8_method_1_code
def yX14_init : MethodName := ⟨RX14, "<init>", "(I)V"⟩
def dkwX14_init_0 : List UInt8 := [42, 27, 183, 0, 1, 177]
abbrev dktX14_init_0 : List UInt8 := dkwX14_init_0 ++ []
theorem dksX14_init_0 : cX14_init.data.toList.drop 0 = dktX14_init_0 := by decide +kernel
theorem dX14_init_0 : decode cX14_init 0 = .ok (.aload_n 0, 1) := dk_42 (dk_at dksX14_init_0 0 rfl rfl)
theorem dX14_init_1 : decode cX14_init 1 = .ok (.iload_n 1, 1) := dk_27 (dk_at dksX14_init_0 1 rfl rfl)
theorem dX14_init_2 : decode cX14_init 2 = .ok (.invokespecial 1, 3) := dk_183 0 1 (dk_at dksX14_init_0 2 rfl rfl)
theorem dX14_init_5 : decode cX14_init 5 = .ok (.return_, 1) := dk_177 (dk_at dksX14_init_0 5 rfl rfl)
abbrev cX14_kind : ByteArray := prog_8_method_2_code
def yX14_kind : MethodName := ⟨RX14, "kind", "()I"⟩
theorem dX14_kind_0 : decode cX14_kind 0 = .ok (.iconst 2, 1) := by decide +kernel
theorem dX14_kind_1 : decode cX14_kind 1 = .ok (.ireturn, 1) := by decide +kernel
abbrev cX14_written : ByteArray := prog_8_method_3_code
def yX14_written : MethodName := ⟨RX14, "written", "(LStaveScore$Fraction;)V"⟩
def dkwX14_written_0 : List UInt8 := [43, 9, 10, 182, 0, 7, 177]
abbrev dktX14_written_0 : List UInt8 := dkwX14_written_0 ++ []
theorem dksX14_written_0 : cX14_written.data.toList.drop 0 = dktX14_written_0 := by decide +kernel
theorem dX14_written_0 : decode cX14_written 0 = .ok (.aload_n 1, 1) := dk_43 (dk_at dksX14_written_0 0 rfl rfl)
theorem dX14_written_1 : decode cX14_written 1 = .ok (.lconst 0, 1) := dk_9 (dk_at dksX14_written_0 1 rfl rfl)
theorem dX14_written_2 : decode cX14_written 2 = .ok (.lconst 1, 1) := dk_10 (dk_at dksX14_written_0 2 rfl rfl)
theorem dX14_written_3 : decode cX14_written 3 = .ok (.invokevirtual 7, 3) := dk_182 0 7 (dk_at dksX14_written_0 3 rfl rfl)
theorem dX14_written_6 : decode cX14_written 6 = .ok (.return_, 1) := dk_177 (dk_at dksX14_written_0 6 rfl rfl)
abbrev cX14_takes : ByteArray := prog_8_method_4_code
def yX14_takes : MethodName := ⟨RX14, "takes", "()Z"⟩
theorem dX14_takes_0 : decode cX14_takes 0 = .ok (.iconst 0, 1) := by decide +kernel
theorem dX14_takes_1 : decode cX14_takes 1 = .ok (.ireturn, 1) := by decide +kernel
theorem q77 : (Jvm.Cond.initialized "StaveScore$Grace") ∈ lw_all := lw_g (lw_at lw_m1 15 rfl) rfl
theorem q420 : (Jvm.Cond.instantiable "StaveScore$Grace" (8 : Nat)) ∈ lw_all := lw_g (lw_at lw_m2 118 rfl) rfl
theorem q422 : (Jvm.Cond.instanceMethod ({ cls := "StaveScore$Grace", name := "<init>", desc := "(I)V" } : Jvm.MethodName)) ∈ lw_all := lw_g (lw_at lw_m2 120 rfl) rfl
theorem q423 : (Jvm.Cond.code ({ cls := "StaveScore$Grace", name := "<init>", desc := "(I)V" } : Jvm.MethodName) prog_8_method_1_code (2 : Nat) (Option.none : Option Jvm.ClassFile.FieldType)) ∈ lw_all := lw_g (lw_at lw_m2 121 rfl) rfl
theorem q424 : (Jvm.Cond.methodLink "StaveScore$Grace" (1 : Nat) ({ cls := "StaveScore$Note", name := "<init>", desc := "(I)V" } : Jvm.MethodName)) ∈ lw_all := lw_g (lw_at lw_m2 122 rfl) rfl
theorem q425 : (Jvm.Cond.lays "StaveScore$Grace" "StaveScore$Note" "lowest" "I") ∈ lw_all := lw_g (lw_at lw_m2 123 rfl) rfl
theorem q426 : (Jvm.Cond.lays "StaveScore$Grace" "StaveScore$Note" "tied" "Z") ∈ lw_all := lw_g (lw_at lw_m2 124 rfl) rfl
theorem q427 : (Jvm.Cond.laysFinal "StaveScore$Grace" "StaveScore$Event" "number" "I") ∈ lw_all := lw_g (lw_at lw_m2 125 rfl) rfl
theorem q428 : (Jvm.Cond.lays "StaveScore$Grace" "StaveScore$Event" "voice" "I") ∈ lw_all := lw_g (lw_at lw_m2 126 rfl) rfl
theorem q429 : (Jvm.Cond.lays "StaveScore$Grace" "StaveScore$Event" "place" "I") ∈ lw_all := lw_g (lw_at lw_m2 127 rfl) rfl
theorem q430 : (Jvm.Cond.lays "StaveScore$Grace" "StaveScore$Event" "value" "I") ∈ lw_all := lw_g (lw_at lw_m2 128 rfl) rfl
theorem q431 : (Jvm.Cond.lays "StaveScore$Grace" "StaveScore$Event" "dots" "I") ∈ lw_all := lw_g (lw_at lw_m2 129 rfl) rfl
theorem q432 : (Jvm.Cond.laysFinal "StaveScore$Grace" "StaveScore$Event" "begin" "LStaveScore$Fraction;") ∈ lw_all := lw_g (lw_at lw_m2 130 rfl) rfl
theorem q433 : (Jvm.Cond.superclass "StaveScore$Grace" "StaveScore$Note") ∈ lw_all := lw_g (lw_at lw_m2 131 rfl) rfl
theorem q683 : (Jvm.Cond.selects "StaveScore$Grace" ({ cls := "StaveScore$Note", name := "shift", desc := "(I[B)V" } : Jvm.MethodName) ({ cls := "StaveScore$Note", name := "shift", desc := "(I[B)V" } : Jvm.MethodName)) ∈ lw_all := lw_g (lw_at lw_m3 141 rfl) rfl
theorem q696 : (Jvm.Cond.selects "StaveScore$Grace" ({ cls := "StaveScore$Note", name := "go", desc := "(I)V" } : Jvm.MethodName) ({ cls := "StaveScore$Note", name := "go", desc := "(I)V" } : Jvm.MethodName)) ∈ lw_all := lw_g (lw_at lw_m3 154 rfl) rfl
theorem q722 : (Jvm.Cond.selects "StaveScore$Grace" ({ cls := "StaveScore$Event", name := "kind", desc := "()I" } : Jvm.MethodName) ({ cls := "StaveScore$Grace", name := "kind", desc := "()I" } : Jvm.MethodName)) ∈ lw_all := lw_g (lw_at lw_m3 180 rfl) rfl
theorem q723 : (Jvm.Cond.instanceMethod ({ cls := "StaveScore$Grace", name := "kind", desc := "()I" } : Jvm.MethodName)) ∈ lw_all := lw_g (lw_at lw_m3 181 rfl) rfl
theorem q724 : (Jvm.Cond.code ({ cls := "StaveScore$Grace", name := "kind", desc := "()I" } : Jvm.MethodName) prog_8_method_2_code (1 : Nat) (Option.some Jvm.ClassFile.FieldType.int)) ∈ lw_all := lw_g (lw_at lw_m3 182 rfl) rfl
theorem q736 : (Jvm.Cond.selects "StaveScore$Grace" ({ cls := "StaveScore$Event", name := "many", desc := "()I" } : Jvm.MethodName) ({ cls := "StaveScore$Note", name := "many", desc := "()I" } : Jvm.MethodName)) ∈ lw_all := lw_g (lw_at lw_m3 194 rfl) rfl
theorem q747 : (Jvm.Cond.selects "StaveScore$Grace" ({ cls := "StaveScore$Event", name := "isTied", desc := "()Z" } : Jvm.MethodName) ({ cls := "StaveScore$Note", name := "isTied", desc := "()Z" } : Jvm.MethodName)) ∈ lw_all := lw_g (lw_at lw_m3 205 rfl) rfl
theorem q788 : (Jvm.Cond.selects "StaveScore$Grace" ({ cls := "StaveScore$Event", name := "written", desc := "(LStaveScore$Fraction;)V" } : Jvm.MethodName) ({ cls := "StaveScore$Grace", name := "written", desc := "(LStaveScore$Fraction;)V" } : Jvm.MethodName)) ∈ lw_all := lw_g (lw_at lw_m4 6 rfl) rfl
theorem q789 : (Jvm.Cond.instanceMethod ({ cls := "StaveScore$Grace", name := "written", desc := "(LStaveScore$Fraction;)V" } : Jvm.MethodName)) ∈ lw_all := lw_g (lw_at lw_m4 7 rfl) rfl
theorem q790 : (Jvm.Cond.code ({ cls := "StaveScore$Grace", name := "written", desc := "(LStaveScore$Fraction;)V" } : Jvm.MethodName) prog_8_method_3_code (2 : Nat) (Option.none : Option Jvm.ClassFile.FieldType)) ∈ lw_all := lw_g (lw_at lw_m4 8 rfl) rfl
theorem q791 : (Jvm.Cond.methodLink "StaveScore$Grace" (7 : Nat) ({ cls := "StaveScore$Fraction", name := "become", desc := "(JJ)V" } : Jvm.MethodName)) ∈ lw_all := lw_g (lw_at lw_m4 9 rfl) rfl
theorem q1028 : (Jvm.Cond.selects "StaveScore$Grace" ({ cls := "StaveScore$Event", name := "takes", desc := "()Z" } : Jvm.MethodName) ({ cls := "StaveScore$Grace", name := "takes", desc := "()Z" } : Jvm.MethodName)) ∈ lw_all := lw_g (lw_at lw_m5 6 rfl) rfl
theorem q1029 : (Jvm.Cond.instanceMethod ({ cls := "StaveScore$Grace", name := "takes", desc := "()Z" } : Jvm.MethodName)) ∈ lw_all := lw_g (lw_at lw_m5 7 rfl) rfl
theorem q1030 : (Jvm.Cond.code ({ cls := "StaveScore$Grace", name := "takes", desc := "()Z" } : Jvm.MethodName) prog_8_method_4_code (1 : Nat) (Option.some Jvm.ClassFile.FieldType.boolean)) ∈ lw_all := lw_g (lw_at lw_m5 8 rfl) rfl
theorem q1038 : (Jvm.Cond.selects "StaveScore$Grace" ({ cls := "StaveScore$Note", name := "hasAll", desc := "(LStaveScore$Note;)Z" } : Jvm.MethodName) ({ cls := "StaveScore$Note", name := "hasAll", desc := "(LStaveScore$Note;)Z" } : Jvm.MethodName)) ∈ lw_all := lw_g (lw_at lw_m5 16 rfl) rfl
theorem q1049 : (Jvm.Cond.selects "StaveScore$Grace" ({ cls := "StaveScore$Note", name := "has", desc := "(I)Z" } : Jvm.MethodName) ({ cls := "StaveScore$Note", name := "has", desc := "(I)Z" } : Jvm.MethodName)) ∈ lw_all := lw_g (lw_at lw_m5 27 rfl) rfl
theorem q1099 : (Jvm.Cond.selects "StaveScore$Grace" ({ cls := "StaveScore$Event", name := "isAlike", desc := "(LStaveScore$Event;)Z" } : Jvm.MethodName) ({ cls := "StaveScore$Note", name := "isAlike", desc := "(LStaveScore$Event;)Z" } : Jvm.MethodName)) ∈ lw_all := lw_g (lw_at lw_m5 77 rfl) rfl
theorem q1755 : (Jvm.Cond.selects "StaveScore$Grace" ({ cls := "StaveScore$Note", name := "many", desc := "()I" } : Jvm.MethodName) ({ cls := "StaveScore$Note", name := "many", desc := "()I" } : Jvm.MethodName)) ∈ lw_all := lw_g (lw_at lw_m8 13 rfl) rfl
theorem q1758 : (Jvm.Cond.selects "StaveScore$Grace" ({ cls := "StaveScore$Note", name := "pitchAt", desc := "(I)I" } : Jvm.MethodName) ({ cls := "StaveScore$Note", name := "pitchAt", desc := "(I)I" } : Jvm.MethodName)) ∈ lw_all := lw_g (lw_at lw_m8 16 rfl) rfl
theorem q1765 : (Jvm.Cond.castable "StaveScore$Grace" "StaveScore$Note") ∈ lw_tbl := lw_at lw_m8 23 rfl
theorem q1768 : (Jvm.Cond.castable "StaveScore$Grace" "StaveScore$Event") ∈ lw_tbl := lw_at lw_m8 26 rfl
theorem in_X14 : ∀ w ∈ wsX140, w ∈ lw_all := lw_in wsX140 [427, 428, 429, 430, 431, 432, 425, 426] (by decide +kernel) (by decide +kernel)

/-! StaveScore$Rest -/
set_option maxRecDepth 100000
def RX15 : String := "StaveScore$Rest"
def TX15 : u_T := fun k => match k with
  | 0 => ("StaveScore$Event", "number", "I", true)
  | 1 => ("StaveScore$Event", "voice", "I", false)
  | 2 => ("StaveScore$Event", "place", "I", false)
  | 3 => ("StaveScore$Event", "value", "I", false)
  | 4 => ("StaveScore$Event", "dots", "I", false)
  | _ => ("StaveScore$Event", "begin", "LStaveScore$Fraction;", true)
def tyX15 : Nat → FieldType := fun k => match k with
  | 0 => .int
  | 1 => .int
  | 2 => .int
  | 3 => .int
  | 4 => .int
  | _ => .object "StaveScore$Fraction"
abbrev wsX150 : List Cond := u_ws RX15 TX15 6
theorem nmX15 : ∀ a, a < 6 → ∀ b, b < 6 → a ≠ b → (TX15 a).2.1 ≠ (TX15 b).2.1 := by decide +kernel
theorem tyX15_ok : ∀ k, k < 6 → parseFieldDescriptor (TX15 k).2.2.1 = some (tyX15 k) := by decide +kernel
abbrev cX15_init : ByteArray := prog_16_method_1_code
def yX15_init : MethodName := ⟨RX15, "<init>", "(I)V"⟩
def dkwX15_init_0 : List UInt8 := [42, 27, 183, 0, 1, 177]
abbrev dktX15_init_0 : List UInt8 := dkwX15_init_0 ++ []
theorem dksX15_init_0 : cX15_init.data.toList.drop 0 = dktX15_init_0 := by decide +kernel
theorem dX15_init_0 : decode cX15_init 0 = .ok (.aload_n 0, 1) := dk_42 (dk_at dksX15_init_0 0 rfl rfl)
theorem dX15_init_1 : decode cX15_init 1 = .ok (.iload_n 1, 1) := dk_27 (dk_at dksX15_init_0 1 rfl rfl)
theorem dX15_init_2 : decode cX15_init 2 = .ok (.invokespecial 1, 3) := dk_183 0 1 (dk_at dksX15_init_0 2 rfl rfl)
theorem dX15_init_5 : decode cX15_init 5 = .ok (.return_, 1) := dk_177 (dk_at dksX15_init_0 5 rfl rfl)
abbrev cX15_kind : ByteArray := prog_16_method_2_code
def yX15_kind : MethodName := ⟨RX15, "kind", "()I"⟩
theorem dX15_kind_0 : decode cX15_kind 0 = .ok (.iconst 3, 1) := by decide +kernel
theorem dX15_kind_1 : decode cX15_kind 1 = .ok (.ireturn, 1) := by decide +kernel
theorem q78 : (Jvm.Cond.initialized "StaveScore$Rest") ∈ lw_all := lw_g (lw_at lw_m1 16 rfl) rfl
theorem q435 : (Jvm.Cond.instantiable "StaveScore$Rest" (6 : Nat)) ∈ lw_all := lw_g (lw_at lw_m2 133 rfl) rfl
theorem q437 : (Jvm.Cond.instanceMethod ({ cls := "StaveScore$Rest", name := "<init>", desc := "(I)V" } : Jvm.MethodName)) ∈ lw_all := lw_g (lw_at lw_m2 135 rfl) rfl
theorem q438 : (Jvm.Cond.code ({ cls := "StaveScore$Rest", name := "<init>", desc := "(I)V" } : Jvm.MethodName) prog_16_method_1_code (2 : Nat) (Option.none : Option Jvm.ClassFile.FieldType)) ∈ lw_all := lw_g (lw_at lw_m2 136 rfl) rfl
theorem q439 : (Jvm.Cond.methodLink "StaveScore$Rest" (1 : Nat) ({ cls := "StaveScore$Event", name := "<init>", desc := "(I)V" } : Jvm.MethodName)) ∈ lw_all := lw_g (lw_at lw_m2 137 rfl) rfl
theorem q440 : (Jvm.Cond.laysFinal "StaveScore$Rest" "StaveScore$Event" "number" "I") ∈ lw_all := lw_g (lw_at lw_m2 138 rfl) rfl
theorem q441 : (Jvm.Cond.lays "StaveScore$Rest" "StaveScore$Event" "voice" "I") ∈ lw_all := lw_g (lw_at lw_m2 139 rfl) rfl
theorem q442 : (Jvm.Cond.lays "StaveScore$Rest" "StaveScore$Event" "place" "I") ∈ lw_all := lw_g (lw_at lw_m2 140 rfl) rfl
theorem q443 : (Jvm.Cond.lays "StaveScore$Rest" "StaveScore$Event" "value" "I") ∈ lw_all := lw_g (lw_at lw_m2 141 rfl) rfl
theorem q444 : (Jvm.Cond.lays "StaveScore$Rest" "StaveScore$Event" "dots" "I") ∈ lw_all := lw_g (lw_at lw_m2 142 rfl) rfl
theorem q445 : (Jvm.Cond.laysFinal "StaveScore$Rest" "StaveScore$Event" "begin" "LStaveScore$Fraction;") ∈ lw_all := lw_g (lw_at lw_m2 143 rfl) rfl
theorem q446 : (Jvm.Cond.superclass "StaveScore$Rest" "StaveScore$Event") ∈ lw_all := lw_g (lw_at lw_m2 144 rfl) rfl
theorem q728 : (Jvm.Cond.selects "StaveScore$Rest" ({ cls := "StaveScore$Event", name := "kind", desc := "()I" } : Jvm.MethodName) ({ cls := "StaveScore$Rest", name := "kind", desc := "()I" } : Jvm.MethodName)) ∈ lw_all := lw_g (lw_at lw_m3 186 rfl) rfl
theorem q729 : (Jvm.Cond.instanceMethod ({ cls := "StaveScore$Rest", name := "kind", desc := "()I" } : Jvm.MethodName)) ∈ lw_all := lw_g (lw_at lw_m3 187 rfl) rfl
theorem q730 : (Jvm.Cond.code ({ cls := "StaveScore$Rest", name := "kind", desc := "()I" } : Jvm.MethodName) prog_16_method_2_code (1 : Nat) (Option.some Jvm.ClassFile.FieldType.int)) ∈ lw_all := lw_g (lw_at lw_m3 188 rfl) rfl
theorem q738 : (Jvm.Cond.selects "StaveScore$Rest" ({ cls := "StaveScore$Event", name := "many", desc := "()I" } : Jvm.MethodName) ({ cls := "StaveScore$Event", name := "many", desc := "()I" } : Jvm.MethodName)) ∈ lw_all := lw_g (lw_at lw_m3 196 rfl) rfl
theorem q749 : (Jvm.Cond.selects "StaveScore$Rest" ({ cls := "StaveScore$Event", name := "isTied", desc := "()Z" } : Jvm.MethodName) ({ cls := "StaveScore$Event", name := "isTied", desc := "()Z" } : Jvm.MethodName)) ∈ lw_all := lw_g (lw_at lw_m3 207 rfl) rfl
theorem q778 : (Jvm.Cond.sameMethod "StaveScore$Rest" "StaveScore$Event" "written" "(LStaveScore$Fraction;)V") ∈ lw_all := lw_g (lw_at lw_m3 236 rfl) rfl
theorem q793 : (Jvm.Cond.selects "StaveScore$Rest" ({ cls := "StaveScore$Event", name := "written", desc := "(LStaveScore$Fraction;)V" } : Jvm.MethodName) ({ cls := "StaveScore$Event", name := "written", desc := "(LStaveScore$Fraction;)V" } : Jvm.MethodName)) ∈ lw_all := lw_g (lw_at lw_m4 11 rfl) rfl
theorem q1024 : (Jvm.Cond.sameMethod "StaveScore$Rest" "StaveScore$Event" "takes" "()Z") ∈ lw_all := lw_g (lw_at lw_m5 2 rfl) rfl
theorem q1032 : (Jvm.Cond.selects "StaveScore$Rest" ({ cls := "StaveScore$Event", name := "takes", desc := "()Z" } : Jvm.MethodName) ({ cls := "StaveScore$Event", name := "takes", desc := "()Z" } : Jvm.MethodName)) ∈ lw_all := lw_g (lw_at lw_m5 10 rfl) rfl
theorem q1101 : (Jvm.Cond.selects "StaveScore$Rest" ({ cls := "StaveScore$Event", name := "isAlike", desc := "(LStaveScore$Event;)Z" } : Jvm.MethodName) ({ cls := "StaveScore$Event", name := "isAlike", desc := "(LStaveScore$Event;)Z" } : Jvm.MethodName)) ∈ lw_all := lw_g (lw_at lw_m5 79 rfl) rfl
theorem q1769 : (Jvm.Cond.castable "StaveScore$Rest" "StaveScore$Event") ∈ lw_tbl := lw_at lw_m8 27 rfl
theorem in_X15 : ∀ w ∈ wsX150, w ∈ lw_all := lw_in wsX150 [440, 441, 442, 443, 444, 445] (by decide +kernel) (by decide +kernel)

/-! StaveScore$Breath -/
set_option maxRecDepth 100000
def RX16 : String := "StaveScore$Breath"
def TX16 : u_T := fun k => match k with
  | 0 => ("StaveScore$Event", "number", "I", true)
  | 1 => ("StaveScore$Event", "voice", "I", false)
  | 2 => ("StaveScore$Event", "place", "I", false)
  | 3 => ("StaveScore$Event", "value", "I", false)
  | 4 => ("StaveScore$Event", "dots", "I", false)
  | _ => ("StaveScore$Event", "begin", "LStaveScore$Fraction;", true)
def tyX16 : Nat → FieldType := fun k => match k with
  | 0 => .int
  | 1 => .int
  | 2 => .int
  | 3 => .int
  | 4 => .int
  | _ => .object "StaveScore$Fraction"
abbrev wsX160 : List Cond := u_ws RX16 TX16 6
theorem nmX16 : ∀ a, a < 6 → ∀ b, b < 6 → a ≠ b → (TX16 a).2.1 ≠ (TX16 b).2.1 := by decide +kernel
theorem tyX16_ok : ∀ k, k < 6 → parseFieldDescriptor (TX16 k).2.2.1 = some (tyX16 k) := by decide +kernel
abbrev cX16_init : ByteArray := prog_3_method_1_code
def yX16_init : MethodName := ⟨RX16, "<init>", "(I)V"⟩
def dkwX16_init_0 : List UInt8 := [42, 27, 183, 0, 1, 177]
abbrev dktX16_init_0 : List UInt8 := dkwX16_init_0 ++ []
theorem dksX16_init_0 : cX16_init.data.toList.drop 0 = dktX16_init_0 := by decide +kernel
theorem dX16_init_0 : decode cX16_init 0 = .ok (.aload_n 0, 1) := dk_42 (dk_at dksX16_init_0 0 rfl rfl)
theorem dX16_init_1 : decode cX16_init 1 = .ok (.iload_n 1, 1) := dk_27 (dk_at dksX16_init_0 1 rfl rfl)
theorem dX16_init_2 : decode cX16_init 2 = .ok (.invokespecial 1, 3) := dk_183 0 1 (dk_at dksX16_init_0 2 rfl rfl)
theorem dX16_init_5 : decode cX16_init 5 = .ok (.return_, 1) := dk_177 (dk_at dksX16_init_0 5 rfl rfl)
abbrev cX16_kind : ByteArray := prog_3_method_2_code
def yX16_kind : MethodName := ⟨RX16, "kind", "()I"⟩
theorem dX16_kind_0 : decode cX16_kind 0 = .ok (.iconst 4, 1) := by decide +kernel
theorem dX16_kind_1 : decode cX16_kind 1 = .ok (.ireturn, 1) := by decide +kernel
abbrev cX16_written : ByteArray := prog_3_method_3_code
def yX16_written : MethodName := ⟨RX16, "written", "(LStaveScore$Fraction;)V"⟩
def dkwX16_written_0 : List UInt8 := [42, 43, 183, 0, 7, 43, 9, 10, 182, 0, 11, 177]
abbrev dktX16_written_0 : List UInt8 := dkwX16_written_0 ++ []
theorem dksX16_written_0 : cX16_written.data.toList.drop 0 = dktX16_written_0 := by decide +kernel
theorem dX16_written_0 : decode cX16_written 0 = .ok (.aload_n 0, 1) := dk_42 (dk_at dksX16_written_0 0 rfl rfl)
theorem dX16_written_1 : decode cX16_written 1 = .ok (.aload_n 1, 1) := dk_43 (dk_at dksX16_written_0 1 rfl rfl)
theorem dX16_written_2 : decode cX16_written 2 = .ok (.invokespecial 7, 3) := dk_183 0 7 (dk_at dksX16_written_0 2 rfl rfl)
theorem dX16_written_5 : decode cX16_written 5 = .ok (.aload_n 1, 1) := dk_43 (dk_at dksX16_written_0 5 rfl rfl)
theorem dX16_written_6 : decode cX16_written 6 = .ok (.lconst 0, 1) := dk_9 (dk_at dksX16_written_0 6 rfl rfl)
theorem dX16_written_7 : decode cX16_written 7 = .ok (.lconst 1, 1) := dk_10 (dk_at dksX16_written_0 7 rfl rfl)
theorem dX16_written_8 : decode cX16_written 8 = .ok (.invokevirtual 11, 3) := dk_182 0 11 (dk_at dksX16_written_0 8 rfl rfl)
theorem dX16_written_11 : decode cX16_written 11 = .ok (.return_, 1) := dk_177 (dk_at dksX16_written_0 11 rfl rfl)
abbrev cX16_takes : ByteArray := prog_3_method_4_code
def yX16_takes : MethodName := ⟨RX16, "takes", "()Z"⟩
def dkwX16_takes_0 : List UInt8 := [42, 183, 0, 17, 154, 0, 7, 4, 167, 0, 4, 3, 172]
abbrev dktX16_takes_0 : List UInt8 := dkwX16_takes_0 ++ []
theorem dksX16_takes_0 : cX16_takes.data.toList.drop 0 = dktX16_takes_0 := by decide +kernel
theorem dX16_takes_0 : decode cX16_takes 0 = .ok (.aload_n 0, 1) := dk_42 (dk_at dksX16_takes_0 0 rfl rfl)
theorem dX16_takes_1 : decode cX16_takes 1 = .ok (.invokespecial 17, 3) := dk_183 0 17 (dk_at dksX16_takes_0 1 rfl rfl)
theorem dX16_takes_4 : decode cX16_takes 4 = .ok (.ifCond .ne 7, 3) := dk_154 0 7 (dk_at dksX16_takes_0 4 rfl rfl)
theorem dX16_takes_7 : decode cX16_takes 7 = .ok (.iconst 1, 1) := dk_4 (dk_at dksX16_takes_0 7 rfl rfl)
theorem dX16_takes_8 : decode cX16_takes 8 = .ok (.goto 4, 3) := dk_167 0 4 (dk_at dksX16_takes_0 8 rfl rfl)
theorem dX16_takes_11 : decode cX16_takes 11 = .ok (.iconst 0, 1) := dk_3 (dk_at dksX16_takes_0 11 rfl rfl)
theorem dX16_takes_12 : decode cX16_takes 12 = .ok (.ireturn, 1) := dk_172 (dk_at dksX16_takes_0 12 rfl rfl)
theorem q79 : (Jvm.Cond.initialized "StaveScore$Breath") ∈ lw_all := lw_g (lw_at lw_m1 17 rfl) rfl
theorem q448 : (Jvm.Cond.instantiable "StaveScore$Breath" (6 : Nat)) ∈ lw_all := lw_g (lw_at lw_m2 146 rfl) rfl
theorem q450 : (Jvm.Cond.instanceMethod ({ cls := "StaveScore$Breath", name := "<init>", desc := "(I)V" } : Jvm.MethodName)) ∈ lw_all := lw_g (lw_at lw_m2 148 rfl) rfl
theorem q451 : (Jvm.Cond.code ({ cls := "StaveScore$Breath", name := "<init>", desc := "(I)V" } : Jvm.MethodName) prog_3_method_1_code (2 : Nat) (Option.none : Option Jvm.ClassFile.FieldType)) ∈ lw_all := lw_g (lw_at lw_m2 149 rfl) rfl
theorem q452 : (Jvm.Cond.methodLink "StaveScore$Breath" (1 : Nat) ({ cls := "StaveScore$Rest", name := "<init>", desc := "(I)V" } : Jvm.MethodName)) ∈ lw_all := lw_g (lw_at lw_m2 150 rfl) rfl
theorem q453 : (Jvm.Cond.laysFinal "StaveScore$Breath" "StaveScore$Event" "number" "I") ∈ lw_all := lw_g (lw_at lw_m2 151 rfl) rfl
theorem q454 : (Jvm.Cond.lays "StaveScore$Breath" "StaveScore$Event" "voice" "I") ∈ lw_all := lw_g (lw_at lw_m2 152 rfl) rfl
theorem q455 : (Jvm.Cond.lays "StaveScore$Breath" "StaveScore$Event" "place" "I") ∈ lw_all := lw_g (lw_at lw_m2 153 rfl) rfl
theorem q456 : (Jvm.Cond.lays "StaveScore$Breath" "StaveScore$Event" "value" "I") ∈ lw_all := lw_g (lw_at lw_m2 154 rfl) rfl
theorem q457 : (Jvm.Cond.lays "StaveScore$Breath" "StaveScore$Event" "dots" "I") ∈ lw_all := lw_g (lw_at lw_m2 155 rfl) rfl
theorem q458 : (Jvm.Cond.laysFinal "StaveScore$Breath" "StaveScore$Event" "begin" "LStaveScore$Fraction;") ∈ lw_all := lw_g (lw_at lw_m2 156 rfl) rfl
theorem q459 : (Jvm.Cond.superclass "StaveScore$Breath" "StaveScore$Rest") ∈ lw_all := lw_g (lw_at lw_m2 157 rfl) rfl
theorem q716 : (Jvm.Cond.selects "StaveScore$Breath" ({ cls := "StaveScore$Event", name := "kind", desc := "()I" } : Jvm.MethodName) ({ cls := "StaveScore$Breath", name := "kind", desc := "()I" } : Jvm.MethodName)) ∈ lw_all := lw_g (lw_at lw_m3 174 rfl) rfl
theorem q717 : (Jvm.Cond.instanceMethod ({ cls := "StaveScore$Breath", name := "kind", desc := "()I" } : Jvm.MethodName)) ∈ lw_all := lw_g (lw_at lw_m3 175 rfl) rfl
theorem q718 : (Jvm.Cond.code ({ cls := "StaveScore$Breath", name := "kind", desc := "()I" } : Jvm.MethodName) prog_3_method_2_code (1 : Nat) (Option.some Jvm.ClassFile.FieldType.int)) ∈ lw_all := lw_g (lw_at lw_m3 176 rfl) rfl
theorem q734 : (Jvm.Cond.selects "StaveScore$Breath" ({ cls := "StaveScore$Event", name := "many", desc := "()I" } : Jvm.MethodName) ({ cls := "StaveScore$Event", name := "many", desc := "()I" } : Jvm.MethodName)) ∈ lw_all := lw_g (lw_at lw_m3 192 rfl) rfl
theorem q743 : (Jvm.Cond.selects "StaveScore$Breath" ({ cls := "StaveScore$Event", name := "isTied", desc := "()Z" } : Jvm.MethodName) ({ cls := "StaveScore$Event", name := "isTied", desc := "()Z" } : Jvm.MethodName)) ∈ lw_all := lw_g (lw_at lw_m3 201 rfl) rfl
theorem q774 : (Jvm.Cond.selects "StaveScore$Breath" ({ cls := "StaveScore$Event", name := "written", desc := "(LStaveScore$Fraction;)V" } : Jvm.MethodName) ({ cls := "StaveScore$Breath", name := "written", desc := "(LStaveScore$Fraction;)V" } : Jvm.MethodName)) ∈ lw_all := lw_g (lw_at lw_m3 232 rfl) rfl
theorem q775 : (Jvm.Cond.instanceMethod ({ cls := "StaveScore$Breath", name := "written", desc := "(LStaveScore$Fraction;)V" } : Jvm.MethodName)) ∈ lw_all := lw_g (lw_at lw_m3 233 rfl) rfl
theorem q776 : (Jvm.Cond.code ({ cls := "StaveScore$Breath", name := "written", desc := "(LStaveScore$Fraction;)V" } : Jvm.MethodName) prog_3_method_3_code (2 : Nat) (Option.none : Option Jvm.ClassFile.FieldType)) ∈ lw_all := lw_g (lw_at lw_m3 234 rfl) rfl
theorem q777 : (Jvm.Cond.methodLink "StaveScore$Breath" (7 : Nat) ({ cls := "StaveScore$Rest", name := "written", desc := "(LStaveScore$Fraction;)V" } : Jvm.MethodName)) ∈ lw_all := lw_g (lw_at lw_m3 235 rfl) rfl
theorem q783 : (Jvm.Cond.methodLink "StaveScore$Breath" (11 : Nat) ({ cls := "StaveScore$Fraction", name := "multiply", desc := "(JJ)V" } : Jvm.MethodName)) ∈ lw_all := lw_g (lw_at lw_m4 1 rfl) rfl
theorem q1020 : (Jvm.Cond.selects "StaveScore$Breath" ({ cls := "StaveScore$Event", name := "takes", desc := "()Z" } : Jvm.MethodName) ({ cls := "StaveScore$Breath", name := "takes", desc := "()Z" } : Jvm.MethodName)) ∈ lw_all := lw_g (lw_at lw_m4 238 rfl) rfl
theorem q1021 : (Jvm.Cond.instanceMethod ({ cls := "StaveScore$Breath", name := "takes", desc := "()Z" } : Jvm.MethodName)) ∈ lw_all := lw_g (lw_at lw_m4 239 rfl) rfl
theorem q1022 : (Jvm.Cond.code ({ cls := "StaveScore$Breath", name := "takes", desc := "()Z" } : Jvm.MethodName) prog_3_method_4_code (1 : Nat) (Option.some Jvm.ClassFile.FieldType.boolean)) ∈ lw_all := lw_g (lw_at lw_m5 0 rfl) rfl
theorem q1023 : (Jvm.Cond.methodLink "StaveScore$Breath" (17 : Nat) ({ cls := "StaveScore$Rest", name := "takes", desc := "()Z" } : Jvm.MethodName)) ∈ lw_all := lw_g (lw_at lw_m5 1 rfl) rfl
theorem q1088 : (Jvm.Cond.selects "StaveScore$Breath" ({ cls := "StaveScore$Event", name := "isAlike", desc := "(LStaveScore$Event;)Z" } : Jvm.MethodName) ({ cls := "StaveScore$Event", name := "isAlike", desc := "(LStaveScore$Event;)Z" } : Jvm.MethodName)) ∈ lw_all := lw_g (lw_at lw_m5 66 rfl) rfl
theorem q1770 : (Jvm.Cond.castable "StaveScore$Breath" "StaveScore$Event") ∈ lw_tbl := lw_at lw_m8 28 rfl
theorem q1771 : (Jvm.Cond.castable "StaveScore$Breath" "StaveScore$Rest") ∈ lw_tbl := lw_at lw_m8 29 rfl
theorem in_X16 : ∀ w ∈ wsX160, w ∈ lw_all := lw_in wsX160 [453, 454, 455, 456, 457, 458] (by decide +kernel) (by decide +kernel)

/-! StaveScore$Tuplet -/
set_option maxRecDepth 100000
def RX17 : String := "StaveScore$Tuplet"
def TX17 : u_T := fun k => match k with
  | 0 => ("StaveScore$Tuplet", "number", "I", true)
  | 1 => ("StaveScore$Tuplet", "voice", "I", true)
  | 2 => ("StaveScore$Tuplet", "first", "I", false)
  | 3 => ("StaveScore$Tuplet", "last", "I", false)
  | 4 => ("StaveScore$Tuplet", "n", "I", true)
  | 5 => ("StaveScore$Tuplet", "m", "I", true)
  | _ => ("StaveScore$Tuplet", "unit", "I", true)
def tyX17 : Nat → FieldType := fun k => match k with
  | 0 => .int
  | 1 => .int
  | 2 => .int
  | 3 => .int
  | 4 => .int
  | 5 => .int
  | _ => .int
abbrev wsX170 : List Cond := u_ws RX17 TX17 7
theorem nmX17 : ∀ a, a < 7 → ∀ b, b < 7 → a ≠ b → (TX17 a).2.1 ≠ (TX17 b).2.1 := by decide +kernel
theorem tyX17_ok : ∀ k, k < 7 → parseFieldDescriptor (TX17 k).2.2.1 = some (tyX17 k) := by decide +kernel
abbrev cX17_has : ByteArray := prog_18_method_2_code
def yX17_has : MethodName := ⟨RX17, "has", "(II)Z"⟩
def dkwX17_has_1 : List UInt8 := [4, 167, 0, 4, 3, 172]
abbrev dktX17_has_1 : List UInt8 := dkwX17_has_1 ++ []
def dkwX17_has_0 : List UInt8 := [27, 42, 180, 0, 13, 160, 0, 23, 28, 42, 180, 0, 16, 161, 0, 15, 28, 42, 180, 0, 19, 163, 0, 7]
abbrev dktX17_has_0 : List UInt8 := dkwX17_has_0 ++ dktX17_has_1
theorem dksX17_has_0 : cX17_has.data.toList.drop 0 = dktX17_has_0 := by decide +kernel
theorem dksX17_has_1 : cX17_has.data.toList.drop 24 = dktX17_has_1 := dk_seg dksX17_has_0 24 rfl rfl
theorem dX17_has_0 : decode cX17_has 0 = .ok (.iload_n 1, 1) := dk_27 (dk_at dksX17_has_0 0 rfl rfl)
theorem dX17_has_1 : decode cX17_has 1 = .ok (.aload_n 0, 1) := dk_42 (dk_at dksX17_has_0 1 rfl rfl)
theorem dX17_has_2 : decode cX17_has 2 = .ok (.getfield 13, 3) := dk_180 0 13 (dk_at dksX17_has_0 2 rfl rfl)
theorem dX17_has_5 : decode cX17_has 5 = .ok (.if_icmp .ne 23, 3) := dk_160 0 23 (dk_at dksX17_has_0 5 rfl rfl)
theorem dX17_has_8 : decode cX17_has 8 = .ok (.iload_n 2, 1) := dk_28 (dk_at dksX17_has_0 8 rfl rfl)
theorem dX17_has_9 : decode cX17_has 9 = .ok (.aload_n 0, 1) := dk_42 (dk_at dksX17_has_0 9 rfl rfl)
theorem dX17_has_10 : decode cX17_has 10 = .ok (.getfield 16, 3) := dk_180 0 16 (dk_at dksX17_has_0 10 rfl rfl)
theorem dX17_has_13 : decode cX17_has 13 = .ok (.if_icmp .lt 15, 3) := dk_161 0 15 (dk_at dksX17_has_0 13 rfl rfl)
theorem dX17_has_16 : decode cX17_has 16 = .ok (.iload_n 2, 1) := dk_28 (dk_at dksX17_has_0 16 rfl rfl)
theorem dX17_has_17 : decode cX17_has 17 = .ok (.aload_n 0, 1) := dk_42 (dk_at dksX17_has_0 17 rfl rfl)
theorem dX17_has_18 : decode cX17_has 18 = .ok (.getfield 19, 3) := dk_180 0 19 (dk_at dksX17_has_0 18 rfl rfl)
theorem dX17_has_21 : decode cX17_has 21 = .ok (.if_icmp .gt 7, 3) := dk_163 0 7 (dk_at dksX17_has_0 21 rfl rfl)
theorem dX17_has_24 : decode cX17_has 24 = .ok (.iconst 1, 1) := dk_4 (dk_at dksX17_has_1 0 rfl rfl)
theorem dX17_has_25 : decode cX17_has 25 = .ok (.goto 4, 3) := dk_167 0 4 (dk_at dksX17_has_1 1 rfl rfl)
theorem dX17_has_28 : decode cX17_has 28 = .ok (.iconst 0, 1) := dk_3 (dk_at dksX17_has_1 4 rfl rfl)
theorem dX17_has_29 : decode cX17_has 29 = .ok (.ireturn, 1) := dk_172 (dk_at dksX17_has_1 5 rfl rfl)
abbrev cX17_isIn : ByteArray := prog_18_method_4_code
def yX17_isIn : MethodName := ⟨RX17, "isIn", "(LStaveScore$Tuplet;)Z"⟩
def dkwX17_isIn_1 : List UInt8 := [180, 0, 7, 43, 180, 0, 7, 164, 0, 7, 4, 167, 0, 4, 3, 172]
abbrev dktX17_isIn_1 : List UInt8 := dkwX17_isIn_1 ++ []
def dkwX17_isIn_0 : List UInt8 := [43, 42, 165, 0, 34, 43, 42, 182, 0, 31, 153, 0, 26, 42, 43, 182, 0, 31, 153, 0, 14, 42]
abbrev dktX17_isIn_0 : List UInt8 := dkwX17_isIn_0 ++ dktX17_isIn_1
theorem dksX17_isIn_0 : cX17_isIn.data.toList.drop 0 = dktX17_isIn_0 := by decide +kernel
theorem dksX17_isIn_1 : cX17_isIn.data.toList.drop 22 = dktX17_isIn_1 := dk_seg dksX17_isIn_0 22 rfl rfl
theorem dX17_isIn_0 : decode cX17_isIn 0 = .ok (.aload_n 1, 1) := dk_43 (dk_at dksX17_isIn_0 0 rfl rfl)
theorem dX17_isIn_1 : decode cX17_isIn 1 = .ok (.aload_n 0, 1) := dk_42 (dk_at dksX17_isIn_0 1 rfl rfl)
theorem dX17_isIn_2 : decode cX17_isIn 2 = .ok (.if_acmp .eq 34, 3) := dk_165 0 34 (dk_at dksX17_isIn_0 2 rfl rfl)
theorem dX17_isIn_5 : decode cX17_isIn 5 = .ok (.aload_n 1, 1) := dk_43 (dk_at dksX17_isIn_0 5 rfl rfl)
theorem dX17_isIn_6 : decode cX17_isIn 6 = .ok (.aload_n 0, 1) := dk_42 (dk_at dksX17_isIn_0 6 rfl rfl)
theorem dX17_isIn_7 : decode cX17_isIn 7 = .ok (.invokevirtual 31, 3) := dk_182 0 31 (dk_at dksX17_isIn_0 7 rfl rfl)
theorem dX17_isIn_10 : decode cX17_isIn 10 = .ok (.ifCond .eq 26, 3) := dk_153 0 26 (dk_at dksX17_isIn_0 10 rfl rfl)
theorem dX17_isIn_13 : decode cX17_isIn 13 = .ok (.aload_n 0, 1) := dk_42 (dk_at dksX17_isIn_0 13 rfl rfl)
theorem dX17_isIn_14 : decode cX17_isIn 14 = .ok (.aload_n 1, 1) := dk_43 (dk_at dksX17_isIn_0 14 rfl rfl)
theorem dX17_isIn_15 : decode cX17_isIn 15 = .ok (.invokevirtual 31, 3) := dk_182 0 31 (dk_at dksX17_isIn_0 15 rfl rfl)
theorem dX17_isIn_18 : decode cX17_isIn 18 = .ok (.ifCond .eq 14, 3) := dk_153 0 14 (dk_at dksX17_isIn_0 18 rfl rfl)
theorem dX17_isIn_21 : decode cX17_isIn 21 = .ok (.aload_n 0, 1) := dk_42 (dk_at dksX17_isIn_0 21 rfl rfl)
theorem dX17_isIn_22 : decode cX17_isIn 22 = .ok (.getfield 7, 3) := dk_180 0 7 (dk_at dksX17_isIn_1 0 rfl rfl)
theorem dX17_isIn_25 : decode cX17_isIn 25 = .ok (.aload_n 1, 1) := dk_43 (dk_at dksX17_isIn_1 3 rfl rfl)
theorem dX17_isIn_26 : decode cX17_isIn 26 = .ok (.getfield 7, 3) := dk_180 0 7 (dk_at dksX17_isIn_1 4 rfl rfl)
theorem dX17_isIn_29 : decode cX17_isIn 29 = .ok (.if_icmp .le 7, 3) := dk_164 0 7 (dk_at dksX17_isIn_1 7 rfl rfl)
theorem dX17_isIn_32 : decode cX17_isIn 32 = .ok (.iconst 1, 1) := dk_4 (dk_at dksX17_isIn_1 10 rfl rfl)
theorem dX17_isIn_33 : decode cX17_isIn 33 = .ok (.goto 4, 3) := dk_167 0 4 (dk_at dksX17_isIn_1 11 rfl rfl)
theorem dX17_isIn_36 : decode cX17_isIn 36 = .ok (.iconst 0, 1) := dk_3 (dk_at dksX17_isIn_1 14 rfl rfl)
theorem dX17_isIn_37 : decode cX17_isIn 37 = .ok (.ireturn, 1) := dk_172 (dk_at dksX17_isIn_1 15 rfl rfl)
abbrev cX17_spans : ByteArray := prog_18_method_3_code
def yX17_spans : MethodName := ⟨RX17, "spans", "(LStaveScore$Tuplet;)Z"⟩
def dkwX17_spans_1 : List UInt8 := [180, 0, 19, 42, 180, 0, 19, 163, 0, 7, 4, 167, 0, 4, 3, 172]
abbrev dktX17_spans_1 : List UInt8 := dkwX17_spans_1 ++ []
def dkwX17_spans_0 : List UInt8 := [42, 180, 0, 13, 43, 180, 0, 13, 160, 0, 29, 42, 180, 0, 16, 43, 180, 0, 16, 163, 0, 18, 43]
abbrev dktX17_spans_0 : List UInt8 := dkwX17_spans_0 ++ dktX17_spans_1
theorem dksX17_spans_0 : cX17_spans.data.toList.drop 0 = dktX17_spans_0 := by decide +kernel
theorem dksX17_spans_1 : cX17_spans.data.toList.drop 23 = dktX17_spans_1 := dk_seg dksX17_spans_0 23 rfl rfl
theorem dX17_spans_0 : decode cX17_spans 0 = .ok (.aload_n 0, 1) := dk_42 (dk_at dksX17_spans_0 0 rfl rfl)
theorem dX17_spans_1 : decode cX17_spans 1 = .ok (.getfield 13, 3) := dk_180 0 13 (dk_at dksX17_spans_0 1 rfl rfl)
theorem dX17_spans_4 : decode cX17_spans 4 = .ok (.aload_n 1, 1) := dk_43 (dk_at dksX17_spans_0 4 rfl rfl)
theorem dX17_spans_5 : decode cX17_spans 5 = .ok (.getfield 13, 3) := dk_180 0 13 (dk_at dksX17_spans_0 5 rfl rfl)
theorem dX17_spans_8 : decode cX17_spans 8 = .ok (.if_icmp .ne 29, 3) := dk_160 0 29 (dk_at dksX17_spans_0 8 rfl rfl)
theorem dX17_spans_11 : decode cX17_spans 11 = .ok (.aload_n 0, 1) := dk_42 (dk_at dksX17_spans_0 11 rfl rfl)
theorem dX17_spans_12 : decode cX17_spans 12 = .ok (.getfield 16, 3) := dk_180 0 16 (dk_at dksX17_spans_0 12 rfl rfl)
theorem dX17_spans_15 : decode cX17_spans 15 = .ok (.aload_n 1, 1) := dk_43 (dk_at dksX17_spans_0 15 rfl rfl)
theorem dX17_spans_16 : decode cX17_spans 16 = .ok (.getfield 16, 3) := dk_180 0 16 (dk_at dksX17_spans_0 16 rfl rfl)
theorem dX17_spans_19 : decode cX17_spans 19 = .ok (.if_icmp .gt 18, 3) := dk_163 0 18 (dk_at dksX17_spans_0 19 rfl rfl)
theorem dX17_spans_22 : decode cX17_spans 22 = .ok (.aload_n 1, 1) := dk_43 (dk_at dksX17_spans_0 22 rfl rfl)
theorem dX17_spans_23 : decode cX17_spans 23 = .ok (.getfield 19, 3) := dk_180 0 19 (dk_at dksX17_spans_1 0 rfl rfl)
theorem dX17_spans_26 : decode cX17_spans 26 = .ok (.aload_n 0, 1) := dk_42 (dk_at dksX17_spans_1 3 rfl rfl)
theorem dX17_spans_27 : decode cX17_spans 27 = .ok (.getfield 19, 3) := dk_180 0 19 (dk_at dksX17_spans_1 4 rfl rfl)
theorem dX17_spans_30 : decode cX17_spans 30 = .ok (.if_icmp .gt 7, 3) := dk_163 0 7 (dk_at dksX17_spans_1 7 rfl rfl)
theorem dX17_spans_33 : decode cX17_spans 33 = .ok (.iconst 1, 1) := dk_4 (dk_at dksX17_spans_1 10 rfl rfl)
theorem dX17_spans_34 : decode cX17_spans 34 = .ok (.goto 4, 3) := dk_167 0 4 (dk_at dksX17_spans_1 11 rfl rfl)
theorem dX17_spans_37 : decode cX17_spans 37 = .ok (.iconst 0, 1) := dk_3 (dk_at dksX17_spans_1 14 rfl rfl)
theorem dX17_spans_38 : decode cX17_spans 38 = .ok (.ireturn, 1) := dk_172 (dk_at dksX17_spans_1 15 rfl rfl)
abbrev cX17_init : ByteArray := prog_18_method_1_code
def yX17_init : MethodName := ⟨RX17, "<init>", "(IIIIIII)V"⟩
def dkwX17_init_1 : List UInt8 := [181, 0, 19, 42, 21, 5, 181, 0, 22, 42, 21, 6, 181, 0, 25, 42, 21, 7, 181, 0, 28, 177]
abbrev dktX17_init_1 : List UInt8 := dkwX17_init_1 ++ []
def dkwX17_init_0 : List UInt8 := [42, 183, 0, 1, 42, 27, 181, 0, 7, 42, 28, 181, 0, 13, 42, 29, 181, 0, 16, 42, 21, 4]
abbrev dktX17_init_0 : List UInt8 := dkwX17_init_0 ++ dktX17_init_1
theorem dksX17_init_0 : cX17_init.data.toList.drop 0 = dktX17_init_0 := by decide +kernel
theorem dksX17_init_1 : cX17_init.data.toList.drop 22 = dktX17_init_1 := dk_seg dksX17_init_0 22 rfl rfl
theorem dX17_init_0 : decode cX17_init 0 = .ok (.aload_n 0, 1) := dk_42 (dk_at dksX17_init_0 0 rfl rfl)
theorem dX17_init_1 : decode cX17_init 1 = .ok (.invokespecial 1, 3) := dk_183 0 1 (dk_at dksX17_init_0 1 rfl rfl)
theorem dX17_init_4 : decode cX17_init 4 = .ok (.aload_n 0, 1) := dk_42 (dk_at dksX17_init_0 4 rfl rfl)
theorem dX17_init_5 : decode cX17_init 5 = .ok (.iload_n 1, 1) := dk_27 (dk_at dksX17_init_0 5 rfl rfl)
theorem dX17_init_6 : decode cX17_init 6 = .ok (.putfield 7, 3) := dk_181 0 7 (dk_at dksX17_init_0 6 rfl rfl)
theorem dX17_init_9 : decode cX17_init 9 = .ok (.aload_n 0, 1) := dk_42 (dk_at dksX17_init_0 9 rfl rfl)
theorem dX17_init_10 : decode cX17_init 10 = .ok (.iload_n 2, 1) := dk_28 (dk_at dksX17_init_0 10 rfl rfl)
theorem dX17_init_11 : decode cX17_init 11 = .ok (.putfield 13, 3) := dk_181 0 13 (dk_at dksX17_init_0 11 rfl rfl)
theorem dX17_init_14 : decode cX17_init 14 = .ok (.aload_n 0, 1) := dk_42 (dk_at dksX17_init_0 14 rfl rfl)
theorem dX17_init_15 : decode cX17_init 15 = .ok (.iload_n 3, 1) := dk_29 (dk_at dksX17_init_0 15 rfl rfl)
theorem dX17_init_16 : decode cX17_init 16 = .ok (.putfield 16, 3) := dk_181 0 16 (dk_at dksX17_init_0 16 rfl rfl)
theorem dX17_init_19 : decode cX17_init 19 = .ok (.aload_n 0, 1) := dk_42 (dk_at dksX17_init_0 19 rfl rfl)
theorem dX17_init_20 : decode cX17_init 20 = .ok (.iload 4, 2) := dk_21 4 (dk_at dksX17_init_0 20 rfl rfl)
theorem dX17_init_22 : decode cX17_init 22 = .ok (.putfield 19, 3) := dk_181 0 19 (dk_at dksX17_init_1 0 rfl rfl)
theorem dX17_init_25 : decode cX17_init 25 = .ok (.aload_n 0, 1) := dk_42 (dk_at dksX17_init_1 3 rfl rfl)
theorem dX17_init_26 : decode cX17_init 26 = .ok (.iload 5, 2) := dk_21 5 (dk_at dksX17_init_1 4 rfl rfl)
theorem dX17_init_28 : decode cX17_init 28 = .ok (.putfield 22, 3) := dk_181 0 22 (dk_at dksX17_init_1 6 rfl rfl)
theorem dX17_init_31 : decode cX17_init 31 = .ok (.aload_n 0, 1) := dk_42 (dk_at dksX17_init_1 9 rfl rfl)
theorem dX17_init_32 : decode cX17_init 32 = .ok (.iload 6, 2) := dk_21 6 (dk_at dksX17_init_1 10 rfl rfl)
theorem dX17_init_34 : decode cX17_init 34 = .ok (.putfield 25, 3) := dk_181 0 25 (dk_at dksX17_init_1 12 rfl rfl)
theorem dX17_init_37 : decode cX17_init 37 = .ok (.aload_n 0, 1) := dk_42 (dk_at dksX17_init_1 15 rfl rfl)
theorem dX17_init_38 : decode cX17_init 38 = .ok (.iload 7, 2) := dk_21 7 (dk_at dksX17_init_1 16 rfl rfl)
theorem dX17_init_40 : decode cX17_init 40 = .ok (.putfield 28, 3) := dk_181 0 28 (dk_at dksX17_init_1 18 rfl rfl)
theorem dX17_init_43 : decode cX17_init 43 = .ok (.return_, 1) := dk_177 (dk_at dksX17_init_1 21 rfl rfl)
abbrev cX17_isApart : ByteArray := prog_18_method_5_code
def yX17_isApart : MethodName := ⟨RX17, "isApart", "(LStaveScore$Tuplet;)Z"⟩
def dkwX17_isApart_1 : List UInt8 := [180, 0, 19, 42, 180, 0, 16, 162, 0, 7, 4, 167, 0, 4, 3, 172]
abbrev dktX17_isApart_1 : List UInt8 := dkwX17_isApart_1 ++ []
def dkwX17_isApart_0 : List UInt8 := [42, 180, 0, 13, 43, 180, 0, 13, 160, 0, 25, 42, 180, 0, 19, 43, 180, 0, 16, 161, 0, 14, 43]
abbrev dktX17_isApart_0 : List UInt8 := dkwX17_isApart_0 ++ dktX17_isApart_1
theorem dksX17_isApart_0 : cX17_isApart.data.toList.drop 0 = dktX17_isApart_0 := by decide +kernel
theorem dksX17_isApart_1 : cX17_isApart.data.toList.drop 23 = dktX17_isApart_1 := dk_seg dksX17_isApart_0 23 rfl rfl
theorem dX17_isApart_0 : decode cX17_isApart 0 = .ok (.aload_n 0, 1) := dk_42 (dk_at dksX17_isApart_0 0 rfl rfl)
theorem dX17_isApart_1 : decode cX17_isApart 1 = .ok (.getfield 13, 3) := dk_180 0 13 (dk_at dksX17_isApart_0 1 rfl rfl)
theorem dX17_isApart_4 : decode cX17_isApart 4 = .ok (.aload_n 1, 1) := dk_43 (dk_at dksX17_isApart_0 4 rfl rfl)
theorem dX17_isApart_5 : decode cX17_isApart 5 = .ok (.getfield 13, 3) := dk_180 0 13 (dk_at dksX17_isApart_0 5 rfl rfl)
theorem dX17_isApart_8 : decode cX17_isApart 8 = .ok (.if_icmp .ne 25, 3) := dk_160 0 25 (dk_at dksX17_isApart_0 8 rfl rfl)
theorem dX17_isApart_11 : decode cX17_isApart 11 = .ok (.aload_n 0, 1) := dk_42 (dk_at dksX17_isApart_0 11 rfl rfl)
theorem dX17_isApart_12 : decode cX17_isApart 12 = .ok (.getfield 19, 3) := dk_180 0 19 (dk_at dksX17_isApart_0 12 rfl rfl)
theorem dX17_isApart_15 : decode cX17_isApart 15 = .ok (.aload_n 1, 1) := dk_43 (dk_at dksX17_isApart_0 15 rfl rfl)
theorem dX17_isApart_16 : decode cX17_isApart 16 = .ok (.getfield 16, 3) := dk_180 0 16 (dk_at dksX17_isApart_0 16 rfl rfl)
theorem dX17_isApart_19 : decode cX17_isApart 19 = .ok (.if_icmp .lt 14, 3) := dk_161 0 14 (dk_at dksX17_isApart_0 19 rfl rfl)
theorem dX17_isApart_22 : decode cX17_isApart 22 = .ok (.aload_n 1, 1) := dk_43 (dk_at dksX17_isApart_0 22 rfl rfl)
theorem dX17_isApart_23 : decode cX17_isApart 23 = .ok (.getfield 19, 3) := dk_180 0 19 (dk_at dksX17_isApart_1 0 rfl rfl)
theorem dX17_isApart_26 : decode cX17_isApart 26 = .ok (.aload_n 0, 1) := dk_42 (dk_at dksX17_isApart_1 3 rfl rfl)
theorem dX17_isApart_27 : decode cX17_isApart 27 = .ok (.getfield 16, 3) := dk_180 0 16 (dk_at dksX17_isApart_1 4 rfl rfl)
theorem dX17_isApart_30 : decode cX17_isApart 30 = .ok (.if_icmp .ge 7, 3) := dk_162 0 7 (dk_at dksX17_isApart_1 7 rfl rfl)
theorem dX17_isApart_33 : decode cX17_isApart 33 = .ok (.iconst 1, 1) := dk_4 (dk_at dksX17_isApart_1 10 rfl rfl)
theorem dX17_isApart_34 : decode cX17_isApart 34 = .ok (.goto 4, 3) := dk_167 0 4 (dk_at dksX17_isApart_1 11 rfl rfl)
theorem dX17_isApart_37 : decode cX17_isApart 37 = .ok (.iconst 0, 1) := dk_3 (dk_at dksX17_isApart_1 14 rfl rfl)
theorem dX17_isApart_38 : decode cX17_isApart 38 = .ok (.ireturn, 1) := dk_172 (dk_at dksX17_isApart_1 15 rfl rfl)
abbrev cX17_isAlike : ByteArray := prog_18_method_6_code
def yX17_isAlike : MethodName := ⟨RX17, "isAlike", "(LStaveScore$Tuplet;)Z"⟩
def dkwX17_isAlike_2 : List UInt8 := [180, 0, 19, 43, 180, 0, 19, 160, 0, 7, 4, 167, 0, 4, 3, 172]
abbrev dktX17_isAlike_2 : List UInt8 := dkwX17_isAlike_2 ++ []
def dkwX17_isAlike_1 : List UInt8 := [180, 0, 28, 43, 180, 0, 28, 160, 0, 29, 42, 180, 0, 16, 43, 180, 0, 16, 160, 0, 18, 42]
abbrev dktX17_isAlike_1 : List UInt8 := dkwX17_isAlike_1 ++ dktX17_isAlike_2
def dkwX17_isAlike_0 : List UInt8 := [42, 180, 0, 22, 43, 180, 0, 22, 160, 0, 51, 42, 180, 0, 25, 43, 180, 0, 25, 160, 0, 40, 42]
abbrev dktX17_isAlike_0 : List UInt8 := dkwX17_isAlike_0 ++ dktX17_isAlike_1
theorem dksX17_isAlike_0 : cX17_isAlike.data.toList.drop 0 = dktX17_isAlike_0 := by decide +kernel
theorem dksX17_isAlike_1 : cX17_isAlike.data.toList.drop 23 = dktX17_isAlike_1 := dk_seg dksX17_isAlike_0 23 rfl rfl
theorem dksX17_isAlike_2 : cX17_isAlike.data.toList.drop 45 = dktX17_isAlike_2 := dk_seg dksX17_isAlike_1 22 rfl rfl
theorem dX17_isAlike_0 : decode cX17_isAlike 0 = .ok (.aload_n 0, 1) := dk_42 (dk_at dksX17_isAlike_0 0 rfl rfl)
theorem dX17_isAlike_1 : decode cX17_isAlike 1 = .ok (.getfield 22, 3) := dk_180 0 22 (dk_at dksX17_isAlike_0 1 rfl rfl)
theorem dX17_isAlike_4 : decode cX17_isAlike 4 = .ok (.aload_n 1, 1) := dk_43 (dk_at dksX17_isAlike_0 4 rfl rfl)
theorem dX17_isAlike_5 : decode cX17_isAlike 5 = .ok (.getfield 22, 3) := dk_180 0 22 (dk_at dksX17_isAlike_0 5 rfl rfl)
theorem dX17_isAlike_8 : decode cX17_isAlike 8 = .ok (.if_icmp .ne 51, 3) := dk_160 0 51 (dk_at dksX17_isAlike_0 8 rfl rfl)
theorem dX17_isAlike_11 : decode cX17_isAlike 11 = .ok (.aload_n 0, 1) := dk_42 (dk_at dksX17_isAlike_0 11 rfl rfl)
theorem dX17_isAlike_12 : decode cX17_isAlike 12 = .ok (.getfield 25, 3) := dk_180 0 25 (dk_at dksX17_isAlike_0 12 rfl rfl)
theorem dX17_isAlike_15 : decode cX17_isAlike 15 = .ok (.aload_n 1, 1) := dk_43 (dk_at dksX17_isAlike_0 15 rfl rfl)
theorem dX17_isAlike_16 : decode cX17_isAlike 16 = .ok (.getfield 25, 3) := dk_180 0 25 (dk_at dksX17_isAlike_0 16 rfl rfl)
theorem dX17_isAlike_19 : decode cX17_isAlike 19 = .ok (.if_icmp .ne 40, 3) := dk_160 0 40 (dk_at dksX17_isAlike_0 19 rfl rfl)
theorem dX17_isAlike_22 : decode cX17_isAlike 22 = .ok (.aload_n 0, 1) := dk_42 (dk_at dksX17_isAlike_0 22 rfl rfl)
theorem dX17_isAlike_23 : decode cX17_isAlike 23 = .ok (.getfield 28, 3) := dk_180 0 28 (dk_at dksX17_isAlike_1 0 rfl rfl)
theorem dX17_isAlike_26 : decode cX17_isAlike 26 = .ok (.aload_n 1, 1) := dk_43 (dk_at dksX17_isAlike_1 3 rfl rfl)
theorem dX17_isAlike_27 : decode cX17_isAlike 27 = .ok (.getfield 28, 3) := dk_180 0 28 (dk_at dksX17_isAlike_1 4 rfl rfl)
theorem dX17_isAlike_30 : decode cX17_isAlike 30 = .ok (.if_icmp .ne 29, 3) := dk_160 0 29 (dk_at dksX17_isAlike_1 7 rfl rfl)
theorem dX17_isAlike_33 : decode cX17_isAlike 33 = .ok (.aload_n 0, 1) := dk_42 (dk_at dksX17_isAlike_1 10 rfl rfl)
theorem dX17_isAlike_34 : decode cX17_isAlike 34 = .ok (.getfield 16, 3) := dk_180 0 16 (dk_at dksX17_isAlike_1 11 rfl rfl)
theorem dX17_isAlike_37 : decode cX17_isAlike 37 = .ok (.aload_n 1, 1) := dk_43 (dk_at dksX17_isAlike_1 14 rfl rfl)
theorem dX17_isAlike_38 : decode cX17_isAlike 38 = .ok (.getfield 16, 3) := dk_180 0 16 (dk_at dksX17_isAlike_1 15 rfl rfl)
theorem dX17_isAlike_41 : decode cX17_isAlike 41 = .ok (.if_icmp .ne 18, 3) := dk_160 0 18 (dk_at dksX17_isAlike_1 18 rfl rfl)
theorem dX17_isAlike_44 : decode cX17_isAlike 44 = .ok (.aload_n 0, 1) := dk_42 (dk_at dksX17_isAlike_1 21 rfl rfl)
theorem dX17_isAlike_45 : decode cX17_isAlike 45 = .ok (.getfield 19, 3) := dk_180 0 19 (dk_at dksX17_isAlike_2 0 rfl rfl)
theorem dX17_isAlike_48 : decode cX17_isAlike 48 = .ok (.aload_n 1, 1) := dk_43 (dk_at dksX17_isAlike_2 3 rfl rfl)
theorem dX17_isAlike_49 : decode cX17_isAlike 49 = .ok (.getfield 19, 3) := dk_180 0 19 (dk_at dksX17_isAlike_2 4 rfl rfl)
theorem dX17_isAlike_52 : decode cX17_isAlike 52 = .ok (.if_icmp .ne 7, 3) := dk_160 0 7 (dk_at dksX17_isAlike_2 7 rfl rfl)
theorem dX17_isAlike_55 : decode cX17_isAlike 55 = .ok (.iconst 1, 1) := dk_4 (dk_at dksX17_isAlike_2 10 rfl rfl)
theorem dX17_isAlike_56 : decode cX17_isAlike 56 = .ok (.goto 4, 3) := dk_167 0 4 (dk_at dksX17_isAlike_2 11 rfl rfl)
theorem dX17_isAlike_59 : decode cX17_isAlike 59 = .ok (.iconst 0, 1) := dk_3 (dk_at dksX17_isAlike_2 14 rfl rfl)
theorem dX17_isAlike_60 : decode cX17_isAlike 60 = .ok (.ireturn, 1) := dk_172 (dk_at dksX17_isAlike_2 15 rfl rfl)
theorem q89 : (Jvm.Cond.initialized "StaveScore$Tuplet") ∈ lw_all := lw_g (lw_at lw_m1 27 rfl) rfl
theorem q756 : (Jvm.Cond.instanceMethod ({ cls := "StaveScore$Tuplet", name := "has", desc := "(II)Z" } : Jvm.MethodName)) ∈ lw_all := lw_g (lw_at lw_m3 214 rfl) rfl
theorem q757 : (Jvm.Cond.selects "StaveScore$Tuplet" ({ cls := "StaveScore$Tuplet", name := "has", desc := "(II)Z" } : Jvm.MethodName) ({ cls := "StaveScore$Tuplet", name := "has", desc := "(II)Z" } : Jvm.MethodName)) ∈ lw_all := lw_g (lw_at lw_m3 215 rfl) rfl
theorem q758 : (Jvm.Cond.code ({ cls := "StaveScore$Tuplet", name := "has", desc := "(II)Z" } : Jvm.MethodName) prog_18_method_2_code (3 : Nat) (Option.some Jvm.ClassFile.FieldType.boolean)) ∈ lw_all := lw_g (lw_at lw_m3 216 rfl) rfl
theorem q795 : (Jvm.Cond.instanceMethod ({ cls := "StaveScore$Tuplet", name := "isIn", desc := "(LStaveScore$Tuplet;)Z" } : Jvm.MethodName)) ∈ lw_all := lw_g (lw_at lw_m4 13 rfl) rfl
theorem q796 : (Jvm.Cond.selects "StaveScore$Tuplet" ({ cls := "StaveScore$Tuplet", name := "isIn", desc := "(LStaveScore$Tuplet;)Z" } : Jvm.MethodName) ({ cls := "StaveScore$Tuplet", name := "isIn", desc := "(LStaveScore$Tuplet;)Z" } : Jvm.MethodName)) ∈ lw_all := lw_g (lw_at lw_m4 14 rfl) rfl
theorem q797 : (Jvm.Cond.code ({ cls := "StaveScore$Tuplet", name := "isIn", desc := "(LStaveScore$Tuplet;)Z" } : Jvm.MethodName) prog_18_method_4_code (2 : Nat) (Option.some Jvm.ClassFile.FieldType.boolean)) ∈ lw_all := lw_g (lw_at lw_m4 15 rfl) rfl
theorem q798 : (Jvm.Cond.methodLink "StaveScore$Tuplet" (31 : Nat) ({ cls := "StaveScore$Tuplet", name := "spans", desc := "(LStaveScore$Tuplet;)Z" } : Jvm.MethodName)) ∈ lw_all := lw_g (lw_at lw_m4 16 rfl) rfl
theorem q799 : (Jvm.Cond.instanceMethod ({ cls := "StaveScore$Tuplet", name := "spans", desc := "(LStaveScore$Tuplet;)Z" } : Jvm.MethodName)) ∈ lw_all := lw_g (lw_at lw_m4 17 rfl) rfl
theorem q800 : (Jvm.Cond.selects "StaveScore$Tuplet" ({ cls := "StaveScore$Tuplet", name := "spans", desc := "(LStaveScore$Tuplet;)Z" } : Jvm.MethodName) ({ cls := "StaveScore$Tuplet", name := "spans", desc := "(LStaveScore$Tuplet;)Z" } : Jvm.MethodName)) ∈ lw_all := lw_g (lw_at lw_m4 18 rfl) rfl
theorem q801 : (Jvm.Cond.code ({ cls := "StaveScore$Tuplet", name := "spans", desc := "(LStaveScore$Tuplet;)Z" } : Jvm.MethodName) prog_18_method_3_code (2 : Nat) (Option.some Jvm.ClassFile.FieldType.boolean)) ∈ lw_all := lw_g (lw_at lw_m4 19 rfl) rfl
theorem q894 : (Jvm.Cond.instantiable "StaveScore$Tuplet" (7 : Nat)) ∈ lw_all := lw_g (lw_at lw_m4 112 rfl) rfl
theorem q896 : (Jvm.Cond.instanceMethod ({ cls := "StaveScore$Tuplet", name := "<init>", desc := "(IIIIIII)V" } : Jvm.MethodName)) ∈ lw_all := lw_g (lw_at lw_m4 114 rfl) rfl
theorem q897 : (Jvm.Cond.code ({ cls := "StaveScore$Tuplet", name := "<init>", desc := "(IIIIIII)V" } : Jvm.MethodName) prog_18_method_1_code (8 : Nat) (Option.none : Option Jvm.ClassFile.FieldType)) ∈ lw_all := lw_g (lw_at lw_m4 115 rfl) rfl
theorem q898 : (Jvm.Cond.methodLink "StaveScore$Tuplet" (1 : Nat) ({ cls := "java/lang/Object", name := "<init>", desc := "()V" } : Jvm.MethodName)) ∈ lw_all := lw_g (lw_at lw_m4 116 rfl) rfl
theorem q899 : (Jvm.Cond.fieldLink "StaveScore$Tuplet" (7 : Nat) "StaveScore$Tuplet" "number" "I") ∈ lw_all := lw_g (lw_at lw_m4 117 rfl) rfl
theorem q900 : (Jvm.Cond.fieldLink "StaveScore$Tuplet" (13 : Nat) "StaveScore$Tuplet" "voice" "I") ∈ lw_all := lw_g (lw_at lw_m4 118 rfl) rfl
theorem q902 : (Jvm.Cond.fieldLink "StaveScore$Tuplet" (16 : Nat) "StaveScore$Tuplet" "first" "I") ∈ lw_all := lw_g (lw_at lw_m4 120 rfl) rfl
theorem q904 : (Jvm.Cond.fieldLink "StaveScore$Tuplet" (19 : Nat) "StaveScore$Tuplet" "last" "I") ∈ lw_all := lw_g (lw_at lw_m4 122 rfl) rfl
theorem q906 : (Jvm.Cond.fieldLink "StaveScore$Tuplet" (22 : Nat) "StaveScore$Tuplet" "n" "I") ∈ lw_all := lw_g (lw_at lw_m4 124 rfl) rfl
theorem q908 : (Jvm.Cond.fieldLink "StaveScore$Tuplet" (25 : Nat) "StaveScore$Tuplet" "m" "I") ∈ lw_all := lw_g (lw_at lw_m4 126 rfl) rfl
theorem q910 : (Jvm.Cond.fieldLink "StaveScore$Tuplet" (28 : Nat) "StaveScore$Tuplet" "unit" "I") ∈ lw_all := lw_g (lw_at lw_m4 128 rfl) rfl
theorem q912 : (Jvm.Cond.laysFinal "StaveScore$Tuplet" "StaveScore$Tuplet" "number" "I") ∈ lw_all := lw_g (lw_at lw_m4 130 rfl) rfl
theorem q913 : (Jvm.Cond.soleField "StaveScore$Tuplet" "number") ∈ lw_all := lw_g (lw_at lw_m4 131 rfl) rfl
theorem q914 : (Jvm.Cond.laysFinal "StaveScore$Tuplet" "StaveScore$Tuplet" "voice" "I") ∈ lw_all := lw_g (lw_at lw_m4 132 rfl) rfl
theorem q915 : (Jvm.Cond.soleField "StaveScore$Tuplet" "voice") ∈ lw_all := lw_g (lw_at lw_m4 133 rfl) rfl
theorem q916 : (Jvm.Cond.lays "StaveScore$Tuplet" "StaveScore$Tuplet" "first" "I") ∈ lw_all := lw_g (lw_at lw_m4 134 rfl) rfl
theorem q917 : (Jvm.Cond.soleField "StaveScore$Tuplet" "first") ∈ lw_all := lw_g (lw_at lw_m4 135 rfl) rfl
theorem q918 : (Jvm.Cond.lays "StaveScore$Tuplet" "StaveScore$Tuplet" "last" "I") ∈ lw_all := lw_g (lw_at lw_m4 136 rfl) rfl
theorem q919 : (Jvm.Cond.soleField "StaveScore$Tuplet" "last") ∈ lw_all := lw_g (lw_at lw_m4 137 rfl) rfl
theorem q920 : (Jvm.Cond.laysFinal "StaveScore$Tuplet" "StaveScore$Tuplet" "n" "I") ∈ lw_all := lw_g (lw_at lw_m4 138 rfl) rfl
theorem q921 : (Jvm.Cond.soleField "StaveScore$Tuplet" "n") ∈ lw_all := lw_g (lw_at lw_m4 139 rfl) rfl
theorem q922 : (Jvm.Cond.laysFinal "StaveScore$Tuplet" "StaveScore$Tuplet" "m" "I") ∈ lw_all := lw_g (lw_at lw_m4 140 rfl) rfl
theorem q923 : (Jvm.Cond.soleField "StaveScore$Tuplet" "m") ∈ lw_all := lw_g (lw_at lw_m4 141 rfl) rfl
theorem q924 : (Jvm.Cond.laysFinal "StaveScore$Tuplet" "StaveScore$Tuplet" "unit" "I") ∈ lw_all := lw_g (lw_at lw_m4 142 rfl) rfl
theorem q925 : (Jvm.Cond.soleField "StaveScore$Tuplet" "unit") ∈ lw_all := lw_g (lw_at lw_m4 143 rfl) rfl
theorem q926 : (Jvm.Cond.superclass "StaveScore$Tuplet" "java/lang/Object") ∈ lw_all := lw_g (lw_at lw_m4 144 rfl) rfl
theorem q932 : (Jvm.Cond.instanceMethod ({ cls := "StaveScore$Tuplet", name := "isApart", desc := "(LStaveScore$Tuplet;)Z" } : Jvm.MethodName)) ∈ lw_all := lw_g (lw_at lw_m4 150 rfl) rfl
theorem q933 : (Jvm.Cond.selects "StaveScore$Tuplet" ({ cls := "StaveScore$Tuplet", name := "isApart", desc := "(LStaveScore$Tuplet;)Z" } : Jvm.MethodName) ({ cls := "StaveScore$Tuplet", name := "isApart", desc := "(LStaveScore$Tuplet;)Z" } : Jvm.MethodName)) ∈ lw_all := lw_g (lw_at lw_m4 151 rfl) rfl
theorem q934 : (Jvm.Cond.code ({ cls := "StaveScore$Tuplet", name := "isApart", desc := "(LStaveScore$Tuplet;)Z" } : Jvm.MethodName) prog_18_method_5_code (2 : Nat) (Option.some Jvm.ClassFile.FieldType.boolean)) ∈ lw_all := lw_g (lw_at lw_m4 152 rfl) rfl
theorem q1107 : (Jvm.Cond.instanceMethod ({ cls := "StaveScore$Tuplet", name := "isAlike", desc := "(LStaveScore$Tuplet;)Z" } : Jvm.MethodName)) ∈ lw_all := lw_g (lw_at lw_m5 85 rfl) rfl
theorem q1108 : (Jvm.Cond.selects "StaveScore$Tuplet" ({ cls := "StaveScore$Tuplet", name := "isAlike", desc := "(LStaveScore$Tuplet;)Z" } : Jvm.MethodName) ({ cls := "StaveScore$Tuplet", name := "isAlike", desc := "(LStaveScore$Tuplet;)Z" } : Jvm.MethodName)) ∈ lw_all := lw_g (lw_at lw_m5 86 rfl) rfl
theorem q1109 : (Jvm.Cond.code ({ cls := "StaveScore$Tuplet", name := "isAlike", desc := "(LStaveScore$Tuplet;)Z" } : Jvm.MethodName) prog_18_method_6_code (2 : Nat) (Option.some Jvm.ClassFile.FieldType.boolean)) ∈ lw_all := lw_g (lw_at lw_m5 87 rfl) rfl
theorem in_X17 : ∀ w ∈ wsX170, w ∈ lw_all := lw_in wsX170 [912, 914, 916, 918, 920, 922, 924] (by decide +kernel) (by decide +kernel)

/-! StaveScore$Line -/
set_option maxRecDepth 100000
def RX18 : String := "StaveScore$Line"
def TX18 : u_T := fun k => match k with
  | 0 => ("StaveScore$Line", "kind", "I", true)
  | 1 => ("StaveScore$Line", "from", "LStaveScore$Event;", true)
  | _ => ("StaveScore$Line", "to", "LStaveScore$Event;", false)
def tyX18 : Nat → FieldType := fun k => match k with
  | 0 => .int
  | 1 => .object "StaveScore$Event"
  | _ => .object "StaveScore$Event"
abbrev wsX180 : List Cond := u_ws RX18 TX18 3
theorem nmX18 : ∀ a, a < 3 → ∀ b, b < 3 → a ≠ b → (TX18 a).2.1 ≠ (TX18 b).2.1 := by decide +kernel
theorem tyX18_ok : ∀ k, k < 3 → parseFieldDescriptor (TX18 k).2.2.1 = some (tyX18 k) := by decide +kernel
abbrev cX18_init : ByteArray := prog_11_method_1_code
def yX18_init : MethodName := ⟨RX18, "<init>", "(ILStaveScore$Event;LStaveScore$Event;)V"⟩
def dkwX18_init_0 : List UInt8 := [42, 183, 0, 1, 42, 27, 181, 0, 7, 42, 44, 181, 0, 13, 42, 45, 181, 0, 17, 177]
abbrev dktX18_init_0 : List UInt8 := dkwX18_init_0 ++ []
theorem dksX18_init_0 : cX18_init.data.toList.drop 0 = dktX18_init_0 := by decide +kernel
theorem dX18_init_0 : decode cX18_init 0 = .ok (.aload_n 0, 1) := dk_42 (dk_at dksX18_init_0 0 rfl rfl)
theorem dX18_init_1 : decode cX18_init 1 = .ok (.invokespecial 1, 3) := dk_183 0 1 (dk_at dksX18_init_0 1 rfl rfl)
theorem dX18_init_4 : decode cX18_init 4 = .ok (.aload_n 0, 1) := dk_42 (dk_at dksX18_init_0 4 rfl rfl)
theorem dX18_init_5 : decode cX18_init 5 = .ok (.iload_n 1, 1) := dk_27 (dk_at dksX18_init_0 5 rfl rfl)
theorem dX18_init_6 : decode cX18_init 6 = .ok (.putfield 7, 3) := dk_181 0 7 (dk_at dksX18_init_0 6 rfl rfl)
theorem dX18_init_9 : decode cX18_init 9 = .ok (.aload_n 0, 1) := dk_42 (dk_at dksX18_init_0 9 rfl rfl)
theorem dX18_init_10 : decode cX18_init 10 = .ok (.aload_n 2, 1) := dk_44 (dk_at dksX18_init_0 10 rfl rfl)
theorem dX18_init_11 : decode cX18_init 11 = .ok (.putfield 13, 3) := dk_181 0 13 (dk_at dksX18_init_0 11 rfl rfl)
theorem dX18_init_14 : decode cX18_init 14 = .ok (.aload_n 0, 1) := dk_42 (dk_at dksX18_init_0 14 rfl rfl)
theorem dX18_init_15 : decode cX18_init 15 = .ok (.aload_n 3, 1) := dk_45 (dk_at dksX18_init_0 15 rfl rfl)
theorem dX18_init_16 : decode cX18_init 16 = .ok (.putfield 17, 3) := dk_181 0 17 (dk_at dksX18_init_0 16 rfl rfl)
theorem dX18_init_19 : decode cX18_init 19 = .ok (.return_, 1) := dk_177 (dk_at dksX18_init_0 19 rfl rfl)
theorem q90 : (Jvm.Cond.initialized "StaveScore$Line") ∈ lw_all := lw_g (lw_at lw_m1 28 rfl) rfl
theorem q956 : (Jvm.Cond.instantiable "StaveScore$Line" (3 : Nat)) ∈ lw_all := lw_g (lw_at lw_m4 174 rfl) rfl
theorem q962 : (Jvm.Cond.instanceMethod ({ cls := "StaveScore$Line", name := "<init>", desc := "(ILStaveScore$Event;LStaveScore$Event;)V" } : Jvm.MethodName)) ∈ lw_all := lw_g (lw_at lw_m4 180 rfl) rfl
theorem q963 : (Jvm.Cond.code ({ cls := "StaveScore$Line", name := "<init>", desc := "(ILStaveScore$Event;LStaveScore$Event;)V" } : Jvm.MethodName) prog_11_method_1_code (4 : Nat) (Option.none : Option Jvm.ClassFile.FieldType)) ∈ lw_all := lw_g (lw_at lw_m4 181 rfl) rfl
theorem q964 : (Jvm.Cond.methodLink "StaveScore$Line" (1 : Nat) ({ cls := "java/lang/Object", name := "<init>", desc := "()V" } : Jvm.MethodName)) ∈ lw_all := lw_g (lw_at lw_m4 182 rfl) rfl
theorem q965 : (Jvm.Cond.fieldLink "StaveScore$Line" (7 : Nat) "StaveScore$Line" "kind" "I") ∈ lw_all := lw_g (lw_at lw_m4 183 rfl) rfl
theorem q967 : (Jvm.Cond.fieldLink "StaveScore$Line" (13 : Nat) "StaveScore$Line" "from" "LStaveScore$Event;") ∈ lw_all := lw_g (lw_at lw_m4 185 rfl) rfl
theorem q969 : (Jvm.Cond.fieldLink "StaveScore$Line" (17 : Nat) "StaveScore$Line" "to" "LStaveScore$Event;") ∈ lw_all := lw_g (lw_at lw_m4 187 rfl) rfl
theorem q971 : (Jvm.Cond.laysFinal "StaveScore$Line" "StaveScore$Line" "kind" "I") ∈ lw_all := lw_g (lw_at lw_m4 189 rfl) rfl
theorem q972 : (Jvm.Cond.soleField "StaveScore$Line" "kind") ∈ lw_all := lw_g (lw_at lw_m4 190 rfl) rfl
theorem q973 : (Jvm.Cond.laysFinal "StaveScore$Line" "StaveScore$Line" "from" "LStaveScore$Event;") ∈ lw_all := lw_g (lw_at lw_m4 191 rfl) rfl
theorem q974 : (Jvm.Cond.soleField "StaveScore$Line" "from") ∈ lw_all := lw_g (lw_at lw_m4 192 rfl) rfl
theorem q975 : (Jvm.Cond.lays "StaveScore$Line" "StaveScore$Line" "to" "LStaveScore$Event;") ∈ lw_all := lw_g (lw_at lw_m4 193 rfl) rfl
theorem q976 : (Jvm.Cond.soleField "StaveScore$Line" "to") ∈ lw_all := lw_g (lw_at lw_m4 194 rfl) rfl
theorem q977 : (Jvm.Cond.superclass "StaveScore$Line" "java/lang/Object") ∈ lw_all := lw_g (lw_at lw_m4 195 rfl) rfl
theorem in_X18 : ∀ w ∈ wsX180, w ∈ lw_all := lw_in wsX180 [971, 973, 975] (by decide +kernel) (by decide +kernel)

/-! StaveScore$Hears -/
set_option maxRecDepth 100000
def RX19 : String := "StaveScore$Hears"
abbrev cX19_has : ByteArray := prog_9_method_4_code
def yX19_has : MethodName := ⟨RX19, "has", "(II)Z"⟩
def dkwX19_has_1 : List UInt8 := [185, 0, 11, 1, 0, 163, 0, 7, 4, 167, 0, 4, 3, 172]
abbrev dktX19_has_1 : List UInt8 := dkwX19_has_1 ++ []
def dkwX19_has_0 : List UInt8 := [42, 27, 185, 0, 1, 2, 0, 28, 96, 62, 29, 42, 185, 0, 7, 1, 0, 161, 0, 17, 29, 42]
abbrev dktX19_has_0 : List UInt8 := dkwX19_has_0 ++ dktX19_has_1
theorem dksX19_has_0 : cX19_has.data.toList.drop 0 = dktX19_has_0 := by decide +kernel
theorem dksX19_has_1 : cX19_has.data.toList.drop 22 = dktX19_has_1 := dk_seg dksX19_has_0 22 rfl rfl
theorem dX19_has_0 : decode cX19_has 0 = .ok (.aload_n 0, 1) := dk_42 (dk_at dksX19_has_0 0 rfl rfl)
theorem dX19_has_1 : decode cX19_has 1 = .ok (.iload_n 1, 1) := dk_27 (dk_at dksX19_has_0 1 rfl rfl)
theorem dX19_has_2 : decode cX19_has 2 = .ok (.invokeinterface 1 2, 5) := by decide +kernel
theorem dX19_has_7 : decode cX19_has 7 = .ok (.iload_n 2, 1) := dk_28 (dk_at dksX19_has_0 7 rfl rfl)
theorem dX19_has_8 : decode cX19_has 8 = .ok (.iadd, 1) := dk_96 (dk_at dksX19_has_0 8 rfl rfl)
theorem dX19_has_9 : decode cX19_has 9 = .ok (.istore_n 3, 1) := dk_62 (dk_at dksX19_has_0 9 rfl rfl)
theorem dX19_has_10 : decode cX19_has 10 = .ok (.iload_n 3, 1) := dk_29 (dk_at dksX19_has_0 10 rfl rfl)
theorem dX19_has_11 : decode cX19_has 11 = .ok (.aload_n 0, 1) := dk_42 (dk_at dksX19_has_0 11 rfl rfl)
theorem dX19_has_12 : decode cX19_has 12 = .ok (.invokeinterface 7 1, 5) := by decide +kernel
theorem dX19_has_17 : decode cX19_has 17 = .ok (.if_icmp .lt 17, 3) := dk_161 0 17 (dk_at dksX19_has_0 17 rfl rfl)
theorem dX19_has_20 : decode cX19_has 20 = .ok (.iload_n 3, 1) := dk_29 (dk_at dksX19_has_0 20 rfl rfl)
theorem dX19_has_21 : decode cX19_has 21 = .ok (.aload_n 0, 1) := dk_42 (dk_at dksX19_has_0 21 rfl rfl)
theorem dX19_has_22 : decode cX19_has 22 = .ok (.invokeinterface 11 1, 5) := by decide +kernel
theorem dX19_has_27 : decode cX19_has 27 = .ok (.if_icmp .gt 7, 3) := dk_163 0 7 (dk_at dksX19_has_1 5 rfl rfl)
theorem dX19_has_30 : decode cX19_has 30 = .ok (.iconst 1, 1) := dk_4 (dk_at dksX19_has_1 8 rfl rfl)
theorem dX19_has_31 : decode cX19_has 31 = .ok (.goto 4, 3) := dk_167 0 4 (dk_at dksX19_has_1 9 rfl rfl)
theorem dX19_has_34 : decode cX19_has 34 = .ok (.iconst 0, 1) := dk_3 (dk_at dksX19_has_1 12 rfl rfl)
theorem dX19_has_35 : decode cX19_has 35 = .ok (.ireturn, 1) := dk_172 (dk_at dksX19_has_1 13 rfl rfl)
theorem q607 : (Jvm.Cond.interfaceMethod "StaveScore$Hears" "StaveScore$Hears" "heard" "(I)I") ∈ lw_tbl := lw_at lw_m3 65 rfl
theorem q608 : (Jvm.Cond.declares ({ cls := "StaveScore$Hears", name := "heard", desc := "(I)I" } : Jvm.MethodName)) ∈ lw_tbl := lw_at lw_m3 66 rfl
theorem q840 : (Jvm.Cond.interfaceMethod "StaveScore$Hears" "StaveScore$Hears" "least" "()I") ∈ lw_tbl := lw_at lw_m4 58 rfl
theorem q841 : (Jvm.Cond.declares ({ cls := "StaveScore$Hears", name := "least", desc := "()I" } : Jvm.MethodName)) ∈ lw_tbl := lw_at lw_m4 59 rfl
theorem q869 : (Jvm.Cond.interfaceMethod "StaveScore$Hears" "StaveScore$Hears" "most" "()I") ∈ lw_tbl := lw_at lw_m4 87 rfl
theorem q870 : (Jvm.Cond.declares ({ cls := "StaveScore$Hears", name := "most", desc := "()I" } : Jvm.MethodName)) ∈ lw_tbl := lw_at lw_m4 88 rfl
theorem q1056 : (Jvm.Cond.interfaceMethod "StaveScore$Hears" "StaveScore$Hears" "has" "(II)Z") ∈ lw_tbl := lw_at lw_m5 34 rfl
theorem q1057 : (Jvm.Cond.declares ({ cls := "StaveScore$Hears", name := "has", desc := "(II)Z" } : Jvm.MethodName)) ∈ lw_tbl := lw_at lw_m5 35 rfl
theorem q1059 : (Jvm.Cond.instanceMethod ({ cls := "StaveScore$Hears", name := "has", desc := "(II)Z" } : Jvm.MethodName)) ∈ lw_all := lw_g (lw_at lw_m5 37 rfl) rfl
theorem q1060 : (Jvm.Cond.publicMethod ({ cls := "StaveScore$Hears", name := "has", desc := "(II)Z" } : Jvm.MethodName)) ∈ lw_tbl := lw_at lw_m5 38 rfl
theorem q1061 : (Jvm.Cond.code ({ cls := "StaveScore$Hears", name := "has", desc := "(II)Z" } : Jvm.MethodName) prog_9_method_4_code (4 : Nat) (Option.some Jvm.ClassFile.FieldType.boolean)) ∈ lw_all := lw_g (lw_at lw_m5 39 rfl) rfl
theorem q1062 : (Jvm.Cond.interfaceEntry "StaveScore$Hears" (1 : Nat)) ∈ lw_tbl := lw_at lw_m5 40 rfl
theorem q1063 : (Jvm.Cond.methodLink "StaveScore$Hears" (1 : Nat) ({ cls := "StaveScore$Hears", name := "heard", desc := "(I)I" } : Jvm.MethodName)) ∈ lw_all := lw_g (lw_at lw_m5 41 rfl) rfl
theorem q1064 : (Jvm.Cond.interfaceEntry "StaveScore$Hears" (7 : Nat)) ∈ lw_tbl := lw_at lw_m5 42 rfl
theorem q1065 : (Jvm.Cond.methodLink "StaveScore$Hears" (7 : Nat) ({ cls := "StaveScore$Hears", name := "least", desc := "()I" } : Jvm.MethodName)) ∈ lw_all := lw_g (lw_at lw_m5 43 rfl) rfl
theorem q1066 : (Jvm.Cond.interfaceEntry "StaveScore$Hears" (11 : Nat)) ∈ lw_tbl := lw_at lw_m5 44 rfl
theorem q1067 : (Jvm.Cond.methodLink "StaveScore$Hears" (11 : Nat) ({ cls := "StaveScore$Hears", name := "most", desc := "()I" } : Jvm.MethodName)) ∈ lw_all := lw_g (lw_at lw_m5 45 rfl) rfl
theorem q1763 : (Jvm.Cond.initialized "StaveScore$Hears") ∈ lw_all := lw_g (lw_at lw_m8 21 rfl) rfl

/-! java/lang/Throwable -/
set_option maxRecDepth 100000
def RJ0 : String := "java/lang/Throwable"
def TJ0 : u_T := fun k => match k with
  | 0 => ("java/lang/Throwable", "cause", "Ljava/lang/Throwable;", false)
  | 1 => ("java/lang/Throwable", "stackTrace", "[Ljava/lang/StackTraceElement;", false)
  | 2 => ("java/lang/Throwable", "suppressedExceptions", "Ljava/util/List;", false)
  | 3 => ("java/lang/Throwable", "detailMessage", "Ljava/lang/String;", false)
  | _ => ("java/lang/Throwable", "backtrace", "Ljava/lang/Object;", false)
def tyJ0 : Nat → FieldType := fun k => match k with
  | 0 => .object "java/lang/Throwable"
  | 1 => .array (.object "java/lang/StackTraceElement")
  | 2 => .object "java/util/List"
  | 3 => .object "java/lang/String"
  | _ => .object "java/lang/Object"
abbrev wsJ00 : List Cond := u_ws RJ0 TJ0 5
theorem nmJ0 : ∀ a, a < 5 → ∀ b, b < 5 → a ≠ b → (TJ0 a).2.1 ≠ (TJ0 b).2.1 := by decide +kernel
theorem tyJ0_ok : ∀ k, k < 5 → parseFieldDescriptor (TJ0 k).2.2.1 = some (tyJ0 k) := by decide +kernel
abbrev cJ0_init : ByteArray := prog_33_method_2_code
def yJ0_init : MethodName := ⟨RJ0, "<init>", "(Ljava/lang/String;)V"⟩
def dkwJ0_init_1 : List UInt8 := [182, 0, 27, 87, 42, 43, 181, 0, 31, 177]
abbrev dktJ0_init_1 : List UInt8 := dkwJ0_init_1 ++ []
def dkwJ0_init_0 : List UInt8 := [42, 183, 0, 1, 42, 42, 181, 0, 7, 42, 178, 0, 13, 181, 0, 17, 42, 178, 0, 20, 181, 0, 24, 42]
abbrev dktJ0_init_0 : List UInt8 := dkwJ0_init_0 ++ dktJ0_init_1
theorem dksJ0_init_0 : cJ0_init.data.toList.drop 0 = dktJ0_init_0 := by decide +kernel
theorem dksJ0_init_1 : cJ0_init.data.toList.drop 24 = dktJ0_init_1 := dk_seg dksJ0_init_0 24 rfl rfl
theorem dJ0_init_0 : decode cJ0_init 0 = .ok (.aload_n 0, 1) := dk_42 (dk_at dksJ0_init_0 0 rfl rfl)
theorem dJ0_init_1 : decode cJ0_init 1 = .ok (.invokespecial 1, 3) := dk_183 0 1 (dk_at dksJ0_init_0 1 rfl rfl)
theorem dJ0_init_4 : decode cJ0_init 4 = .ok (.aload_n 0, 1) := dk_42 (dk_at dksJ0_init_0 4 rfl rfl)
theorem dJ0_init_5 : decode cJ0_init 5 = .ok (.aload_n 0, 1) := dk_42 (dk_at dksJ0_init_0 5 rfl rfl)
theorem dJ0_init_6 : decode cJ0_init 6 = .ok (.putfield 7, 3) := dk_181 0 7 (dk_at dksJ0_init_0 6 rfl rfl)
theorem dJ0_init_9 : decode cJ0_init 9 = .ok (.aload_n 0, 1) := dk_42 (dk_at dksJ0_init_0 9 rfl rfl)
theorem dJ0_init_10 : decode cJ0_init 10 = .ok (.getstatic 13, 3) := dk_178 0 13 (dk_at dksJ0_init_0 10 rfl rfl)
theorem dJ0_init_13 : decode cJ0_init 13 = .ok (.putfield 17, 3) := dk_181 0 17 (dk_at dksJ0_init_0 13 rfl rfl)
theorem dJ0_init_16 : decode cJ0_init 16 = .ok (.aload_n 0, 1) := dk_42 (dk_at dksJ0_init_0 16 rfl rfl)
theorem dJ0_init_17 : decode cJ0_init 17 = .ok (.getstatic 20, 3) := dk_178 0 20 (dk_at dksJ0_init_0 17 rfl rfl)
theorem dJ0_init_20 : decode cJ0_init 20 = .ok (.putfield 24, 3) := dk_181 0 24 (dk_at dksJ0_init_0 20 rfl rfl)
theorem dJ0_init_23 : decode cJ0_init 23 = .ok (.aload_n 0, 1) := dk_42 (dk_at dksJ0_init_0 23 rfl rfl)
theorem dJ0_init_24 : decode cJ0_init 24 = .ok (.invokevirtual 27, 3) := dk_182 0 27 (dk_at dksJ0_init_1 0 rfl rfl)
theorem dJ0_init_27 : decode cJ0_init 27 = .ok (.pop, 1) := dk_87 (dk_at dksJ0_init_1 3 rfl rfl)
theorem dJ0_init_28 : decode cJ0_init 28 = .ok (.aload_n 0, 1) := dk_42 (dk_at dksJ0_init_1 4 rfl rfl)
theorem dJ0_init_29 : decode cJ0_init 29 = .ok (.aload_n 1, 1) := dk_43 (dk_at dksJ0_init_1 5 rfl rfl)
theorem dJ0_init_30 : decode cJ0_init 30 = .ok (.putfield 31, 3) := dk_181 0 31 (dk_at dksJ0_init_1 6 rfl rfl)
theorem dJ0_init_33 : decode cJ0_init 33 = .ok (.return_, 1) := dk_177 (dk_at dksJ0_init_1 9 rfl rfl)
abbrev cJ0_init_2 : ByteArray := prog_33_method_1_code
def yJ0_init_2 : MethodName := ⟨RJ0, "<init>", "()V"⟩
def dkwJ0_init_2_1 : List UInt8 := [182, 0, 27, 87, 177]
abbrev dktJ0_init_2_1 : List UInt8 := dkwJ0_init_2_1 ++ []
def dkwJ0_init_2_0 : List UInt8 := [42, 183, 0, 1, 42, 42, 181, 0, 7, 42, 178, 0, 13, 181, 0, 17, 42, 178, 0, 20, 181, 0, 24, 42]
abbrev dktJ0_init_2_0 : List UInt8 := dkwJ0_init_2_0 ++ dktJ0_init_2_1
theorem dksJ0_init_2_0 : cJ0_init_2.data.toList.drop 0 = dktJ0_init_2_0 := by decide +kernel
theorem dksJ0_init_2_1 : cJ0_init_2.data.toList.drop 24 = dktJ0_init_2_1 := dk_seg dksJ0_init_2_0 24 rfl rfl
theorem dJ0_init_2_0 : decode cJ0_init_2 0 = .ok (.aload_n 0, 1) := dk_42 (dk_at dksJ0_init_2_0 0 rfl rfl)
theorem dJ0_init_2_1 : decode cJ0_init_2 1 = .ok (.invokespecial 1, 3) := dk_183 0 1 (dk_at dksJ0_init_2_0 1 rfl rfl)
theorem dJ0_init_2_4 : decode cJ0_init_2 4 = .ok (.aload_n 0, 1) := dk_42 (dk_at dksJ0_init_2_0 4 rfl rfl)
theorem dJ0_init_2_5 : decode cJ0_init_2 5 = .ok (.aload_n 0, 1) := dk_42 (dk_at dksJ0_init_2_0 5 rfl rfl)
theorem dJ0_init_2_6 : decode cJ0_init_2 6 = .ok (.putfield 7, 3) := dk_181 0 7 (dk_at dksJ0_init_2_0 6 rfl rfl)
theorem dJ0_init_2_9 : decode cJ0_init_2 9 = .ok (.aload_n 0, 1) := dk_42 (dk_at dksJ0_init_2_0 9 rfl rfl)
theorem dJ0_init_2_10 : decode cJ0_init_2 10 = .ok (.getstatic 13, 3) := dk_178 0 13 (dk_at dksJ0_init_2_0 10 rfl rfl)
theorem dJ0_init_2_13 : decode cJ0_init_2 13 = .ok (.putfield 17, 3) := dk_181 0 17 (dk_at dksJ0_init_2_0 13 rfl rfl)
theorem dJ0_init_2_16 : decode cJ0_init_2 16 = .ok (.aload_n 0, 1) := dk_42 (dk_at dksJ0_init_2_0 16 rfl rfl)
theorem dJ0_init_2_17 : decode cJ0_init_2 17 = .ok (.getstatic 20, 3) := dk_178 0 20 (dk_at dksJ0_init_2_0 17 rfl rfl)
theorem dJ0_init_2_20 : decode cJ0_init_2 20 = .ok (.putfield 24, 3) := dk_181 0 24 (dk_at dksJ0_init_2_0 20 rfl rfl)
theorem dJ0_init_2_23 : decode cJ0_init_2 23 = .ok (.aload_n 0, 1) := dk_42 (dk_at dksJ0_init_2_0 23 rfl rfl)
theorem dJ0_init_2_24 : decode cJ0_init_2 24 = .ok (.invokevirtual 27, 3) := dk_182 0 27 (dk_at dksJ0_init_2_1 0 rfl rfl)
theorem dJ0_init_2_27 : decode cJ0_init_2 27 = .ok (.pop, 1) := dk_87 (dk_at dksJ0_init_2_1 3 rfl rfl)
theorem dJ0_init_2_28 : decode cJ0_init_2 28 = .ok (.return_, 1) := dk_177 (dk_at dksJ0_init_2_1 4 rfl rfl)
theorem q81 : (Jvm.Cond.initialized "java/lang/Throwable") ∈ lw_all := lw_g (lw_at lw_m1 19 rfl) rfl
theorem q494 : (Jvm.Cond.instanceMethod ({ cls := "java/lang/Throwable", name := "<init>", desc := "(Ljava/lang/String;)V" } : Jvm.MethodName)) ∈ lw_all := lw_g (lw_at lw_m2 192 rfl) rfl
theorem q495 : (Jvm.Cond.code ({ cls := "java/lang/Throwable", name := "<init>", desc := "(Ljava/lang/String;)V" } : Jvm.MethodName) prog_33_method_2_code (2 : Nat) (Option.none : Option Jvm.ClassFile.FieldType)) ∈ lw_all := lw_g (lw_at lw_m2 193 rfl) rfl
theorem q496 : (Jvm.Cond.methodLink "java/lang/Throwable" (1 : Nat) ({ cls := "java/lang/Object", name := "<init>", desc := "()V" } : Jvm.MethodName)) ∈ lw_all := lw_g (lw_at lw_m2 194 rfl) rfl
theorem q497 : (Jvm.Cond.fieldLink "java/lang/Throwable" (13 : Nat) "java/lang/Throwable" "UNASSIGNED_STACK" "[Ljava/lang/StackTraceElement;") ∈ lw_all := lw_g (lw_at lw_m2 195 rfl) rfl
theorem q498 : (Jvm.Cond.laysStatic "java/lang/Throwable" "UNASSIGNED_STACK" "[Ljava/lang/StackTraceElement;") ∈ lw_tbl := lw_at lw_m2 196 rfl
theorem q499 : (Jvm.Cond.fieldLink "java/lang/Throwable" (20 : Nat) "java/lang/Throwable" "SUPPRESSED_SENTINEL" "Ljava/util/List;") ∈ lw_all := lw_g (lw_at lw_m2 197 rfl) rfl
theorem q500 : (Jvm.Cond.laysStatic "java/lang/Throwable" "SUPPRESSED_SENTINEL" "Ljava/util/List;") ∈ lw_tbl := lw_at lw_m2 198 rfl
theorem q501 : (Jvm.Cond.methodLink "java/lang/Throwable" (27 : Nat) ({ cls := "java/lang/Throwable", name := "fillInStackTrace", desc := "()Ljava/lang/Throwable;" } : Jvm.MethodName)) ∈ lw_all := lw_g (lw_at lw_m2 199 rfl) rfl
theorem q502 : (Jvm.Cond.instanceMethod ({ cls := "java/lang/Throwable", name := "fillInStackTrace", desc := "()Ljava/lang/Throwable;" } : Jvm.MethodName)) ∈ lw_all := lw_g (lw_at lw_m2 200 rfl) rfl
theorem q503 : (Jvm.Cond.sameMethod "java/lang/Throwable" "java/lang/Throwable" "fillInStackTrace" "()Ljava/lang/Throwable;") ∈ lw_all := lw_g (lw_at lw_m2 201 rfl) rfl
theorem q518 : (Jvm.Cond.declares ({ cls := "java/lang/Throwable", name := "fillInStackTrace", desc := "()Ljava/lang/Throwable;" } : Jvm.MethodName)) ∈ lw_tbl := lw_at lw_m2 216 rfl
theorem q522 : (Jvm.Cond.codeSync ({ cls := "java/lang/Throwable", name := "fillInStackTrace", desc := "()Ljava/lang/Throwable;" } : Jvm.MethodName) prog_33_method_18_code (1 : Nat) (Option.some (Jvm.ClassFile.FieldType.object "java/lang/Throwable"))) ∈ lw_all := lw_g (lw_at lw_m2 220 rfl) rfl
theorem q523 : (Jvm.Cond.methodLink "java/lang/Throwable" (202 : Nat) ({ cls := "java/lang/Throwable", name := "fillInStackTrace", desc := "(I)Ljava/lang/Throwable;" } : Jvm.MethodName)) ∈ lw_all := lw_g (lw_at lw_m2 221 rfl) rfl
theorem q524 : (Jvm.Cond.privateMethod ({ cls := "java/lang/Throwable", name := "fillInStackTrace", desc := "(I)Ljava/lang/Throwable;" } : Jvm.MethodName)) ∈ lw_tbl := lw_at lw_m2 222 rfl
theorem q525 : (Jvm.Cond.instanceMethod ({ cls := "java/lang/Throwable", name := "fillInStackTrace", desc := "(I)Ljava/lang/Throwable;" } : Jvm.MethodName)) ∈ lw_all := lw_g (lw_at lw_m2 223 rfl) rfl
theorem q526 : (Jvm.Cond.instantiable "java/lang/Throwable" (6 : Nat)) ∈ lw_all := lw_g (lw_at lw_m2 224 rfl) rfl
theorem q527 : (Jvm.Cond.native ({ cls := "java/lang/Throwable", name := "fillInStackTrace", desc := "(I)Ljava/lang/Throwable;" } : Jvm.MethodName)) ∈ lw_all := lw_g (lw_at lw_m2 225 rfl) rfl
theorem q528 : (Jvm.Cond.fieldLink "java/lang/Throwable" (198 : Nat) "java/lang/Throwable" "backtrace" "Ljava/lang/Object;") ∈ lw_all := lw_g (lw_at lw_m2 226 rfl) rfl
theorem q529 : (Jvm.Cond.fieldLink "java/lang/Throwable" (31 : Nat) "java/lang/Throwable" "detailMessage" "Ljava/lang/String;") ∈ lw_all := lw_g (lw_at lw_m2 227 rfl) rfl
theorem q530 : (Jvm.Cond.fieldLink "java/lang/Throwable" (7 : Nat) "java/lang/Throwable" "cause" "Ljava/lang/Throwable;") ∈ lw_all := lw_g (lw_at lw_m2 228 rfl) rfl
theorem q531 : (Jvm.Cond.fieldLink "java/lang/Throwable" (17 : Nat) "java/lang/Throwable" "stackTrace" "[Ljava/lang/StackTraceElement;") ∈ lw_all := lw_g (lw_at lw_m2 229 rfl) rfl
theorem q532 : (Jvm.Cond.fieldLink "java/lang/Throwable" (24 : Nat) "java/lang/Throwable" "suppressedExceptions" "Ljava/util/List;") ∈ lw_all := lw_g (lw_at lw_m2 230 rfl) rfl
theorem q534 : (Jvm.Cond.soleField "java/lang/Throwable" "backtrace") ∈ lw_all := lw_g (lw_at lw_m2 232 rfl) rfl
theorem q536 : (Jvm.Cond.soleField "java/lang/Throwable" "detailMessage") ∈ lw_all := lw_g (lw_at lw_m2 234 rfl) rfl
theorem q538 : (Jvm.Cond.soleField "java/lang/Throwable" "cause") ∈ lw_all := lw_g (lw_at lw_m2 236 rfl) rfl
theorem q540 : (Jvm.Cond.soleField "java/lang/Throwable" "stackTrace") ∈ lw_all := lw_g (lw_at lw_m2 238 rfl) rfl
theorem q542 : (Jvm.Cond.soleField "java/lang/Throwable" "depth") ∈ lw_all := lw_g (lw_at lw_m3 0 rfl) rfl
theorem q544 : (Jvm.Cond.soleField "java/lang/Throwable" "suppressedExceptions") ∈ lw_all := lw_g (lw_at lw_m3 2 rfl) rfl
theorem q551 : (Jvm.Cond.declares ({ cls := "java/lang/Throwable", name := "<init>", desc := "()V" } : Jvm.MethodName)) ∈ lw_tbl := lw_at lw_m3 9 rfl
theorem q552 : (Jvm.Cond.declares ({ cls := "java/lang/Throwable", name := "<init>", desc := "(Ljava/lang/String;)V" } : Jvm.MethodName)) ∈ lw_tbl := lw_at lw_m3 10 rfl
theorem q554 : (Jvm.Cond.lays "java/lang/Throwable" "java/lang/Throwable" "cause" "Ljava/lang/Throwable;") ∈ lw_all := lw_g (lw_at lw_m3 12 rfl) rfl
theorem q555 : (Jvm.Cond.lays "java/lang/Throwable" "java/lang/Throwable" "stackTrace" "[Ljava/lang/StackTraceElement;") ∈ lw_all := lw_g (lw_at lw_m3 13 rfl) rfl
theorem q556 : (Jvm.Cond.lays "java/lang/Throwable" "java/lang/Throwable" "suppressedExceptions" "Ljava/util/List;") ∈ lw_all := lw_g (lw_at lw_m3 14 rfl) rfl
theorem q557 : (Jvm.Cond.lays "java/lang/Throwable" "java/lang/Throwable" "detailMessage" "Ljava/lang/String;") ∈ lw_all := lw_g (lw_at lw_m3 15 rfl) rfl
theorem q558 : (Jvm.Cond.lays "java/lang/Throwable" "java/lang/Throwable" "backtrace" "Ljava/lang/Object;") ∈ lw_all := lw_g (lw_at lw_m3 16 rfl) rfl
theorem q559 : (Jvm.Cond.fieldLink "java/lang/Throwable" (198 : Nat) "java/lang/Throwable" "backtrace" "Ljava/lang/Object;") ∈ lw_all := lw_g (lw_at lw_m3 17 rfl) rfl
theorem q560 : (Jvm.Cond.superclass "java/lang/Throwable" "java/lang/Object") ∈ lw_all := lw_g (lw_at lw_m3 18 rfl) rfl
theorem q561 : (Jvm.Cond.instanceMethod ({ cls := "java/lang/Throwable", name := "<init>", desc := "()V" } : Jvm.MethodName)) ∈ lw_all := lw_g (lw_at lw_m3 19 rfl) rfl
theorem q562 : (Jvm.Cond.code ({ cls := "java/lang/Throwable", name := "<init>", desc := "()V" } : Jvm.MethodName) prog_33_method_1_code (1 : Nat) (Option.none : Option Jvm.ClassFile.FieldType)) ∈ lw_all := lw_g (lw_at lw_m3 20 rfl) rfl
theorem q1751 : (Jvm.Cond.sameMethod "java/lang/Throwable" "java/lang/Throwable" "fillInStackTrace" "(I)Ljava/lang/Throwable;") ∈ lw_all := lw_g (lw_at lw_m8 9 rfl) rfl
theorem in_J0 : ∀ w ∈ wsJ00, w ∈ lw_all := lw_in wsJ00 [554, 555, 556, 557, 558] (by decide +kernel) (by decide +kernel)

/-! java/lang/Exception -/
set_option maxRecDepth 100000
def RJ1 : String := "java/lang/Exception"
abbrev cJ1_init : ByteArray := prog_25_method_2_code
def yJ1_init : MethodName := ⟨RJ1, "<init>", "(Ljava/lang/String;)V"⟩
def dkwJ1_init_0 : List UInt8 := [42, 43, 183, 0, 7, 177]
abbrev dktJ1_init_0 : List UInt8 := dkwJ1_init_0 ++ []
theorem dksJ1_init_0 : cJ1_init.data.toList.drop 0 = dktJ1_init_0 := by decide +kernel
theorem dJ1_init_0 : decode cJ1_init 0 = .ok (.aload_n 0, 1) := dk_42 (dk_at dksJ1_init_0 0 rfl rfl)
theorem dJ1_init_1 : decode cJ1_init 1 = .ok (.aload_n 1, 1) := dk_43 (dk_at dksJ1_init_0 1 rfl rfl)
theorem dJ1_init_2 : decode cJ1_init 2 = .ok (.invokespecial 7, 3) := dk_183 0 7 (dk_at dksJ1_init_0 2 rfl rfl)
theorem dJ1_init_5 : decode cJ1_init 5 = .ok (.return_, 1) := dk_177 (dk_at dksJ1_init_0 5 rfl rfl)
abbrev cJ1_init_2 : ByteArray := prog_25_method_1_code
def yJ1_init_2 : MethodName := ⟨RJ1, "<init>", "()V"⟩
theorem dJ1_init_2_0 : decode cJ1_init_2 0 = .ok (.aload_n 0, 1) := by decide +kernel
theorem dJ1_init_2_1 : decode cJ1_init_2 1 = .ok (.invokespecial 1, 3) := by decide +kernel
theorem dJ1_init_2_4 : decode cJ1_init_2 4 = .ok (.return_, 1) := by decide +kernel
theorem q82 : (Jvm.Cond.initialized "java/lang/Exception") ∈ lw_all := lw_g (lw_at lw_m1 20 rfl) rfl
theorem q491 : (Jvm.Cond.instanceMethod ({ cls := "java/lang/Exception", name := "<init>", desc := "(Ljava/lang/String;)V" } : Jvm.MethodName)) ∈ lw_all := lw_g (lw_at lw_m2 189 rfl) rfl
theorem q492 : (Jvm.Cond.code ({ cls := "java/lang/Exception", name := "<init>", desc := "(Ljava/lang/String;)V" } : Jvm.MethodName) prog_25_method_2_code (2 : Nat) (Option.none : Option Jvm.ClassFile.FieldType)) ∈ lw_all := lw_g (lw_at lw_m2 190 rfl) rfl
theorem q493 : (Jvm.Cond.methodLink "java/lang/Exception" (7 : Nat) ({ cls := "java/lang/Throwable", name := "<init>", desc := "(Ljava/lang/String;)V" } : Jvm.MethodName)) ∈ lw_all := lw_g (lw_at lw_m2 191 rfl) rfl
theorem q521 : (Jvm.Cond.superclass "java/lang/Exception" "java/lang/Throwable") ∈ lw_all := lw_g (lw_at lw_m2 219 rfl) rfl
theorem q549 : (Jvm.Cond.declares ({ cls := "java/lang/Exception", name := "<init>", desc := "()V" } : Jvm.MethodName)) ∈ lw_tbl := lw_at lw_m3 7 rfl
theorem q550 : (Jvm.Cond.declares ({ cls := "java/lang/Exception", name := "<init>", desc := "(Ljava/lang/String;)V" } : Jvm.MethodName)) ∈ lw_tbl := lw_at lw_m3 8 rfl
theorem q1147 : (Jvm.Cond.instanceMethod ({ cls := "java/lang/Exception", name := "<init>", desc := "()V" } : Jvm.MethodName)) ∈ lw_all := lw_g (lw_at lw_m5 125 rfl) rfl
theorem q1148 : (Jvm.Cond.code ({ cls := "java/lang/Exception", name := "<init>", desc := "()V" } : Jvm.MethodName) prog_25_method_1_code (1 : Nat) (Option.none : Option Jvm.ClassFile.FieldType)) ∈ lw_all := lw_g (lw_at lw_m5 126 rfl) rfl
theorem q1149 : (Jvm.Cond.methodLink "java/lang/Exception" (1 : Nat) ({ cls := "java/lang/Throwable", name := "<init>", desc := "()V" } : Jvm.MethodName)) ∈ lw_all := lw_g (lw_at lw_m5 127 rfl) rfl

/-! java/lang/RuntimeException -/
set_option maxRecDepth 100000
def RJ2 : String := "java/lang/RuntimeException"
abbrev cJ2_init : ByteArray := prog_30_method_2_code
def yJ2_init : MethodName := ⟨RJ2, "<init>", "(Ljava/lang/String;)V"⟩
def dkwJ2_init_0 : List UInt8 := [42, 43, 183, 0, 7, 177]
abbrev dktJ2_init_0 : List UInt8 := dkwJ2_init_0 ++ []
theorem dksJ2_init_0 : cJ2_init.data.toList.drop 0 = dktJ2_init_0 := by decide +kernel
theorem dJ2_init_0 : decode cJ2_init 0 = .ok (.aload_n 0, 1) := dk_42 (dk_at dksJ2_init_0 0 rfl rfl)
theorem dJ2_init_1 : decode cJ2_init 1 = .ok (.aload_n 1, 1) := dk_43 (dk_at dksJ2_init_0 1 rfl rfl)
theorem dJ2_init_2 : decode cJ2_init 2 = .ok (.invokespecial 7, 3) := dk_183 0 7 (dk_at dksJ2_init_0 2 rfl rfl)
theorem dJ2_init_5 : decode cJ2_init 5 = .ok (.return_, 1) := dk_177 (dk_at dksJ2_init_0 5 rfl rfl)
abbrev cJ2_init_2 : ByteArray := prog_30_method_1_code
def yJ2_init_2 : MethodName := ⟨RJ2, "<init>", "()V"⟩
theorem dJ2_init_2_0 : decode cJ2_init_2 0 = .ok (.aload_n 0, 1) := by decide +kernel
theorem dJ2_init_2_1 : decode cJ2_init_2 1 = .ok (.invokespecial 1, 3) := by decide +kernel
theorem dJ2_init_2_4 : decode cJ2_init_2 4 = .ok (.return_, 1) := by decide +kernel
theorem q83 : (Jvm.Cond.initialized "java/lang/RuntimeException") ∈ lw_all := lw_g (lw_at lw_m1 21 rfl) rfl
theorem q488 : (Jvm.Cond.instanceMethod ({ cls := "java/lang/RuntimeException", name := "<init>", desc := "(Ljava/lang/String;)V" } : Jvm.MethodName)) ∈ lw_all := lw_g (lw_at lw_m2 186 rfl) rfl
theorem q489 : (Jvm.Cond.code ({ cls := "java/lang/RuntimeException", name := "<init>", desc := "(Ljava/lang/String;)V" } : Jvm.MethodName) prog_30_method_2_code (2 : Nat) (Option.none : Option Jvm.ClassFile.FieldType)) ∈ lw_all := lw_g (lw_at lw_m2 187 rfl) rfl
theorem q490 : (Jvm.Cond.methodLink "java/lang/RuntimeException" (7 : Nat) ({ cls := "java/lang/Exception", name := "<init>", desc := "(Ljava/lang/String;)V" } : Jvm.MethodName)) ∈ lw_all := lw_g (lw_at lw_m2 188 rfl) rfl
theorem q517 : (Jvm.Cond.sameMethod "java/lang/RuntimeException" "java/lang/Throwable" "fillInStackTrace" "()Ljava/lang/Throwable;") ∈ lw_all := lw_g (lw_at lw_m2 215 rfl) rfl
theorem q520 : (Jvm.Cond.superclass "java/lang/RuntimeException" "java/lang/Exception") ∈ lw_all := lw_g (lw_at lw_m2 218 rfl) rfl
theorem q547 : (Jvm.Cond.declares ({ cls := "java/lang/RuntimeException", name := "<init>", desc := "()V" } : Jvm.MethodName)) ∈ lw_tbl := lw_at lw_m3 5 rfl
theorem q548 : (Jvm.Cond.declares ({ cls := "java/lang/RuntimeException", name := "<init>", desc := "(Ljava/lang/String;)V" } : Jvm.MethodName)) ∈ lw_tbl := lw_at lw_m3 6 rfl
theorem q1144 : (Jvm.Cond.instanceMethod ({ cls := "java/lang/RuntimeException", name := "<init>", desc := "()V" } : Jvm.MethodName)) ∈ lw_all := lw_g (lw_at lw_m5 122 rfl) rfl
theorem q1145 : (Jvm.Cond.code ({ cls := "java/lang/RuntimeException", name := "<init>", desc := "()V" } : Jvm.MethodName) prog_30_method_1_code (1 : Nat) (Option.none : Option Jvm.ClassFile.FieldType)) ∈ lw_all := lw_g (lw_at lw_m5 123 rfl) rfl
theorem q1146 : (Jvm.Cond.methodLink "java/lang/RuntimeException" (1 : Nat) ({ cls := "java/lang/Exception", name := "<init>", desc := "()V" } : Jvm.MethodName)) ∈ lw_all := lw_g (lw_at lw_m5 124 rfl) rfl
theorem q1164 : (Jvm.Cond.castable "java/lang/RuntimeException" "java/lang/Throwable") ∈ lw_tbl := lw_at lw_m5 142 rfl

/-! java/lang/ClassCastException -/
set_option maxRecDepth 100000
def RJ3 : String := "java/lang/ClassCastException"
def TJ3 : u_T := fun k => match k with
  | 0 => ("java/lang/Throwable", "backtrace", "Ljava/lang/Object;", false)
  | 1 => ("java/lang/Throwable", "detailMessage", "Ljava/lang/String;", false)
  | 2 => ("java/lang/Throwable", "cause", "Ljava/lang/Throwable;", false)
  | 3 => ("java/lang/Throwable", "stackTrace", "[Ljava/lang/StackTraceElement;", false)
  | 4 => ("java/lang/Throwable", "depth", "I", false)
  | _ => ("java/lang/Throwable", "suppressedExceptions", "Ljava/util/List;", false)
def tyJ3 : Nat → FieldType := fun k => match k with
  | 0 => .object "java/lang/Object"
  | 1 => .object "java/lang/String"
  | 2 => .object "java/lang/Throwable"
  | 3 => .array (.object "java/lang/StackTraceElement")
  | 4 => .int
  | _ => .object "java/util/List"
abbrev wsJ30 : List Cond := u_ws RJ3 TJ3 6
theorem nmJ3 : ∀ a, a < 6 → ∀ b, b < 6 → a ≠ b → (TJ3 a).2.1 ≠ (TJ3 b).2.1 := by decide +kernel
theorem tyJ3_ok : ∀ k, k < 6 → parseFieldDescriptor (TJ3 k).2.2.1 = some (tyJ3 k) := by decide +kernel
abbrev cJ3_init : ByteArray := prog_24_method_2_code
def yJ3_init : MethodName := ⟨RJ3, "<init>", "(Ljava/lang/String;)V"⟩
def dkwJ3_init_0 : List UInt8 := [42, 43, 183, 0, 7, 177]
abbrev dktJ3_init_0 : List UInt8 := dkwJ3_init_0 ++ []
theorem dksJ3_init_0 : cJ3_init.data.toList.drop 0 = dktJ3_init_0 := by decide +kernel
theorem dJ3_init_0 : decode cJ3_init 0 = .ok (.aload_n 0, 1) := dk_42 (dk_at dksJ3_init_0 0 rfl rfl)
theorem dJ3_init_1 : decode cJ3_init 1 = .ok (.aload_n 1, 1) := dk_43 (dk_at dksJ3_init_0 1 rfl rfl)
theorem dJ3_init_2 : decode cJ3_init 2 = .ok (.invokespecial 7, 3) := dk_183 0 7 (dk_at dksJ3_init_0 2 rfl rfl)
theorem dJ3_init_5 : decode cJ3_init 5 = .ok (.return_, 1) := dk_177 (dk_at dksJ3_init_0 5 rfl rfl)
theorem q84 : (Jvm.Cond.initialized "java/lang/ClassCastException") ∈ lw_all := lw_g (lw_at lw_m1 22 rfl) rfl
theorem q484 : (Jvm.Cond.instantiable "java/lang/ClassCastException" (6 : Nat)) ∈ lw_all := lw_g (lw_at lw_m2 182 rfl) rfl
theorem q485 : (Jvm.Cond.instanceMethod ({ cls := "java/lang/ClassCastException", name := "<init>", desc := "(Ljava/lang/String;)V" } : Jvm.MethodName)) ∈ lw_all := lw_g (lw_at lw_m2 183 rfl) rfl
theorem q486 : (Jvm.Cond.code ({ cls := "java/lang/ClassCastException", name := "<init>", desc := "(Ljava/lang/String;)V" } : Jvm.MethodName) prog_24_method_2_code (2 : Nat) (Option.none : Option Jvm.ClassFile.FieldType)) ∈ lw_all := lw_g (lw_at lw_m2 184 rfl) rfl
theorem q487 : (Jvm.Cond.methodLink "java/lang/ClassCastException" (7 : Nat) ({ cls := "java/lang/RuntimeException", name := "<init>", desc := "(Ljava/lang/String;)V" } : Jvm.MethodName)) ∈ lw_all := lw_g (lw_at lw_m2 185 rfl) rfl
theorem q506 : (Jvm.Cond.selects "java/lang/ClassCastException" ({ cls := "java/lang/Throwable", name := "fillInStackTrace", desc := "()Ljava/lang/Throwable;" } : Jvm.MethodName) ({ cls := "java/lang/Throwable", name := "fillInStackTrace", desc := "()Ljava/lang/Throwable;" } : Jvm.MethodName)) ∈ lw_all := lw_g (lw_at lw_m2 204 rfl) rfl
theorem q533 : (Jvm.Cond.lays "java/lang/ClassCastException" "java/lang/Throwable" "backtrace" "Ljava/lang/Object;") ∈ lw_all := lw_g (lw_at lw_m2 231 rfl) rfl
theorem q535 : (Jvm.Cond.lays "java/lang/ClassCastException" "java/lang/Throwable" "detailMessage" "Ljava/lang/String;") ∈ lw_all := lw_g (lw_at lw_m2 233 rfl) rfl
theorem q537 : (Jvm.Cond.lays "java/lang/ClassCastException" "java/lang/Throwable" "cause" "Ljava/lang/Throwable;") ∈ lw_all := lw_g (lw_at lw_m2 235 rfl) rfl
theorem q539 : (Jvm.Cond.lays "java/lang/ClassCastException" "java/lang/Throwable" "stackTrace" "[Ljava/lang/StackTraceElement;") ∈ lw_all := lw_g (lw_at lw_m2 237 rfl) rfl
theorem q541 : (Jvm.Cond.lays "java/lang/ClassCastException" "java/lang/Throwable" "depth" "I") ∈ lw_all := lw_g (lw_at lw_m2 239 rfl) rfl
theorem q543 : (Jvm.Cond.lays "java/lang/ClassCastException" "java/lang/Throwable" "suppressedExceptions" "Ljava/util/List;") ∈ lw_all := lw_g (lw_at lw_m3 1 rfl) rfl
theorem q545 : (Jvm.Cond.superclass "java/lang/ClassCastException" "java/lang/RuntimeException") ∈ lw_all := lw_g (lw_at lw_m3 3 rfl) rfl
theorem q546 : (Jvm.Cond.castable "java/lang/ClassCastException" "java/lang/ClassCastException") ∈ lw_tbl := lw_at lw_m3 4 rfl
theorem q553 : (Jvm.Cond.selects "java/lang/ClassCastException" ({ cls := "java/lang/Throwable", name := "fillInStackTrace", desc := "(I)Ljava/lang/Throwable;" } : Jvm.MethodName) ({ cls := "java/lang/Throwable", name := "fillInStackTrace", desc := "(I)Ljava/lang/Throwable;" } : Jvm.MethodName)) ∈ lw_all := lw_g (lw_at lw_m3 11 rfl) rfl
theorem in_J3 : ∀ w ∈ wsJ30, w ∈ lw_all := lw_in wsJ30 [533, 535, 537, 539, 541, 543] (by decide +kernel) (by decide +kernel)

/-! java/lang/String -/
set_option maxRecDepth 100000
def RJ4 : String := "java/lang/String"
def TJ4 : u_T := fun k => match k with
  | 0 => ("java/lang/String", "value", "[B", true)
  | _ => ("java/lang/String", "coder", "B", true)
def tyJ4 : Nat → FieldType := fun k => match k with
  | 0 => .array .byte
  | _ => .byte
abbrev wsJ40 : List Cond := u_ws RJ4 TJ4 2
theorem nmJ4 : ∀ a, a < 2 → ∀ b, b < 2 → a ≠ b → (TJ4 a).2.1 ≠ (TJ4 b).2.1 := by decide +kernel
theorem tyJ4_ok : ∀ k, k < 2 → parseFieldDescriptor (TJ4 k).2.2.1 = some (tyJ4 k) := by decide +kernel
theorem q85 : (Jvm.Cond.initialized "java/lang/String") ∈ lw_all := lw_g (lw_at lw_m1 23 rfl) rfl
theorem q563 : (Jvm.Cond.instantiable "java/lang/String" (4 : Nat)) ∈ lw_all := lw_g (lw_at lw_m3 21 rfl) rfl
theorem q564 : (Jvm.Cond.laysFinal "java/lang/String" "java/lang/String" "value" "[B") ∈ lw_all := lw_g (lw_at lw_m3 22 rfl) rfl
theorem q565 : (Jvm.Cond.soleField "java/lang/String" "value") ∈ lw_all := lw_g (lw_at lw_m3 23 rfl) rfl
theorem q566 : (Jvm.Cond.laysFinal "java/lang/String" "java/lang/String" "coder" "B") ∈ lw_all := lw_g (lw_at lw_m3 24 rfl) rfl
theorem q567 : (Jvm.Cond.soleField "java/lang/String" "coder") ∈ lw_all := lw_g (lw_at lw_m3 25 rfl) rfl
theorem in_J4 : ∀ w ∈ wsJ40, w ∈ lw_all := lw_in wsJ40 [564, 566] (by decide +kernel) (by decide +kernel)

/-! java/lang/IndexOutOfBoundsException -/
set_option maxRecDepth 100000
def RJ5 : String := "java/lang/IndexOutOfBoundsException"
abbrev cJ5_init : ByteArray := prog_26_method_2_code
def yJ5_init : MethodName := ⟨RJ5, "<init>", "(Ljava/lang/String;)V"⟩
def dkwJ5_init_0 : List UInt8 := [42, 43, 183, 0, 7, 177]
abbrev dktJ5_init_0 : List UInt8 := dkwJ5_init_0 ++ []
theorem dksJ5_init_0 : cJ5_init.data.toList.drop 0 = dktJ5_init_0 := by decide +kernel
theorem dJ5_init_0 : decode cJ5_init 0 = .ok (.aload_n 0, 1) := dk_42 (dk_at dksJ5_init_0 0 rfl rfl)
theorem dJ5_init_1 : decode cJ5_init 1 = .ok (.aload_n 1, 1) := dk_43 (dk_at dksJ5_init_0 1 rfl rfl)
theorem dJ5_init_2 : decode cJ5_init 2 = .ok (.invokespecial 7, 3) := dk_183 0 7 (dk_at dksJ5_init_0 2 rfl rfl)
theorem dJ5_init_5 : decode cJ5_init 5 = .ok (.return_, 1) := dk_177 (dk_at dksJ5_init_0 5 rfl rfl)
theorem q86 : (Jvm.Cond.initialized "java/lang/IndexOutOfBoundsException") ∈ lw_all := lw_g (lw_at lw_m1 24 rfl) rfl
theorem q664 : (Jvm.Cond.instanceMethod ({ cls := "java/lang/IndexOutOfBoundsException", name := "<init>", desc := "(Ljava/lang/String;)V" } : Jvm.MethodName)) ∈ lw_all := lw_g (lw_at lw_m3 122 rfl) rfl
theorem q665 : (Jvm.Cond.code ({ cls := "java/lang/IndexOutOfBoundsException", name := "<init>", desc := "(Ljava/lang/String;)V" } : Jvm.MethodName) prog_26_method_2_code (2 : Nat) (Option.none : Option Jvm.ClassFile.FieldType)) ∈ lw_all := lw_g (lw_at lw_m3 123 rfl) rfl
theorem q666 : (Jvm.Cond.methodLink "java/lang/IndexOutOfBoundsException" (7 : Nat) ({ cls := "java/lang/RuntimeException", name := "<init>", desc := "(Ljava/lang/String;)V" } : Jvm.MethodName)) ∈ lw_all := lw_g (lw_at lw_m3 124 rfl) rfl
theorem q675 : (Jvm.Cond.declares ({ cls := "java/lang/IndexOutOfBoundsException", name := "<init>", desc := "()V" } : Jvm.MethodName)) ∈ lw_tbl := lw_at lw_m3 133 rfl
theorem q676 : (Jvm.Cond.declares ({ cls := "java/lang/IndexOutOfBoundsException", name := "<init>", desc := "(Ljava/lang/String;)V" } : Jvm.MethodName)) ∈ lw_tbl := lw_at lw_m3 134 rfl

/-! java/lang/ArrayIndexOutOfBoundsException -/
set_option maxRecDepth 100000
def RJ6 : String := "java/lang/ArrayIndexOutOfBoundsException"
def TJ6 : u_T := fun k => match k with
  | 0 => ("java/lang/Throwable", "backtrace", "Ljava/lang/Object;", false)
  | 1 => ("java/lang/Throwable", "detailMessage", "Ljava/lang/String;", false)
  | 2 => ("java/lang/Throwable", "cause", "Ljava/lang/Throwable;", false)
  | 3 => ("java/lang/Throwable", "stackTrace", "[Ljava/lang/StackTraceElement;", false)
  | 4 => ("java/lang/Throwable", "depth", "I", false)
  | _ => ("java/lang/Throwable", "suppressedExceptions", "Ljava/util/List;", false)
def tyJ6 : Nat → FieldType := fun k => match k with
  | 0 => .object "java/lang/Object"
  | 1 => .object "java/lang/String"
  | 2 => .object "java/lang/Throwable"
  | 3 => .array (.object "java/lang/StackTraceElement")
  | 4 => .int
  | _ => .object "java/util/List"
abbrev wsJ60 : List Cond := u_ws RJ6 TJ6 6
theorem nmJ6 : ∀ a, a < 6 → ∀ b, b < 6 → a ≠ b → (TJ6 a).2.1 ≠ (TJ6 b).2.1 := by decide +kernel
theorem tyJ6_ok : ∀ k, k < 6 → parseFieldDescriptor (TJ6 k).2.2.1 = some (tyJ6 k) := by decide +kernel
abbrev cJ6_init : ByteArray := prog_22_method_2_code
def yJ6_init : MethodName := ⟨RJ6, "<init>", "(Ljava/lang/String;)V"⟩
def dkwJ6_init_0 : List UInt8 := [42, 43, 183, 0, 7, 177]
abbrev dktJ6_init_0 : List UInt8 := dkwJ6_init_0 ++ []
theorem dksJ6_init_0 : cJ6_init.data.toList.drop 0 = dktJ6_init_0 := by decide +kernel
theorem dJ6_init_0 : decode cJ6_init 0 = .ok (.aload_n 0, 1) := dk_42 (dk_at dksJ6_init_0 0 rfl rfl)
theorem dJ6_init_1 : decode cJ6_init 1 = .ok (.aload_n 1, 1) := dk_43 (dk_at dksJ6_init_0 1 rfl rfl)
theorem dJ6_init_2 : decode cJ6_init 2 = .ok (.invokespecial 7, 3) := dk_183 0 7 (dk_at dksJ6_init_0 2 rfl rfl)
theorem dJ6_init_5 : decode cJ6_init 5 = .ok (.return_, 1) := dk_177 (dk_at dksJ6_init_0 5 rfl rfl)
theorem q87 : (Jvm.Cond.initialized "java/lang/ArrayIndexOutOfBoundsException") ∈ lw_all := lw_g (lw_at lw_m1 25 rfl) rfl
theorem q504 : (Jvm.Cond.selects "java/lang/ArrayIndexOutOfBoundsException" ({ cls := "java/lang/Throwable", name := "fillInStackTrace", desc := "()Ljava/lang/Throwable;" } : Jvm.MethodName) ({ cls := "java/lang/Throwable", name := "fillInStackTrace", desc := "()Ljava/lang/Throwable;" } : Jvm.MethodName)) ∈ lw_all := lw_g (lw_at lw_m2 202 rfl) rfl
theorem q660 : (Jvm.Cond.instantiable "java/lang/ArrayIndexOutOfBoundsException" (6 : Nat)) ∈ lw_all := lw_g (lw_at lw_m3 118 rfl) rfl
theorem q661 : (Jvm.Cond.instanceMethod ({ cls := "java/lang/ArrayIndexOutOfBoundsException", name := "<init>", desc := "(Ljava/lang/String;)V" } : Jvm.MethodName)) ∈ lw_all := lw_g (lw_at lw_m3 119 rfl) rfl
theorem q662 : (Jvm.Cond.code ({ cls := "java/lang/ArrayIndexOutOfBoundsException", name := "<init>", desc := "(Ljava/lang/String;)V" } : Jvm.MethodName) prog_22_method_2_code (2 : Nat) (Option.none : Option Jvm.ClassFile.FieldType)) ∈ lw_all := lw_g (lw_at lw_m3 120 rfl) rfl
theorem q663 : (Jvm.Cond.methodLink "java/lang/ArrayIndexOutOfBoundsException" (7 : Nat) ({ cls := "java/lang/IndexOutOfBoundsException", name := "<init>", desc := "(Ljava/lang/String;)V" } : Jvm.MethodName)) ∈ lw_all := lw_g (lw_at lw_m3 121 rfl) rfl
theorem q667 : (Jvm.Cond.lays "java/lang/ArrayIndexOutOfBoundsException" "java/lang/Throwable" "backtrace" "Ljava/lang/Object;") ∈ lw_all := lw_g (lw_at lw_m3 125 rfl) rfl
theorem q668 : (Jvm.Cond.lays "java/lang/ArrayIndexOutOfBoundsException" "java/lang/Throwable" "detailMessage" "Ljava/lang/String;") ∈ lw_all := lw_g (lw_at lw_m3 126 rfl) rfl
theorem q669 : (Jvm.Cond.lays "java/lang/ArrayIndexOutOfBoundsException" "java/lang/Throwable" "cause" "Ljava/lang/Throwable;") ∈ lw_all := lw_g (lw_at lw_m3 127 rfl) rfl
theorem q670 : (Jvm.Cond.lays "java/lang/ArrayIndexOutOfBoundsException" "java/lang/Throwable" "stackTrace" "[Ljava/lang/StackTraceElement;") ∈ lw_all := lw_g (lw_at lw_m3 128 rfl) rfl
theorem q671 : (Jvm.Cond.lays "java/lang/ArrayIndexOutOfBoundsException" "java/lang/Throwable" "depth" "I") ∈ lw_all := lw_g (lw_at lw_m3 129 rfl) rfl
theorem q672 : (Jvm.Cond.lays "java/lang/ArrayIndexOutOfBoundsException" "java/lang/Throwable" "suppressedExceptions" "Ljava/util/List;") ∈ lw_all := lw_g (lw_at lw_m3 130 rfl) rfl
theorem q673 : (Jvm.Cond.superclass "java/lang/ArrayIndexOutOfBoundsException" "java/lang/IndexOutOfBoundsException") ∈ lw_all := lw_g (lw_at lw_m3 131 rfl) rfl
theorem q674 : (Jvm.Cond.castable "java/lang/ArrayIndexOutOfBoundsException" "java/lang/ArrayIndexOutOfBoundsException") ∈ lw_tbl := lw_at lw_m3 132 rfl
theorem q677 : (Jvm.Cond.selects "java/lang/ArrayIndexOutOfBoundsException" ({ cls := "java/lang/Throwable", name := "fillInStackTrace", desc := "(I)Ljava/lang/Throwable;" } : Jvm.MethodName) ({ cls := "java/lang/Throwable", name := "fillInStackTrace", desc := "(I)Ljava/lang/Throwable;" } : Jvm.MethodName)) ∈ lw_all := lw_g (lw_at lw_m3 135 rfl) rfl
theorem in_J6 : ∀ w ∈ wsJ60, w ∈ lw_all := lw_in wsJ60 [667, 668, 669, 670, 671, 672] (by decide +kernel) (by decide +kernel)

/-! java/lang/Long -/
set_option maxRecDepth 100000
def RJ7 : String := "java/lang/Long"
abbrev cJ7_compare : ByteArray := prog_27_method_42_code
def yJ7_compare : MethodName := ⟨RJ7, "compare", "(JJ)I"⟩
def dkwJ7_compare_0 : List UInt8 := [30, 32, 148, 156, 0, 7, 2, 167, 0, 14, 30, 32, 148, 154, 0, 7, 3, 167, 0, 4, 4, 172]
abbrev dktJ7_compare_0 : List UInt8 := dkwJ7_compare_0 ++ []
theorem dksJ7_compare_0 : cJ7_compare.data.toList.drop 0 = dktJ7_compare_0 := by decide +kernel
theorem dJ7_compare_0 : decode cJ7_compare 0 = .ok (.lload_n 0, 1) := dk_30 (dk_at dksJ7_compare_0 0 rfl rfl)
theorem dJ7_compare_1 : decode cJ7_compare 1 = .ok (.lload_n 2, 1) := dk_32 (dk_at dksJ7_compare_0 1 rfl rfl)
theorem dJ7_compare_2 : decode cJ7_compare 2 = .ok (.lcmp, 1) := dk_148 (dk_at dksJ7_compare_0 2 rfl rfl)
theorem dJ7_compare_3 : decode cJ7_compare 3 = .ok (.ifCond .ge 7, 3) := dk_156 0 7 (dk_at dksJ7_compare_0 3 rfl rfl)
theorem dJ7_compare_6 : decode cJ7_compare 6 = .ok (.iconst (-1), 1) := dk_2 (dk_at dksJ7_compare_0 6 rfl rfl)
theorem dJ7_compare_7 : decode cJ7_compare 7 = .ok (.goto 14, 3) := dk_167 0 14 (dk_at dksJ7_compare_0 7 rfl rfl)
theorem dJ7_compare_10 : decode cJ7_compare 10 = .ok (.lload_n 0, 1) := dk_30 (dk_at dksJ7_compare_0 10 rfl rfl)
theorem dJ7_compare_11 : decode cJ7_compare 11 = .ok (.lload_n 2, 1) := dk_32 (dk_at dksJ7_compare_0 11 rfl rfl)
theorem dJ7_compare_12 : decode cJ7_compare 12 = .ok (.lcmp, 1) := dk_148 (dk_at dksJ7_compare_0 12 rfl rfl)
theorem dJ7_compare_13 : decode cJ7_compare 13 = .ok (.ifCond .ne 7, 3) := dk_154 0 7 (dk_at dksJ7_compare_0 13 rfl rfl)
theorem dJ7_compare_16 : decode cJ7_compare 16 = .ok (.iconst 0, 1) := dk_3 (dk_at dksJ7_compare_0 16 rfl rfl)
theorem dJ7_compare_17 : decode cJ7_compare 17 = .ok (.goto 4, 3) := dk_167 0 4 (dk_at dksJ7_compare_0 17 rfl rfl)
theorem dJ7_compare_20 : decode cJ7_compare 20 = .ok (.iconst 1, 1) := dk_4 (dk_at dksJ7_compare_0 20 rfl rfl)
theorem dJ7_compare_21 : decode cJ7_compare 21 = .ok (.ireturn, 1) := dk_172 (dk_at dksJ7_compare_0 21 rfl rfl)
theorem q88 : (Jvm.Cond.initialized "java/lang/Long") ∈ lw_all := lw_g (lw_at lw_m1 26 rfl) rfl
theorem q812 : (Jvm.Cond.static ({ cls := "java/lang/Long", name := "compare", desc := "(JJ)I" } : Jvm.MethodName)) ∈ lw_all := lw_g (lw_at lw_m4 30 rfl) rfl
theorem q813 : (Jvm.Cond.code ({ cls := "java/lang/Long", name := "compare", desc := "(JJ)I" } : Jvm.MethodName) prog_27_method_42_code (4 : Nat) (Option.some Jvm.ClassFile.FieldType.int)) ∈ lw_all := lw_g (lw_at lw_m4 31 rfl) rfl

/-! java/lang/NegativeArraySizeException -/
set_option maxRecDepth 100000
def RJ8 : String := "java/lang/NegativeArraySizeException"
def TJ8 : u_T := fun k => match k with
  | 0 => ("java/lang/Throwable", "backtrace", "Ljava/lang/Object;", false)
  | 1 => ("java/lang/Throwable", "detailMessage", "Ljava/lang/String;", false)
  | 2 => ("java/lang/Throwable", "cause", "Ljava/lang/Throwable;", false)
  | 3 => ("java/lang/Throwable", "stackTrace", "[Ljava/lang/StackTraceElement;", false)
  | 4 => ("java/lang/Throwable", "depth", "I", false)
  | _ => ("java/lang/Throwable", "suppressedExceptions", "Ljava/util/List;", false)
def tyJ8 : Nat → FieldType := fun k => match k with
  | 0 => .object "java/lang/Object"
  | 1 => .object "java/lang/String"
  | 2 => .object "java/lang/Throwable"
  | 3 => .array (.object "java/lang/StackTraceElement")
  | 4 => .int
  | _ => .object "java/util/List"
abbrev wsJ80 : List Cond := u_ws RJ8 TJ8 6
theorem nmJ8 : ∀ a, a < 6 → ∀ b, b < 6 → a ≠ b → (TJ8 a).2.1 ≠ (TJ8 b).2.1 := by decide +kernel
theorem tyJ8_ok : ∀ k, k < 6 → parseFieldDescriptor (TJ8 k).2.2.1 = some (tyJ8 k) := by decide +kernel
abbrev cJ8_init : ByteArray := prog_28_method_2_code
def yJ8_init : MethodName := ⟨RJ8, "<init>", "(Ljava/lang/String;)V"⟩
def dkwJ8_init_0 : List UInt8 := [42, 43, 183, 0, 7, 177]
abbrev dktJ8_init_0 : List UInt8 := dkwJ8_init_0 ++ []
theorem dksJ8_init_0 : cJ8_init.data.toList.drop 0 = dktJ8_init_0 := by decide +kernel
theorem dJ8_init_0 : decode cJ8_init 0 = .ok (.aload_n 0, 1) := dk_42 (dk_at dksJ8_init_0 0 rfl rfl)
theorem dJ8_init_1 : decode cJ8_init 1 = .ok (.aload_n 1, 1) := dk_43 (dk_at dksJ8_init_0 1 rfl rfl)
theorem dJ8_init_2 : decode cJ8_init 2 = .ok (.invokespecial 7, 3) := dk_183 0 7 (dk_at dksJ8_init_0 2 rfl rfl)
theorem dJ8_init_5 : decode cJ8_init 5 = .ok (.return_, 1) := dk_177 (dk_at dksJ8_init_0 5 rfl rfl)
theorem q91 : (Jvm.Cond.initialized "java/lang/NegativeArraySizeException") ∈ lw_all := lw_g (lw_at lw_m1 29 rfl) rfl
theorem q507 : (Jvm.Cond.selects "java/lang/NegativeArraySizeException" ({ cls := "java/lang/Throwable", name := "fillInStackTrace", desc := "()Ljava/lang/Throwable;" } : Jvm.MethodName) ({ cls := "java/lang/Throwable", name := "fillInStackTrace", desc := "()Ljava/lang/Throwable;" } : Jvm.MethodName)) ∈ lw_all := lw_g (lw_at lw_m2 205 rfl) rfl
theorem q1115 : (Jvm.Cond.instantiable "java/lang/NegativeArraySizeException" (6 : Nat)) ∈ lw_all := lw_g (lw_at lw_m5 93 rfl) rfl
theorem q1116 : (Jvm.Cond.instanceMethod ({ cls := "java/lang/NegativeArraySizeException", name := "<init>", desc := "(Ljava/lang/String;)V" } : Jvm.MethodName)) ∈ lw_all := lw_g (lw_at lw_m5 94 rfl) rfl
theorem q1117 : (Jvm.Cond.code ({ cls := "java/lang/NegativeArraySizeException", name := "<init>", desc := "(Ljava/lang/String;)V" } : Jvm.MethodName) prog_28_method_2_code (2 : Nat) (Option.none : Option Jvm.ClassFile.FieldType)) ∈ lw_all := lw_g (lw_at lw_m5 95 rfl) rfl
theorem q1118 : (Jvm.Cond.methodLink "java/lang/NegativeArraySizeException" (7 : Nat) ({ cls := "java/lang/RuntimeException", name := "<init>", desc := "(Ljava/lang/String;)V" } : Jvm.MethodName)) ∈ lw_all := lw_g (lw_at lw_m5 96 rfl) rfl
theorem q1119 : (Jvm.Cond.lays "java/lang/NegativeArraySizeException" "java/lang/Throwable" "backtrace" "Ljava/lang/Object;") ∈ lw_all := lw_g (lw_at lw_m5 97 rfl) rfl
theorem q1120 : (Jvm.Cond.lays "java/lang/NegativeArraySizeException" "java/lang/Throwable" "detailMessage" "Ljava/lang/String;") ∈ lw_all := lw_g (lw_at lw_m5 98 rfl) rfl
theorem q1121 : (Jvm.Cond.lays "java/lang/NegativeArraySizeException" "java/lang/Throwable" "cause" "Ljava/lang/Throwable;") ∈ lw_all := lw_g (lw_at lw_m5 99 rfl) rfl
theorem q1122 : (Jvm.Cond.lays "java/lang/NegativeArraySizeException" "java/lang/Throwable" "stackTrace" "[Ljava/lang/StackTraceElement;") ∈ lw_all := lw_g (lw_at lw_m5 100 rfl) rfl
theorem q1123 : (Jvm.Cond.lays "java/lang/NegativeArraySizeException" "java/lang/Throwable" "depth" "I") ∈ lw_all := lw_g (lw_at lw_m5 101 rfl) rfl
theorem q1124 : (Jvm.Cond.lays "java/lang/NegativeArraySizeException" "java/lang/Throwable" "suppressedExceptions" "Ljava/util/List;") ∈ lw_all := lw_g (lw_at lw_m5 102 rfl) rfl
theorem q1125 : (Jvm.Cond.superclass "java/lang/NegativeArraySizeException" "java/lang/RuntimeException") ∈ lw_all := lw_g (lw_at lw_m5 103 rfl) rfl
theorem q1126 : (Jvm.Cond.castable "java/lang/NegativeArraySizeException" "java/lang/NegativeArraySizeException") ∈ lw_tbl := lw_at lw_m5 104 rfl
theorem q1127 : (Jvm.Cond.selects "java/lang/NegativeArraySizeException" ({ cls := "java/lang/Throwable", name := "fillInStackTrace", desc := "(I)Ljava/lang/Throwable;" } : Jvm.MethodName) ({ cls := "java/lang/Throwable", name := "fillInStackTrace", desc := "(I)Ljava/lang/Throwable;" } : Jvm.MethodName)) ∈ lw_all := lw_g (lw_at lw_m5 105 rfl) rfl
theorem in_J8 : ∀ w ∈ wsJ80, w ∈ lw_all := lw_in wsJ80 [1119, 1120, 1121, 1122, 1123, 1124] (by decide +kernel) (by decide +kernel)

/-! java/lang/NullPointerException -/
set_option maxRecDepth 100000
def RJ9 : String := "java/lang/NullPointerException"
def TJ9 : u_T := fun k => match k with
  | 0 => ("java/lang/Throwable", "backtrace", "Ljava/lang/Object;", false)
  | 1 => ("java/lang/Throwable", "detailMessage", "Ljava/lang/String;", false)
  | 2 => ("java/lang/Throwable", "cause", "Ljava/lang/Throwable;", false)
  | 3 => ("java/lang/Throwable", "stackTrace", "[Ljava/lang/StackTraceElement;", false)
  | 4 => ("java/lang/Throwable", "depth", "I", false)
  | 5 => ("java/lang/Throwable", "suppressedExceptions", "Ljava/util/List;", false)
  | 6 => ("java/lang/NullPointerException", "extendedMessageState", "I", false)
  | _ => ("java/lang/NullPointerException", "extendedMessage", "Ljava/lang/String;", false)
def tyJ9 : Nat → FieldType := fun k => match k with
  | 0 => .object "java/lang/Object"
  | 1 => .object "java/lang/String"
  | 2 => .object "java/lang/Throwable"
  | 3 => .array (.object "java/lang/StackTraceElement")
  | 4 => .int
  | 5 => .object "java/util/List"
  | 6 => .int
  | _ => .object "java/lang/String"
abbrev wsJ90 : List Cond := u_ws RJ9 TJ9 8
theorem nmJ9 : ∀ a, a < 8 → ∀ b, b < 8 → a ≠ b → (TJ9 a).2.1 ≠ (TJ9 b).2.1 := by decide +kernel
theorem tyJ9_ok : ∀ k, k < 8 → parseFieldDescriptor (TJ9 k).2.2.1 = some (tyJ9 k) := by decide +kernel
abbrev cJ9_init : ByteArray := prog_29_method_1_code
def yJ9_init : MethodName := ⟨RJ9, "<init>", "()V"⟩
theorem dJ9_init_0 : decode cJ9_init 0 = .ok (.aload_n 0, 1) := by decide +kernel
theorem dJ9_init_1 : decode cJ9_init 1 = .ok (.invokespecial 1, 3) := by decide +kernel
theorem dJ9_init_4 : decode cJ9_init 4 = .ok (.return_, 1) := by decide +kernel
theorem q92 : (Jvm.Cond.initialized "java/lang/NullPointerException") ∈ lw_all := lw_g (lw_at lw_m1 30 rfl) rfl
theorem q508 : (Jvm.Cond.selects "java/lang/NullPointerException" ({ cls := "java/lang/Throwable", name := "fillInStackTrace", desc := "()Ljava/lang/Throwable;" } : Jvm.MethodName) ({ cls := "java/lang/NullPointerException", name := "fillInStackTrace", desc := "()Ljava/lang/Throwable;" } : Jvm.MethodName)) ∈ lw_all := lw_g (lw_at lw_m2 206 rfl) rfl
theorem q509 : (Jvm.Cond.instanceMethod ({ cls := "java/lang/NullPointerException", name := "fillInStackTrace", desc := "()Ljava/lang/Throwable;" } : Jvm.MethodName)) ∈ lw_all := lw_g (lw_at lw_m2 207 rfl) rfl
theorem q510 : (Jvm.Cond.codeSync ({ cls := "java/lang/NullPointerException", name := "fillInStackTrace", desc := "()Ljava/lang/Throwable;" } : Jvm.MethodName) prog_29_method_3_code (1 : Nat) (Option.some (Jvm.ClassFile.FieldType.object "java/lang/Throwable"))) ∈ lw_all := lw_g (lw_at lw_m2 208 rfl) rfl
theorem q511 : (Jvm.Cond.methodLink "java/lang/NullPointerException" (16 : Nat) ({ cls := "java/lang/NullPointerException", name := "getExtendedNPEMessage", desc := "()Ljava/lang/String;" } : Jvm.MethodName)) ∈ lw_all := lw_g (lw_at lw_m2 209 rfl) rfl
theorem q512 : (Jvm.Cond.privateMethod ({ cls := "java/lang/NullPointerException", name := "getExtendedNPEMessage", desc := "()Ljava/lang/String;" } : Jvm.MethodName)) ∈ lw_tbl := lw_at lw_m2 210 rfl
theorem q513 : (Jvm.Cond.instanceMethod ({ cls := "java/lang/NullPointerException", name := "getExtendedNPEMessage", desc := "()Ljava/lang/String;" } : Jvm.MethodName)) ∈ lw_all := lw_g (lw_at lw_m2 211 rfl) rfl
theorem q514 : (Jvm.Cond.instantiable "java/lang/NullPointerException" (8 : Nat)) ∈ lw_all := lw_g (lw_at lw_m2 212 rfl) rfl
theorem q515 : (Jvm.Cond.native ({ cls := "java/lang/NullPointerException", name := "getExtendedNPEMessage", desc := "()Ljava/lang/String;" } : Jvm.MethodName)) ∈ lw_all := lw_g (lw_at lw_m2 213 rfl) rfl
theorem q516 : (Jvm.Cond.methodLink "java/lang/NullPointerException" (24 : Nat) ({ cls := "java/lang/RuntimeException", name := "fillInStackTrace", desc := "()Ljava/lang/Throwable;" } : Jvm.MethodName)) ∈ lw_all := lw_g (lw_at lw_m2 214 rfl) rfl
theorem q519 : (Jvm.Cond.superclass "java/lang/NullPointerException" "java/lang/RuntimeException") ∈ lw_all := lw_g (lw_at lw_m2 217 rfl) rfl
theorem q1141 : (Jvm.Cond.instanceMethod ({ cls := "java/lang/NullPointerException", name := "<init>", desc := "()V" } : Jvm.MethodName)) ∈ lw_all := lw_g (lw_at lw_m5 119 rfl) rfl
theorem q1142 : (Jvm.Cond.code ({ cls := "java/lang/NullPointerException", name := "<init>", desc := "()V" } : Jvm.MethodName) prog_29_method_1_code (1 : Nat) (Option.none : Option Jvm.ClassFile.FieldType)) ∈ lw_all := lw_g (lw_at lw_m5 120 rfl) rfl
theorem q1143 : (Jvm.Cond.methodLink "java/lang/NullPointerException" (1 : Nat) ({ cls := "java/lang/RuntimeException", name := "<init>", desc := "()V" } : Jvm.MethodName)) ∈ lw_all := lw_g (lw_at lw_m5 121 rfl) rfl
theorem q1150 : (Jvm.Cond.fieldLink "java/lang/NullPointerException" (10 : Nat) "java/lang/NullPointerException" "extendedMessageState" "I") ∈ lw_all := lw_g (lw_at lw_m5 128 rfl) rfl
theorem q1151 : (Jvm.Cond.fieldLink "java/lang/NullPointerException" (20 : Nat) "java/lang/NullPointerException" "extendedMessage" "Ljava/lang/String;") ∈ lw_all := lw_g (lw_at lw_m5 129 rfl) rfl
theorem q1152 : (Jvm.Cond.lays "java/lang/NullPointerException" "java/lang/NullPointerException" "extendedMessageState" "I") ∈ lw_all := lw_g (lw_at lw_m5 130 rfl) rfl
theorem q1153 : (Jvm.Cond.soleField "java/lang/NullPointerException" "extendedMessageState") ∈ lw_all := lw_g (lw_at lw_m5 131 rfl) rfl
theorem q1154 : (Jvm.Cond.lays "java/lang/NullPointerException" "java/lang/NullPointerException" "extendedMessage" "Ljava/lang/String;") ∈ lw_all := lw_g (lw_at lw_m5 132 rfl) rfl
theorem q1155 : (Jvm.Cond.soleField "java/lang/NullPointerException" "extendedMessage") ∈ lw_all := lw_g (lw_at lw_m5 133 rfl) rfl
theorem q1156 : (Jvm.Cond.lays "java/lang/NullPointerException" "java/lang/Throwable" "backtrace" "Ljava/lang/Object;") ∈ lw_all := lw_g (lw_at lw_m5 134 rfl) rfl
theorem q1157 : (Jvm.Cond.lays "java/lang/NullPointerException" "java/lang/Throwable" "detailMessage" "Ljava/lang/String;") ∈ lw_all := lw_g (lw_at lw_m5 135 rfl) rfl
theorem q1158 : (Jvm.Cond.lays "java/lang/NullPointerException" "java/lang/Throwable" "cause" "Ljava/lang/Throwable;") ∈ lw_all := lw_g (lw_at lw_m5 136 rfl) rfl
theorem q1159 : (Jvm.Cond.lays "java/lang/NullPointerException" "java/lang/Throwable" "stackTrace" "[Ljava/lang/StackTraceElement;") ∈ lw_all := lw_g (lw_at lw_m5 137 rfl) rfl
theorem q1160 : (Jvm.Cond.lays "java/lang/NullPointerException" "java/lang/Throwable" "depth" "I") ∈ lw_all := lw_g (lw_at lw_m5 138 rfl) rfl
theorem q1161 : (Jvm.Cond.lays "java/lang/NullPointerException" "java/lang/Throwable" "suppressedExceptions" "Ljava/util/List;") ∈ lw_all := lw_g (lw_at lw_m5 139 rfl) rfl
theorem q1162 : (Jvm.Cond.castable "java/lang/NullPointerException" "java/lang/NullPointerException") ∈ lw_tbl := lw_at lw_m5 140 rfl
theorem q1163 : (Jvm.Cond.selects "java/lang/NullPointerException" ({ cls := "java/lang/Throwable", name := "fillInStackTrace", desc := "(I)Ljava/lang/Throwable;" } : Jvm.MethodName) ({ cls := "java/lang/Throwable", name := "fillInStackTrace", desc := "(I)Ljava/lang/Throwable;" } : Jvm.MethodName)) ∈ lw_all := lw_g (lw_at lw_m5 141 rfl) rfl
theorem in_J9 : ∀ w ∈ wsJ90, w ∈ lw_all := lw_in wsJ90 [1156, 1157, 1158, 1159, 1160, 1161, 1152, 1154] (by decide +kernel) (by decide +kernel)

/-! java/lang/ArrayStoreException -/
set_option maxRecDepth 100000
def RJ10 : String := "java/lang/ArrayStoreException"
def TJ10 : u_T := fun k => match k with
  | 0 => ("java/lang/Throwable", "backtrace", "Ljava/lang/Object;", false)
  | 1 => ("java/lang/Throwable", "detailMessage", "Ljava/lang/String;", false)
  | 2 => ("java/lang/Throwable", "cause", "Ljava/lang/Throwable;", false)
  | 3 => ("java/lang/Throwable", "stackTrace", "[Ljava/lang/StackTraceElement;", false)
  | 4 => ("java/lang/Throwable", "depth", "I", false)
  | _ => ("java/lang/Throwable", "suppressedExceptions", "Ljava/util/List;", false)
def tyJ10 : Nat → FieldType := fun k => match k with
  | 0 => .object "java/lang/Object"
  | 1 => .object "java/lang/String"
  | 2 => .object "java/lang/Throwable"
  | 3 => .array (.object "java/lang/StackTraceElement")
  | 4 => .int
  | _ => .object "java/util/List"
abbrev wsJ100 : List Cond := u_ws RJ10 TJ10 6
theorem nmJ10 : ∀ a, a < 6 → ∀ b, b < 6 → a ≠ b → (TJ10 a).2.1 ≠ (TJ10 b).2.1 := by decide +kernel
theorem tyJ10_ok : ∀ k, k < 6 → parseFieldDescriptor (TJ10 k).2.2.1 = some (tyJ10 k) := by decide +kernel
abbrev cJ10_init : ByteArray := prog_23_method_2_code
def yJ10_init : MethodName := ⟨RJ10, "<init>", "(Ljava/lang/String;)V"⟩
def dkwJ10_init_0 : List UInt8 := [42, 43, 183, 0, 7, 177]
abbrev dktJ10_init_0 : List UInt8 := dkwJ10_init_0 ++ []
theorem dksJ10_init_0 : cJ10_init.data.toList.drop 0 = dktJ10_init_0 := by decide +kernel
theorem dJ10_init_0 : decode cJ10_init 0 = .ok (.aload_n 0, 1) := dk_42 (dk_at dksJ10_init_0 0 rfl rfl)
theorem dJ10_init_1 : decode cJ10_init 1 = .ok (.aload_n 1, 1) := dk_43 (dk_at dksJ10_init_0 1 rfl rfl)
theorem dJ10_init_2 : decode cJ10_init 2 = .ok (.invokespecial 7, 3) := dk_183 0 7 (dk_at dksJ10_init_0 2 rfl rfl)
theorem dJ10_init_5 : decode cJ10_init 5 = .ok (.return_, 1) := dk_177 (dk_at dksJ10_init_0 5 rfl rfl)
theorem q93 : (Jvm.Cond.initialized "java/lang/ArrayStoreException") ∈ lw_all := lw_g (lw_at lw_m1 31 rfl) rfl
theorem q505 : (Jvm.Cond.selects "java/lang/ArrayStoreException" ({ cls := "java/lang/Throwable", name := "fillInStackTrace", desc := "()Ljava/lang/Throwable;" } : Jvm.MethodName) ({ cls := "java/lang/Throwable", name := "fillInStackTrace", desc := "()Ljava/lang/Throwable;" } : Jvm.MethodName)) ∈ lw_all := lw_g (lw_at lw_m2 203 rfl) rfl
theorem q1166 : (Jvm.Cond.instantiable "java/lang/ArrayStoreException" (6 : Nat)) ∈ lw_all := lw_g (lw_at lw_m5 144 rfl) rfl
theorem q1167 : (Jvm.Cond.instanceMethod ({ cls := "java/lang/ArrayStoreException", name := "<init>", desc := "(Ljava/lang/String;)V" } : Jvm.MethodName)) ∈ lw_all := lw_g (lw_at lw_m5 145 rfl) rfl
theorem q1168 : (Jvm.Cond.code ({ cls := "java/lang/ArrayStoreException", name := "<init>", desc := "(Ljava/lang/String;)V" } : Jvm.MethodName) prog_23_method_2_code (2 : Nat) (Option.none : Option Jvm.ClassFile.FieldType)) ∈ lw_all := lw_g (lw_at lw_m5 146 rfl) rfl
theorem q1169 : (Jvm.Cond.methodLink "java/lang/ArrayStoreException" (7 : Nat) ({ cls := "java/lang/RuntimeException", name := "<init>", desc := "(Ljava/lang/String;)V" } : Jvm.MethodName)) ∈ lw_all := lw_g (lw_at lw_m5 147 rfl) rfl
theorem q1170 : (Jvm.Cond.lays "java/lang/ArrayStoreException" "java/lang/Throwable" "backtrace" "Ljava/lang/Object;") ∈ lw_all := lw_g (lw_at lw_m5 148 rfl) rfl
theorem q1171 : (Jvm.Cond.lays "java/lang/ArrayStoreException" "java/lang/Throwable" "detailMessage" "Ljava/lang/String;") ∈ lw_all := lw_g (lw_at lw_m5 149 rfl) rfl
theorem q1172 : (Jvm.Cond.lays "java/lang/ArrayStoreException" "java/lang/Throwable" "cause" "Ljava/lang/Throwable;") ∈ lw_all := lw_g (lw_at lw_m5 150 rfl) rfl
theorem q1173 : (Jvm.Cond.lays "java/lang/ArrayStoreException" "java/lang/Throwable" "stackTrace" "[Ljava/lang/StackTraceElement;") ∈ lw_all := lw_g (lw_at lw_m5 151 rfl) rfl
theorem q1174 : (Jvm.Cond.lays "java/lang/ArrayStoreException" "java/lang/Throwable" "depth" "I") ∈ lw_all := lw_g (lw_at lw_m5 152 rfl) rfl
theorem q1175 : (Jvm.Cond.lays "java/lang/ArrayStoreException" "java/lang/Throwable" "suppressedExceptions" "Ljava/util/List;") ∈ lw_all := lw_g (lw_at lw_m5 153 rfl) rfl
theorem q1176 : (Jvm.Cond.superclass "java/lang/ArrayStoreException" "java/lang/RuntimeException") ∈ lw_all := lw_g (lw_at lw_m5 154 rfl) rfl
theorem q1177 : (Jvm.Cond.castable "java/lang/ArrayStoreException" "java/lang/ArrayStoreException") ∈ lw_tbl := lw_at lw_m5 155 rfl
theorem q1178 : (Jvm.Cond.selects "java/lang/ArrayStoreException" ({ cls := "java/lang/Throwable", name := "fillInStackTrace", desc := "(I)Ljava/lang/Throwable;" } : Jvm.MethodName) ({ cls := "java/lang/Throwable", name := "fillInStackTrace", desc := "(I)Ljava/lang/Throwable;" } : Jvm.MethodName)) ∈ lw_all := lw_g (lw_at lw_m5 156 rfl) rfl
theorem in_J10 : ∀ w ∈ wsJ100, w ∈ lw_all := lw_in wsJ100 [1170, 1171, 1172, 1173, 1174, 1175] (by decide +kernel) (by decide +kernel)

/-! java/lang/Object -/
set_option maxRecDepth 100000
def RJ11 : String := "java/lang/Object"
abbrev cJ11_init : ByteArray := object_method_1_code
def yJ11_init : MethodName := ⟨RJ11, "<init>", "()V"⟩
theorem dJ11_init_0 : decode cJ11_init 0 = .ok (.return_, 1) := by decide +kernel
theorem q100 : (Jvm.Cond.instanceMethod ({ cls := "java/lang/Object", name := "<init>", desc := "()V" } : Jvm.MethodName)) ∈ lw_all := lw_g (lw_at lw_m1 38 rfl) rfl
theorem q101 : (Jvm.Cond.code ({ cls := "java/lang/Object", name := "<init>", desc := "()V" } : Jvm.MethodName) object_method_1_code (1 : Nat) (Option.none : Option Jvm.ClassFile.FieldType)) ∈ lw_all := lw_g (lw_at lw_m1 39 rfl) rfl

theorem q103 : (Jvm.Cond.arrayOver (Jvm.ClassFile.FieldType.object "StaveScore$Hears")) ∈ lw_tbl := lw_at lw_m1 41 rfl
set_option maxRecDepth 100000
theorem q105 : (Jvm.Cond.arrayOver (Jvm.ClassFile.FieldType.object "StaveScore$Fraction")) ∈ lw_tbl := lw_at lw_m1 43 rfl
theorem q107 : (Jvm.Cond.arrayOver (Jvm.ClassFile.FieldType.object "StaveScore$Voice")) ∈ lw_tbl := lw_at lw_m1 45 rfl
theorem q109 : (Jvm.Cond.arrayOver (Jvm.ClassFile.FieldType.object "StaveScore$Event")) ∈ lw_tbl := lw_at lw_m1 47 rfl
theorem q111 : (Jvm.Cond.arrayOver (Jvm.ClassFile.FieldType.object "StaveScore$Tuplet")) ∈ lw_tbl := lw_at lw_m1 49 rfl
theorem q113 : (Jvm.Cond.arrayOver (Jvm.ClassFile.FieldType.object "StaveScore$Line")) ∈ lw_tbl := lw_at lw_m1 51 rfl
theorem q115 : (Jvm.Cond.arrayOver (Jvm.ClassFile.FieldType.array (Jvm.ClassFile.FieldType.object "StaveScore$Event"))) ∈ lw_tbl := lw_at lw_m1 53 rfl
theorem q117 : (Jvm.Cond.arrayOver (Jvm.ClassFile.FieldType.object "StaveScore$Shelf")) ∈ lw_tbl := lw_at lw_m1 55 rfl
theorem q130 : (Jvm.Cond.arrayClass Jvm.ClassFile.FieldType.int) ∈ lw_all := lw_g (lw_at lw_m1 68 rfl) rfl
theorem q131 : (Jvm.Cond.arrayClass Jvm.ClassFile.FieldType.byte) ∈ lw_all := lw_g (lw_at lw_m1 69 rfl) rfl
theorem q1131 : (Jvm.Cond.arrayOver (Jvm.ClassFile.FieldType.object "StaveScore$Note")) ∈ lw_tbl := lw_at lw_m5 109 rfl
theorem q1132 : (Jvm.Cond.arrayOver (Jvm.ClassFile.FieldType.object "StaveScore$Chord")) ∈ lw_tbl := lw_at lw_m5 110 rfl
theorem q1133 : (Jvm.Cond.arrayOver (Jvm.ClassFile.FieldType.object "StaveScore$Grace")) ∈ lw_tbl := lw_at lw_m5 111 rfl
theorem q1134 : (Jvm.Cond.arrayOver (Jvm.ClassFile.FieldType.object "StaveScore$Rest")) ∈ lw_tbl := lw_at lw_m5 112 rfl
theorem q1135 : (Jvm.Cond.arrayOver (Jvm.ClassFile.FieldType.object "StaveScore$Breath")) ∈ lw_tbl := lw_at lw_m5 113 rfl
theorem q1195 : (Jvm.Cond.arrayClass Jvm.ClassFile.FieldType.short) ∈ lw_all := lw_g (lw_at lw_m5 173 rfl) rfl
theorem q1196 : (Jvm.Cond.arrayClass Jvm.ClassFile.FieldType.char) ∈ lw_all := lw_g (lw_at lw_m5 174 rfl) rfl
theorem q1414 : (Jvm.Cond.arrayClass Jvm.ClassFile.FieldType.long) ∈ lw_all := lw_g (lw_at lw_m6 152 rfl) rfl
theorem q1415 : (Jvm.Cond.arrayClass Jvm.ClassFile.FieldType.boolean) ∈ lw_all := lw_g (lw_at lw_m6 153 rfl) rfl

theorem q62 : (Jvm.Cond.initialized "StaveScoreLaw") ∈ lw_all := lw_g (lw_at lw_m1 0 rfl) rfl
set_option maxRecDepth 100000
theorem q94 : (Jvm.Cond.classLink "StaveScoreLaw" (7 : Nat) "StaveScore") ∈ lw_all := lw_g (lw_at lw_m1 32 rfl) rfl
theorem q96 : (Jvm.Cond.methodLink "StaveScoreLaw" (9 : Nat) ({ cls := "StaveScore", name := "<init>", desc := "()V" } : Jvm.MethodName)) ∈ lw_all := lw_g (lw_at lw_m1 34 rfl) rfl
theorem q242 : (Jvm.Cond.methodLink "StaveScoreLaw" (13 : Nat) ({ cls := "StaveScore", name := "part", desc := "(I)I" } : Jvm.MethodName)) ∈ lw_all := lw_g (lw_at lw_m1 180 rfl) rfl
theorem q329 : (Jvm.Cond.methodLink "StaveScoreLaw" (18 : Nat) ({ cls := "StaveScore", name := "bar", desc := "(II)I" } : Jvm.MethodName)) ∈ lw_all := lw_g (lw_at lw_m2 27 rfl) rfl
theorem q345 : (Jvm.Cond.methodLink "StaveScoreLaw" (23 : Nat) ({ cls := "StaveScore", name := "put", desc := "(IIIIII)I" } : Jvm.MethodName)) ∈ lw_all := lw_g (lw_at lw_m2 43 rfl) rfl
theorem q467 : (Jvm.Cond.methodLink "StaveScoreLaw" (28 : Nat) ({ cls := "StaveScore", name := "drop", desc := "(I)I" } : Jvm.MethodName)) ∈ lw_all := lw_g (lw_at lw_m2 165 rfl) rfl
theorem q479 : (Jvm.Cond.methodLink "StaveScoreLaw" (32 : Nat) ({ cls := "StaveScore", name := "chord", desc := "(II)I" } : Jvm.MethodName)) ∈ lw_all := lw_g (lw_at lw_m2 177 rfl) rfl
theorem q591 : (Jvm.Cond.methodLink "StaveScoreLaw" (36 : Nat) ({ cls := "StaveScore", name := "pitch", desc := "(II)I" } : Jvm.MethodName)) ∈ lw_all := lw_g (lw_at lw_m3 49 rfl) rfl
theorem q597 : (Jvm.Cond.methodLink "StaveScoreLaw" (40 : Nat) ({ cls := "StaveScore", name := "heard", desc := "(II)I" } : Jvm.MethodName)) ∈ lw_all := lw_g (lw_at lw_m3 55 rfl) rfl
theorem q655 : (Jvm.Cond.methodLink "StaveScoreLaw" (44 : Nat) ({ cls := "StaveScore", name := "shift", desc := "(II)I" } : Jvm.MethodName)) ∈ lw_all := lw_g (lw_at lw_m3 113 rfl) rfl
theorem q697 : (Jvm.Cond.methodLink "StaveScoreLaw" (48 : Nat) ({ cls := "StaveScore", name := "transpose", desc := "(II)I" } : Jvm.MethodName)) ∈ lw_all := lw_g (lw_at lw_m3 155 rfl) rfl
theorem q701 : (Jvm.Cond.methodLink "StaveScoreLaw" (52 : Nat) ({ cls := "StaveScore", name := "tie", desc := "(IZ)I" } : Jvm.MethodName)) ∈ lw_all := lw_g (lw_at lw_m3 159 rfl) rfl
theorem q705 : (Jvm.Cond.methodLink "StaveScoreLaw" (57 : Nat) ({ cls := "StaveScore", name := "value", desc := "(III)I" } : Jvm.MethodName)) ∈ lw_all := lw_g (lw_at lw_m3 163 rfl) rfl
theorem q709 : (Jvm.Cond.methodLink "StaveScoreLaw" (62 : Nat) ({ cls := "StaveScore", name := "at", desc := "(II)I" } : Jvm.MethodName)) ∈ lw_all := lw_g (lw_at lw_m3 167 rfl) rfl
theorem q814 : (Jvm.Cond.methodLink "StaveScoreLaw" (66 : Nat) ({ cls := "StaveScore", name := "time", desc := "(II)J" } : Jvm.MethodName)) ∈ lw_all := lw_g (lw_at lw_m4 32 rfl) rfl
theorem q826 : (Jvm.Cond.methodLink "StaveScoreLaw" (71 : Nat) ({ cls := "StaveScore", name := "length", desc := "(II)J" } : Jvm.MethodName)) ∈ lw_all := lw_g (lw_at lw_m4 44 rfl) rfl
theorem q830 : (Jvm.Cond.methodLink "StaveScoreLaw" (75 : Nat) ({ cls := "StaveScore", name := "event", desc := "(II)I" } : Jvm.MethodName)) ∈ lw_all := lw_g (lw_at lw_m4 48 rfl) rfl
theorem q834 : (Jvm.Cond.methodLink "StaveScoreLaw" (79 : Nat) ({ cls := "StaveScore", name := "asks", desc := "(III)I" } : Jvm.MethodName)) ∈ lw_all := lw_g (lw_at lw_m4 52 rfl) rfl
theorem q890 : (Jvm.Cond.methodLink "StaveScoreLaw" (83 : Nat) ({ cls := "StaveScore", name := "tuplet", desc := "(IIIIII)I" } : Jvm.MethodName)) ∈ lw_all := lw_g (lw_at lw_m4 108 rfl) rfl
theorem q936 : (Jvm.Cond.methodLink "StaveScoreLaw" (87 : Nat) ({ cls := "StaveScore", name := "untuplet", desc := "(I)I" } : Jvm.MethodName)) ∈ lw_all := lw_g (lw_at lw_m4 154 rfl) rfl
theorem q944 : (Jvm.Cond.methodLink "StaveScoreLaw" (91 : Nat) ({ cls := "StaveScore", name := "tupletAt", desc := "(II)I" } : Jvm.MethodName)) ∈ lw_all := lw_g (lw_at lw_m4 162 rfl) rfl
theorem q948 : (Jvm.Cond.methodLink "StaveScoreLaw" (95 : Nat) ({ cls := "StaveScore", name := "line", desc := "(III)I" } : Jvm.MethodName)) ∈ lw_all := lw_g (lw_at lw_m4 166 rfl) rfl
theorem q978 : (Jvm.Cond.methodLink "StaveScoreLaw" (99 : Nat) ({ cls := "StaveScore", name := "end", desc := "(II)I" } : Jvm.MethodName)) ∈ lw_all := lw_g (lw_at lw_m4 196 rfl) rfl
theorem q986 : (Jvm.Cond.methodLink "StaveScoreLaw" (103 : Nat) ({ cls := "StaveScore", name := "lineAt", desc := "(II)I" } : Jvm.MethodName)) ∈ lw_all := lw_g (lw_at lw_m4 204 rfl) rfl
theorem q990 : (Jvm.Cond.methodLink "StaveScoreLaw" (107 : Nat) ({ cls := "StaveScore", name := "walk", desc := "()I" } : Jvm.MethodName)) ∈ lw_all := lw_g (lw_at lw_m4 208 rfl) rfl
theorem q998 : (Jvm.Cond.methodLink "StaveScoreLaw" (112 : Nat) ({ cls := "StaveScore", name := "walked", desc := "(I)I" } : Jvm.MethodName)) ∈ lw_all := lw_g (lw_at lw_m4 216 rfl) rfl
theorem q1002 : (Jvm.Cond.methodLink "StaveScoreLaw" (116 : Nat) ({ cls := "StaveScore", name := "check", desc := "()I" } : Jvm.MethodName)) ∈ lw_all := lw_g (lw_at lw_m4 220 rfl) rfl
theorem q1077 : (Jvm.Cond.methodLink "StaveScoreLaw" (120 : Nat) ({ cls := "StaveScore", name := "finding", desc := "(II)I" } : Jvm.MethodName)) ∈ lw_all := lw_g (lw_at lw_m5 55 rfl) rfl
theorem q1081 : (Jvm.Cond.methodLink "StaveScoreLaw" (124 : Nat) ({ cls := "StaveScore", name := "equal", desc := "(II)I" } : Jvm.MethodName)) ∈ lw_all := lw_g (lw_at lw_m5 59 rfl) rfl
theorem q1110 : (Jvm.Cond.methodLink "StaveScoreLaw" (128 : Nat) ({ cls := "StaveScore", name := "rack", desc := "(III)I" } : Jvm.MethodName)) ∈ lw_all := lw_g (lw_at lw_m5 88 rfl) rfl
theorem q1136 : (Jvm.Cond.methodLink "StaveScoreLaw" (132 : Nat) ({ cls := "StaveScore", name := "hold", desc := "(III)I" } : Jvm.MethodName)) ∈ lw_all := lw_g (lw_at lw_m5 114 rfl) rfl
theorem q1179 : (Jvm.Cond.methodLink "StaveScoreLaw" (136 : Nat) ({ cls := "StaveScore", name := "held", desc := "(II)I" } : Jvm.MethodName)) ∈ lw_all := lw_g (lw_at lw_m5 157 rfl) rfl
theorem q1183 : (Jvm.Cond.methodLink "StaveScoreLaw" (140 : Nat) ({ cls := "StaveScore", name := "slide", desc := "(IIII)I" } : Jvm.MethodName)) ∈ lw_all := lw_g (lw_at lw_m5 161 rfl) rfl
theorem q1187 : (Jvm.Cond.methodLink "StaveScoreLaw" (145 : Nat) ({ cls := "StaveScore", name := "shelf", desc := "(III)I" } : Jvm.MethodName)) ∈ lw_all := lw_g (lw_at lw_m5 165 rfl) rfl
theorem q1197 : (Jvm.Cond.methodLink "StaveScoreLaw" (149 : Nat) ({ cls := "StaveScore", name := "lay", desc := "(IZII)I" } : Jvm.MethodName)) ∈ lw_all := lw_g (lw_at lw_m5 175 rfl) rfl
theorem q1209 : (Jvm.Cond.methodLink "StaveScoreLaw" (154 : Nat) ({ cls := "StaveScore", name := "item", desc := "(II)I" } : Jvm.MethodName)) ∈ lw_all := lw_g (lw_at lw_m5 187 rfl) rfl
theorem q1217 : (Jvm.Cond.methodLink "StaveScoreLaw" (158 : Nat) ({ cls := "StaveScore", name := "lift", desc := "(III)I" } : Jvm.MethodName)) ∈ lw_all := lw_g (lw_at lw_m5 195 rfl) rfl
theorem q1221 : (Jvm.Cond.methodLink "StaveScoreLaw" (162 : Nat) ({ cls := "StaveScore", name := "copy", desc := "(IIIII)I" } : Jvm.MethodName)) ∈ lw_all := lw_g (lw_at lw_m5 199 rfl) rfl
theorem q1234 : (Jvm.Cond.methodLink "StaveScoreLaw" (167 : Nat) ({ cls := "StaveScore", name := "play", desc := "(II)I" } : Jvm.MethodName)) ∈ lw_all := lw_g (lw_at lw_m5 212 rfl) rfl
theorem q1238 : (Jvm.Cond.methodLink "StaveScoreLaw" (171 : Nat) ({ cls := "StaveScore", name := "failures", desc := "(I)I" } : Jvm.MethodName)) ∈ lw_all := lw_g (lw_at lw_m5 216 rfl) rfl
theorem q1242 : (Jvm.Cond.methodLink "StaveScoreLaw" (175 : Nat) ({ cls := "StaveScore", name := "status", desc := "()I" } : Jvm.MethodName)) ∈ lw_all := lw_g (lw_at lw_m5 220 rfl) rfl
theorem q1246 : (Jvm.Cond.methodLink "StaveScoreLaw" (179 : Nat) ({ cls := "StaveScore", name := "trace", desc := "()J" } : Jvm.MethodName)) ∈ lw_all := lw_g (lw_at lw_m5 224 rfl) rfl
theorem q1250 : (Jvm.Cond.methodLink "StaveScoreLaw" (184 : Nat) ({ cls := "StaveScore", name := "count", desc := "(I)I" } : Jvm.MethodName)) ∈ lw_all := lw_g (lw_at lw_m5 228 rfl) rfl
theorem q1254 : (Jvm.Cond.classLink "StaveScoreLaw" (10 : Nat) "StaveScoreModel") ∈ lw_all := lw_g (lw_at lw_m5 232 rfl) rfl
theorem q1256 : (Jvm.Cond.methodLink "StaveScoreLaw" (12 : Nat) ({ cls := "StaveScoreModel", name := "<init>", desc := "()V" } : Jvm.MethodName)) ∈ lw_all := lw_g (lw_at lw_m5 234 rfl) rfl
theorem q1416 : (Jvm.Cond.methodLink "StaveScoreLaw" (17 : Nat) ({ cls := "StaveScoreModel", name := "part", desc := "(I)I" } : Jvm.MethodName)) ∈ lw_all := lw_g (lw_at lw_m6 154 rfl) rfl
theorem q1432 : (Jvm.Cond.methodLink "StaveScoreLaw" (22 : Nat) ({ cls := "StaveScoreModel", name := "bar", desc := "(II)I" } : Jvm.MethodName)) ∈ lw_all := lw_g (lw_at lw_m6 170 rfl) rfl
theorem q1438 : (Jvm.Cond.methodLink "StaveScoreLaw" (82 : Nat) ({ cls := "StaveScoreModel", name := "asks", desc := "(III)I" } : Jvm.MethodName)) ∈ lw_all := lw_g (lw_at lw_m6 176 rfl) rfl
theorem q1460 : (Jvm.Cond.methodLink "StaveScoreLaw" (27 : Nat) ({ cls := "StaveScoreModel", name := "put", desc := "(IIIIII)I" } : Jvm.MethodName)) ∈ lw_all := lw_g (lw_at lw_m6 198 rfl) rfl
theorem q1469 : (Jvm.Cond.methodLink "StaveScoreLaw" (31 : Nat) ({ cls := "StaveScoreModel", name := "drop", desc := "(I)I" } : Jvm.MethodName)) ∈ lw_all := lw_g (lw_at lw_m6 207 rfl) rfl
theorem q1481 : (Jvm.Cond.methodLink "StaveScoreLaw" (35 : Nat) ({ cls := "StaveScoreModel", name := "chord", desc := "(II)I" } : Jvm.MethodName)) ∈ lw_all := lw_g (lw_at lw_m6 219 rfl) rfl
theorem q1489 : (Jvm.Cond.methodLink "StaveScoreLaw" (39 : Nat) ({ cls := "StaveScoreModel", name := "pitch", desc := "(II)I" } : Jvm.MethodName)) ∈ lw_all := lw_g (lw_at lw_m6 227 rfl) rfl
theorem q1497 : (Jvm.Cond.methodLink "StaveScoreLaw" (43 : Nat) ({ cls := "StaveScoreModel", name := "heard", desc := "(II)I" } : Jvm.MethodName)) ∈ lw_all := lw_g (lw_at lw_m6 235 rfl) rfl
theorem q1509 : (Jvm.Cond.methodLink "StaveScoreLaw" (47 : Nat) ({ cls := "StaveScoreModel", name := "shift", desc := "(II)I" } : Jvm.MethodName)) ∈ lw_all := lw_g (lw_at lw_m7 7 rfl) rfl
theorem q1521 : (Jvm.Cond.methodLink "StaveScoreLaw" (51 : Nat) ({ cls := "StaveScoreModel", name := "transpose", desc := "(II)I" } : Jvm.MethodName)) ∈ lw_all := lw_g (lw_at lw_m7 19 rfl) rfl
theorem q1525 : (Jvm.Cond.methodLink "StaveScoreLaw" (56 : Nat) ({ cls := "StaveScoreModel", name := "tie", desc := "(IZ)I" } : Jvm.MethodName)) ∈ lw_all := lw_g (lw_at lw_m7 23 rfl) rfl
theorem q1529 : (Jvm.Cond.methodLink "StaveScoreLaw" (61 : Nat) ({ cls := "StaveScoreModel", name := "value", desc := "(III)I" } : Jvm.MethodName)) ∈ lw_all := lw_g (lw_at lw_m7 27 rfl) rfl
theorem q1533 : (Jvm.Cond.methodLink "StaveScoreLaw" (65 : Nat) ({ cls := "StaveScoreModel", name := "at", desc := "(II)I" } : Jvm.MethodName)) ∈ lw_all := lw_g (lw_at lw_m7 31 rfl) rfl
theorem q1568 : (Jvm.Cond.methodLink "StaveScoreLaw" (70 : Nat) ({ cls := "StaveScoreModel", name := "time", desc := "(II)J" } : Jvm.MethodName)) ∈ lw_all := lw_g (lw_at lw_m7 66 rfl) rfl
theorem q1578 : (Jvm.Cond.methodLink "StaveScoreLaw" (74 : Nat) ({ cls := "StaveScoreModel", name := "length", desc := "(II)J" } : Jvm.MethodName)) ∈ lw_all := lw_g (lw_at lw_m7 76 rfl) rfl
theorem q1586 : (Jvm.Cond.methodLink "StaveScoreLaw" (78 : Nat) ({ cls := "StaveScoreModel", name := "event", desc := "(II)I" } : Jvm.MethodName)) ∈ lw_all := lw_g (lw_at lw_m7 84 rfl) rfl
theorem q1590 : (Jvm.Cond.methodLink "StaveScoreLaw" (86 : Nat) ({ cls := "StaveScoreModel", name := "tuplet", desc := "(IIIIII)I" } : Jvm.MethodName)) ∈ lw_all := lw_g (lw_at lw_m7 88 rfl) rfl
theorem q1594 : (Jvm.Cond.methodLink "StaveScoreLaw" (90 : Nat) ({ cls := "StaveScoreModel", name := "untuplet", desc := "(I)I" } : Jvm.MethodName)) ∈ lw_all := lw_g (lw_at lw_m7 92 rfl) rfl
theorem q1606 : (Jvm.Cond.methodLink "StaveScoreLaw" (94 : Nat) ({ cls := "StaveScoreModel", name := "tupletAt", desc := "(II)I" } : Jvm.MethodName)) ∈ lw_all := lw_g (lw_at lw_m7 104 rfl) rfl
theorem q1615 : (Jvm.Cond.methodLink "StaveScoreLaw" (98 : Nat) ({ cls := "StaveScoreModel", name := "line", desc := "(III)I" } : Jvm.MethodName)) ∈ lw_all := lw_g (lw_at lw_m7 113 rfl) rfl
theorem q1619 : (Jvm.Cond.methodLink "StaveScoreLaw" (102 : Nat) ({ cls := "StaveScoreModel", name := "end", desc := "(II)I" } : Jvm.MethodName)) ∈ lw_all := lw_g (lw_at lw_m7 117 rfl) rfl
theorem q1627 : (Jvm.Cond.methodLink "StaveScoreLaw" (106 : Nat) ({ cls := "StaveScoreModel", name := "lineAt", desc := "(II)I" } : Jvm.MethodName)) ∈ lw_all := lw_g (lw_at lw_m7 125 rfl) rfl
theorem q1631 : (Jvm.Cond.methodLink "StaveScoreLaw" (111 : Nat) ({ cls := "StaveScoreModel", name := "walk", desc := "()I" } : Jvm.MethodName)) ∈ lw_all := lw_g (lw_at lw_m7 129 rfl) rfl
theorem q1635 : (Jvm.Cond.methodLink "StaveScoreLaw" (115 : Nat) ({ cls := "StaveScoreModel", name := "walked", desc := "(I)I" } : Jvm.MethodName)) ∈ lw_all := lw_g (lw_at lw_m7 133 rfl) rfl
theorem q1639 : (Jvm.Cond.methodLink "StaveScoreLaw" (119 : Nat) ({ cls := "StaveScoreModel", name := "check", desc := "()I" } : Jvm.MethodName)) ∈ lw_all := lw_g (lw_at lw_m7 137 rfl) rfl
theorem q1667 : (Jvm.Cond.methodLink "StaveScoreLaw" (123 : Nat) ({ cls := "StaveScoreModel", name := "finding", desc := "(II)I" } : Jvm.MethodName)) ∈ lw_all := lw_g (lw_at lw_m7 165 rfl) rfl
theorem q1671 : (Jvm.Cond.methodLink "StaveScoreLaw" (127 : Nat) ({ cls := "StaveScoreModel", name := "equal", desc := "(II)I" } : Jvm.MethodName)) ∈ lw_all := lw_g (lw_at lw_m7 169 rfl) rfl
theorem q1683 : (Jvm.Cond.methodLink "StaveScoreLaw" (131 : Nat) ({ cls := "StaveScoreModel", name := "rack", desc := "(III)I" } : Jvm.MethodName)) ∈ lw_all := lw_g (lw_at lw_m7 181 rfl) rfl
theorem q1687 : (Jvm.Cond.methodLink "StaveScoreLaw" (135 : Nat) ({ cls := "StaveScoreModel", name := "hold", desc := "(III)I" } : Jvm.MethodName)) ∈ lw_all := lw_g (lw_at lw_m7 185 rfl) rfl
theorem q1695 : (Jvm.Cond.methodLink "StaveScoreLaw" (139 : Nat) ({ cls := "StaveScoreModel", name := "held", desc := "(II)I" } : Jvm.MethodName)) ∈ lw_all := lw_g (lw_at lw_m7 193 rfl) rfl
theorem q1699 : (Jvm.Cond.methodLink "StaveScoreLaw" (144 : Nat) ({ cls := "StaveScoreModel", name := "slide", desc := "(IIII)I" } : Jvm.MethodName)) ∈ lw_all := lw_g (lw_at lw_m7 197 rfl) rfl
theorem q1706 : (Jvm.Cond.methodLink "StaveScoreLaw" (148 : Nat) ({ cls := "StaveScoreModel", name := "shelf", desc := "(III)I" } : Jvm.MethodName)) ∈ lw_all := lw_g (lw_at lw_m7 204 rfl) rfl
theorem q1710 : (Jvm.Cond.methodLink "StaveScoreLaw" (153 : Nat) ({ cls := "StaveScoreModel", name := "lay", desc := "(IZII)I" } : Jvm.MethodName)) ∈ lw_all := lw_g (lw_at lw_m7 208 rfl) rfl
theorem q1718 : (Jvm.Cond.methodLink "StaveScoreLaw" (157 : Nat) ({ cls := "StaveScoreModel", name := "item", desc := "(II)I" } : Jvm.MethodName)) ∈ lw_all := lw_g (lw_at lw_m7 216 rfl) rfl
theorem q1722 : (Jvm.Cond.methodLink "StaveScoreLaw" (161 : Nat) ({ cls := "StaveScoreModel", name := "lift", desc := "(III)I" } : Jvm.MethodName)) ∈ lw_all := lw_g (lw_at lw_m7 220 rfl) rfl
theorem q1727 : (Jvm.Cond.methodLink "StaveScoreLaw" (166 : Nat) ({ cls := "StaveScoreModel", name := "copy", desc := "(IIIII)I" } : Jvm.MethodName)) ∈ lw_all := lw_g (lw_at lw_m7 225 rfl) rfl
theorem q1731 : (Jvm.Cond.methodLink "StaveScoreLaw" (170 : Nat) ({ cls := "StaveScoreModel", name := "play", desc := "(II)I" } : Jvm.MethodName)) ∈ lw_all := lw_g (lw_at lw_m7 229 rfl) rfl
theorem q1735 : (Jvm.Cond.methodLink "StaveScoreLaw" (174 : Nat) ({ cls := "StaveScoreModel", name := "failures", desc := "(I)I" } : Jvm.MethodName)) ∈ lw_all := lw_g (lw_at lw_m7 233 rfl) rfl
theorem q1739 : (Jvm.Cond.methodLink "StaveScoreLaw" (178 : Nat) ({ cls := "StaveScoreModel", name := "status", desc := "()I" } : Jvm.MethodName)) ∈ lw_all := lw_g (lw_at lw_m7 237 rfl) rfl
theorem q1743 : (Jvm.Cond.methodLink "StaveScoreLaw" (183 : Nat) ({ cls := "StaveScoreModel", name := "trace", desc := "()J" } : Jvm.MethodName)) ∈ lw_all := lw_g (lw_at lw_m8 1 rfl) rfl
theorem q1747 : (Jvm.Cond.methodLink "StaveScoreLaw" (187 : Nat) ({ cls := "StaveScoreModel", name := "count", desc := "(I)I" } : Jvm.MethodName)) ∈ lw_all := lw_g (lw_at lw_m8 5 rfl) rfl

theorem q80 : (Jvm.Cond.initialized "java/lang/System") ∈ lw_all := lw_g (lw_at lw_m1 18 rfl) rfl
set_option maxRecDepth 100000
theorem q461 : (Jvm.Cond.static ({ cls := "java/lang/System", name := "arraycopy", desc := "(Ljava/lang/Object;ILjava/lang/Object;II)V" } : Jvm.MethodName)) ∈ lw_all := lw_g (lw_at lw_m2 159 rfl) rfl
theorem q462 : (Jvm.Cond.native ({ cls := "java/lang/System", name := "arraycopy", desc := "(Ljava/lang/Object;ILjava/lang/Object;II)V" } : Jvm.MethodName)) ∈ lw_all := lw_g (lw_at lw_m2 160 rfl) rfl
