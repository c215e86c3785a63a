/-! ProgramReader$Reader -/
set_option maxRecDepth 100000
def RX4 : String := "ProgramReader$Reader"
def TX4 : u_T := fun k => match k with
  | 0 => ("ProgramReader$Reader", "names", "LProgramReader$Names;", true)
  | 1 => ("ProgramReader$Reader", "t", "LProgramReader$Tokens;", true)
  | 2 => ("ProgramReader$Reader", "tree", "LProgramReader$Tree;", false)
  | 3 => ("ProgramReader$Reader", "depth", "I", false)
  | _ => ("ProgramReader$Reader", "fault", "I", false)
def tyX4 : Nat → FieldType := fun k => match k with
  | 0 => .object "ProgramReader$Names"
  | 1 => .object "ProgramReader$Tokens"
  | 2 => .object "ProgramReader$Tree"
  | 3 => .int
  | _ => .int
abbrev wsX40 : List Cond := u_ws RX4 TX4 5
theorem nmX4 : ∀ a, a < 5 → ∀ b, b < 5 → a ≠ b → (TX4 a).2.1 ≠ (TX4 b).2.1 := by decide +kernel
theorem tyX4_ok : ∀ k, k < 5 → parseFieldDescriptor (TX4 k).2.2.1 = some (tyX4 k) := by decide +kernel
abbrev cX4_init : ByteArray := prog_4_method_1_code
def yX4_init : MethodName := ⟨RX4, "<init>", "(LProgramReader$Names;)V"⟩
def dkwX4_init_0 : List UInt8 := [42, 183, 0, 3, 42, 187, 0, 9, 89, 183, 0, 11, 181, 0, 12, 42, 43, 181, 0, 18, 177]
abbrev dktX4_init_0 : List UInt8 := dkwX4_init_0 ++ []
theorem dksX4_init_0 : cX4_init.data.toList.drop 0 = dktX4_init_0 := by decide +kernel
theorem dX4_init_0 : decode cX4_init 0 = .ok (.aload_n 0, 1) := dk_42 (dk_at dksX4_init_0 0 rfl rfl)
theorem dX4_init_1 : decode cX4_init 1 = .ok (.invokespecial 3, 3) := dk_183 0 3 (dk_at dksX4_init_0 1 rfl rfl)
theorem dX4_init_4 : decode cX4_init 4 = .ok (.aload_n 0, 1) := dk_42 (dk_at dksX4_init_0 4 rfl rfl)
theorem dX4_init_5 : decode cX4_init 5 = .ok (.new 9, 3) := dk_187 0 9 (dk_at dksX4_init_0 5 rfl rfl)
theorem dX4_init_8 : decode cX4_init 8 = .ok (.dup, 1) := dk_89 (dk_at dksX4_init_0 8 rfl rfl)
theorem dX4_init_9 : decode cX4_init 9 = .ok (.invokespecial 11, 3) := dk_183 0 11 (dk_at dksX4_init_0 9 rfl rfl)
theorem dX4_init_12 : decode cX4_init 12 = .ok (.putfield 12, 3) := dk_181 0 12 (dk_at dksX4_init_0 12 rfl rfl)
theorem dX4_init_15 : decode cX4_init 15 = .ok (.aload_n 0, 1) := dk_42 (dk_at dksX4_init_0 15 rfl rfl)
theorem dX4_init_16 : decode cX4_init 16 = .ok (.aload_n 1, 1) := dk_43 (dk_at dksX4_init_0 16 rfl rfl)
theorem dX4_init_17 : decode cX4_init 17 = .ok (.putfield 18, 3) := dk_181 0 18 (dk_at dksX4_init_0 17 rfl rfl)
theorem dX4_init_20 : decode cX4_init 20 = .ok (.return_, 1) := dk_177 (dk_at dksX4_init_0 20 rfl rfl)
abbrev cX4_read : ByteArray := prog_4_method_23_code
def yX4_read : MethodName := ⟨RX4, "read", "(LProgramReader$Bytes;ILProgramReader$Tree;)I"⟩
def dkwX4_read_5 : List UInt8 := [3, 182, 0, 77, 42, 180, 0, 26, 172]
abbrev dktX4_read_5 : List UInt8 := dkwX4_read_5 ++ []
def dkwX4_read_4 : List UInt8 := [58, 6, 42, 180, 0, 54, 21, 4, 181, 0, 100, 42, 180, 0, 18, 21, 5, 182, 0, 246, 42, 180, 0, 54]
abbrev dktX4_read_4 : List UInt8 := dkwX4_read_4 ++ dktX4_read_5
def dkwX4_read_3 : List UInt8 := [180, 0, 18, 180, 0, 239, 54, 5, 42, 180, 0, 12, 180, 0, 42, 178, 0, 243, 166, 255, 219, 167, 0, 23]
abbrev dktX4_read_3 : List UInt8 := dkwX4_read_3 ++ dktX4_read_4
def dkwX4_read_2 : List UInt8 := [180, 0, 239, 54, 5, 42, 3, 181, 0, 36, 42, 182, 0, 240, 42, 180, 0, 54, 180, 0, 100, 54, 4, 42]
abbrev dktX4_read_2 : List UInt8 := dkwX4_read_2 ++ dktX4_read_3
def dkwX4_read_1 : List UInt8 := [180, 0, 12, 182, 0, 46, 42, 2, 181, 0, 26, 42, 180, 0, 54, 180, 0, 100, 54, 4, 42, 180, 0, 18]
abbrev dktX4_read_1 : List UInt8 := dkwX4_read_1 ++ dktX4_read_2
def dkwX4_read_0 : List UInt8 := [42, 45, 181, 0, 54, 42, 180, 0, 54, 182, 0, 232, 42, 180, 0, 12, 43, 28, 182, 0, 235, 42]
abbrev dktX4_read_0 : List UInt8 := dkwX4_read_0 ++ dktX4_read_1
theorem dksX4_read_0 : cX4_read.data.toList.drop 0 = dktX4_read_0 := by decide +kernel
theorem dksX4_read_1 : cX4_read.data.toList.drop 22 = dktX4_read_1 := dk_seg dksX4_read_0 22 rfl rfl
theorem dksX4_read_2 : cX4_read.data.toList.drop 46 = dktX4_read_2 := dk_seg dksX4_read_1 24 rfl rfl
theorem dksX4_read_3 : cX4_read.data.toList.drop 70 = dktX4_read_3 := dk_seg dksX4_read_2 24 rfl rfl
theorem dksX4_read_4 : cX4_read.data.toList.drop 94 = dktX4_read_4 := dk_seg dksX4_read_3 24 rfl rfl
theorem dksX4_read_5 : cX4_read.data.toList.drop 118 = dktX4_read_5 := dk_seg dksX4_read_4 24 rfl rfl
theorem dX4_read_0 : decode cX4_read 0 = .ok (.aload_n 0, 1) := dk_42 (dk_at dksX4_read_0 0 rfl rfl)
theorem dX4_read_1 : decode cX4_read 1 = .ok (.aload_n 3, 1) := dk_45 (dk_at dksX4_read_0 1 rfl rfl)
theorem dX4_read_2 : decode cX4_read 2 = .ok (.putfield 54, 3) := dk_181 0 54 (dk_at dksX4_read_0 2 rfl rfl)
theorem dX4_read_5 : decode cX4_read 5 = .ok (.aload_n 0, 1) := dk_42 (dk_at dksX4_read_0 5 rfl rfl)
theorem dX4_read_6 : decode cX4_read 6 = .ok (.getfield 54, 3) := dk_180 0 54 (dk_at dksX4_read_0 6 rfl rfl)
theorem dX4_read_9 : decode cX4_read 9 = .ok (.invokevirtual 232, 3) := dk_182 0 232 (dk_at dksX4_read_0 9 rfl rfl)
theorem dX4_read_12 : decode cX4_read 12 = .ok (.aload_n 0, 1) := dk_42 (dk_at dksX4_read_0 12 rfl rfl)
theorem dX4_read_13 : decode cX4_read 13 = .ok (.getfield 12, 3) := dk_180 0 12 (dk_at dksX4_read_0 13 rfl rfl)
theorem dX4_read_16 : decode cX4_read 16 = .ok (.aload_n 1, 1) := dk_43 (dk_at dksX4_read_0 16 rfl rfl)
theorem dX4_read_17 : decode cX4_read 17 = .ok (.iload_n 2, 1) := dk_28 (dk_at dksX4_read_0 17 rfl rfl)
theorem dX4_read_18 : decode cX4_read 18 = .ok (.invokevirtual 235, 3) := dk_182 0 235 (dk_at dksX4_read_0 18 rfl rfl)
theorem dX4_read_21 : decode cX4_read 21 = .ok (.aload_n 0, 1) := dk_42 (dk_at dksX4_read_0 21 rfl rfl)
theorem dX4_read_22 : decode cX4_read 22 = .ok (.getfield 12, 3) := dk_180 0 12 (dk_at dksX4_read_1 0 rfl rfl)
theorem dX4_read_25 : decode cX4_read 25 = .ok (.invokevirtual 46, 3) := dk_182 0 46 (dk_at dksX4_read_1 3 rfl rfl)
theorem dX4_read_28 : decode cX4_read 28 = .ok (.aload_n 0, 1) := dk_42 (dk_at dksX4_read_1 6 rfl rfl)
theorem dX4_read_29 : decode cX4_read 29 = .ok (.iconst (-1), 1) := dk_2 (dk_at dksX4_read_1 7 rfl rfl)
theorem dX4_read_30 : decode cX4_read 30 = .ok (.putfield 26, 3) := dk_181 0 26 (dk_at dksX4_read_1 8 rfl rfl)
theorem dX4_read_33 : decode cX4_read 33 = .ok (.aload_n 0, 1) := dk_42 (dk_at dksX4_read_1 11 rfl rfl)
theorem dX4_read_34 : decode cX4_read 34 = .ok (.getfield 54, 3) := dk_180 0 54 (dk_at dksX4_read_1 12 rfl rfl)
theorem dX4_read_37 : decode cX4_read 37 = .ok (.getfield 100, 3) := dk_180 0 100 (dk_at dksX4_read_1 15 rfl rfl)
theorem dX4_read_40 : decode cX4_read 40 = .ok (.istore 4, 2) := dk_54 4 (dk_at dksX4_read_1 18 rfl rfl)
theorem dX4_read_42 : decode cX4_read 42 = .ok (.aload_n 0, 1) := dk_42 (dk_at dksX4_read_1 20 rfl rfl)
theorem dX4_read_43 : decode cX4_read 43 = .ok (.getfield 18, 3) := dk_180 0 18 (dk_at dksX4_read_1 21 rfl rfl)
theorem dX4_read_46 : decode cX4_read 46 = .ok (.getfield 239, 3) := dk_180 0 239 (dk_at dksX4_read_2 0 rfl rfl)
theorem dX4_read_49 : decode cX4_read 49 = .ok (.istore 5, 2) := dk_54 5 (dk_at dksX4_read_2 3 rfl rfl)
theorem dX4_read_51 : decode cX4_read 51 = .ok (.aload_n 0, 1) := dk_42 (dk_at dksX4_read_2 5 rfl rfl)
theorem dX4_read_52 : decode cX4_read 52 = .ok (.iconst 0, 1) := dk_3 (dk_at dksX4_read_2 6 rfl rfl)
theorem dX4_read_53 : decode cX4_read 53 = .ok (.putfield 36, 3) := dk_181 0 36 (dk_at dksX4_read_2 7 rfl rfl)
theorem dX4_read_56 : decode cX4_read 56 = .ok (.aload_n 0, 1) := dk_42 (dk_at dksX4_read_2 10 rfl rfl)
theorem dX4_read_57 : decode cX4_read 57 = .ok (.invokevirtual 240, 3) := dk_182 0 240 (dk_at dksX4_read_2 11 rfl rfl)
theorem dX4_read_60 : decode cX4_read 60 = .ok (.aload_n 0, 1) := dk_42 (dk_at dksX4_read_2 14 rfl rfl)
theorem dX4_read_61 : decode cX4_read 61 = .ok (.getfield 54, 3) := dk_180 0 54 (dk_at dksX4_read_2 15 rfl rfl)
theorem dX4_read_64 : decode cX4_read 64 = .ok (.getfield 100, 3) := dk_180 0 100 (dk_at dksX4_read_2 18 rfl rfl)
theorem dX4_read_67 : decode cX4_read 67 = .ok (.istore 4, 2) := dk_54 4 (dk_at dksX4_read_2 21 rfl rfl)
theorem dX4_read_69 : decode cX4_read 69 = .ok (.aload_n 0, 1) := dk_42 (dk_at dksX4_read_2 23 rfl rfl)
theorem dX4_read_70 : decode cX4_read 70 = .ok (.getfield 18, 3) := dk_180 0 18 (dk_at dksX4_read_3 0 rfl rfl)
theorem dX4_read_73 : decode cX4_read 73 = .ok (.getfield 239, 3) := dk_180 0 239 (dk_at dksX4_read_3 3 rfl rfl)
theorem dX4_read_76 : decode cX4_read 76 = .ok (.istore 5, 2) := dk_54 5 (dk_at dksX4_read_3 6 rfl rfl)
theorem dX4_read_78 : decode cX4_read 78 = .ok (.aload_n 0, 1) := dk_42 (dk_at dksX4_read_3 8 rfl rfl)
theorem dX4_read_79 : decode cX4_read 79 = .ok (.getfield 12, 3) := dk_180 0 12 (dk_at dksX4_read_3 9 rfl rfl)
theorem dX4_read_82 : decode cX4_read 82 = .ok (.getfield 42, 3) := dk_180 0 42 (dk_at dksX4_read_3 12 rfl rfl)
theorem dX4_read_85 : decode cX4_read 85 = .ok (.getstatic 243, 3) := dk_178 0 243 (dk_at dksX4_read_3 15 rfl rfl)
theorem dX4_read_88 : decode cX4_read 88 = .ok (.if_acmp .ne (-37), 3) := dk_166 255 219 (dk_at dksX4_read_3 18 rfl rfl)
theorem dX4_read_91 : decode cX4_read 91 = .ok (.goto 23, 3) := dk_167 0 23 (dk_at dksX4_read_3 21 rfl rfl)
theorem dX4_read_94 : decode cX4_read 94 = .ok (.astore 6, 2) := dk_58 6 (dk_at dksX4_read_4 0 rfl rfl)
theorem dX4_read_96 : decode cX4_read 96 = .ok (.aload_n 0, 1) := dk_42 (dk_at dksX4_read_4 2 rfl rfl)
theorem dX4_read_97 : decode cX4_read 97 = .ok (.getfield 54, 3) := dk_180 0 54 (dk_at dksX4_read_4 3 rfl rfl)
theorem dX4_read_100 : decode cX4_read 100 = .ok (.iload 4, 2) := dk_21 4 (dk_at dksX4_read_4 6 rfl rfl)
theorem dX4_read_102 : decode cX4_read 102 = .ok (.putfield 100, 3) := dk_181 0 100 (dk_at dksX4_read_4 8 rfl rfl)
theorem dX4_read_105 : decode cX4_read 105 = .ok (.aload_n 0, 1) := dk_42 (dk_at dksX4_read_4 11 rfl rfl)
theorem dX4_read_106 : decode cX4_read 106 = .ok (.getfield 18, 3) := dk_180 0 18 (dk_at dksX4_read_4 12 rfl rfl)
theorem dX4_read_109 : decode cX4_read 109 = .ok (.iload 5, 2) := dk_21 5 (dk_at dksX4_read_4 15 rfl rfl)
theorem dX4_read_111 : decode cX4_read 111 = .ok (.invokevirtual 246, 3) := dk_182 0 246 (dk_at dksX4_read_4 17 rfl rfl)
theorem dX4_read_114 : decode cX4_read 114 = .ok (.aload_n 0, 1) := dk_42 (dk_at dksX4_read_4 20 rfl rfl)
theorem dX4_read_115 : decode cX4_read 115 = .ok (.getfield 54, 3) := dk_180 0 54 (dk_at dksX4_read_4 21 rfl rfl)
theorem dX4_read_118 : decode cX4_read 118 = .ok (.iconst 0, 1) := dk_3 (dk_at dksX4_read_5 0 rfl rfl)
theorem dX4_read_119 : decode cX4_read 119 = .ok (.invokevirtual 77, 3) := dk_182 0 77 (dk_at dksX4_read_5 1 rfl rfl)
theorem dX4_read_122 : decode cX4_read 122 = .ok (.aload_n 0, 1) := dk_42 (dk_at dksX4_read_5 4 rfl rfl)
theorem dX4_read_123 : decode cX4_read 123 = .ok (.getfield 26, 3) := dk_180 0 26 (dk_at dksX4_read_5 5 rfl rfl)
theorem dX4_read_126 : decode cX4_read 126 = .ok (.ireturn, 1) := dk_172 (dk_at dksX4_read_5 8 rfl rfl)
abbrev cX4_function : ByteArray := prog_4_method_22_code
def yX4_function : MethodName := ⟨RX4, "function", "()V"⟩
def dkwX4_function_3 : List UInt8 := [182, 0, 210, 42, 180, 0, 54, 27, 182, 0, 77, 177]
abbrev dktX4_function_3 : List UInt8 := dkwX4_function_3 ++ []
def dkwX4_function_2 : List UInt8 := [42, 182, 0, 141, 42, 178, 0, 166, 182, 0, 90, 154, 255, 245, 42, 178, 0, 157, 182, 0, 153, 42]
abbrev dktX4_function_2 : List UInt8 := dkwX4_function_2 ++ dktX4_function_3
def dkwX4_function_1 : List UInt8 := [42, 182, 0, 141, 42, 178, 0, 160, 182, 0, 153, 42, 180, 0, 12, 180, 0, 42, 178, 0, 157, 165, 0, 17]
abbrev dktX4_function_1 : List UInt8 := dkwX4_function_1 ++ dktX4_function_2
def dkwX4_function_0 : List UInt8 := [42, 180, 0, 54, 4, 42, 180, 0, 12, 180, 0, 22, 3, 182, 0, 71, 60, 42, 178, 0, 229, 182, 0, 153]
abbrev dktX4_function_0 : List UInt8 := dkwX4_function_0 ++ dktX4_function_1
theorem dksX4_function_0 : cX4_function.data.toList.drop 0 = dktX4_function_0 := by decide +kernel
theorem dksX4_function_1 : cX4_function.data.toList.drop 24 = dktX4_function_1 := dk_seg dksX4_function_0 24 rfl rfl
theorem dksX4_function_2 : cX4_function.data.toList.drop 48 = dktX4_function_2 := dk_seg dksX4_function_1 24 rfl rfl
theorem dksX4_function_3 : cX4_function.data.toList.drop 70 = dktX4_function_3 := dk_seg dksX4_function_2 22 rfl rfl
theorem dX4_function_0 : decode cX4_function 0 = .ok (.aload_n 0, 1) := dk_42 (dk_at dksX4_function_0 0 rfl rfl)
theorem dX4_function_1 : decode cX4_function 1 = .ok (.getfield 54, 3) := dk_180 0 54 (dk_at dksX4_function_0 1 rfl rfl)
theorem dX4_function_4 : decode cX4_function 4 = .ok (.iconst 1, 1) := dk_4 (dk_at dksX4_function_0 4 rfl rfl)
theorem dX4_function_5 : decode cX4_function 5 = .ok (.aload_n 0, 1) := dk_42 (dk_at dksX4_function_0 5 rfl rfl)
theorem dX4_function_6 : decode cX4_function 6 = .ok (.getfield 12, 3) := dk_180 0 12 (dk_at dksX4_function_0 6 rfl rfl)
theorem dX4_function_9 : decode cX4_function 9 = .ok (.getfield 22, 3) := dk_180 0 22 (dk_at dksX4_function_0 9 rfl rfl)
theorem dX4_function_12 : decode cX4_function 12 = .ok (.iconst 0, 1) := dk_3 (dk_at dksX4_function_0 12 rfl rfl)
theorem dX4_function_13 : decode cX4_function 13 = .ok (.invokevirtual 71, 3) := dk_182 0 71 (dk_at dksX4_function_0 13 rfl rfl)
theorem dX4_function_16 : decode cX4_function 16 = .ok (.istore_n 1, 1) := dk_60 (dk_at dksX4_function_0 16 rfl rfl)
theorem dX4_function_17 : decode cX4_function 17 = .ok (.aload_n 0, 1) := dk_42 (dk_at dksX4_function_0 17 rfl rfl)
theorem dX4_function_18 : decode cX4_function 18 = .ok (.getstatic 229, 3) := dk_178 0 229 (dk_at dksX4_function_0 18 rfl rfl)
theorem dX4_function_21 : decode cX4_function 21 = .ok (.invokevirtual 153, 3) := dk_182 0 153 (dk_at dksX4_function_0 21 rfl rfl)
theorem dX4_function_24 : decode cX4_function 24 = .ok (.aload_n 0, 1) := dk_42 (dk_at dksX4_function_1 0 rfl rfl)
theorem dX4_function_25 : decode cX4_function 25 = .ok (.invokevirtual 141, 3) := dk_182 0 141 (dk_at dksX4_function_1 1 rfl rfl)
theorem dX4_function_28 : decode cX4_function 28 = .ok (.aload_n 0, 1) := dk_42 (dk_at dksX4_function_1 4 rfl rfl)
theorem dX4_function_29 : decode cX4_function 29 = .ok (.getstatic 160, 3) := dk_178 0 160 (dk_at dksX4_function_1 5 rfl rfl)
theorem dX4_function_32 : decode cX4_function 32 = .ok (.invokevirtual 153, 3) := dk_182 0 153 (dk_at dksX4_function_1 8 rfl rfl)
theorem dX4_function_35 : decode cX4_function 35 = .ok (.aload_n 0, 1) := dk_42 (dk_at dksX4_function_1 11 rfl rfl)
theorem dX4_function_36 : decode cX4_function 36 = .ok (.getfield 12, 3) := dk_180 0 12 (dk_at dksX4_function_1 12 rfl rfl)
theorem dX4_function_39 : decode cX4_function 39 = .ok (.getfield 42, 3) := dk_180 0 42 (dk_at dksX4_function_1 15 rfl rfl)
theorem dX4_function_42 : decode cX4_function 42 = .ok (.getstatic 157, 3) := dk_178 0 157 (dk_at dksX4_function_1 18 rfl rfl)
theorem dX4_function_45 : decode cX4_function 45 = .ok (.if_acmp .eq 17, 3) := dk_165 0 17 (dk_at dksX4_function_1 21 rfl rfl)
theorem dX4_function_48 : decode cX4_function 48 = .ok (.aload_n 0, 1) := dk_42 (dk_at dksX4_function_2 0 rfl rfl)
theorem dX4_function_49 : decode cX4_function 49 = .ok (.invokevirtual 141, 3) := dk_182 0 141 (dk_at dksX4_function_2 1 rfl rfl)
theorem dX4_function_52 : decode cX4_function 52 = .ok (.aload_n 0, 1) := dk_42 (dk_at dksX4_function_2 4 rfl rfl)
theorem dX4_function_53 : decode cX4_function 53 = .ok (.getstatic 166, 3) := dk_178 0 166 (dk_at dksX4_function_2 5 rfl rfl)
theorem dX4_function_56 : decode cX4_function 56 = .ok (.invokevirtual 90, 3) := dk_182 0 90 (dk_at dksX4_function_2 8 rfl rfl)
theorem dX4_function_59 : decode cX4_function 59 = .ok (.ifCond .ne (-11), 3) := dk_154 255 245 (dk_at dksX4_function_2 11 rfl rfl)
theorem dX4_function_62 : decode cX4_function 62 = .ok (.aload_n 0, 1) := dk_42 (dk_at dksX4_function_2 14 rfl rfl)
theorem dX4_function_63 : decode cX4_function 63 = .ok (.getstatic 157, 3) := dk_178 0 157 (dk_at dksX4_function_2 15 rfl rfl)
theorem dX4_function_66 : decode cX4_function 66 = .ok (.invokevirtual 153, 3) := dk_182 0 153 (dk_at dksX4_function_2 18 rfl rfl)
theorem dX4_function_69 : decode cX4_function 69 = .ok (.aload_n 0, 1) := dk_42 (dk_at dksX4_function_2 21 rfl rfl)
theorem dX4_function_70 : decode cX4_function 70 = .ok (.invokevirtual 210, 3) := dk_182 0 210 (dk_at dksX4_function_3 0 rfl rfl)
theorem dX4_function_73 : decode cX4_function 73 = .ok (.aload_n 0, 1) := dk_42 (dk_at dksX4_function_3 3 rfl rfl)
theorem dX4_function_74 : decode cX4_function 74 = .ok (.getfield 54, 3) := dk_180 0 54 (dk_at dksX4_function_3 4 rfl rfl)
theorem dX4_function_77 : decode cX4_function 77 = .ok (.iload_n 1, 1) := dk_27 (dk_at dksX4_function_3 7 rfl rfl)
theorem dX4_function_78 : decode cX4_function 78 = .ok (.invokevirtual 77, 3) := dk_182 0 77 (dk_at dksX4_function_3 8 rfl rfl)
theorem dX4_function_81 : decode cX4_function 81 = .ok (.return_, 1) := dk_177 (dk_at dksX4_function_3 11 rfl rfl)
abbrev cX4_take : ByteArray := prog_4_method_4_code
def yX4_take : MethodName := ⟨RX4, "take", "(LProgramReader$Token;)V"⟩
def dkwX4_take_0 : List UInt8 := [42, 180, 0, 12, 180, 0, 42, 43, 165, 0, 7, 42, 182, 0, 39, 42, 180, 0, 12, 182, 0, 46, 177]
abbrev dktX4_take_0 : List UInt8 := dkwX4_take_0 ++ []
theorem dksX4_take_0 : cX4_take.data.toList.drop 0 = dktX4_take_0 := by decide +kernel
theorem dX4_take_0 : decode cX4_take 0 = .ok (.aload_n 0, 1) := dk_42 (dk_at dksX4_take_0 0 rfl rfl)
theorem dX4_take_1 : decode cX4_take 1 = .ok (.getfield 12, 3) := dk_180 0 12 (dk_at dksX4_take_0 1 rfl rfl)
theorem dX4_take_4 : decode cX4_take 4 = .ok (.getfield 42, 3) := dk_180 0 42 (dk_at dksX4_take_0 4 rfl rfl)
theorem dX4_take_7 : decode cX4_take 7 = .ok (.aload_n 1, 1) := dk_43 (dk_at dksX4_take_0 7 rfl rfl)
theorem dX4_take_8 : decode cX4_take 8 = .ok (.if_acmp .eq 7, 3) := dk_165 0 7 (dk_at dksX4_take_0 8 rfl rfl)
theorem dX4_take_11 : decode cX4_take 11 = .ok (.aload_n 0, 1) := dk_42 (dk_at dksX4_take_0 11 rfl rfl)
theorem dX4_take_12 : decode cX4_take 12 = .ok (.invokevirtual 39, 3) := dk_182 0 39 (dk_at dksX4_take_0 12 rfl rfl)
theorem dX4_take_15 : decode cX4_take 15 = .ok (.aload_n 0, 1) := dk_42 (dk_at dksX4_take_0 15 rfl rfl)
theorem dX4_take_16 : decode cX4_take 16 = .ok (.getfield 12, 3) := dk_180 0 12 (dk_at dksX4_take_0 16 rfl rfl)
theorem dX4_take_19 : decode cX4_take 19 = .ok (.invokevirtual 46, 3) := dk_182 0 46 (dk_at dksX4_take_0 19 rfl rfl)
theorem dX4_take_22 : decode cX4_take 22 = .ok (.return_, 1) := dk_177 (dk_at dksX4_take_0 22 rfl rfl)
abbrev cX4_fail : ByteArray := prog_4_method_2_code
def yX4_fail : MethodName := ⟨RX4, "fail", "()V"⟩
def dkwX4_fail_0 : List UInt8 := [42, 42, 180, 0, 12, 180, 0, 22, 181, 0, 26, 187, 0, 29, 89, 18, 31, 183, 0, 33, 191]
abbrev dktX4_fail_0 : List UInt8 := dkwX4_fail_0 ++ []
theorem dksX4_fail_0 : cX4_fail.data.toList.drop 0 = dktX4_fail_0 := by decide +kernel
theorem dX4_fail_0 : decode cX4_fail 0 = .ok (.aload_n 0, 1) := dk_42 (dk_at dksX4_fail_0 0 rfl rfl)
theorem dX4_fail_1 : decode cX4_fail 1 = .ok (.aload_n 0, 1) := dk_42 (dk_at dksX4_fail_0 1 rfl rfl)
theorem dX4_fail_2 : decode cX4_fail 2 = .ok (.getfield 12, 3) := dk_180 0 12 (dk_at dksX4_fail_0 2 rfl rfl)
theorem dX4_fail_5 : decode cX4_fail 5 = .ok (.getfield 22, 3) := dk_180 0 22 (dk_at dksX4_fail_0 5 rfl rfl)
theorem dX4_fail_8 : decode cX4_fail 8 = .ok (.putfield 26, 3) := dk_181 0 26 (dk_at dksX4_fail_0 8 rfl rfl)
theorem dX4_fail_11 : decode cX4_fail 11 = .ok (.new 29, 3) := dk_187 0 29 (dk_at dksX4_fail_0 11 rfl rfl)
theorem dX4_fail_14 : decode cX4_fail 14 = .ok (.dup, 1) := dk_89 (dk_at dksX4_fail_0 14 rfl rfl)
theorem dX4_fail_15 : decode cX4_fail 15 = .ok (.ldc 31, 2) := dk_18 31 (dk_at dksX4_fail_0 15 rfl rfl)
theorem dX4_fail_17 : decode cX4_fail 17 = .ok (.invokespecial 33, 3) := dk_183 0 33 (dk_at dksX4_fail_0 17 rfl rfl)
theorem dX4_fail_20 : decode cX4_fail 20 = .ok (.athrow, 1) := dk_191 (dk_at dksX4_fail_0 20 rfl rfl)
abbrev cX4_name : ByteArray := prog_4_method_6_code
def yX4_name : MethodName := ⟨RX4, "name", "()V"⟩
def dkwX4_name_3 : List UInt8 := [180, 0, 12, 182, 0, 46, 177]
abbrev dktX4_name_3 : List UInt8 := dkwX4_name_3 ++ []
def dkwX4_name_2 : List UInt8 := [180, 0, 12, 180, 0, 22, 42, 180, 0, 12, 180, 0, 62, 182, 0, 65, 182, 0, 71, 182, 0, 77, 42]
abbrev dktX4_name_2 : List UInt8 := dkwX4_name_2 ++ dktX4_name_3
def dkwX4_name_1 : List UInt8 := [180, 0, 54, 16, 13, 42, 180, 0, 12, 180, 0, 22, 42, 180, 0, 18, 42, 180, 0, 12, 180, 0, 58, 42]
abbrev dktX4_name_1 : List UInt8 := dkwX4_name_1 ++ dktX4_name_2
def dkwX4_name_0 : List UInt8 := [42, 180, 0, 12, 180, 0, 42, 178, 0, 49, 165, 0, 7, 42, 182, 0, 39, 42, 180, 0, 54, 42]
abbrev dktX4_name_0 : List UInt8 := dkwX4_name_0 ++ dktX4_name_1
theorem dksX4_name_0 : cX4_name.data.toList.drop 0 = dktX4_name_0 := by decide +kernel
theorem dksX4_name_1 : cX4_name.data.toList.drop 22 = dktX4_name_1 := dk_seg dksX4_name_0 22 rfl rfl
theorem dksX4_name_2 : cX4_name.data.toList.drop 46 = dktX4_name_2 := dk_seg dksX4_name_1 24 rfl rfl
theorem dksX4_name_3 : cX4_name.data.toList.drop 69 = dktX4_name_3 := dk_seg dksX4_name_2 23 rfl rfl
theorem dX4_name_0 : decode cX4_name 0 = .ok (.aload_n 0, 1) := dk_42 (dk_at dksX4_name_0 0 rfl rfl)
theorem dX4_name_1 : decode cX4_name 1 = .ok (.getfield 12, 3) := dk_180 0 12 (dk_at dksX4_name_0 1 rfl rfl)
theorem dX4_name_4 : decode cX4_name 4 = .ok (.getfield 42, 3) := dk_180 0 42 (dk_at dksX4_name_0 4 rfl rfl)
theorem dX4_name_7 : decode cX4_name 7 = .ok (.getstatic 49, 3) := dk_178 0 49 (dk_at dksX4_name_0 7 rfl rfl)
theorem dX4_name_10 : decode cX4_name 10 = .ok (.if_acmp .eq 7, 3) := dk_165 0 7 (dk_at dksX4_name_0 10 rfl rfl)
theorem dX4_name_13 : decode cX4_name 13 = .ok (.aload_n 0, 1) := dk_42 (dk_at dksX4_name_0 13 rfl rfl)
theorem dX4_name_14 : decode cX4_name 14 = .ok (.invokevirtual 39, 3) := dk_182 0 39 (dk_at dksX4_name_0 14 rfl rfl)
theorem dX4_name_17 : decode cX4_name 17 = .ok (.aload_n 0, 1) := dk_42 (dk_at dksX4_name_0 17 rfl rfl)
theorem dX4_name_18 : decode cX4_name 18 = .ok (.getfield 54, 3) := dk_180 0 54 (dk_at dksX4_name_0 18 rfl rfl)
theorem dX4_name_21 : decode cX4_name 21 = .ok (.aload_n 0, 1) := dk_42 (dk_at dksX4_name_0 21 rfl rfl)
theorem dX4_name_22 : decode cX4_name 22 = .ok (.getfield 54, 3) := dk_180 0 54 (dk_at dksX4_name_1 0 rfl rfl)
theorem dX4_name_25 : decode cX4_name 25 = .ok (.bipush 13, 2) := dk_16 13 (dk_at dksX4_name_1 3 rfl rfl)
theorem dX4_name_27 : decode cX4_name 27 = .ok (.aload_n 0, 1) := dk_42 (dk_at dksX4_name_1 5 rfl rfl)
theorem dX4_name_28 : decode cX4_name 28 = .ok (.getfield 12, 3) := dk_180 0 12 (dk_at dksX4_name_1 6 rfl rfl)
theorem dX4_name_31 : decode cX4_name 31 = .ok (.getfield 22, 3) := dk_180 0 22 (dk_at dksX4_name_1 9 rfl rfl)
theorem dX4_name_34 : decode cX4_name 34 = .ok (.aload_n 0, 1) := dk_42 (dk_at dksX4_name_1 12 rfl rfl)
theorem dX4_name_35 : decode cX4_name 35 = .ok (.getfield 18, 3) := dk_180 0 18 (dk_at dksX4_name_1 13 rfl rfl)
theorem dX4_name_38 : decode cX4_name 38 = .ok (.aload_n 0, 1) := dk_42 (dk_at dksX4_name_1 16 rfl rfl)
theorem dX4_name_39 : decode cX4_name 39 = .ok (.getfield 12, 3) := dk_180 0 12 (dk_at dksX4_name_1 17 rfl rfl)
theorem dX4_name_42 : decode cX4_name 42 = .ok (.getfield 58, 3) := dk_180 0 58 (dk_at dksX4_name_1 20 rfl rfl)
theorem dX4_name_45 : decode cX4_name 45 = .ok (.aload_n 0, 1) := dk_42 (dk_at dksX4_name_1 23 rfl rfl)
theorem dX4_name_46 : decode cX4_name 46 = .ok (.getfield 12, 3) := dk_180 0 12 (dk_at dksX4_name_2 0 rfl rfl)
theorem dX4_name_49 : decode cX4_name 49 = .ok (.getfield 22, 3) := dk_180 0 22 (dk_at dksX4_name_2 3 rfl rfl)
theorem dX4_name_52 : decode cX4_name 52 = .ok (.aload_n 0, 1) := dk_42 (dk_at dksX4_name_2 6 rfl rfl)
theorem dX4_name_53 : decode cX4_name 53 = .ok (.getfield 12, 3) := dk_180 0 12 (dk_at dksX4_name_2 7 rfl rfl)
theorem dX4_name_56 : decode cX4_name 56 = .ok (.getfield 62, 3) := dk_180 0 62 (dk_at dksX4_name_2 10 rfl rfl)
theorem dX4_name_59 : decode cX4_name 59 = .ok (.invokevirtual 65, 3) := dk_182 0 65 (dk_at dksX4_name_2 13 rfl rfl)
theorem dX4_name_62 : decode cX4_name 62 = .ok (.invokevirtual 71, 3) := dk_182 0 71 (dk_at dksX4_name_2 16 rfl rfl)
theorem dX4_name_65 : decode cX4_name 65 = .ok (.invokevirtual 77, 3) := dk_182 0 77 (dk_at dksX4_name_2 19 rfl rfl)
theorem dX4_name_68 : decode cX4_name 68 = .ok (.aload_n 0, 1) := dk_42 (dk_at dksX4_name_2 22 rfl rfl)
theorem dX4_name_69 : decode cX4_name 69 = .ok (.getfield 12, 3) := dk_180 0 12 (dk_at dksX4_name_3 0 rfl rfl)
theorem dX4_name_72 : decode cX4_name 72 = .ok (.invokevirtual 46, 3) := dk_182 0 46 (dk_at dksX4_name_3 3 rfl rfl)
theorem dX4_name_75 : decode cX4_name 75 = .ok (.return_, 1) := dk_177 (dk_at dksX4_name_3 6 rfl rfl)
abbrev cX4_takes : ByteArray := prog_4_method_5_code
def yX4_takes : MethodName := ⟨RX4, "takes", "(LProgramReader$Token;)Z"⟩
def dkwX4_takes_1 : List UInt8 := [180, 0, 12, 182, 0, 46, 28, 172]
abbrev dktX4_takes_1 : List UInt8 := dkwX4_takes_1 ++ []
def dkwX4_takes_0 : List UInt8 := [42, 180, 0, 12, 180, 0, 42, 43, 166, 0, 7, 4, 167, 0, 4, 3, 61, 28, 153, 0, 10, 42]
abbrev dktX4_takes_0 : List UInt8 := dkwX4_takes_0 ++ dktX4_takes_1
theorem dksX4_takes_0 : cX4_takes.data.toList.drop 0 = dktX4_takes_0 := by decide +kernel
theorem dksX4_takes_1 : cX4_takes.data.toList.drop 22 = dktX4_takes_1 := dk_seg dksX4_takes_0 22 rfl rfl
theorem dX4_takes_0 : decode cX4_takes 0 = .ok (.aload_n 0, 1) := dk_42 (dk_at dksX4_takes_0 0 rfl rfl)
theorem dX4_takes_1 : decode cX4_takes 1 = .ok (.getfield 12, 3) := dk_180 0 12 (dk_at dksX4_takes_0 1 rfl rfl)
theorem dX4_takes_4 : decode cX4_takes 4 = .ok (.getfield 42, 3) := dk_180 0 42 (dk_at dksX4_takes_0 4 rfl rfl)
theorem dX4_takes_7 : decode cX4_takes 7 = .ok (.aload_n 1, 1) := dk_43 (dk_at dksX4_takes_0 7 rfl rfl)
theorem dX4_takes_8 : decode cX4_takes 8 = .ok (.if_acmp .ne 7, 3) := dk_166 0 7 (dk_at dksX4_takes_0 8 rfl rfl)
theorem dX4_takes_11 : decode cX4_takes 11 = .ok (.iconst 1, 1) := dk_4 (dk_at dksX4_takes_0 11 rfl rfl)
theorem dX4_takes_12 : decode cX4_takes 12 = .ok (.goto 4, 3) := dk_167 0 4 (dk_at dksX4_takes_0 12 rfl rfl)
theorem dX4_takes_15 : decode cX4_takes 15 = .ok (.iconst 0, 1) := dk_3 (dk_at dksX4_takes_0 15 rfl rfl)
theorem dX4_takes_16 : decode cX4_takes 16 = .ok (.istore_n 2, 1) := dk_61 (dk_at dksX4_takes_0 16 rfl rfl)
theorem dX4_takes_17 : decode cX4_takes 17 = .ok (.iload_n 2, 1) := dk_28 (dk_at dksX4_takes_0 17 rfl rfl)
theorem dX4_takes_18 : decode cX4_takes 18 = .ok (.ifCond .eq 10, 3) := dk_153 0 10 (dk_at dksX4_takes_0 18 rfl rfl)
theorem dX4_takes_21 : decode cX4_takes 21 = .ok (.aload_n 0, 1) := dk_42 (dk_at dksX4_takes_0 21 rfl rfl)
theorem dX4_takes_22 : decode cX4_takes 22 = .ok (.getfield 12, 3) := dk_180 0 12 (dk_at dksX4_takes_1 0 rfl rfl)
theorem dX4_takes_25 : decode cX4_takes 25 = .ok (.invokevirtual 46, 3) := dk_182 0 46 (dk_at dksX4_takes_1 3 rfl rfl)
theorem dX4_takes_28 : decode cX4_takes 28 = .ok (.iload_n 2, 1) := dk_28 (dk_at dksX4_takes_1 6 rfl rfl)
theorem dX4_takes_29 : decode cX4_takes 29 = .ok (.ireturn, 1) := dk_172 (dk_at dksX4_takes_1 7 rfl rfl)
abbrev cX4_block : ByteArray := prog_4_method_16_code
def yX4_block : MethodName := ⟨RX4, "block", "()V"⟩
def dkwX4_block_3 : List UInt8 := [100, 181, 0, 36, 177]
abbrev dktX4_block_3 : List UInt8 := dkwX4_block_3 ++ []
def dkwX4_block_2 : List UInt8 := [167, 255, 239, 42, 180, 0, 12, 182, 0, 46, 42, 180, 0, 54, 27, 182, 0, 77, 42, 89, 180, 0, 36, 4]
abbrev dktX4_block_2 : List UInt8 := dkwX4_block_2 ++ dktX4_block_3
def dkwX4_block_1 : List UInt8 := [178, 0, 191, 182, 0, 153, 42, 180, 0, 12, 180, 0, 42, 178, 0, 194, 165, 0, 10, 42, 182, 0, 197]
abbrev dktX4_block_1 : List UInt8 := dkwX4_block_1 ++ dktX4_block_2
def dkwX4_block_0 : List UInt8 := [42, 182, 0, 97, 42, 180, 0, 54, 5, 42, 180, 0, 12, 180, 0, 22, 3, 182, 0, 71, 60, 42]
abbrev dktX4_block_0 : List UInt8 := dkwX4_block_0 ++ dktX4_block_1
theorem dksX4_block_0 : cX4_block.data.toList.drop 0 = dktX4_block_0 := by decide +kernel
theorem dksX4_block_1 : cX4_block.data.toList.drop 22 = dktX4_block_1 := dk_seg dksX4_block_0 22 rfl rfl
theorem dksX4_block_2 : cX4_block.data.toList.drop 45 = dktX4_block_2 := dk_seg dksX4_block_1 23 rfl rfl
theorem dksX4_block_3 : cX4_block.data.toList.drop 69 = dktX4_block_3 := dk_seg dksX4_block_2 24 rfl rfl
theorem dX4_block_0 : decode cX4_block 0 = .ok (.aload_n 0, 1) := dk_42 (dk_at dksX4_block_0 0 rfl rfl)
theorem dX4_block_1 : decode cX4_block 1 = .ok (.invokevirtual 97, 3) := dk_182 0 97 (dk_at dksX4_block_0 1 rfl rfl)
theorem dX4_block_4 : decode cX4_block 4 = .ok (.aload_n 0, 1) := dk_42 (dk_at dksX4_block_0 4 rfl rfl)
theorem dX4_block_5 : decode cX4_block 5 = .ok (.getfield 54, 3) := dk_180 0 54 (dk_at dksX4_block_0 5 rfl rfl)
theorem dX4_block_8 : decode cX4_block 8 = .ok (.iconst 2, 1) := dk_5 (dk_at dksX4_block_0 8 rfl rfl)
theorem dX4_block_9 : decode cX4_block 9 = .ok (.aload_n 0, 1) := dk_42 (dk_at dksX4_block_0 9 rfl rfl)
theorem dX4_block_10 : decode cX4_block 10 = .ok (.getfield 12, 3) := dk_180 0 12 (dk_at dksX4_block_0 10 rfl rfl)
theorem dX4_block_13 : decode cX4_block 13 = .ok (.getfield 22, 3) := dk_180 0 22 (dk_at dksX4_block_0 13 rfl rfl)
theorem dX4_block_16 : decode cX4_block 16 = .ok (.iconst 0, 1) := dk_3 (dk_at dksX4_block_0 16 rfl rfl)
theorem dX4_block_17 : decode cX4_block 17 = .ok (.invokevirtual 71, 3) := dk_182 0 71 (dk_at dksX4_block_0 17 rfl rfl)
theorem dX4_block_20 : decode cX4_block 20 = .ok (.istore_n 1, 1) := dk_60 (dk_at dksX4_block_0 20 rfl rfl)
theorem dX4_block_21 : decode cX4_block 21 = .ok (.aload_n 0, 1) := dk_42 (dk_at dksX4_block_0 21 rfl rfl)
theorem dX4_block_22 : decode cX4_block 22 = .ok (.getstatic 191, 3) := dk_178 0 191 (dk_at dksX4_block_1 0 rfl rfl)
theorem dX4_block_25 : decode cX4_block 25 = .ok (.invokevirtual 153, 3) := dk_182 0 153 (dk_at dksX4_block_1 3 rfl rfl)
theorem dX4_block_28 : decode cX4_block 28 = .ok (.aload_n 0, 1) := dk_42 (dk_at dksX4_block_1 6 rfl rfl)
theorem dX4_block_29 : decode cX4_block 29 = .ok (.getfield 12, 3) := dk_180 0 12 (dk_at dksX4_block_1 7 rfl rfl)
theorem dX4_block_32 : decode cX4_block 32 = .ok (.getfield 42, 3) := dk_180 0 42 (dk_at dksX4_block_1 10 rfl rfl)
theorem dX4_block_35 : decode cX4_block 35 = .ok (.getstatic 194, 3) := dk_178 0 194 (dk_at dksX4_block_1 13 rfl rfl)
theorem dX4_block_38 : decode cX4_block 38 = .ok (.if_acmp .eq 10, 3) := dk_165 0 10 (dk_at dksX4_block_1 16 rfl rfl)
theorem dX4_block_41 : decode cX4_block 41 = .ok (.aload_n 0, 1) := dk_42 (dk_at dksX4_block_1 19 rfl rfl)
theorem dX4_block_42 : decode cX4_block 42 = .ok (.invokevirtual 197, 3) := dk_182 0 197 (dk_at dksX4_block_1 20 rfl rfl)
theorem dX4_block_45 : decode cX4_block 45 = .ok (.goto (-17), 3) := dk_167 255 239 (dk_at dksX4_block_2 0 rfl rfl)
theorem dX4_block_48 : decode cX4_block 48 = .ok (.aload_n 0, 1) := dk_42 (dk_at dksX4_block_2 3 rfl rfl)
theorem dX4_block_49 : decode cX4_block 49 = .ok (.getfield 12, 3) := dk_180 0 12 (dk_at dksX4_block_2 4 rfl rfl)
theorem dX4_block_52 : decode cX4_block 52 = .ok (.invokevirtual 46, 3) := dk_182 0 46 (dk_at dksX4_block_2 7 rfl rfl)
theorem dX4_block_55 : decode cX4_block 55 = .ok (.aload_n 0, 1) := dk_42 (dk_at dksX4_block_2 10 rfl rfl)
theorem dX4_block_56 : decode cX4_block 56 = .ok (.getfield 54, 3) := dk_180 0 54 (dk_at dksX4_block_2 11 rfl rfl)
theorem dX4_block_59 : decode cX4_block 59 = .ok (.iload_n 1, 1) := dk_27 (dk_at dksX4_block_2 14 rfl rfl)
theorem dX4_block_60 : decode cX4_block 60 = .ok (.invokevirtual 77, 3) := dk_182 0 77 (dk_at dksX4_block_2 15 rfl rfl)
theorem dX4_block_63 : decode cX4_block 63 = .ok (.aload_n 0, 1) := dk_42 (dk_at dksX4_block_2 18 rfl rfl)
theorem dX4_block_64 : decode cX4_block 64 = .ok (.dup, 1) := dk_89 (dk_at dksX4_block_2 19 rfl rfl)
theorem dX4_block_65 : decode cX4_block 65 = .ok (.getfield 36, 3) := dk_180 0 36 (dk_at dksX4_block_2 20 rfl rfl)
theorem dX4_block_68 : decode cX4_block 68 = .ok (.iconst 1, 1) := dk_4 (dk_at dksX4_block_2 23 rfl rfl)
theorem dX4_block_69 : decode cX4_block 69 = .ok (.isub, 1) := dk_100 (dk_at dksX4_block_3 0 rfl rfl)
theorem dX4_block_70 : decode cX4_block 70 = .ok (.putfield 36, 3) := dk_181 0 36 (dk_at dksX4_block_3 1 rfl rfl)
theorem dX4_block_73 : decode cX4_block 73 = .ok (.return_, 1) := dk_177 (dk_at dksX4_block_3 4 rfl rfl)
abbrev cX4_deeper : ByteArray := prog_4_method_3_code
def yX4_deeper : MethodName := ⟨RX4, "deeper", "()V"⟩
def dkwX4_deeper_0 : List UInt8 := [42, 89, 180, 0, 36, 4, 96, 181, 0, 36, 42, 180, 0, 36, 16, 60, 164, 0, 7, 42, 182, 0, 39, 177]
abbrev dktX4_deeper_0 : List UInt8 := dkwX4_deeper_0 ++ []
theorem dksX4_deeper_0 : cX4_deeper.data.toList.drop 0 = dktX4_deeper_0 := by decide +kernel
theorem dX4_deeper_0 : decode cX4_deeper 0 = .ok (.aload_n 0, 1) := dk_42 (dk_at dksX4_deeper_0 0 rfl rfl)
theorem dX4_deeper_1 : decode cX4_deeper 1 = .ok (.dup, 1) := dk_89 (dk_at dksX4_deeper_0 1 rfl rfl)
theorem dX4_deeper_2 : decode cX4_deeper 2 = .ok (.getfield 36, 3) := dk_180 0 36 (dk_at dksX4_deeper_0 2 rfl rfl)
theorem dX4_deeper_5 : decode cX4_deeper 5 = .ok (.iconst 1, 1) := dk_4 (dk_at dksX4_deeper_0 5 rfl rfl)
theorem dX4_deeper_6 : decode cX4_deeper 6 = .ok (.iadd, 1) := dk_96 (dk_at dksX4_deeper_0 6 rfl rfl)
theorem dX4_deeper_7 : decode cX4_deeper 7 = .ok (.putfield 36, 3) := dk_181 0 36 (dk_at dksX4_deeper_0 7 rfl rfl)
theorem dX4_deeper_10 : decode cX4_deeper 10 = .ok (.aload_n 0, 1) := dk_42 (dk_at dksX4_deeper_0 10 rfl rfl)
theorem dX4_deeper_11 : decode cX4_deeper 11 = .ok (.getfield 36, 3) := dk_180 0 36 (dk_at dksX4_deeper_0 11 rfl rfl)
theorem dX4_deeper_14 : decode cX4_deeper 14 = .ok (.bipush 60, 2) := dk_16 60 (dk_at dksX4_deeper_0 14 rfl rfl)
theorem dX4_deeper_16 : decode cX4_deeper 16 = .ok (.if_icmp .le 7, 3) := dk_164 0 7 (dk_at dksX4_deeper_0 16 rfl rfl)
theorem dX4_deeper_19 : decode cX4_deeper 19 = .ok (.aload_n 0, 1) := dk_42 (dk_at dksX4_deeper_0 19 rfl rfl)
theorem dX4_deeper_20 : decode cX4_deeper 20 = .ok (.invokevirtual 39, 3) := dk_182 0 39 (dk_at dksX4_deeper_0 20 rfl rfl)
theorem dX4_deeper_23 : decode cX4_deeper 23 = .ok (.return_, 1) := dk_177 (dk_at dksX4_deeper_0 23 rfl rfl)
abbrev cX4_statement : ByteArray := prog_4_method_17_code
def yX4_statement : MethodName := ⟨RX4, "statement", "()V"⟩
def dkwX4_statement_10 : List UInt8 := [180, 0, 54, 27, 182, 0, 77, 177]
abbrev dktX4_statement_10 : List UInt8 := dkwX4_statement_10 ++ []
def dkwX4_statement_9 : List UInt8 := [182, 0, 46, 42, 182, 0, 147, 42, 178, 0, 216, 182, 0, 153, 167, 0, 7, 42, 182, 0, 39, 42]
abbrev dktX4_statement_9 : List UInt8 := dkwX4_statement_9 ++ dktX4_statement_10
def dkwX4_statement_8 : List UInt8 := [182, 0, 153, 167, 0, 40, 42, 180, 0, 54, 16, 11, 28, 3, 182, 0, 71, 87, 42, 180, 0, 12]
abbrev dktX4_statement_8 : List UInt8 := dkwX4_statement_8 ++ dktX4_statement_9
def dkwX4_statement_7 : List UInt8 := [167, 0, 66, 42, 180, 0, 54, 16, 10, 28, 3, 182, 0, 71, 87, 42, 182, 0, 207, 42, 178, 0, 216]
abbrev dktX4_statement_7 : List UInt8 := dkwX4_statement_7 ++ dktX4_statement_8
def dkwX4_statement_6 : List UInt8 := [167, 0, 89, 42, 180, 0, 54, 16, 9, 28, 3, 182, 0, 71, 87, 42, 182, 0, 207, 42, 182, 0, 210]
abbrev dktX4_statement_6 : List UInt8 := dkwX4_statement_6 ++ dktX4_statement_7
def dkwX4_statement_5 : List UInt8 := [42, 182, 0, 207, 42, 182, 0, 210, 42, 178, 0, 213, 182, 0, 90, 153, 0, 96, 42, 182, 0, 210]
abbrev dktX4_statement_5 : List UInt8 := dkwX4_statement_5 ++ dktX4_statement_6
def dkwX4_statement_4 : List UInt8 := [167, 0, 135, 42, 27, 28, 182, 0, 203, 167, 0, 126, 42, 180, 0, 54, 16, 8, 28, 3, 182, 0, 71, 87]
abbrev dktX4_statement_4 : List UInt8 := dkwX4_statement_4 ++ dktX4_statement_5
def dkwX4_statement_3 : List UInt8 := [42, 180, 0, 54, 6, 28, 3, 182, 0, 71, 87, 42, 180, 0, 12, 182, 0, 46, 42, 27, 182, 0, 200]
abbrev dktX4_statement_3 : List UInt8 := dkwX4_statement_3 ++ dktX4_statement_4
def dkwX4_statement_2 : List UInt8 := [171, 0, 0, 0, 0, 212, 0, 0, 0, 6, 0, 0, 0, 2, 0, 0, 0, 84, 0, 0, 0, 28, 0, 0, 0, 58, 0, 0, 0, 29, 0, 0, 0, 93, 0, 0, 0, 31, 0, 0, 0, 130, 0, 0, 0, 32, 0, 0, 0, 153, 0, 0, 0, 33, 0, 0, 0, 179]
abbrev dktX4_statement_2 : List UInt8 := dkwX4_statement_2 ++ dktX4_statement_3
def dkwX4_statement_1 : List UInt8 := [182, 0, 137]
abbrev dktX4_statement_1 : List UInt8 := dkwX4_statement_1 ++ dktX4_statement_2
def dkwX4_statement_0 : List UInt8 := [42, 180, 0, 54, 180, 0, 100, 60, 42, 180, 0, 12, 180, 0, 22, 61, 42, 180, 0, 12, 180, 0, 42]
abbrev dktX4_statement_0 : List UInt8 := dkwX4_statement_0 ++ dktX4_statement_1
theorem dksX4_statement_0 : cX4_statement.data.toList.drop 0 = dktX4_statement_0 := by decide +kernel
theorem dksX4_statement_1 : cX4_statement.data.toList.drop 23 = dktX4_statement_1 := dk_seg dksX4_statement_0 23 rfl rfl
theorem dksX4_statement_2 : cX4_statement.data.toList.drop 26 = dktX4_statement_2 := dk_seg dksX4_statement_1 3 rfl rfl
theorem dksX4_statement_3 : cX4_statement.data.toList.drop 84 = dktX4_statement_3 := dk_seg dksX4_statement_2 58 rfl rfl
theorem dksX4_statement_4 : cX4_statement.data.toList.drop 107 = dktX4_statement_4 := dk_seg dksX4_statement_3 23 rfl rfl
theorem dksX4_statement_5 : cX4_statement.data.toList.drop 131 = dktX4_statement_5 := dk_seg dksX4_statement_4 24 rfl rfl
theorem dksX4_statement_6 : cX4_statement.data.toList.drop 153 = dktX4_statement_6 := dk_seg dksX4_statement_5 22 rfl rfl
theorem dksX4_statement_7 : cX4_statement.data.toList.drop 176 = dktX4_statement_7 := dk_seg dksX4_statement_6 23 rfl rfl
theorem dksX4_statement_8 : cX4_statement.data.toList.drop 199 = dktX4_statement_8 := dk_seg dksX4_statement_7 23 rfl rfl
theorem dksX4_statement_9 : cX4_statement.data.toList.drop 221 = dktX4_statement_9 := dk_seg dksX4_statement_8 22 rfl rfl
theorem dksX4_statement_10 : cX4_statement.data.toList.drop 243 = dktX4_statement_10 := dk_seg dksX4_statement_9 22 rfl rfl
theorem dX4_statement_0 : decode cX4_statement 0 = .ok (.aload_n 0, 1) := dk_42 (dk_at dksX4_statement_0 0 rfl rfl)
theorem dX4_statement_1 : decode cX4_statement 1 = .ok (.getfield 54, 3) := dk_180 0 54 (dk_at dksX4_statement_0 1 rfl rfl)
theorem dX4_statement_4 : decode cX4_statement 4 = .ok (.getfield 100, 3) := dk_180 0 100 (dk_at dksX4_statement_0 4 rfl rfl)
theorem dX4_statement_7 : decode cX4_statement 7 = .ok (.istore_n 1, 1) := dk_60 (dk_at dksX4_statement_0 7 rfl rfl)
theorem dX4_statement_8 : decode cX4_statement 8 = .ok (.aload_n 0, 1) := dk_42 (dk_at dksX4_statement_0 8 rfl rfl)
theorem dX4_statement_9 : decode cX4_statement 9 = .ok (.getfield 12, 3) := dk_180 0 12 (dk_at dksX4_statement_0 9 rfl rfl)
theorem dX4_statement_12 : decode cX4_statement 12 = .ok (.getfield 22, 3) := dk_180 0 22 (dk_at dksX4_statement_0 12 rfl rfl)
theorem dX4_statement_15 : decode cX4_statement 15 = .ok (.istore_n 2, 1) := dk_61 (dk_at dksX4_statement_0 15 rfl rfl)
theorem dX4_statement_16 : decode cX4_statement 16 = .ok (.aload_n 0, 1) := dk_42 (dk_at dksX4_statement_0 16 rfl rfl)
theorem dX4_statement_17 : decode cX4_statement 17 = .ok (.getfield 12, 3) := dk_180 0 12 (dk_at dksX4_statement_0 17 rfl rfl)
theorem dX4_statement_20 : decode cX4_statement 20 = .ok (.getfield 42, 3) := dk_180 0 42 (dk_at dksX4_statement_0 20 rfl rfl)
theorem dX4_statement_23 : decode cX4_statement 23 = .ok (.invokevirtual 137, 3) := dk_182 0 137 (dk_at dksX4_statement_1 0 rfl rfl)
theorem dX4_statement_26 : decode cX4_statement 26 = .ok (.lookupswitch 212 #[(2, 84), (28, 58), (29, 93), (31, 130), (32, 153), (33, 179)], 58) := by decide +kernel
theorem dX4_statement_84 : decode cX4_statement 84 = .ok (.aload_n 0, 1) := dk_42 (dk_at dksX4_statement_3 0 rfl rfl)
theorem dX4_statement_85 : decode cX4_statement 85 = .ok (.getfield 54, 3) := dk_180 0 54 (dk_at dksX4_statement_3 1 rfl rfl)
theorem dX4_statement_88 : decode cX4_statement 88 = .ok (.iconst 3, 1) := dk_6 (dk_at dksX4_statement_3 4 rfl rfl)
theorem dX4_statement_89 : decode cX4_statement 89 = .ok (.iload_n 2, 1) := dk_28 (dk_at dksX4_statement_3 5 rfl rfl)
theorem dX4_statement_90 : decode cX4_statement 90 = .ok (.iconst 0, 1) := dk_3 (dk_at dksX4_statement_3 6 rfl rfl)
theorem dX4_statement_91 : decode cX4_statement 91 = .ok (.invokevirtual 71, 3) := dk_182 0 71 (dk_at dksX4_statement_3 7 rfl rfl)
theorem dX4_statement_94 : decode cX4_statement 94 = .ok (.pop, 1) := dk_87 (dk_at dksX4_statement_3 10 rfl rfl)
theorem dX4_statement_95 : decode cX4_statement 95 = .ok (.aload_n 0, 1) := dk_42 (dk_at dksX4_statement_3 11 rfl rfl)
theorem dX4_statement_96 : decode cX4_statement 96 = .ok (.getfield 12, 3) := dk_180 0 12 (dk_at dksX4_statement_3 12 rfl rfl)
theorem dX4_statement_99 : decode cX4_statement 99 = .ok (.invokevirtual 46, 3) := dk_182 0 46 (dk_at dksX4_statement_3 15 rfl rfl)
theorem dX4_statement_102 : decode cX4_statement 102 = .ok (.aload_n 0, 1) := dk_42 (dk_at dksX4_statement_3 18 rfl rfl)
theorem dX4_statement_103 : decode cX4_statement 103 = .ok (.iload_n 1, 1) := dk_27 (dk_at dksX4_statement_3 19 rfl rfl)
theorem dX4_statement_104 : decode cX4_statement 104 = .ok (.invokevirtual 200, 3) := dk_182 0 200 (dk_at dksX4_statement_3 20 rfl rfl)
theorem dX4_statement_107 : decode cX4_statement 107 = .ok (.goto 135, 3) := dk_167 0 135 (dk_at dksX4_statement_4 0 rfl rfl)
theorem dX4_statement_110 : decode cX4_statement 110 = .ok (.aload_n 0, 1) := dk_42 (dk_at dksX4_statement_4 3 rfl rfl)
theorem dX4_statement_111 : decode cX4_statement 111 = .ok (.iload_n 1, 1) := dk_27 (dk_at dksX4_statement_4 4 rfl rfl)
theorem dX4_statement_112 : decode cX4_statement 112 = .ok (.iload_n 2, 1) := dk_28 (dk_at dksX4_statement_4 5 rfl rfl)
theorem dX4_statement_113 : decode cX4_statement 113 = .ok (.invokevirtual 203, 3) := dk_182 0 203 (dk_at dksX4_statement_4 6 rfl rfl)
theorem dX4_statement_116 : decode cX4_statement 116 = .ok (.goto 126, 3) := dk_167 0 126 (dk_at dksX4_statement_4 9 rfl rfl)
theorem dX4_statement_119 : decode cX4_statement 119 = .ok (.aload_n 0, 1) := dk_42 (dk_at dksX4_statement_4 12 rfl rfl)
theorem dX4_statement_120 : decode cX4_statement 120 = .ok (.getfield 54, 3) := dk_180 0 54 (dk_at dksX4_statement_4 13 rfl rfl)
theorem dX4_statement_123 : decode cX4_statement 123 = .ok (.bipush 8, 2) := dk_16 8 (dk_at dksX4_statement_4 16 rfl rfl)
theorem dX4_statement_125 : decode cX4_statement 125 = .ok (.iload_n 2, 1) := dk_28 (dk_at dksX4_statement_4 18 rfl rfl)
theorem dX4_statement_126 : decode cX4_statement 126 = .ok (.iconst 0, 1) := dk_3 (dk_at dksX4_statement_4 19 rfl rfl)
theorem dX4_statement_127 : decode cX4_statement 127 = .ok (.invokevirtual 71, 3) := dk_182 0 71 (dk_at dksX4_statement_4 20 rfl rfl)
theorem dX4_statement_130 : decode cX4_statement 130 = .ok (.pop, 1) := dk_87 (dk_at dksX4_statement_4 23 rfl rfl)
theorem dX4_statement_131 : decode cX4_statement 131 = .ok (.aload_n 0, 1) := dk_42 (dk_at dksX4_statement_5 0 rfl rfl)
theorem dX4_statement_132 : decode cX4_statement 132 = .ok (.invokevirtual 207, 3) := dk_182 0 207 (dk_at dksX4_statement_5 1 rfl rfl)
theorem dX4_statement_135 : decode cX4_statement 135 = .ok (.aload_n 0, 1) := dk_42 (dk_at dksX4_statement_5 4 rfl rfl)
theorem dX4_statement_136 : decode cX4_statement 136 = .ok (.invokevirtual 210, 3) := dk_182 0 210 (dk_at dksX4_statement_5 5 rfl rfl)
theorem dX4_statement_139 : decode cX4_statement 139 = .ok (.aload_n 0, 1) := dk_42 (dk_at dksX4_statement_5 8 rfl rfl)
theorem dX4_statement_140 : decode cX4_statement 140 = .ok (.getstatic 213, 3) := dk_178 0 213 (dk_at dksX4_statement_5 9 rfl rfl)
theorem dX4_statement_143 : decode cX4_statement 143 = .ok (.invokevirtual 90, 3) := dk_182 0 90 (dk_at dksX4_statement_5 12 rfl rfl)
theorem dX4_statement_146 : decode cX4_statement 146 = .ok (.ifCond .eq 96, 3) := dk_153 0 96 (dk_at dksX4_statement_5 15 rfl rfl)
theorem dX4_statement_149 : decode cX4_statement 149 = .ok (.aload_n 0, 1) := dk_42 (dk_at dksX4_statement_5 18 rfl rfl)
theorem dX4_statement_150 : decode cX4_statement 150 = .ok (.invokevirtual 210, 3) := dk_182 0 210 (dk_at dksX4_statement_5 19 rfl rfl)
theorem dX4_statement_153 : decode cX4_statement 153 = .ok (.goto 89, 3) := dk_167 0 89 (dk_at dksX4_statement_6 0 rfl rfl)
theorem dX4_statement_156 : decode cX4_statement 156 = .ok (.aload_n 0, 1) := dk_42 (dk_at dksX4_statement_6 3 rfl rfl)
theorem dX4_statement_157 : decode cX4_statement 157 = .ok (.getfield 54, 3) := dk_180 0 54 (dk_at dksX4_statement_6 4 rfl rfl)
theorem dX4_statement_160 : decode cX4_statement 160 = .ok (.bipush 9, 2) := dk_16 9 (dk_at dksX4_statement_6 7 rfl rfl)
theorem dX4_statement_162 : decode cX4_statement 162 = .ok (.iload_n 2, 1) := dk_28 (dk_at dksX4_statement_6 9 rfl rfl)
theorem dX4_statement_163 : decode cX4_statement 163 = .ok (.iconst 0, 1) := dk_3 (dk_at dksX4_statement_6 10 rfl rfl)
theorem dX4_statement_164 : decode cX4_statement 164 = .ok (.invokevirtual 71, 3) := dk_182 0 71 (dk_at dksX4_statement_6 11 rfl rfl)
theorem dX4_statement_167 : decode cX4_statement 167 = .ok (.pop, 1) := dk_87 (dk_at dksX4_statement_6 14 rfl rfl)
theorem dX4_statement_168 : decode cX4_statement 168 = .ok (.aload_n 0, 1) := dk_42 (dk_at dksX4_statement_6 15 rfl rfl)
theorem dX4_statement_169 : decode cX4_statement 169 = .ok (.invokevirtual 207, 3) := dk_182 0 207 (dk_at dksX4_statement_6 16 rfl rfl)
theorem dX4_statement_172 : decode cX4_statement 172 = .ok (.aload_n 0, 1) := dk_42 (dk_at dksX4_statement_6 19 rfl rfl)
theorem dX4_statement_173 : decode cX4_statement 173 = .ok (.invokevirtual 210, 3) := dk_182 0 210 (dk_at dksX4_statement_6 20 rfl rfl)
theorem dX4_statement_176 : decode cX4_statement 176 = .ok (.goto 66, 3) := dk_167 0 66 (dk_at dksX4_statement_7 0 rfl rfl)
theorem dX4_statement_179 : decode cX4_statement 179 = .ok (.aload_n 0, 1) := dk_42 (dk_at dksX4_statement_7 3 rfl rfl)
theorem dX4_statement_180 : decode cX4_statement 180 = .ok (.getfield 54, 3) := dk_180 0 54 (dk_at dksX4_statement_7 4 rfl rfl)
theorem dX4_statement_183 : decode cX4_statement 183 = .ok (.bipush 10, 2) := dk_16 10 (dk_at dksX4_statement_7 7 rfl rfl)
theorem dX4_statement_185 : decode cX4_statement 185 = .ok (.iload_n 2, 1) := dk_28 (dk_at dksX4_statement_7 9 rfl rfl)
theorem dX4_statement_186 : decode cX4_statement 186 = .ok (.iconst 0, 1) := dk_3 (dk_at dksX4_statement_7 10 rfl rfl)
theorem dX4_statement_187 : decode cX4_statement 187 = .ok (.invokevirtual 71, 3) := dk_182 0 71 (dk_at dksX4_statement_7 11 rfl rfl)
theorem dX4_statement_190 : decode cX4_statement 190 = .ok (.pop, 1) := dk_87 (dk_at dksX4_statement_7 14 rfl rfl)
theorem dX4_statement_191 : decode cX4_statement 191 = .ok (.aload_n 0, 1) := dk_42 (dk_at dksX4_statement_7 15 rfl rfl)
theorem dX4_statement_192 : decode cX4_statement 192 = .ok (.invokevirtual 207, 3) := dk_182 0 207 (dk_at dksX4_statement_7 16 rfl rfl)
theorem dX4_statement_195 : decode cX4_statement 195 = .ok (.aload_n 0, 1) := dk_42 (dk_at dksX4_statement_7 19 rfl rfl)
theorem dX4_statement_196 : decode cX4_statement 196 = .ok (.getstatic 216, 3) := dk_178 0 216 (dk_at dksX4_statement_7 20 rfl rfl)
theorem dX4_statement_199 : decode cX4_statement 199 = .ok (.invokevirtual 153, 3) := dk_182 0 153 (dk_at dksX4_statement_8 0 rfl rfl)
theorem dX4_statement_202 : decode cX4_statement 202 = .ok (.goto 40, 3) := dk_167 0 40 (dk_at dksX4_statement_8 3 rfl rfl)
theorem dX4_statement_205 : decode cX4_statement 205 = .ok (.aload_n 0, 1) := dk_42 (dk_at dksX4_statement_8 6 rfl rfl)
theorem dX4_statement_206 : decode cX4_statement 206 = .ok (.getfield 54, 3) := dk_180 0 54 (dk_at dksX4_statement_8 7 rfl rfl)
theorem dX4_statement_209 : decode cX4_statement 209 = .ok (.bipush 11, 2) := dk_16 11 (dk_at dksX4_statement_8 10 rfl rfl)
theorem dX4_statement_211 : decode cX4_statement 211 = .ok (.iload_n 2, 1) := dk_28 (dk_at dksX4_statement_8 12 rfl rfl)
theorem dX4_statement_212 : decode cX4_statement 212 = .ok (.iconst 0, 1) := dk_3 (dk_at dksX4_statement_8 13 rfl rfl)
theorem dX4_statement_213 : decode cX4_statement 213 = .ok (.invokevirtual 71, 3) := dk_182 0 71 (dk_at dksX4_statement_8 14 rfl rfl)
theorem dX4_statement_216 : decode cX4_statement 216 = .ok (.pop, 1) := dk_87 (dk_at dksX4_statement_8 17 rfl rfl)
theorem dX4_statement_217 : decode cX4_statement 217 = .ok (.aload_n 0, 1) := dk_42 (dk_at dksX4_statement_8 18 rfl rfl)
theorem dX4_statement_218 : decode cX4_statement 218 = .ok (.getfield 12, 3) := dk_180 0 12 (dk_at dksX4_statement_8 19 rfl rfl)
theorem dX4_statement_221 : decode cX4_statement 221 = .ok (.invokevirtual 46, 3) := dk_182 0 46 (dk_at dksX4_statement_9 0 rfl rfl)
theorem dX4_statement_224 : decode cX4_statement 224 = .ok (.aload_n 0, 1) := dk_42 (dk_at dksX4_statement_9 3 rfl rfl)
theorem dX4_statement_225 : decode cX4_statement 225 = .ok (.invokevirtual 147, 3) := dk_182 0 147 (dk_at dksX4_statement_9 4 rfl rfl)
theorem dX4_statement_228 : decode cX4_statement 228 = .ok (.aload_n 0, 1) := dk_42 (dk_at dksX4_statement_9 7 rfl rfl)
theorem dX4_statement_229 : decode cX4_statement 229 = .ok (.getstatic 216, 3) := dk_178 0 216 (dk_at dksX4_statement_9 8 rfl rfl)
theorem dX4_statement_232 : decode cX4_statement 232 = .ok (.invokevirtual 153, 3) := dk_182 0 153 (dk_at dksX4_statement_9 11 rfl rfl)
theorem dX4_statement_235 : decode cX4_statement 235 = .ok (.goto 7, 3) := dk_167 0 7 (dk_at dksX4_statement_9 14 rfl rfl)
theorem dX4_statement_238 : decode cX4_statement 238 = .ok (.aload_n 0, 1) := dk_42 (dk_at dksX4_statement_9 17 rfl rfl)
theorem dX4_statement_239 : decode cX4_statement 239 = .ok (.invokevirtual 39, 3) := dk_182 0 39 (dk_at dksX4_statement_9 18 rfl rfl)
theorem dX4_statement_242 : decode cX4_statement 242 = .ok (.aload_n 0, 1) := dk_42 (dk_at dksX4_statement_9 21 rfl rfl)
theorem dX4_statement_243 : decode cX4_statement 243 = .ok (.getfield 54, 3) := dk_180 0 54 (dk_at dksX4_statement_10 0 rfl rfl)
theorem dX4_statement_246 : decode cX4_statement 246 = .ok (.iload_n 1, 1) := dk_27 (dk_at dksX4_statement_10 3 rfl rfl)
theorem dX4_statement_247 : decode cX4_statement 247 = .ok (.invokevirtual 77, 3) := dk_182 0 77 (dk_at dksX4_statement_10 4 rfl rfl)
theorem dX4_statement_250 : decode cX4_statement 250 = .ok (.return_, 1) := dk_177 (dk_at dksX4_statement_10 7 rfl rfl)
abbrev cX4_variable : ByteArray := prog_4_method_19_code
def yX4_variable : MethodName := ⟨RX4, "variable", "(I)V"⟩
def dkwX4_variable_2 : List UInt8 := [178, 0, 219, 182, 0, 90, 153, 0, 7, 42, 182, 0, 147, 42, 178, 0, 216, 182, 0, 153, 177]
abbrev dktX4_variable_2 : List UInt8 := dkwX4_variable_2 ++ []
def dkwX4_variable_1 : List UInt8 := [42, 3, 42, 180, 0, 12, 180, 0, 22, 182, 0, 94, 42, 178, 0, 150, 182, 0, 153, 167, 0, 17, 42]
abbrev dktX4_variable_1 : List UInt8 := dkwX4_variable_1 ++ dktX4_variable_2
def dkwX4_variable_0 : List UInt8 := [42, 182, 0, 141, 42, 178, 0, 144, 182, 0, 90, 153, 0, 35, 42, 180, 0, 54, 180, 0, 117, 27, 7, 84]
abbrev dktX4_variable_0 : List UInt8 := dkwX4_variable_0 ++ dktX4_variable_1
theorem dksX4_variable_0 : cX4_variable.data.toList.drop 0 = dktX4_variable_0 := by decide +kernel
theorem dksX4_variable_1 : cX4_variable.data.toList.drop 24 = dktX4_variable_1 := dk_seg dksX4_variable_0 24 rfl rfl
theorem dksX4_variable_2 : cX4_variable.data.toList.drop 47 = dktX4_variable_2 := dk_seg dksX4_variable_1 23 rfl rfl
theorem dX4_variable_0 : decode cX4_variable 0 = .ok (.aload_n 0, 1) := dk_42 (dk_at dksX4_variable_0 0 rfl rfl)
theorem dX4_variable_1 : decode cX4_variable 1 = .ok (.invokevirtual 141, 3) := dk_182 0 141 (dk_at dksX4_variable_0 1 rfl rfl)
theorem dX4_variable_4 : decode cX4_variable 4 = .ok (.aload_n 0, 1) := dk_42 (dk_at dksX4_variable_0 4 rfl rfl)
theorem dX4_variable_5 : decode cX4_variable 5 = .ok (.getstatic 144, 3) := dk_178 0 144 (dk_at dksX4_variable_0 5 rfl rfl)
theorem dX4_variable_8 : decode cX4_variable 8 = .ok (.invokevirtual 90, 3) := dk_182 0 90 (dk_at dksX4_variable_0 8 rfl rfl)
theorem dX4_variable_11 : decode cX4_variable 11 = .ok (.ifCond .eq 35, 3) := dk_153 0 35 (dk_at dksX4_variable_0 11 rfl rfl)
theorem dX4_variable_14 : decode cX4_variable 14 = .ok (.aload_n 0, 1) := dk_42 (dk_at dksX4_variable_0 14 rfl rfl)
theorem dX4_variable_15 : decode cX4_variable 15 = .ok (.getfield 54, 3) := dk_180 0 54 (dk_at dksX4_variable_0 15 rfl rfl)
theorem dX4_variable_18 : decode cX4_variable 18 = .ok (.getfield 117, 3) := dk_180 0 117 (dk_at dksX4_variable_0 18 rfl rfl)
theorem dX4_variable_21 : decode cX4_variable 21 = .ok (.iload_n 1, 1) := dk_27 (dk_at dksX4_variable_0 21 rfl rfl)
theorem dX4_variable_22 : decode cX4_variable 22 = .ok (.iconst 4, 1) := dk_7 (dk_at dksX4_variable_0 22 rfl rfl)
theorem dX4_variable_23 : decode cX4_variable 23 = .ok (.bastore, 1) := dk_84 (dk_at dksX4_variable_0 23 rfl rfl)
theorem dX4_variable_24 : decode cX4_variable 24 = .ok (.aload_n 0, 1) := dk_42 (dk_at dksX4_variable_1 0 rfl rfl)
theorem dX4_variable_25 : decode cX4_variable 25 = .ok (.iconst 0, 1) := dk_3 (dk_at dksX4_variable_1 1 rfl rfl)
theorem dX4_variable_26 : decode cX4_variable 26 = .ok (.aload_n 0, 1) := dk_42 (dk_at dksX4_variable_1 2 rfl rfl)
theorem dX4_variable_27 : decode cX4_variable 27 = .ok (.getfield 12, 3) := dk_180 0 12 (dk_at dksX4_variable_1 3 rfl rfl)
theorem dX4_variable_30 : decode cX4_variable 30 = .ok (.getfield 22, 3) := dk_180 0 22 (dk_at dksX4_variable_1 6 rfl rfl)
theorem dX4_variable_33 : decode cX4_variable 33 = .ok (.invokevirtual 94, 3) := dk_182 0 94 (dk_at dksX4_variable_1 9 rfl rfl)
theorem dX4_variable_36 : decode cX4_variable 36 = .ok (.aload_n 0, 1) := dk_42 (dk_at dksX4_variable_1 12 rfl rfl)
theorem dX4_variable_37 : decode cX4_variable 37 = .ok (.getstatic 150, 3) := dk_178 0 150 (dk_at dksX4_variable_1 13 rfl rfl)
theorem dX4_variable_40 : decode cX4_variable 40 = .ok (.invokevirtual 153, 3) := dk_182 0 153 (dk_at dksX4_variable_1 16 rfl rfl)
theorem dX4_variable_43 : decode cX4_variable 43 = .ok (.goto 17, 3) := dk_167 0 17 (dk_at dksX4_variable_1 19 rfl rfl)
theorem dX4_variable_46 : decode cX4_variable 46 = .ok (.aload_n 0, 1) := dk_42 (dk_at dksX4_variable_1 22 rfl rfl)
theorem dX4_variable_47 : decode cX4_variable 47 = .ok (.getstatic 219, 3) := dk_178 0 219 (dk_at dksX4_variable_2 0 rfl rfl)
theorem dX4_variable_50 : decode cX4_variable 50 = .ok (.invokevirtual 90, 3) := dk_182 0 90 (dk_at dksX4_variable_2 3 rfl rfl)
theorem dX4_variable_53 : decode cX4_variable 53 = .ok (.ifCond .eq 7, 3) := dk_153 0 7 (dk_at dksX4_variable_2 6 rfl rfl)
theorem dX4_variable_56 : decode cX4_variable 56 = .ok (.aload_n 0, 1) := dk_42 (dk_at dksX4_variable_2 9 rfl rfl)
theorem dX4_variable_57 : decode cX4_variable 57 = .ok (.invokevirtual 147, 3) := dk_182 0 147 (dk_at dksX4_variable_2 10 rfl rfl)
theorem dX4_variable_60 : decode cX4_variable 60 = .ok (.aload_n 0, 1) := dk_42 (dk_at dksX4_variable_2 13 rfl rfl)
theorem dX4_variable_61 : decode cX4_variable 61 = .ok (.getstatic 216, 3) := dk_178 0 216 (dk_at dksX4_variable_2 14 rfl rfl)
theorem dX4_variable_64 : decode cX4_variable 64 = .ok (.invokevirtual 153, 3) := dk_182 0 153 (dk_at dksX4_variable_2 17 rfl rfl)
theorem dX4_variable_67 : decode cX4_variable 67 = .ok (.return_, 1) := dk_177 (dk_at dksX4_variable_2 20 rfl rfl)
abbrev cX4_number : ByteArray := prog_4_method_7_code
def yX4_number : MethodName := ⟨RX4, "number", "(ZI)V"⟩
def dkwX4_number_2 : List UInt8 := [182, 0, 71, 87, 42, 180, 0, 12, 182, 0, 46, 177]
abbrev dktX4_number_2 : List UInt8 := dkwX4_number_2 ++ []
def dkwX4_number_1 : List UInt8 := [27, 153, 0, 14, 42, 180, 0, 12, 180, 0, 84, 116, 167, 0, 10, 42, 180, 0, 12, 180, 0, 84]
abbrev dktX4_number_1 : List UInt8 := dkwX4_number_1 ++ dktX4_number_2
def dkwX4_number_0 : List UInt8 := [42, 180, 0, 12, 180, 0, 42, 178, 0, 81, 165, 0, 7, 42, 182, 0, 39, 42, 180, 0, 54, 16, 12, 28]
abbrev dktX4_number_0 : List UInt8 := dkwX4_number_0 ++ dktX4_number_1
theorem dksX4_number_0 : cX4_number.data.toList.drop 0 = dktX4_number_0 := by decide +kernel
theorem dksX4_number_1 : cX4_number.data.toList.drop 24 = dktX4_number_1 := dk_seg dksX4_number_0 24 rfl rfl
theorem dksX4_number_2 : cX4_number.data.toList.drop 46 = dktX4_number_2 := dk_seg dksX4_number_1 22 rfl rfl
theorem dX4_number_0 : decode cX4_number 0 = .ok (.aload_n 0, 1) := dk_42 (dk_at dksX4_number_0 0 rfl rfl)
theorem dX4_number_1 : decode cX4_number 1 = .ok (.getfield 12, 3) := dk_180 0 12 (dk_at dksX4_number_0 1 rfl rfl)
theorem dX4_number_4 : decode cX4_number 4 = .ok (.getfield 42, 3) := dk_180 0 42 (dk_at dksX4_number_0 4 rfl rfl)
theorem dX4_number_7 : decode cX4_number 7 = .ok (.getstatic 81, 3) := dk_178 0 81 (dk_at dksX4_number_0 7 rfl rfl)
theorem dX4_number_10 : decode cX4_number 10 = .ok (.if_acmp .eq 7, 3) := dk_165 0 7 (dk_at dksX4_number_0 10 rfl rfl)
theorem dX4_number_13 : decode cX4_number 13 = .ok (.aload_n 0, 1) := dk_42 (dk_at dksX4_number_0 13 rfl rfl)
theorem dX4_number_14 : decode cX4_number 14 = .ok (.invokevirtual 39, 3) := dk_182 0 39 (dk_at dksX4_number_0 14 rfl rfl)
theorem dX4_number_17 : decode cX4_number 17 = .ok (.aload_n 0, 1) := dk_42 (dk_at dksX4_number_0 17 rfl rfl)
theorem dX4_number_18 : decode cX4_number 18 = .ok (.getfield 54, 3) := dk_180 0 54 (dk_at dksX4_number_0 18 rfl rfl)
theorem dX4_number_21 : decode cX4_number 21 = .ok (.bipush 12, 2) := dk_16 12 (dk_at dksX4_number_0 21 rfl rfl)
theorem dX4_number_23 : decode cX4_number 23 = .ok (.iload_n 2, 1) := dk_28 (dk_at dksX4_number_0 23 rfl rfl)
theorem dX4_number_24 : decode cX4_number 24 = .ok (.iload_n 1, 1) := dk_27 (dk_at dksX4_number_1 0 rfl rfl)
theorem dX4_number_25 : decode cX4_number 25 = .ok (.ifCond .eq 14, 3) := dk_153 0 14 (dk_at dksX4_number_1 1 rfl rfl)
theorem dX4_number_28 : decode cX4_number 28 = .ok (.aload_n 0, 1) := dk_42 (dk_at dksX4_number_1 4 rfl rfl)
theorem dX4_number_29 : decode cX4_number 29 = .ok (.getfield 12, 3) := dk_180 0 12 (dk_at dksX4_number_1 5 rfl rfl)
theorem dX4_number_32 : decode cX4_number 32 = .ok (.getfield 84, 3) := dk_180 0 84 (dk_at dksX4_number_1 8 rfl rfl)
theorem dX4_number_35 : decode cX4_number 35 = .ok (.ineg, 1) := dk_116 (dk_at dksX4_number_1 11 rfl rfl)
theorem dX4_number_36 : decode cX4_number 36 = .ok (.goto 10, 3) := dk_167 0 10 (dk_at dksX4_number_1 12 rfl rfl)
theorem dX4_number_39 : decode cX4_number 39 = .ok (.aload_n 0, 1) := dk_42 (dk_at dksX4_number_1 15 rfl rfl)
theorem dX4_number_40 : decode cX4_number 40 = .ok (.getfield 12, 3) := dk_180 0 12 (dk_at dksX4_number_1 16 rfl rfl)
theorem dX4_number_43 : decode cX4_number 43 = .ok (.getfield 84, 3) := dk_180 0 84 (dk_at dksX4_number_1 19 rfl rfl)
theorem dX4_number_46 : decode cX4_number 46 = .ok (.invokevirtual 71, 3) := dk_182 0 71 (dk_at dksX4_number_2 0 rfl rfl)
theorem dX4_number_49 : decode cX4_number 49 = .ok (.pop, 1) := dk_87 (dk_at dksX4_number_2 3 rfl rfl)
theorem dX4_number_50 : decode cX4_number 50 = .ok (.aload_n 0, 1) := dk_42 (dk_at dksX4_number_2 4 rfl rfl)
theorem dX4_number_51 : decode cX4_number 51 = .ok (.getfield 12, 3) := dk_180 0 12 (dk_at dksX4_number_2 5 rfl rfl)
theorem dX4_number_54 : decode cX4_number 54 = .ok (.invokevirtual 46, 3) := dk_182 0 46 (dk_at dksX4_number_2 8 rfl rfl)
theorem dX4_number_57 : decode cX4_number 57 = .ok (.return_, 1) := dk_177 (dk_at dksX4_number_2 11 rfl rfl)
abbrev cX4_sum : ByteArray := prog_4_method_9_code
def yX4_sum : MethodName := ⟨RX4, "sum", "()V"⟩
def dkwX4_sum_7 : List UInt8 := [27, 182, 0, 77, 42, 89, 180, 0, 36, 4, 100, 181, 0, 36, 177]
abbrev dktX4_sum_7 : List UInt8 := dkwX4_sum_7 ++ []
def dkwX4_sum_6 : List UInt8 := [182, 0, 77, 167, 255, 175, 42, 180, 0, 54, 180, 0, 117, 27, 51, 16, 17, 160, 0, 11, 42, 180, 0, 54]
abbrev dktX4_sum_6 : List UInt8 := dkwX4_sum_6 ++ dktX4_sum_7
def dkwX4_sum_5 : List UInt8 := [180, 0, 22, 3, 182, 0, 71, 61, 42, 180, 0, 12, 182, 0, 46, 42, 182, 0, 103, 42, 180, 0, 54, 28]
abbrev dktX4_sum_5 : List UInt8 := dkwX4_sum_5 ++ dktX4_sum_6
def dkwX4_sum_4 : List UInt8 := [180, 0, 12, 180, 0, 42, 178, 0, 106, 166, 0, 8, 16, 18, 167, 0, 5, 16, 19, 42, 180, 0, 12]
abbrev dktX4_sum_4 : List UInt8 := dkwX4_sum_4 ++ dktX4_sum_5
def dkwX4_sum_3 : List UInt8 := [178, 0, 106, 165, 0, 16, 42, 180, 0, 12, 180, 0, 42, 178, 0, 87, 166, 0, 61, 42, 180, 0, 54, 42]
abbrev dktX4_sum_3 : List UInt8 := dkwX4_sum_3 ++ dktX4_sum_4
def dkwX4_sum_2 : List UInt8 := [4, 16, 17, 42, 180, 0, 54, 180, 0, 109, 27, 46, 182, 0, 113, 42, 180, 0, 12, 180, 0, 42]
abbrev dktX4_sum_2 : List UInt8 := dkwX4_sum_2 ++ dktX4_sum_3
def dkwX4_sum_1 : List UInt8 := [178, 0, 106, 165, 0, 16, 42, 180, 0, 12, 180, 0, 42, 178, 0, 87, 166, 0, 23, 42, 180, 0, 54, 27]
abbrev dktX4_sum_1 : List UInt8 := dkwX4_sum_1 ++ dktX4_sum_2
def dkwX4_sum_0 : List UInt8 := [42, 182, 0, 97, 42, 180, 0, 54, 180, 0, 100, 60, 42, 182, 0, 103, 42, 180, 0, 12, 180, 0, 42]
abbrev dktX4_sum_0 : List UInt8 := dkwX4_sum_0 ++ dktX4_sum_1
theorem dksX4_sum_0 : cX4_sum.data.toList.drop 0 = dktX4_sum_0 := by decide +kernel
theorem dksX4_sum_1 : cX4_sum.data.toList.drop 23 = dktX4_sum_1 := dk_seg dksX4_sum_0 23 rfl rfl
theorem dksX4_sum_2 : cX4_sum.data.toList.drop 47 = dktX4_sum_2 := dk_seg dksX4_sum_1 24 rfl rfl
theorem dksX4_sum_3 : cX4_sum.data.toList.drop 69 = dktX4_sum_3 := dk_seg dksX4_sum_2 22 rfl rfl
theorem dksX4_sum_4 : cX4_sum.data.toList.drop 93 = dktX4_sum_4 := dk_seg dksX4_sum_3 24 rfl rfl
theorem dksX4_sum_5 : cX4_sum.data.toList.drop 116 = dktX4_sum_5 := dk_seg dksX4_sum_4 23 rfl rfl
theorem dksX4_sum_6 : cX4_sum.data.toList.drop 140 = dktX4_sum_6 := dk_seg dksX4_sum_5 24 rfl rfl
theorem dksX4_sum_7 : cX4_sum.data.toList.drop 164 = dktX4_sum_7 := dk_seg dksX4_sum_6 24 rfl rfl
theorem dX4_sum_0 : decode cX4_sum 0 = .ok (.aload_n 0, 1) := dk_42 (dk_at dksX4_sum_0 0 rfl rfl)
theorem dX4_sum_1 : decode cX4_sum 1 = .ok (.invokevirtual 97, 3) := dk_182 0 97 (dk_at dksX4_sum_0 1 rfl rfl)
theorem dX4_sum_4 : decode cX4_sum 4 = .ok (.aload_n 0, 1) := dk_42 (dk_at dksX4_sum_0 4 rfl rfl)
theorem dX4_sum_5 : decode cX4_sum 5 = .ok (.getfield 54, 3) := dk_180 0 54 (dk_at dksX4_sum_0 5 rfl rfl)
theorem dX4_sum_8 : decode cX4_sum 8 = .ok (.getfield 100, 3) := dk_180 0 100 (dk_at dksX4_sum_0 8 rfl rfl)
theorem dX4_sum_11 : decode cX4_sum 11 = .ok (.istore_n 1, 1) := dk_60 (dk_at dksX4_sum_0 11 rfl rfl)
theorem dX4_sum_12 : decode cX4_sum 12 = .ok (.aload_n 0, 1) := dk_42 (dk_at dksX4_sum_0 12 rfl rfl)
theorem dX4_sum_13 : decode cX4_sum 13 = .ok (.invokevirtual 103, 3) := dk_182 0 103 (dk_at dksX4_sum_0 13 rfl rfl)
theorem dX4_sum_16 : decode cX4_sum 16 = .ok (.aload_n 0, 1) := dk_42 (dk_at dksX4_sum_0 16 rfl rfl)
theorem dX4_sum_17 : decode cX4_sum 17 = .ok (.getfield 12, 3) := dk_180 0 12 (dk_at dksX4_sum_0 17 rfl rfl)
theorem dX4_sum_20 : decode cX4_sum 20 = .ok (.getfield 42, 3) := dk_180 0 42 (dk_at dksX4_sum_0 20 rfl rfl)
theorem dX4_sum_23 : decode cX4_sum 23 = .ok (.getstatic 106, 3) := dk_178 0 106 (dk_at dksX4_sum_1 0 rfl rfl)
theorem dX4_sum_26 : decode cX4_sum 26 = .ok (.if_acmp .eq 16, 3) := dk_165 0 16 (dk_at dksX4_sum_1 3 rfl rfl)
theorem dX4_sum_29 : decode cX4_sum 29 = .ok (.aload_n 0, 1) := dk_42 (dk_at dksX4_sum_1 6 rfl rfl)
theorem dX4_sum_30 : decode cX4_sum 30 = .ok (.getfield 12, 3) := dk_180 0 12 (dk_at dksX4_sum_1 7 rfl rfl)
theorem dX4_sum_33 : decode cX4_sum 33 = .ok (.getfield 42, 3) := dk_180 0 42 (dk_at dksX4_sum_1 10 rfl rfl)
theorem dX4_sum_36 : decode cX4_sum 36 = .ok (.getstatic 87, 3) := dk_178 0 87 (dk_at dksX4_sum_1 13 rfl rfl)
theorem dX4_sum_39 : decode cX4_sum 39 = .ok (.if_acmp .ne 23, 3) := dk_166 0 23 (dk_at dksX4_sum_1 16 rfl rfl)
theorem dX4_sum_42 : decode cX4_sum 42 = .ok (.aload_n 0, 1) := dk_42 (dk_at dksX4_sum_1 19 rfl rfl)
theorem dX4_sum_43 : decode cX4_sum 43 = .ok (.getfield 54, 3) := dk_180 0 54 (dk_at dksX4_sum_1 20 rfl rfl)
theorem dX4_sum_46 : decode cX4_sum 46 = .ok (.iload_n 1, 1) := dk_27 (dk_at dksX4_sum_1 23 rfl rfl)
theorem dX4_sum_47 : decode cX4_sum 47 = .ok (.iconst 1, 1) := dk_4 (dk_at dksX4_sum_2 0 rfl rfl)
theorem dX4_sum_48 : decode cX4_sum 48 = .ok (.bipush 17, 2) := dk_16 17 (dk_at dksX4_sum_2 1 rfl rfl)
theorem dX4_sum_50 : decode cX4_sum 50 = .ok (.aload_n 0, 1) := dk_42 (dk_at dksX4_sum_2 3 rfl rfl)
theorem dX4_sum_51 : decode cX4_sum 51 = .ok (.getfield 54, 3) := dk_180 0 54 (dk_at dksX4_sum_2 4 rfl rfl)
theorem dX4_sum_54 : decode cX4_sum 54 = .ok (.getfield 109, 3) := dk_180 0 109 (dk_at dksX4_sum_2 7 rfl rfl)
theorem dX4_sum_57 : decode cX4_sum 57 = .ok (.iload_n 1, 1) := dk_27 (dk_at dksX4_sum_2 10 rfl rfl)
theorem dX4_sum_58 : decode cX4_sum 58 = .ok (.iaload, 1) := dk_46 (dk_at dksX4_sum_2 11 rfl rfl)
theorem dX4_sum_59 : decode cX4_sum 59 = .ok (.invokevirtual 113, 3) := dk_182 0 113 (dk_at dksX4_sum_2 12 rfl rfl)
theorem dX4_sum_62 : decode cX4_sum 62 = .ok (.aload_n 0, 1) := dk_42 (dk_at dksX4_sum_2 15 rfl rfl)
theorem dX4_sum_63 : decode cX4_sum 63 = .ok (.getfield 12, 3) := dk_180 0 12 (dk_at dksX4_sum_2 16 rfl rfl)
theorem dX4_sum_66 : decode cX4_sum 66 = .ok (.getfield 42, 3) := dk_180 0 42 (dk_at dksX4_sum_2 19 rfl rfl)
theorem dX4_sum_69 : decode cX4_sum 69 = .ok (.getstatic 106, 3) := dk_178 0 106 (dk_at dksX4_sum_3 0 rfl rfl)
theorem dX4_sum_72 : decode cX4_sum 72 = .ok (.if_acmp .eq 16, 3) := dk_165 0 16 (dk_at dksX4_sum_3 3 rfl rfl)
theorem dX4_sum_75 : decode cX4_sum 75 = .ok (.aload_n 0, 1) := dk_42 (dk_at dksX4_sum_3 6 rfl rfl)
theorem dX4_sum_76 : decode cX4_sum 76 = .ok (.getfield 12, 3) := dk_180 0 12 (dk_at dksX4_sum_3 7 rfl rfl)
theorem dX4_sum_79 : decode cX4_sum 79 = .ok (.getfield 42, 3) := dk_180 0 42 (dk_at dksX4_sum_3 10 rfl rfl)
theorem dX4_sum_82 : decode cX4_sum 82 = .ok (.getstatic 87, 3) := dk_178 0 87 (dk_at dksX4_sum_3 13 rfl rfl)
theorem dX4_sum_85 : decode cX4_sum 85 = .ok (.if_acmp .ne 61, 3) := dk_166 0 61 (dk_at dksX4_sum_3 16 rfl rfl)
theorem dX4_sum_88 : decode cX4_sum 88 = .ok (.aload_n 0, 1) := dk_42 (dk_at dksX4_sum_3 19 rfl rfl)
theorem dX4_sum_89 : decode cX4_sum 89 = .ok (.getfield 54, 3) := dk_180 0 54 (dk_at dksX4_sum_3 20 rfl rfl)
theorem dX4_sum_92 : decode cX4_sum 92 = .ok (.aload_n 0, 1) := dk_42 (dk_at dksX4_sum_3 23 rfl rfl)
theorem dX4_sum_93 : decode cX4_sum 93 = .ok (.getfield 12, 3) := dk_180 0 12 (dk_at dksX4_sum_4 0 rfl rfl)
theorem dX4_sum_96 : decode cX4_sum 96 = .ok (.getfield 42, 3) := dk_180 0 42 (dk_at dksX4_sum_4 3 rfl rfl)
theorem dX4_sum_99 : decode cX4_sum 99 = .ok (.getstatic 106, 3) := dk_178 0 106 (dk_at dksX4_sum_4 6 rfl rfl)
theorem dX4_sum_102 : decode cX4_sum 102 = .ok (.if_acmp .ne 8, 3) := dk_166 0 8 (dk_at dksX4_sum_4 9 rfl rfl)
theorem dX4_sum_105 : decode cX4_sum 105 = .ok (.bipush 18, 2) := dk_16 18 (dk_at dksX4_sum_4 12 rfl rfl)
theorem dX4_sum_107 : decode cX4_sum 107 = .ok (.goto 5, 3) := dk_167 0 5 (dk_at dksX4_sum_4 14 rfl rfl)
theorem dX4_sum_110 : decode cX4_sum 110 = .ok (.bipush 19, 2) := dk_16 19 (dk_at dksX4_sum_4 17 rfl rfl)
theorem dX4_sum_112 : decode cX4_sum 112 = .ok (.aload_n 0, 1) := dk_42 (dk_at dksX4_sum_4 19 rfl rfl)
theorem dX4_sum_113 : decode cX4_sum 113 = .ok (.getfield 12, 3) := dk_180 0 12 (dk_at dksX4_sum_4 20 rfl rfl)
theorem dX4_sum_116 : decode cX4_sum 116 = .ok (.getfield 22, 3) := dk_180 0 22 (dk_at dksX4_sum_5 0 rfl rfl)
theorem dX4_sum_119 : decode cX4_sum 119 = .ok (.iconst 0, 1) := dk_3 (dk_at dksX4_sum_5 3 rfl rfl)
theorem dX4_sum_120 : decode cX4_sum 120 = .ok (.invokevirtual 71, 3) := dk_182 0 71 (dk_at dksX4_sum_5 4 rfl rfl)
theorem dX4_sum_123 : decode cX4_sum 123 = .ok (.istore_n 2, 1) := dk_61 (dk_at dksX4_sum_5 7 rfl rfl)
theorem dX4_sum_124 : decode cX4_sum 124 = .ok (.aload_n 0, 1) := dk_42 (dk_at dksX4_sum_5 8 rfl rfl)
theorem dX4_sum_125 : decode cX4_sum 125 = .ok (.getfield 12, 3) := dk_180 0 12 (dk_at dksX4_sum_5 9 rfl rfl)
theorem dX4_sum_128 : decode cX4_sum 128 = .ok (.invokevirtual 46, 3) := dk_182 0 46 (dk_at dksX4_sum_5 12 rfl rfl)
theorem dX4_sum_131 : decode cX4_sum 131 = .ok (.aload_n 0, 1) := dk_42 (dk_at dksX4_sum_5 15 rfl rfl)
theorem dX4_sum_132 : decode cX4_sum 132 = .ok (.invokevirtual 103, 3) := dk_182 0 103 (dk_at dksX4_sum_5 16 rfl rfl)
theorem dX4_sum_135 : decode cX4_sum 135 = .ok (.aload_n 0, 1) := dk_42 (dk_at dksX4_sum_5 19 rfl rfl)
theorem dX4_sum_136 : decode cX4_sum 136 = .ok (.getfield 54, 3) := dk_180 0 54 (dk_at dksX4_sum_5 20 rfl rfl)
theorem dX4_sum_139 : decode cX4_sum 139 = .ok (.iload_n 2, 1) := dk_28 (dk_at dksX4_sum_5 23 rfl rfl)
theorem dX4_sum_140 : decode cX4_sum 140 = .ok (.invokevirtual 77, 3) := dk_182 0 77 (dk_at dksX4_sum_6 0 rfl rfl)
theorem dX4_sum_143 : decode cX4_sum 143 = .ok (.goto (-81), 3) := dk_167 255 175 (dk_at dksX4_sum_6 3 rfl rfl)
theorem dX4_sum_146 : decode cX4_sum 146 = .ok (.aload_n 0, 1) := dk_42 (dk_at dksX4_sum_6 6 rfl rfl)
theorem dX4_sum_147 : decode cX4_sum 147 = .ok (.getfield 54, 3) := dk_180 0 54 (dk_at dksX4_sum_6 7 rfl rfl)
theorem dX4_sum_150 : decode cX4_sum 150 = .ok (.getfield 117, 3) := dk_180 0 117 (dk_at dksX4_sum_6 10 rfl rfl)
theorem dX4_sum_153 : decode cX4_sum 153 = .ok (.iload_n 1, 1) := dk_27 (dk_at dksX4_sum_6 13 rfl rfl)
theorem dX4_sum_154 : decode cX4_sum 154 = .ok (.baload, 1) := dk_51 (dk_at dksX4_sum_6 14 rfl rfl)
theorem dX4_sum_155 : decode cX4_sum 155 = .ok (.bipush 17, 2) := dk_16 17 (dk_at dksX4_sum_6 15 rfl rfl)
theorem dX4_sum_157 : decode cX4_sum 157 = .ok (.if_icmp .ne 11, 3) := dk_160 0 11 (dk_at dksX4_sum_6 17 rfl rfl)
theorem dX4_sum_160 : decode cX4_sum 160 = .ok (.aload_n 0, 1) := dk_42 (dk_at dksX4_sum_6 20 rfl rfl)
theorem dX4_sum_161 : decode cX4_sum 161 = .ok (.getfield 54, 3) := dk_180 0 54 (dk_at dksX4_sum_6 21 rfl rfl)
theorem dX4_sum_164 : decode cX4_sum 164 = .ok (.iload_n 1, 1) := dk_27 (dk_at dksX4_sum_7 0 rfl rfl)
theorem dX4_sum_165 : decode cX4_sum 165 = .ok (.invokevirtual 77, 3) := dk_182 0 77 (dk_at dksX4_sum_7 1 rfl rfl)
theorem dX4_sum_168 : decode cX4_sum 168 = .ok (.aload_n 0, 1) := dk_42 (dk_at dksX4_sum_7 4 rfl rfl)
theorem dX4_sum_169 : decode cX4_sum 169 = .ok (.dup, 1) := dk_89 (dk_at dksX4_sum_7 5 rfl rfl)
theorem dX4_sum_170 : decode cX4_sum 170 = .ok (.getfield 36, 3) := dk_180 0 36 (dk_at dksX4_sum_7 6 rfl rfl)
theorem dX4_sum_173 : decode cX4_sum 173 = .ok (.iconst 1, 1) := dk_4 (dk_at dksX4_sum_7 9 rfl rfl)
theorem dX4_sum_174 : decode cX4_sum 174 = .ok (.isub, 1) := dk_100 (dk_at dksX4_sum_7 10 rfl rfl)
theorem dX4_sum_175 : decode cX4_sum 175 = .ok (.putfield 36, 3) := dk_181 0 36 (dk_at dksX4_sum_7 11 rfl rfl)
theorem dX4_sum_178 : decode cX4_sum 178 = .ok (.return_, 1) := dk_177 (dk_at dksX4_sum_7 14 rfl rfl)
abbrev cX4_product : ByteArray := prog_4_method_11_code
def yX4_product : MethodName := ⟨RX4, "product", "()V"⟩
def dkwX4_product_5 : List UInt8 := [182, 0, 77, 167, 255, 176, 42, 180, 0, 54, 27, 182, 0, 77, 177]
abbrev dktX4_product_5 : List UInt8 := dkwX4_product_5 ++ []
def dkwX4_product_4 : List UInt8 := [180, 0, 22, 3, 182, 0, 71, 61, 42, 180, 0, 12, 182, 0, 46, 42, 182, 0, 130, 42, 180, 0, 54, 28]
abbrev dktX4_product_4 : List UInt8 := dkwX4_product_4 ++ dktX4_product_5
def dkwX4_product_3 : List UInt8 := [180, 0, 12, 180, 0, 42, 178, 0, 124, 166, 0, 8, 16, 22, 167, 0, 5, 16, 23, 42, 180, 0, 12]
abbrev dktX4_product_3 : List UInt8 := dkwX4_product_3 ++ dktX4_product_4
def dkwX4_product_2 : List UInt8 := [180, 0, 54, 42, 180, 0, 12, 180, 0, 42, 178, 0, 121, 166, 0, 8, 16, 21, 167, 0, 23, 42]
abbrev dktX4_product_2 : List UInt8 := dkwX4_product_2 ++ dktX4_product_3
def dkwX4_product_1 : List UInt8 := [27, 4, 16, 20, 42, 180, 0, 54, 180, 0, 109, 27, 46, 182, 0, 113, 42, 182, 0, 133, 153, 0, 79, 42]
abbrev dktX4_product_1 : List UInt8 := dkwX4_product_1 ++ dktX4_product_2
def dkwX4_product_0 : List UInt8 := [42, 180, 0, 54, 180, 0, 100, 60, 42, 182, 0, 130, 42, 182, 0, 133, 154, 0, 4, 177, 42, 180, 0, 54]
abbrev dktX4_product_0 : List UInt8 := dkwX4_product_0 ++ dktX4_product_1
theorem dksX4_product_0 : cX4_product.data.toList.drop 0 = dktX4_product_0 := by decide +kernel
theorem dksX4_product_1 : cX4_product.data.toList.drop 24 = dktX4_product_1 := dk_seg dksX4_product_0 24 rfl rfl
theorem dksX4_product_2 : cX4_product.data.toList.drop 48 = dktX4_product_2 := dk_seg dksX4_product_1 24 rfl rfl
theorem dksX4_product_3 : cX4_product.data.toList.drop 70 = dktX4_product_3 := dk_seg dksX4_product_2 22 rfl rfl
theorem dksX4_product_4 : cX4_product.data.toList.drop 93 = dktX4_product_4 := dk_seg dksX4_product_3 23 rfl rfl
theorem dksX4_product_5 : cX4_product.data.toList.drop 117 = dktX4_product_5 := dk_seg dksX4_product_4 24 rfl rfl
theorem dX4_product_0 : decode cX4_product 0 = .ok (.aload_n 0, 1) := dk_42 (dk_at dksX4_product_0 0 rfl rfl)
theorem dX4_product_1 : decode cX4_product 1 = .ok (.getfield 54, 3) := dk_180 0 54 (dk_at dksX4_product_0 1 rfl rfl)
theorem dX4_product_4 : decode cX4_product 4 = .ok (.getfield 100, 3) := dk_180 0 100 (dk_at dksX4_product_0 4 rfl rfl)
theorem dX4_product_7 : decode cX4_product 7 = .ok (.istore_n 1, 1) := dk_60 (dk_at dksX4_product_0 7 rfl rfl)
theorem dX4_product_8 : decode cX4_product 8 = .ok (.aload_n 0, 1) := dk_42 (dk_at dksX4_product_0 8 rfl rfl)
theorem dX4_product_9 : decode cX4_product 9 = .ok (.invokevirtual 130, 3) := dk_182 0 130 (dk_at dksX4_product_0 9 rfl rfl)
theorem dX4_product_12 : decode cX4_product 12 = .ok (.aload_n 0, 1) := dk_42 (dk_at dksX4_product_0 12 rfl rfl)
theorem dX4_product_13 : decode cX4_product 13 = .ok (.invokevirtual 133, 3) := dk_182 0 133 (dk_at dksX4_product_0 13 rfl rfl)
theorem dX4_product_16 : decode cX4_product 16 = .ok (.ifCond .ne 4, 3) := dk_154 0 4 (dk_at dksX4_product_0 16 rfl rfl)
theorem dX4_product_19 : decode cX4_product 19 = .ok (.return_, 1) := dk_177 (dk_at dksX4_product_0 19 rfl rfl)
theorem dX4_product_20 : decode cX4_product 20 = .ok (.aload_n 0, 1) := dk_42 (dk_at dksX4_product_0 20 rfl rfl)
theorem dX4_product_21 : decode cX4_product 21 = .ok (.getfield 54, 3) := dk_180 0 54 (dk_at dksX4_product_0 21 rfl rfl)
theorem dX4_product_24 : decode cX4_product 24 = .ok (.iload_n 1, 1) := dk_27 (dk_at dksX4_product_1 0 rfl rfl)
theorem dX4_product_25 : decode cX4_product 25 = .ok (.iconst 1, 1) := dk_4 (dk_at dksX4_product_1 1 rfl rfl)
theorem dX4_product_26 : decode cX4_product 26 = .ok (.bipush 20, 2) := dk_16 20 (dk_at dksX4_product_1 2 rfl rfl)
theorem dX4_product_28 : decode cX4_product 28 = .ok (.aload_n 0, 1) := dk_42 (dk_at dksX4_product_1 4 rfl rfl)
theorem dX4_product_29 : decode cX4_product 29 = .ok (.getfield 54, 3) := dk_180 0 54 (dk_at dksX4_product_1 5 rfl rfl)
theorem dX4_product_32 : decode cX4_product 32 = .ok (.getfield 109, 3) := dk_180 0 109 (dk_at dksX4_product_1 8 rfl rfl)
theorem dX4_product_35 : decode cX4_product 35 = .ok (.iload_n 1, 1) := dk_27 (dk_at dksX4_product_1 11 rfl rfl)
theorem dX4_product_36 : decode cX4_product 36 = .ok (.iaload, 1) := dk_46 (dk_at dksX4_product_1 12 rfl rfl)
theorem dX4_product_37 : decode cX4_product 37 = .ok (.invokevirtual 113, 3) := dk_182 0 113 (dk_at dksX4_product_1 13 rfl rfl)
theorem dX4_product_40 : decode cX4_product 40 = .ok (.aload_n 0, 1) := dk_42 (dk_at dksX4_product_1 16 rfl rfl)
theorem dX4_product_41 : decode cX4_product 41 = .ok (.invokevirtual 133, 3) := dk_182 0 133 (dk_at dksX4_product_1 17 rfl rfl)
theorem dX4_product_44 : decode cX4_product 44 = .ok (.ifCond .eq 79, 3) := dk_153 0 79 (dk_at dksX4_product_1 20 rfl rfl)
theorem dX4_product_47 : decode cX4_product 47 = .ok (.aload_n 0, 1) := dk_42 (dk_at dksX4_product_1 23 rfl rfl)
theorem dX4_product_48 : decode cX4_product 48 = .ok (.getfield 54, 3) := dk_180 0 54 (dk_at dksX4_product_2 0 rfl rfl)
theorem dX4_product_51 : decode cX4_product 51 = .ok (.aload_n 0, 1) := dk_42 (dk_at dksX4_product_2 3 rfl rfl)
theorem dX4_product_52 : decode cX4_product 52 = .ok (.getfield 12, 3) := dk_180 0 12 (dk_at dksX4_product_2 4 rfl rfl)
theorem dX4_product_55 : decode cX4_product 55 = .ok (.getfield 42, 3) := dk_180 0 42 (dk_at dksX4_product_2 7 rfl rfl)
theorem dX4_product_58 : decode cX4_product 58 = .ok (.getstatic 121, 3) := dk_178 0 121 (dk_at dksX4_product_2 10 rfl rfl)
theorem dX4_product_61 : decode cX4_product 61 = .ok (.if_acmp .ne 8, 3) := dk_166 0 8 (dk_at dksX4_product_2 13 rfl rfl)
theorem dX4_product_64 : decode cX4_product 64 = .ok (.bipush 21, 2) := dk_16 21 (dk_at dksX4_product_2 16 rfl rfl)
theorem dX4_product_66 : decode cX4_product 66 = .ok (.goto 23, 3) := dk_167 0 23 (dk_at dksX4_product_2 18 rfl rfl)
theorem dX4_product_69 : decode cX4_product 69 = .ok (.aload_n 0, 1) := dk_42 (dk_at dksX4_product_2 21 rfl rfl)
theorem dX4_product_70 : decode cX4_product 70 = .ok (.getfield 12, 3) := dk_180 0 12 (dk_at dksX4_product_3 0 rfl rfl)
theorem dX4_product_73 : decode cX4_product 73 = .ok (.getfield 42, 3) := dk_180 0 42 (dk_at dksX4_product_3 3 rfl rfl)
theorem dX4_product_76 : decode cX4_product 76 = .ok (.getstatic 124, 3) := dk_178 0 124 (dk_at dksX4_product_3 6 rfl rfl)
theorem dX4_product_79 : decode cX4_product 79 = .ok (.if_acmp .ne 8, 3) := dk_166 0 8 (dk_at dksX4_product_3 9 rfl rfl)
theorem dX4_product_82 : decode cX4_product 82 = .ok (.bipush 22, 2) := dk_16 22 (dk_at dksX4_product_3 12 rfl rfl)
theorem dX4_product_84 : decode cX4_product 84 = .ok (.goto 5, 3) := dk_167 0 5 (dk_at dksX4_product_3 14 rfl rfl)
theorem dX4_product_87 : decode cX4_product 87 = .ok (.bipush 23, 2) := dk_16 23 (dk_at dksX4_product_3 17 rfl rfl)
theorem dX4_product_89 : decode cX4_product 89 = .ok (.aload_n 0, 1) := dk_42 (dk_at dksX4_product_3 19 rfl rfl)
theorem dX4_product_90 : decode cX4_product 90 = .ok (.getfield 12, 3) := dk_180 0 12 (dk_at dksX4_product_3 20 rfl rfl)
theorem dX4_product_93 : decode cX4_product 93 = .ok (.getfield 22, 3) := dk_180 0 22 (dk_at dksX4_product_4 0 rfl rfl)
theorem dX4_product_96 : decode cX4_product 96 = .ok (.iconst 0, 1) := dk_3 (dk_at dksX4_product_4 3 rfl rfl)
theorem dX4_product_97 : decode cX4_product 97 = .ok (.invokevirtual 71, 3) := dk_182 0 71 (dk_at dksX4_product_4 4 rfl rfl)
theorem dX4_product_100 : decode cX4_product 100 = .ok (.istore_n 2, 1) := dk_61 (dk_at dksX4_product_4 7 rfl rfl)
theorem dX4_product_101 : decode cX4_product 101 = .ok (.aload_n 0, 1) := dk_42 (dk_at dksX4_product_4 8 rfl rfl)
theorem dX4_product_102 : decode cX4_product 102 = .ok (.getfield 12, 3) := dk_180 0 12 (dk_at dksX4_product_4 9 rfl rfl)
theorem dX4_product_105 : decode cX4_product 105 = .ok (.invokevirtual 46, 3) := dk_182 0 46 (dk_at dksX4_product_4 12 rfl rfl)
theorem dX4_product_108 : decode cX4_product 108 = .ok (.aload_n 0, 1) := dk_42 (dk_at dksX4_product_4 15 rfl rfl)
theorem dX4_product_109 : decode cX4_product 109 = .ok (.invokevirtual 130, 3) := dk_182 0 130 (dk_at dksX4_product_4 16 rfl rfl)
theorem dX4_product_112 : decode cX4_product 112 = .ok (.aload_n 0, 1) := dk_42 (dk_at dksX4_product_4 19 rfl rfl)
theorem dX4_product_113 : decode cX4_product 113 = .ok (.getfield 54, 3) := dk_180 0 54 (dk_at dksX4_product_4 20 rfl rfl)
theorem dX4_product_116 : decode cX4_product 116 = .ok (.iload_n 2, 1) := dk_28 (dk_at dksX4_product_4 23 rfl rfl)
theorem dX4_product_117 : decode cX4_product 117 = .ok (.invokevirtual 77, 3) := dk_182 0 77 (dk_at dksX4_product_5 0 rfl rfl)
theorem dX4_product_120 : decode cX4_product 120 = .ok (.goto (-80), 3) := dk_167 255 176 (dk_at dksX4_product_5 3 rfl rfl)
theorem dX4_product_123 : decode cX4_product 123 = .ok (.aload_n 0, 1) := dk_42 (dk_at dksX4_product_5 6 rfl rfl)
theorem dX4_product_124 : decode cX4_product 124 = .ok (.getfield 54, 3) := dk_180 0 54 (dk_at dksX4_product_5 7 rfl rfl)
theorem dX4_product_127 : decode cX4_product 127 = .ok (.iload_n 1, 1) := dk_27 (dk_at dksX4_product_5 10 rfl rfl)
theorem dX4_product_128 : decode cX4_product 128 = .ok (.invokevirtual 77, 3) := dk_182 0 77 (dk_at dksX4_product_5 11 rfl rfl)
theorem dX4_product_131 : decode cX4_product 131 = .ok (.return_, 1) := dk_177 (dk_at dksX4_product_5 14 rfl rfl)
abbrev cX4_factor : ByteArray := prog_4_method_12_code
def yX4_factor : MethodName := ⟨RX4, "factor", "()V"⟩
def dkwX4_factor_11 : List UInt8 := [178, 0, 157, 182, 0, 153, 42, 180, 0, 54, 27, 182, 0, 77, 167, 0, 7, 42, 182, 0, 39, 177]
abbrev dktX4_factor_11 : List UInt8 := dkwX4_factor_11 ++ []
def dkwX4_factor_10 : List UInt8 := [182, 0, 90, 153, 0, 25, 42, 182, 0, 163, 42, 178, 0, 166, 182, 0, 153, 42, 182, 0, 163, 42]
abbrev dktX4_factor_10 : List UInt8 := dkwX4_factor_10 ++ dktX4_factor_11
def dkwX4_factor_9 : List UInt8 := [180, 0, 54, 16, 16, 28, 3, 182, 0, 71, 87, 42, 180, 0, 12, 182, 0, 46, 42, 178, 0, 160]
abbrev dktX4_factor_9 : List UInt8 := dkwX4_factor_9 ++ dktX4_factor_10
def dkwX4_factor_8 : List UInt8 := [42, 180, 0, 12, 182, 0, 46, 42, 182, 0, 147, 42, 178, 0, 157, 182, 0, 153, 167, 0, 69, 42]
abbrev dktX4_factor_8 : List UInt8 := dkwX4_factor_8 ++ dktX4_factor_9
def dkwX4_factor_7 : List UInt8 := [182, 0, 130, 42, 89, 180, 0, 36, 4, 100, 181, 0, 36, 42, 180, 0, 54, 27, 182, 0, 77, 167, 0, 90]
abbrev dktX4_factor_7 : List UInt8 := dkwX4_factor_7 ++ dktX4_factor_8
def dkwX4_factor_6 : List UInt8 := [180, 0, 54, 16, 15, 28, 3, 182, 0, 71, 87, 42, 180, 0, 12, 182, 0, 46, 42, 182, 0, 97, 42]
abbrev dktX4_factor_6 : List UInt8 := dkwX4_factor_6 ++ dktX4_factor_7
def dkwX4_factor_5 : List UInt8 := [182, 0, 147, 42, 178, 0, 150, 182, 0, 153, 42, 180, 0, 54, 27, 182, 0, 77, 167, 0, 138, 42]
abbrev dktX4_factor_5 : List UInt8 := dkwX4_factor_5 ++ dktX4_factor_6
def dkwX4_factor_4 : List UInt8 := [166, 0, 179, 42, 180, 0, 54, 27, 4, 16, 14, 28, 182, 0, 113, 42, 180, 0, 12, 182, 0, 46, 42]
abbrev dktX4_factor_4 : List UInt8 := dkwX4_factor_4 ++ dktX4_factor_5
def dkwX4_factor_3 : List UInt8 := [42, 3, 28, 182, 0, 94, 167, 0, 196, 42, 182, 0, 141, 42, 180, 0, 12, 180, 0, 42, 178, 0, 144]
abbrev dktX4_factor_3 : List UInt8 := dkwX4_factor_3 ++ dktX4_factor_4
def dkwX4_factor_2 : List UInt8 := [171, 0, 0, 0, 0, 248, 0, 0, 0, 5, 0, 0, 0, 2, 0, 0, 0, 59, 0, 0, 0, 3, 0, 0, 0, 50, 0, 0, 0, 4, 0, 0, 0, 165, 0, 0, 0, 14, 0, 0, 0, 117, 0, 0, 0, 34, 0, 0, 0, 186]
abbrev dktX4_factor_2 : List UInt8 := dkwX4_factor_2 ++ dktX4_factor_3
def dkwX4_factor_1 : List UInt8 := [182, 0, 137]
abbrev dktX4_factor_1 : List UInt8 := dkwX4_factor_1 ++ dktX4_factor_2
def dkwX4_factor_0 : List UInt8 := [42, 180, 0, 54, 180, 0, 100, 60, 42, 180, 0, 12, 180, 0, 22, 61, 42, 180, 0, 12, 180, 0, 42]
abbrev dktX4_factor_0 : List UInt8 := dkwX4_factor_0 ++ dktX4_factor_1
theorem dksX4_factor_0 : cX4_factor.data.toList.drop 0 = dktX4_factor_0 := by decide +kernel
theorem dksX4_factor_1 : cX4_factor.data.toList.drop 23 = dktX4_factor_1 := dk_seg dksX4_factor_0 23 rfl rfl
theorem dksX4_factor_2 : cX4_factor.data.toList.drop 26 = dktX4_factor_2 := dk_seg dksX4_factor_1 3 rfl rfl
theorem dksX4_factor_3 : cX4_factor.data.toList.drop 76 = dktX4_factor_3 := dk_seg dksX4_factor_2 50 rfl rfl
theorem dksX4_factor_4 : cX4_factor.data.toList.drop 99 = dktX4_factor_4 := dk_seg dksX4_factor_3 23 rfl rfl
theorem dksX4_factor_5 : cX4_factor.data.toList.drop 122 = dktX4_factor_5 := dk_seg dksX4_factor_4 23 rfl rfl
theorem dksX4_factor_6 : cX4_factor.data.toList.drop 144 = dktX4_factor_6 := dk_seg dksX4_factor_5 22 rfl rfl
theorem dksX4_factor_7 : cX4_factor.data.toList.drop 167 = dktX4_factor_7 := dk_seg dksX4_factor_6 23 rfl rfl
theorem dksX4_factor_8 : cX4_factor.data.toList.drop 191 = dktX4_factor_8 := dk_seg dksX4_factor_7 24 rfl rfl
theorem dksX4_factor_9 : cX4_factor.data.toList.drop 213 = dktX4_factor_9 := dk_seg dksX4_factor_8 22 rfl rfl
theorem dksX4_factor_10 : cX4_factor.data.toList.drop 235 = dktX4_factor_10 := dk_seg dksX4_factor_9 22 rfl rfl
theorem dksX4_factor_11 : cX4_factor.data.toList.drop 257 = dktX4_factor_11 := dk_seg dksX4_factor_10 22 rfl rfl
theorem dX4_factor_0 : decode cX4_factor 0 = .ok (.aload_n 0, 1) := dk_42 (dk_at dksX4_factor_0 0 rfl rfl)
theorem dX4_factor_1 : decode cX4_factor 1 = .ok (.getfield 54, 3) := dk_180 0 54 (dk_at dksX4_factor_0 1 rfl rfl)
theorem dX4_factor_4 : decode cX4_factor 4 = .ok (.getfield 100, 3) := dk_180 0 100 (dk_at dksX4_factor_0 4 rfl rfl)
theorem dX4_factor_7 : decode cX4_factor 7 = .ok (.istore_n 1, 1) := dk_60 (dk_at dksX4_factor_0 7 rfl rfl)
theorem dX4_factor_8 : decode cX4_factor 8 = .ok (.aload_n 0, 1) := dk_42 (dk_at dksX4_factor_0 8 rfl rfl)
theorem dX4_factor_9 : decode cX4_factor 9 = .ok (.getfield 12, 3) := dk_180 0 12 (dk_at dksX4_factor_0 9 rfl rfl)
theorem dX4_factor_12 : decode cX4_factor 12 = .ok (.getfield 22, 3) := dk_180 0 22 (dk_at dksX4_factor_0 12 rfl rfl)
theorem dX4_factor_15 : decode cX4_factor 15 = .ok (.istore_n 2, 1) := dk_61 (dk_at dksX4_factor_0 15 rfl rfl)
theorem dX4_factor_16 : decode cX4_factor 16 = .ok (.aload_n 0, 1) := dk_42 (dk_at dksX4_factor_0 16 rfl rfl)
theorem dX4_factor_17 : decode cX4_factor 17 = .ok (.getfield 12, 3) := dk_180 0 12 (dk_at dksX4_factor_0 17 rfl rfl)
theorem dX4_factor_20 : decode cX4_factor 20 = .ok (.getfield 42, 3) := dk_180 0 42 (dk_at dksX4_factor_0 20 rfl rfl)
theorem dX4_factor_23 : decode cX4_factor 23 = .ok (.invokevirtual 137, 3) := dk_182 0 137 (dk_at dksX4_factor_1 0 rfl rfl)
theorem dX4_factor_26 : decode cX4_factor 26 = .ok (.lookupswitch 248 #[(2, 59), (3, 50), (4, 165), (14, 117), (34, 186)], 50) := by decide +kernel
theorem dX4_factor_76 : decode cX4_factor 76 = .ok (.aload_n 0, 1) := dk_42 (dk_at dksX4_factor_3 0 rfl rfl)
theorem dX4_factor_77 : decode cX4_factor 77 = .ok (.iconst 0, 1) := dk_3 (dk_at dksX4_factor_3 1 rfl rfl)
theorem dX4_factor_78 : decode cX4_factor 78 = .ok (.iload_n 2, 1) := dk_28 (dk_at dksX4_factor_3 2 rfl rfl)
theorem dX4_factor_79 : decode cX4_factor 79 = .ok (.invokevirtual 94, 3) := dk_182 0 94 (dk_at dksX4_factor_3 3 rfl rfl)
theorem dX4_factor_82 : decode cX4_factor 82 = .ok (.goto 196, 3) := dk_167 0 196 (dk_at dksX4_factor_3 6 rfl rfl)
theorem dX4_factor_85 : decode cX4_factor 85 = .ok (.aload_n 0, 1) := dk_42 (dk_at dksX4_factor_3 9 rfl rfl)
theorem dX4_factor_86 : decode cX4_factor 86 = .ok (.invokevirtual 141, 3) := dk_182 0 141 (dk_at dksX4_factor_3 10 rfl rfl)
theorem dX4_factor_89 : decode cX4_factor 89 = .ok (.aload_n 0, 1) := dk_42 (dk_at dksX4_factor_3 13 rfl rfl)
theorem dX4_factor_90 : decode cX4_factor 90 = .ok (.getfield 12, 3) := dk_180 0 12 (dk_at dksX4_factor_3 14 rfl rfl)
theorem dX4_factor_93 : decode cX4_factor 93 = .ok (.getfield 42, 3) := dk_180 0 42 (dk_at dksX4_factor_3 17 rfl rfl)
theorem dX4_factor_96 : decode cX4_factor 96 = .ok (.getstatic 144, 3) := dk_178 0 144 (dk_at dksX4_factor_3 20 rfl rfl)
theorem dX4_factor_99 : decode cX4_factor 99 = .ok (.if_acmp .ne 179, 3) := dk_166 0 179 (dk_at dksX4_factor_4 0 rfl rfl)
theorem dX4_factor_102 : decode cX4_factor 102 = .ok (.aload_n 0, 1) := dk_42 (dk_at dksX4_factor_4 3 rfl rfl)
theorem dX4_factor_103 : decode cX4_factor 103 = .ok (.getfield 54, 3) := dk_180 0 54 (dk_at dksX4_factor_4 4 rfl rfl)
theorem dX4_factor_106 : decode cX4_factor 106 = .ok (.iload_n 1, 1) := dk_27 (dk_at dksX4_factor_4 7 rfl rfl)
theorem dX4_factor_107 : decode cX4_factor 107 = .ok (.iconst 1, 1) := dk_4 (dk_at dksX4_factor_4 8 rfl rfl)
theorem dX4_factor_108 : decode cX4_factor 108 = .ok (.bipush 14, 2) := dk_16 14 (dk_at dksX4_factor_4 9 rfl rfl)
theorem dX4_factor_110 : decode cX4_factor 110 = .ok (.iload_n 2, 1) := dk_28 (dk_at dksX4_factor_4 11 rfl rfl)
theorem dX4_factor_111 : decode cX4_factor 111 = .ok (.invokevirtual 113, 3) := dk_182 0 113 (dk_at dksX4_factor_4 12 rfl rfl)
theorem dX4_factor_114 : decode cX4_factor 114 = .ok (.aload_n 0, 1) := dk_42 (dk_at dksX4_factor_4 15 rfl rfl)
theorem dX4_factor_115 : decode cX4_factor 115 = .ok (.getfield 12, 3) := dk_180 0 12 (dk_at dksX4_factor_4 16 rfl rfl)
theorem dX4_factor_118 : decode cX4_factor 118 = .ok (.invokevirtual 46, 3) := dk_182 0 46 (dk_at dksX4_factor_4 19 rfl rfl)
theorem dX4_factor_121 : decode cX4_factor 121 = .ok (.aload_n 0, 1) := dk_42 (dk_at dksX4_factor_4 22 rfl rfl)
theorem dX4_factor_122 : decode cX4_factor 122 = .ok (.invokevirtual 147, 3) := dk_182 0 147 (dk_at dksX4_factor_5 0 rfl rfl)
theorem dX4_factor_125 : decode cX4_factor 125 = .ok (.aload_n 0, 1) := dk_42 (dk_at dksX4_factor_5 3 rfl rfl)
theorem dX4_factor_126 : decode cX4_factor 126 = .ok (.getstatic 150, 3) := dk_178 0 150 (dk_at dksX4_factor_5 4 rfl rfl)
theorem dX4_factor_129 : decode cX4_factor 129 = .ok (.invokevirtual 153, 3) := dk_182 0 153 (dk_at dksX4_factor_5 7 rfl rfl)
theorem dX4_factor_132 : decode cX4_factor 132 = .ok (.aload_n 0, 1) := dk_42 (dk_at dksX4_factor_5 10 rfl rfl)
theorem dX4_factor_133 : decode cX4_factor 133 = .ok (.getfield 54, 3) := dk_180 0 54 (dk_at dksX4_factor_5 11 rfl rfl)
theorem dX4_factor_136 : decode cX4_factor 136 = .ok (.iload_n 1, 1) := dk_27 (dk_at dksX4_factor_5 14 rfl rfl)
theorem dX4_factor_137 : decode cX4_factor 137 = .ok (.invokevirtual 77, 3) := dk_182 0 77 (dk_at dksX4_factor_5 15 rfl rfl)
theorem dX4_factor_140 : decode cX4_factor 140 = .ok (.goto 138, 3) := dk_167 0 138 (dk_at dksX4_factor_5 18 rfl rfl)
theorem dX4_factor_143 : decode cX4_factor 143 = .ok (.aload_n 0, 1) := dk_42 (dk_at dksX4_factor_5 21 rfl rfl)
theorem dX4_factor_144 : decode cX4_factor 144 = .ok (.getfield 54, 3) := dk_180 0 54 (dk_at dksX4_factor_6 0 rfl rfl)
theorem dX4_factor_147 : decode cX4_factor 147 = .ok (.bipush 15, 2) := dk_16 15 (dk_at dksX4_factor_6 3 rfl rfl)
theorem dX4_factor_149 : decode cX4_factor 149 = .ok (.iload_n 2, 1) := dk_28 (dk_at dksX4_factor_6 5 rfl rfl)
theorem dX4_factor_150 : decode cX4_factor 150 = .ok (.iconst 0, 1) := dk_3 (dk_at dksX4_factor_6 6 rfl rfl)
theorem dX4_factor_151 : decode cX4_factor 151 = .ok (.invokevirtual 71, 3) := dk_182 0 71 (dk_at dksX4_factor_6 7 rfl rfl)
theorem dX4_factor_154 : decode cX4_factor 154 = .ok (.pop, 1) := dk_87 (dk_at dksX4_factor_6 10 rfl rfl)
theorem dX4_factor_155 : decode cX4_factor 155 = .ok (.aload_n 0, 1) := dk_42 (dk_at dksX4_factor_6 11 rfl rfl)
theorem dX4_factor_156 : decode cX4_factor 156 = .ok (.getfield 12, 3) := dk_180 0 12 (dk_at dksX4_factor_6 12 rfl rfl)
theorem dX4_factor_159 : decode cX4_factor 159 = .ok (.invokevirtual 46, 3) := dk_182 0 46 (dk_at dksX4_factor_6 15 rfl rfl)
theorem dX4_factor_162 : decode cX4_factor 162 = .ok (.aload_n 0, 1) := dk_42 (dk_at dksX4_factor_6 18 rfl rfl)
theorem dX4_factor_163 : decode cX4_factor 163 = .ok (.invokevirtual 97, 3) := dk_182 0 97 (dk_at dksX4_factor_6 19 rfl rfl)
theorem dX4_factor_166 : decode cX4_factor 166 = .ok (.aload_n 0, 1) := dk_42 (dk_at dksX4_factor_6 22 rfl rfl)
theorem dX4_factor_167 : decode cX4_factor 167 = .ok (.invokevirtual 130, 3) := dk_182 0 130 (dk_at dksX4_factor_7 0 rfl rfl)
theorem dX4_factor_170 : decode cX4_factor 170 = .ok (.aload_n 0, 1) := dk_42 (dk_at dksX4_factor_7 3 rfl rfl)
theorem dX4_factor_171 : decode cX4_factor 171 = .ok (.dup, 1) := dk_89 (dk_at dksX4_factor_7 4 rfl rfl)
theorem dX4_factor_172 : decode cX4_factor 172 = .ok (.getfield 36, 3) := dk_180 0 36 (dk_at dksX4_factor_7 5 rfl rfl)
theorem dX4_factor_175 : decode cX4_factor 175 = .ok (.iconst 1, 1) := dk_4 (dk_at dksX4_factor_7 8 rfl rfl)
theorem dX4_factor_176 : decode cX4_factor 176 = .ok (.isub, 1) := dk_100 (dk_at dksX4_factor_7 9 rfl rfl)
theorem dX4_factor_177 : decode cX4_factor 177 = .ok (.putfield 36, 3) := dk_181 0 36 (dk_at dksX4_factor_7 10 rfl rfl)
theorem dX4_factor_180 : decode cX4_factor 180 = .ok (.aload_n 0, 1) := dk_42 (dk_at dksX4_factor_7 13 rfl rfl)
theorem dX4_factor_181 : decode cX4_factor 181 = .ok (.getfield 54, 3) := dk_180 0 54 (dk_at dksX4_factor_7 14 rfl rfl)
theorem dX4_factor_184 : decode cX4_factor 184 = .ok (.iload_n 1, 1) := dk_27 (dk_at dksX4_factor_7 17 rfl rfl)
theorem dX4_factor_185 : decode cX4_factor 185 = .ok (.invokevirtual 77, 3) := dk_182 0 77 (dk_at dksX4_factor_7 18 rfl rfl)
theorem dX4_factor_188 : decode cX4_factor 188 = .ok (.goto 90, 3) := dk_167 0 90 (dk_at dksX4_factor_7 21 rfl rfl)
theorem dX4_factor_191 : decode cX4_factor 191 = .ok (.aload_n 0, 1) := dk_42 (dk_at dksX4_factor_8 0 rfl rfl)
theorem dX4_factor_192 : decode cX4_factor 192 = .ok (.getfield 12, 3) := dk_180 0 12 (dk_at dksX4_factor_8 1 rfl rfl)
theorem dX4_factor_195 : decode cX4_factor 195 = .ok (.invokevirtual 46, 3) := dk_182 0 46 (dk_at dksX4_factor_8 4 rfl rfl)
theorem dX4_factor_198 : decode cX4_factor 198 = .ok (.aload_n 0, 1) := dk_42 (dk_at dksX4_factor_8 7 rfl rfl)
theorem dX4_factor_199 : decode cX4_factor 199 = .ok (.invokevirtual 147, 3) := dk_182 0 147 (dk_at dksX4_factor_8 8 rfl rfl)
theorem dX4_factor_202 : decode cX4_factor 202 = .ok (.aload_n 0, 1) := dk_42 (dk_at dksX4_factor_8 11 rfl rfl)
theorem dX4_factor_203 : decode cX4_factor 203 = .ok (.getstatic 157, 3) := dk_178 0 157 (dk_at dksX4_factor_8 12 rfl rfl)
theorem dX4_factor_206 : decode cX4_factor 206 = .ok (.invokevirtual 153, 3) := dk_182 0 153 (dk_at dksX4_factor_8 15 rfl rfl)
theorem dX4_factor_209 : decode cX4_factor 209 = .ok (.goto 69, 3) := dk_167 0 69 (dk_at dksX4_factor_8 18 rfl rfl)
theorem dX4_factor_212 : decode cX4_factor 212 = .ok (.aload_n 0, 1) := dk_42 (dk_at dksX4_factor_8 21 rfl rfl)
theorem dX4_factor_213 : decode cX4_factor 213 = .ok (.getfield 54, 3) := dk_180 0 54 (dk_at dksX4_factor_9 0 rfl rfl)
theorem dX4_factor_216 : decode cX4_factor 216 = .ok (.bipush 16, 2) := dk_16 16 (dk_at dksX4_factor_9 3 rfl rfl)
theorem dX4_factor_218 : decode cX4_factor 218 = .ok (.iload_n 2, 1) := dk_28 (dk_at dksX4_factor_9 5 rfl rfl)
theorem dX4_factor_219 : decode cX4_factor 219 = .ok (.iconst 0, 1) := dk_3 (dk_at dksX4_factor_9 6 rfl rfl)
theorem dX4_factor_220 : decode cX4_factor 220 = .ok (.invokevirtual 71, 3) := dk_182 0 71 (dk_at dksX4_factor_9 7 rfl rfl)
theorem dX4_factor_223 : decode cX4_factor 223 = .ok (.pop, 1) := dk_87 (dk_at dksX4_factor_9 10 rfl rfl)
theorem dX4_factor_224 : decode cX4_factor 224 = .ok (.aload_n 0, 1) := dk_42 (dk_at dksX4_factor_9 11 rfl rfl)
theorem dX4_factor_225 : decode cX4_factor 225 = .ok (.getfield 12, 3) := dk_180 0 12 (dk_at dksX4_factor_9 12 rfl rfl)
theorem dX4_factor_228 : decode cX4_factor 228 = .ok (.invokevirtual 46, 3) := dk_182 0 46 (dk_at dksX4_factor_9 15 rfl rfl)
theorem dX4_factor_231 : decode cX4_factor 231 = .ok (.aload_n 0, 1) := dk_42 (dk_at dksX4_factor_9 18 rfl rfl)
theorem dX4_factor_232 : decode cX4_factor 232 = .ok (.getstatic 160, 3) := dk_178 0 160 (dk_at dksX4_factor_9 19 rfl rfl)
theorem dX4_factor_235 : decode cX4_factor 235 = .ok (.invokevirtual 90, 3) := dk_182 0 90 (dk_at dksX4_factor_10 0 rfl rfl)
theorem dX4_factor_238 : decode cX4_factor 238 = .ok (.ifCond .eq 25, 3) := dk_153 0 25 (dk_at dksX4_factor_10 3 rfl rfl)
theorem dX4_factor_241 : decode cX4_factor 241 = .ok (.aload_n 0, 1) := dk_42 (dk_at dksX4_factor_10 6 rfl rfl)
theorem dX4_factor_242 : decode cX4_factor 242 = .ok (.invokevirtual 163, 3) := dk_182 0 163 (dk_at dksX4_factor_10 7 rfl rfl)
theorem dX4_factor_245 : decode cX4_factor 245 = .ok (.aload_n 0, 1) := dk_42 (dk_at dksX4_factor_10 10 rfl rfl)
theorem dX4_factor_246 : decode cX4_factor 246 = .ok (.getstatic 166, 3) := dk_178 0 166 (dk_at dksX4_factor_10 11 rfl rfl)
theorem dX4_factor_249 : decode cX4_factor 249 = .ok (.invokevirtual 153, 3) := dk_182 0 153 (dk_at dksX4_factor_10 14 rfl rfl)
theorem dX4_factor_252 : decode cX4_factor 252 = .ok (.aload_n 0, 1) := dk_42 (dk_at dksX4_factor_10 17 rfl rfl)
theorem dX4_factor_253 : decode cX4_factor 253 = .ok (.invokevirtual 163, 3) := dk_182 0 163 (dk_at dksX4_factor_10 18 rfl rfl)
theorem dX4_factor_256 : decode cX4_factor 256 = .ok (.aload_n 0, 1) := dk_42 (dk_at dksX4_factor_10 21 rfl rfl)
theorem dX4_factor_257 : decode cX4_factor 257 = .ok (.getstatic 157, 3) := dk_178 0 157 (dk_at dksX4_factor_11 0 rfl rfl)
theorem dX4_factor_260 : decode cX4_factor 260 = .ok (.invokevirtual 153, 3) := dk_182 0 153 (dk_at dksX4_factor_11 3 rfl rfl)
theorem dX4_factor_263 : decode cX4_factor 263 = .ok (.aload_n 0, 1) := dk_42 (dk_at dksX4_factor_11 6 rfl rfl)
theorem dX4_factor_264 : decode cX4_factor 264 = .ok (.getfield 54, 3) := dk_180 0 54 (dk_at dksX4_factor_11 7 rfl rfl)
theorem dX4_factor_267 : decode cX4_factor 267 = .ok (.iload_n 1, 1) := dk_27 (dk_at dksX4_factor_11 10 rfl rfl)
theorem dX4_factor_268 : decode cX4_factor 268 = .ok (.invokevirtual 77, 3) := dk_182 0 77 (dk_at dksX4_factor_11 11 rfl rfl)
theorem dX4_factor_271 : decode cX4_factor 271 = .ok (.goto 7, 3) := dk_167 0 7 (dk_at dksX4_factor_11 14 rfl rfl)
theorem dX4_factor_274 : decode cX4_factor 274 = .ok (.aload_n 0, 1) := dk_42 (dk_at dksX4_factor_11 17 rfl rfl)
theorem dX4_factor_275 : decode cX4_factor 275 = .ok (.invokevirtual 39, 3) := dk_182 0 39 (dk_at dksX4_factor_11 18 rfl rfl)
theorem dX4_factor_278 : decode cX4_factor 278 = .ok (.return_, 1) := dk_177 (dk_at dksX4_factor_11 21 rfl rfl)
abbrev cX4_limit : ByteArray := prog_4_method_8_code
def yX4_limit : MethodName := ⟨RX4, "limit", "()V"⟩
def dkwX4_limit_0 : List UInt8 := [42, 180, 0, 12, 180, 0, 22, 60, 42, 42, 178, 0, 87, 182, 0, 90, 27, 182, 0, 94, 177]
abbrev dktX4_limit_0 : List UInt8 := dkwX4_limit_0 ++ []
theorem dksX4_limit_0 : cX4_limit.data.toList.drop 0 = dktX4_limit_0 := by decide +kernel
theorem dX4_limit_0 : decode cX4_limit 0 = .ok (.aload_n 0, 1) := dk_42 (dk_at dksX4_limit_0 0 rfl rfl)
theorem dX4_limit_1 : decode cX4_limit 1 = .ok (.getfield 12, 3) := dk_180 0 12 (dk_at dksX4_limit_0 1 rfl rfl)
theorem dX4_limit_4 : decode cX4_limit 4 = .ok (.getfield 22, 3) := dk_180 0 22 (dk_at dksX4_limit_0 4 rfl rfl)
theorem dX4_limit_7 : decode cX4_limit 7 = .ok (.istore_n 1, 1) := dk_60 (dk_at dksX4_limit_0 7 rfl rfl)
theorem dX4_limit_8 : decode cX4_limit 8 = .ok (.aload_n 0, 1) := dk_42 (dk_at dksX4_limit_0 8 rfl rfl)
theorem dX4_limit_9 : decode cX4_limit 9 = .ok (.aload_n 0, 1) := dk_42 (dk_at dksX4_limit_0 9 rfl rfl)
theorem dX4_limit_10 : decode cX4_limit 10 = .ok (.getstatic 87, 3) := dk_178 0 87 (dk_at dksX4_limit_0 10 rfl rfl)
theorem dX4_limit_13 : decode cX4_limit 13 = .ok (.invokevirtual 90, 3) := dk_182 0 90 (dk_at dksX4_limit_0 13 rfl rfl)
theorem dX4_limit_16 : decode cX4_limit 16 = .ok (.iload_n 1, 1) := dk_27 (dk_at dksX4_limit_0 16 rfl rfl)
theorem dX4_limit_17 : decode cX4_limit 17 = .ok (.invokevirtual 94, 3) := dk_182 0 94 (dk_at dksX4_limit_0 17 rfl rfl)
theorem dX4_limit_20 : decode cX4_limit 20 = .ok (.return_, 1) := dk_177 (dk_at dksX4_limit_0 20 rfl rfl)
abbrev cX4_isProduct : ByteArray := prog_4_method_10_code
def yX4_isProduct : MethodName := ⟨RX4, "isProduct", "()Z"⟩
def dkwX4_isProduct_1 : List UInt8 := [165, 0, 16, 42, 180, 0, 12, 180, 0, 42, 178, 0, 127, 166, 0, 7, 4, 167, 0, 4, 3, 172]
abbrev dktX4_isProduct_1 : List UInt8 := dkwX4_isProduct_1 ++ []
def dkwX4_isProduct_0 : List UInt8 := [42, 180, 0, 12, 180, 0, 42, 178, 0, 121, 165, 0, 29, 42, 180, 0, 12, 180, 0, 42, 178, 0, 124]
abbrev dktX4_isProduct_0 : List UInt8 := dkwX4_isProduct_0 ++ dktX4_isProduct_1
theorem dksX4_isProduct_0 : cX4_isProduct.data.toList.drop 0 = dktX4_isProduct_0 := by decide +kernel
theorem dksX4_isProduct_1 : cX4_isProduct.data.toList.drop 23 = dktX4_isProduct_1 := dk_seg dksX4_isProduct_0 23 rfl rfl
theorem dX4_isProduct_0 : decode cX4_isProduct 0 = .ok (.aload_n 0, 1) := dk_42 (dk_at dksX4_isProduct_0 0 rfl rfl)
theorem dX4_isProduct_1 : decode cX4_isProduct 1 = .ok (.getfield 12, 3) := dk_180 0 12 (dk_at dksX4_isProduct_0 1 rfl rfl)
theorem dX4_isProduct_4 : decode cX4_isProduct 4 = .ok (.getfield 42, 3) := dk_180 0 42 (dk_at dksX4_isProduct_0 4 rfl rfl)
theorem dX4_isProduct_7 : decode cX4_isProduct 7 = .ok (.getstatic 121, 3) := dk_178 0 121 (dk_at dksX4_isProduct_0 7 rfl rfl)
theorem dX4_isProduct_10 : decode cX4_isProduct 10 = .ok (.if_acmp .eq 29, 3) := dk_165 0 29 (dk_at dksX4_isProduct_0 10 rfl rfl)
theorem dX4_isProduct_13 : decode cX4_isProduct 13 = .ok (.aload_n 0, 1) := dk_42 (dk_at dksX4_isProduct_0 13 rfl rfl)
theorem dX4_isProduct_14 : decode cX4_isProduct 14 = .ok (.getfield 12, 3) := dk_180 0 12 (dk_at dksX4_isProduct_0 14 rfl rfl)
theorem dX4_isProduct_17 : decode cX4_isProduct 17 = .ok (.getfield 42, 3) := dk_180 0 42 (dk_at dksX4_isProduct_0 17 rfl rfl)
theorem dX4_isProduct_20 : decode cX4_isProduct 20 = .ok (.getstatic 124, 3) := dk_178 0 124 (dk_at dksX4_isProduct_0 20 rfl rfl)
theorem dX4_isProduct_23 : decode cX4_isProduct 23 = .ok (.if_acmp .eq 16, 3) := dk_165 0 16 (dk_at dksX4_isProduct_1 0 rfl rfl)
theorem dX4_isProduct_26 : decode cX4_isProduct 26 = .ok (.aload_n 0, 1) := dk_42 (dk_at dksX4_isProduct_1 3 rfl rfl)
theorem dX4_isProduct_27 : decode cX4_isProduct 27 = .ok (.getfield 12, 3) := dk_180 0 12 (dk_at dksX4_isProduct_1 4 rfl rfl)
theorem dX4_isProduct_30 : decode cX4_isProduct 30 = .ok (.getfield 42, 3) := dk_180 0 42 (dk_at dksX4_isProduct_1 7 rfl rfl)
theorem dX4_isProduct_33 : decode cX4_isProduct 33 = .ok (.getstatic 127, 3) := dk_178 0 127 (dk_at dksX4_isProduct_1 10 rfl rfl)
theorem dX4_isProduct_36 : decode cX4_isProduct 36 = .ok (.if_acmp .ne 7, 3) := dk_166 0 7 (dk_at dksX4_isProduct_1 13 rfl rfl)
theorem dX4_isProduct_39 : decode cX4_isProduct 39 = .ok (.iconst 1, 1) := dk_4 (dk_at dksX4_isProduct_1 16 rfl rfl)
theorem dX4_isProduct_40 : decode cX4_isProduct 40 = .ok (.goto 4, 3) := dk_167 0 4 (dk_at dksX4_isProduct_1 17 rfl rfl)
theorem dX4_isProduct_43 : decode cX4_isProduct 43 = .ok (.iconst 0, 1) := dk_3 (dk_at dksX4_isProduct_1 20 rfl rfl)
theorem dX4_isProduct_44 : decode cX4_isProduct 44 = .ok (.ireturn, 1) := dk_172 (dk_at dksX4_isProduct_1 21 rfl rfl)
abbrev cX4_named : ByteArray := prog_4_method_20_code
def yX4_named : MethodName := ⟨RX4, "named", "(II)V"⟩
def dkwX4_named_6 : List UInt8 := [182, 0, 147, 42, 178, 0, 216, 182, 0, 153, 177]
abbrev dktX4_named_6 : List UInt8 := dkwX4_named_6 ++ []
def dkwX4_named_5 : List UInt8 := [153, 0, 22, 42, 180, 0, 54, 180, 0, 117, 27, 16, 7, 84, 42, 27, 28, 3, 182, 0, 225, 177, 42]
abbrev dktX4_named_5 : List UInt8 := dkwX4_named_5 ++ dktX4_named_6
def dkwX4_named_4 : List UInt8 := [182, 0, 153, 42, 180, 0, 12, 180, 0, 42, 178, 0, 49, 166, 0, 32, 42, 180, 0, 12, 182, 0, 222]
abbrev dktX4_named_4 : List UInt8 := dkwX4_named_4 ++ dktX4_named_5
def dkwX4_named_3 : List UInt8 := [178, 0, 219, 182, 0, 153, 42, 182, 0, 147, 42, 178, 0, 216, 182, 0, 153, 177, 42, 178, 0, 219]
abbrev dktX4_named_3 : List UInt8 := dkwX4_named_3 ++ dktX4_named_4
def dkwX4_named_2 : List UInt8 := [180, 0, 54, 180, 0, 117, 27, 16, 6, 84, 42, 182, 0, 147, 42, 178, 0, 150, 182, 0, 153, 42]
abbrev dktX4_named_2 : List UInt8 := dkwX4_named_2 ++ dktX4_named_3
def dkwX4_named_1 : List UInt8 := [8, 28, 3, 182, 0, 71, 87, 42, 182, 0, 141, 42, 178, 0, 144, 182, 0, 90, 153, 0, 44, 42]
abbrev dktX4_named_1 : List UInt8 := dkwX4_named_1 ++ dktX4_named_2
def dkwX4_named_0 : List UInt8 := [42, 180, 0, 12, 182, 0, 222, 62, 29, 153, 0, 11, 42, 27, 28, 4, 182, 0, 225, 177, 42, 180, 0, 54]
abbrev dktX4_named_0 : List UInt8 := dkwX4_named_0 ++ dktX4_named_1
theorem dksX4_named_0 : cX4_named.data.toList.drop 0 = dktX4_named_0 := by decide +kernel
theorem dksX4_named_1 : cX4_named.data.toList.drop 24 = dktX4_named_1 := dk_seg dksX4_named_0 24 rfl rfl
theorem dksX4_named_2 : cX4_named.data.toList.drop 46 = dktX4_named_2 := dk_seg dksX4_named_1 22 rfl rfl
theorem dksX4_named_3 : cX4_named.data.toList.drop 68 = dktX4_named_3 := dk_seg dksX4_named_2 22 rfl rfl
theorem dksX4_named_4 : cX4_named.data.toList.drop 90 = dktX4_named_4 := dk_seg dksX4_named_3 22 rfl rfl
theorem dksX4_named_5 : cX4_named.data.toList.drop 113 = dktX4_named_5 := dk_seg dksX4_named_4 23 rfl rfl
theorem dksX4_named_6 : cX4_named.data.toList.drop 136 = dktX4_named_6 := dk_seg dksX4_named_5 23 rfl rfl
theorem dX4_named_0 : decode cX4_named 0 = .ok (.aload_n 0, 1) := dk_42 (dk_at dksX4_named_0 0 rfl rfl)
theorem dX4_named_1 : decode cX4_named 1 = .ok (.getfield 12, 3) := dk_180 0 12 (dk_at dksX4_named_0 1 rfl rfl)
theorem dX4_named_4 : decode cX4_named 4 = .ok (.invokevirtual 222, 3) := dk_182 0 222 (dk_at dksX4_named_0 4 rfl rfl)
theorem dX4_named_7 : decode cX4_named 7 = .ok (.istore_n 3, 1) := dk_62 (dk_at dksX4_named_0 7 rfl rfl)
theorem dX4_named_8 : decode cX4_named 8 = .ok (.iload_n 3, 1) := dk_29 (dk_at dksX4_named_0 8 rfl rfl)
theorem dX4_named_9 : decode cX4_named 9 = .ok (.ifCond .eq 11, 3) := dk_153 0 11 (dk_at dksX4_named_0 9 rfl rfl)
theorem dX4_named_12 : decode cX4_named 12 = .ok (.aload_n 0, 1) := dk_42 (dk_at dksX4_named_0 12 rfl rfl)
theorem dX4_named_13 : decode cX4_named 13 = .ok (.iload_n 1, 1) := dk_27 (dk_at dksX4_named_0 13 rfl rfl)
theorem dX4_named_14 : decode cX4_named 14 = .ok (.iload_n 2, 1) := dk_28 (dk_at dksX4_named_0 14 rfl rfl)
theorem dX4_named_15 : decode cX4_named 15 = .ok (.iconst 1, 1) := dk_4 (dk_at dksX4_named_0 15 rfl rfl)
theorem dX4_named_16 : decode cX4_named 16 = .ok (.invokevirtual 225, 3) := dk_182 0 225 (dk_at dksX4_named_0 16 rfl rfl)
theorem dX4_named_19 : decode cX4_named 19 = .ok (.return_, 1) := dk_177 (dk_at dksX4_named_0 19 rfl rfl)
theorem dX4_named_20 : decode cX4_named 20 = .ok (.aload_n 0, 1) := dk_42 (dk_at dksX4_named_0 20 rfl rfl)
theorem dX4_named_21 : decode cX4_named 21 = .ok (.getfield 54, 3) := dk_180 0 54 (dk_at dksX4_named_0 21 rfl rfl)
theorem dX4_named_24 : decode cX4_named 24 = .ok (.iconst 5, 1) := dk_8 (dk_at dksX4_named_1 0 rfl rfl)
theorem dX4_named_25 : decode cX4_named 25 = .ok (.iload_n 2, 1) := dk_28 (dk_at dksX4_named_1 1 rfl rfl)
theorem dX4_named_26 : decode cX4_named 26 = .ok (.iconst 0, 1) := dk_3 (dk_at dksX4_named_1 2 rfl rfl)
theorem dX4_named_27 : decode cX4_named 27 = .ok (.invokevirtual 71, 3) := dk_182 0 71 (dk_at dksX4_named_1 3 rfl rfl)
theorem dX4_named_30 : decode cX4_named 30 = .ok (.pop, 1) := dk_87 (dk_at dksX4_named_1 6 rfl rfl)
theorem dX4_named_31 : decode cX4_named 31 = .ok (.aload_n 0, 1) := dk_42 (dk_at dksX4_named_1 7 rfl rfl)
theorem dX4_named_32 : decode cX4_named 32 = .ok (.invokevirtual 141, 3) := dk_182 0 141 (dk_at dksX4_named_1 8 rfl rfl)
theorem dX4_named_35 : decode cX4_named 35 = .ok (.aload_n 0, 1) := dk_42 (dk_at dksX4_named_1 11 rfl rfl)
theorem dX4_named_36 : decode cX4_named 36 = .ok (.getstatic 144, 3) := dk_178 0 144 (dk_at dksX4_named_1 12 rfl rfl)
theorem dX4_named_39 : decode cX4_named 39 = .ok (.invokevirtual 90, 3) := dk_182 0 90 (dk_at dksX4_named_1 15 rfl rfl)
theorem dX4_named_42 : decode cX4_named 42 = .ok (.ifCond .eq 44, 3) := dk_153 0 44 (dk_at dksX4_named_1 18 rfl rfl)
theorem dX4_named_45 : decode cX4_named 45 = .ok (.aload_n 0, 1) := dk_42 (dk_at dksX4_named_1 21 rfl rfl)
theorem dX4_named_46 : decode cX4_named 46 = .ok (.getfield 54, 3) := dk_180 0 54 (dk_at dksX4_named_2 0 rfl rfl)
theorem dX4_named_49 : decode cX4_named 49 = .ok (.getfield 117, 3) := dk_180 0 117 (dk_at dksX4_named_2 3 rfl rfl)
theorem dX4_named_52 : decode cX4_named 52 = .ok (.iload_n 1, 1) := dk_27 (dk_at dksX4_named_2 6 rfl rfl)
theorem dX4_named_53 : decode cX4_named 53 = .ok (.bipush 6, 2) := dk_16 6 (dk_at dksX4_named_2 7 rfl rfl)
theorem dX4_named_55 : decode cX4_named 55 = .ok (.bastore, 1) := dk_84 (dk_at dksX4_named_2 9 rfl rfl)
theorem dX4_named_56 : decode cX4_named 56 = .ok (.aload_n 0, 1) := dk_42 (dk_at dksX4_named_2 10 rfl rfl)
theorem dX4_named_57 : decode cX4_named 57 = .ok (.invokevirtual 147, 3) := dk_182 0 147 (dk_at dksX4_named_2 11 rfl rfl)
theorem dX4_named_60 : decode cX4_named 60 = .ok (.aload_n 0, 1) := dk_42 (dk_at dksX4_named_2 14 rfl rfl)
theorem dX4_named_61 : decode cX4_named 61 = .ok (.getstatic 150, 3) := dk_178 0 150 (dk_at dksX4_named_2 15 rfl rfl)
theorem dX4_named_64 : decode cX4_named 64 = .ok (.invokevirtual 153, 3) := dk_182 0 153 (dk_at dksX4_named_2 18 rfl rfl)
theorem dX4_named_67 : decode cX4_named 67 = .ok (.aload_n 0, 1) := dk_42 (dk_at dksX4_named_2 21 rfl rfl)
theorem dX4_named_68 : decode cX4_named 68 = .ok (.getstatic 219, 3) := dk_178 0 219 (dk_at dksX4_named_3 0 rfl rfl)
theorem dX4_named_71 : decode cX4_named 71 = .ok (.invokevirtual 153, 3) := dk_182 0 153 (dk_at dksX4_named_3 3 rfl rfl)
theorem dX4_named_74 : decode cX4_named 74 = .ok (.aload_n 0, 1) := dk_42 (dk_at dksX4_named_3 6 rfl rfl)
theorem dX4_named_75 : decode cX4_named 75 = .ok (.invokevirtual 147, 3) := dk_182 0 147 (dk_at dksX4_named_3 7 rfl rfl)
theorem dX4_named_78 : decode cX4_named 78 = .ok (.aload_n 0, 1) := dk_42 (dk_at dksX4_named_3 10 rfl rfl)
theorem dX4_named_79 : decode cX4_named 79 = .ok (.getstatic 216, 3) := dk_178 0 216 (dk_at dksX4_named_3 11 rfl rfl)
theorem dX4_named_82 : decode cX4_named 82 = .ok (.invokevirtual 153, 3) := dk_182 0 153 (dk_at dksX4_named_3 14 rfl rfl)
theorem dX4_named_85 : decode cX4_named 85 = .ok (.return_, 1) := dk_177 (dk_at dksX4_named_3 17 rfl rfl)
theorem dX4_named_86 : decode cX4_named 86 = .ok (.aload_n 0, 1) := dk_42 (dk_at dksX4_named_3 18 rfl rfl)
theorem dX4_named_87 : decode cX4_named 87 = .ok (.getstatic 219, 3) := dk_178 0 219 (dk_at dksX4_named_3 19 rfl rfl)
theorem dX4_named_90 : decode cX4_named 90 = .ok (.invokevirtual 153, 3) := dk_182 0 153 (dk_at dksX4_named_4 0 rfl rfl)
theorem dX4_named_93 : decode cX4_named 93 = .ok (.aload_n 0, 1) := dk_42 (dk_at dksX4_named_4 3 rfl rfl)
theorem dX4_named_94 : decode cX4_named 94 = .ok (.getfield 12, 3) := dk_180 0 12 (dk_at dksX4_named_4 4 rfl rfl)
theorem dX4_named_97 : decode cX4_named 97 = .ok (.getfield 42, 3) := dk_180 0 42 (dk_at dksX4_named_4 7 rfl rfl)
theorem dX4_named_100 : decode cX4_named 100 = .ok (.getstatic 49, 3) := dk_178 0 49 (dk_at dksX4_named_4 10 rfl rfl)
theorem dX4_named_103 : decode cX4_named 103 = .ok (.if_acmp .ne 32, 3) := dk_166 0 32 (dk_at dksX4_named_4 13 rfl rfl)
theorem dX4_named_106 : decode cX4_named 106 = .ok (.aload_n 0, 1) := dk_42 (dk_at dksX4_named_4 16 rfl rfl)
theorem dX4_named_107 : decode cX4_named 107 = .ok (.getfield 12, 3) := dk_180 0 12 (dk_at dksX4_named_4 17 rfl rfl)
theorem dX4_named_110 : decode cX4_named 110 = .ok (.invokevirtual 222, 3) := dk_182 0 222 (dk_at dksX4_named_4 20 rfl rfl)
theorem dX4_named_113 : decode cX4_named 113 = .ok (.ifCond .eq 22, 3) := dk_153 0 22 (dk_at dksX4_named_5 0 rfl rfl)
theorem dX4_named_116 : decode cX4_named 116 = .ok (.aload_n 0, 1) := dk_42 (dk_at dksX4_named_5 3 rfl rfl)
theorem dX4_named_117 : decode cX4_named 117 = .ok (.getfield 54, 3) := dk_180 0 54 (dk_at dksX4_named_5 4 rfl rfl)
theorem dX4_named_120 : decode cX4_named 120 = .ok (.getfield 117, 3) := dk_180 0 117 (dk_at dksX4_named_5 7 rfl rfl)
theorem dX4_named_123 : decode cX4_named 123 = .ok (.iload_n 1, 1) := dk_27 (dk_at dksX4_named_5 10 rfl rfl)
theorem dX4_named_124 : decode cX4_named 124 = .ok (.bipush 7, 2) := dk_16 7 (dk_at dksX4_named_5 11 rfl rfl)
theorem dX4_named_126 : decode cX4_named 126 = .ok (.bastore, 1) := dk_84 (dk_at dksX4_named_5 13 rfl rfl)
theorem dX4_named_127 : decode cX4_named 127 = .ok (.aload_n 0, 1) := dk_42 (dk_at dksX4_named_5 14 rfl rfl)
theorem dX4_named_128 : decode cX4_named 128 = .ok (.iload_n 1, 1) := dk_27 (dk_at dksX4_named_5 15 rfl rfl)
theorem dX4_named_129 : decode cX4_named 129 = .ok (.iload_n 2, 1) := dk_28 (dk_at dksX4_named_5 16 rfl rfl)
theorem dX4_named_130 : decode cX4_named 130 = .ok (.iconst 0, 1) := dk_3 (dk_at dksX4_named_5 17 rfl rfl)
theorem dX4_named_131 : decode cX4_named 131 = .ok (.invokevirtual 225, 3) := dk_182 0 225 (dk_at dksX4_named_5 18 rfl rfl)
theorem dX4_named_134 : decode cX4_named 134 = .ok (.return_, 1) := dk_177 (dk_at dksX4_named_5 21 rfl rfl)
theorem dX4_named_135 : decode cX4_named 135 = .ok (.aload_n 0, 1) := dk_42 (dk_at dksX4_named_5 22 rfl rfl)
theorem dX4_named_136 : decode cX4_named 136 = .ok (.invokevirtual 147, 3) := dk_182 0 147 (dk_at dksX4_named_6 0 rfl rfl)
theorem dX4_named_139 : decode cX4_named 139 = .ok (.aload_n 0, 1) := dk_42 (dk_at dksX4_named_6 3 rfl rfl)
theorem dX4_named_140 : decode cX4_named 140 = .ok (.getstatic 216, 3) := dk_178 0 216 (dk_at dksX4_named_6 4 rfl rfl)
theorem dX4_named_143 : decode cX4_named 143 = .ok (.invokevirtual 153, 3) := dk_182 0 153 (dk_at dksX4_named_6 7 rfl rfl)
theorem dX4_named_146 : decode cX4_named 146 = .ok (.return_, 1) := dk_177 (dk_at dksX4_named_6 10 rfl rfl)
abbrev cX4_called : ByteArray := prog_4_method_21_code
def yX4_called : MethodName := ⟨RX4, "called", "(IIZ)V"⟩
def dkwX4_called_3 : List UInt8 := [182, 0, 153, 42, 178, 0, 216, 182, 0, 153, 177]
abbrev dktX4_called_3 : List UInt8 := dkwX4_called_3 ++ []
def dkwX4_called_2 : List UInt8 := [178, 0, 157, 165, 0, 17, 42, 182, 0, 147, 42, 178, 0, 166, 182, 0, 90, 154, 255, 245, 42, 178, 0, 157]
abbrev dktX4_called_2 : List UInt8 := dkwX4_called_2 ++ dktX4_called_3
def dkwX4_called_1 : List UInt8 := [182, 0, 71, 87, 42, 182, 0, 141, 42, 180, 0, 12, 182, 0, 46, 42, 180, 0, 12, 180, 0, 42]
abbrev dktX4_called_1 : List UInt8 := dkwX4_called_1 ++ dktX4_called_2
def dkwX4_called_0 : List UInt8 := [29, 153, 0, 27, 42, 180, 0, 54, 16, 7, 28, 3, 182, 0, 71, 87, 42, 180, 0, 54, 16, 33, 28, 3]
abbrev dktX4_called_0 : List UInt8 := dkwX4_called_0 ++ dktX4_called_1
theorem dksX4_called_0 : cX4_called.data.toList.drop 0 = dktX4_called_0 := by decide +kernel
theorem dksX4_called_1 : cX4_called.data.toList.drop 24 = dktX4_called_1 := dk_seg dksX4_called_0 24 rfl rfl
theorem dksX4_called_2 : cX4_called.data.toList.drop 46 = dktX4_called_2 := dk_seg dksX4_called_1 22 rfl rfl
theorem dksX4_called_3 : cX4_called.data.toList.drop 70 = dktX4_called_3 := dk_seg dksX4_called_2 24 rfl rfl
theorem dX4_called_0 : decode cX4_called 0 = .ok (.iload_n 3, 1) := dk_29 (dk_at dksX4_called_0 0 rfl rfl)
theorem dX4_called_1 : decode cX4_called 1 = .ok (.ifCond .eq 27, 3) := dk_153 0 27 (dk_at dksX4_called_0 1 rfl rfl)
theorem dX4_called_4 : decode cX4_called 4 = .ok (.aload_n 0, 1) := dk_42 (dk_at dksX4_called_0 4 rfl rfl)
theorem dX4_called_5 : decode cX4_called 5 = .ok (.getfield 54, 3) := dk_180 0 54 (dk_at dksX4_called_0 5 rfl rfl)
theorem dX4_called_8 : decode cX4_called 8 = .ok (.bipush 7, 2) := dk_16 7 (dk_at dksX4_called_0 8 rfl rfl)
theorem dX4_called_10 : decode cX4_called 10 = .ok (.iload_n 2, 1) := dk_28 (dk_at dksX4_called_0 10 rfl rfl)
theorem dX4_called_11 : decode cX4_called 11 = .ok (.iconst 0, 1) := dk_3 (dk_at dksX4_called_0 11 rfl rfl)
theorem dX4_called_12 : decode cX4_called 12 = .ok (.invokevirtual 71, 3) := dk_182 0 71 (dk_at dksX4_called_0 12 rfl rfl)
theorem dX4_called_15 : decode cX4_called 15 = .ok (.pop, 1) := dk_87 (dk_at dksX4_called_0 15 rfl rfl)
theorem dX4_called_16 : decode cX4_called 16 = .ok (.aload_n 0, 1) := dk_42 (dk_at dksX4_called_0 16 rfl rfl)
theorem dX4_called_17 : decode cX4_called 17 = .ok (.getfield 54, 3) := dk_180 0 54 (dk_at dksX4_called_0 17 rfl rfl)
theorem dX4_called_20 : decode cX4_called 20 = .ok (.bipush 33, 2) := dk_16 33 (dk_at dksX4_called_0 20 rfl rfl)
theorem dX4_called_22 : decode cX4_called 22 = .ok (.iload_n 2, 1) := dk_28 (dk_at dksX4_called_0 22 rfl rfl)
theorem dX4_called_23 : decode cX4_called 23 = .ok (.iconst 0, 1) := dk_3 (dk_at dksX4_called_0 23 rfl rfl)
theorem dX4_called_24 : decode cX4_called 24 = .ok (.invokevirtual 71, 3) := dk_182 0 71 (dk_at dksX4_called_1 0 rfl rfl)
theorem dX4_called_27 : decode cX4_called 27 = .ok (.pop, 1) := dk_87 (dk_at dksX4_called_1 3 rfl rfl)
theorem dX4_called_28 : decode cX4_called 28 = .ok (.aload_n 0, 1) := dk_42 (dk_at dksX4_called_1 4 rfl rfl)
theorem dX4_called_29 : decode cX4_called 29 = .ok (.invokevirtual 141, 3) := dk_182 0 141 (dk_at dksX4_called_1 5 rfl rfl)
theorem dX4_called_32 : decode cX4_called 32 = .ok (.aload_n 0, 1) := dk_42 (dk_at dksX4_called_1 8 rfl rfl)
theorem dX4_called_33 : decode cX4_called 33 = .ok (.getfield 12, 3) := dk_180 0 12 (dk_at dksX4_called_1 9 rfl rfl)
theorem dX4_called_36 : decode cX4_called 36 = .ok (.invokevirtual 46, 3) := dk_182 0 46 (dk_at dksX4_called_1 12 rfl rfl)
theorem dX4_called_39 : decode cX4_called 39 = .ok (.aload_n 0, 1) := dk_42 (dk_at dksX4_called_1 15 rfl rfl)
theorem dX4_called_40 : decode cX4_called 40 = .ok (.getfield 12, 3) := dk_180 0 12 (dk_at dksX4_called_1 16 rfl rfl)
theorem dX4_called_43 : decode cX4_called 43 = .ok (.getfield 42, 3) := dk_180 0 42 (dk_at dksX4_called_1 19 rfl rfl)
theorem dX4_called_46 : decode cX4_called 46 = .ok (.getstatic 157, 3) := dk_178 0 157 (dk_at dksX4_called_2 0 rfl rfl)
theorem dX4_called_49 : decode cX4_called 49 = .ok (.if_acmp .eq 17, 3) := dk_165 0 17 (dk_at dksX4_called_2 3 rfl rfl)
theorem dX4_called_52 : decode cX4_called 52 = .ok (.aload_n 0, 1) := dk_42 (dk_at dksX4_called_2 6 rfl rfl)
theorem dX4_called_53 : decode cX4_called 53 = .ok (.invokevirtual 147, 3) := dk_182 0 147 (dk_at dksX4_called_2 7 rfl rfl)
theorem dX4_called_56 : decode cX4_called 56 = .ok (.aload_n 0, 1) := dk_42 (dk_at dksX4_called_2 10 rfl rfl)
theorem dX4_called_57 : decode cX4_called 57 = .ok (.getstatic 166, 3) := dk_178 0 166 (dk_at dksX4_called_2 11 rfl rfl)
theorem dX4_called_60 : decode cX4_called 60 = .ok (.invokevirtual 90, 3) := dk_182 0 90 (dk_at dksX4_called_2 14 rfl rfl)
theorem dX4_called_63 : decode cX4_called 63 = .ok (.ifCond .ne (-11), 3) := dk_154 255 245 (dk_at dksX4_called_2 17 rfl rfl)
theorem dX4_called_66 : decode cX4_called 66 = .ok (.aload_n 0, 1) := dk_42 (dk_at dksX4_called_2 20 rfl rfl)
theorem dX4_called_67 : decode cX4_called 67 = .ok (.getstatic 157, 3) := dk_178 0 157 (dk_at dksX4_called_2 21 rfl rfl)
theorem dX4_called_70 : decode cX4_called 70 = .ok (.invokevirtual 153, 3) := dk_182 0 153 (dk_at dksX4_called_3 0 rfl rfl)
theorem dX4_called_73 : decode cX4_called 73 = .ok (.aload_n 0, 1) := dk_42 (dk_at dksX4_called_3 3 rfl rfl)
theorem dX4_called_74 : decode cX4_called 74 = .ok (.getstatic 216, 3) := dk_178 0 216 (dk_at dksX4_called_3 4 rfl rfl)
theorem dX4_called_77 : decode cX4_called 77 = .ok (.invokevirtual 153, 3) := dk_182 0 153 (dk_at dksX4_called_3 7 rfl rfl)
theorem dX4_called_80 : decode cX4_called 80 = .ok (.return_, 1) := dk_177 (dk_at dksX4_called_3 10 rfl rfl)
abbrev cX4_condition : ByteArray := prog_4_method_18_code
def yX4_condition : MethodName := ⟨RX4, "condition", "()V"⟩
def dkwX4_condition_1 : List UInt8 := [182, 0, 153, 177]
abbrev dktX4_condition_1 : List UInt8 := dkwX4_condition_1 ++ []
def dkwX4_condition_0 : List UInt8 := [42, 180, 0, 12, 182, 0, 46, 42, 178, 0, 160, 182, 0, 153, 42, 182, 0, 185, 42, 178, 0, 157]
abbrev dktX4_condition_0 : List UInt8 := dkwX4_condition_0 ++ dktX4_condition_1
theorem dksX4_condition_0 : cX4_condition.data.toList.drop 0 = dktX4_condition_0 := by decide +kernel
theorem dksX4_condition_1 : cX4_condition.data.toList.drop 22 = dktX4_condition_1 := dk_seg dksX4_condition_0 22 rfl rfl
theorem dX4_condition_0 : decode cX4_condition 0 = .ok (.aload_n 0, 1) := dk_42 (dk_at dksX4_condition_0 0 rfl rfl)
theorem dX4_condition_1 : decode cX4_condition 1 = .ok (.getfield 12, 3) := dk_180 0 12 (dk_at dksX4_condition_0 1 rfl rfl)
theorem dX4_condition_4 : decode cX4_condition 4 = .ok (.invokevirtual 46, 3) := dk_182 0 46 (dk_at dksX4_condition_0 4 rfl rfl)
theorem dX4_condition_7 : decode cX4_condition 7 = .ok (.aload_n 0, 1) := dk_42 (dk_at dksX4_condition_0 7 rfl rfl)
theorem dX4_condition_8 : decode cX4_condition 8 = .ok (.getstatic 160, 3) := dk_178 0 160 (dk_at dksX4_condition_0 8 rfl rfl)
theorem dX4_condition_11 : decode cX4_condition 11 = .ok (.invokevirtual 153, 3) := dk_182 0 153 (dk_at dksX4_condition_0 11 rfl rfl)
theorem dX4_condition_14 : decode cX4_condition 14 = .ok (.aload_n 0, 1) := dk_42 (dk_at dksX4_condition_0 14 rfl rfl)
theorem dX4_condition_15 : decode cX4_condition 15 = .ok (.invokevirtual 185, 3) := dk_182 0 185 (dk_at dksX4_condition_0 15 rfl rfl)
theorem dX4_condition_18 : decode cX4_condition 18 = .ok (.aload_n 0, 1) := dk_42 (dk_at dksX4_condition_0 18 rfl rfl)
theorem dX4_condition_19 : decode cX4_condition 19 = .ok (.getstatic 157, 3) := dk_178 0 157 (dk_at dksX4_condition_0 19 rfl rfl)
theorem dX4_condition_22 : decode cX4_condition 22 = .ok (.invokevirtual 153, 3) := dk_182 0 153 (dk_at dksX4_condition_1 0 rfl rfl)
theorem dX4_condition_25 : decode cX4_condition 25 = .ok (.return_, 1) := dk_177 (dk_at dksX4_condition_1 3 rfl rfl)
abbrev cX4_cond : ByteArray := prog_4_method_13_code
def yX4_cond : MethodName := ⟨RX4, "cond", "()V"⟩
def dkwX4_cond_0 : List UInt8 := [42, 182, 0, 97, 42, 16, 24, 178, 0, 169, 182, 0, 172, 42, 89, 180, 0, 36, 4, 100, 181, 0, 36, 177]
abbrev dktX4_cond_0 : List UInt8 := dkwX4_cond_0 ++ []
theorem dksX4_cond_0 : cX4_cond.data.toList.drop 0 = dktX4_cond_0 := by decide +kernel
theorem dX4_cond_0 : decode cX4_cond 0 = .ok (.aload_n 0, 1) := dk_42 (dk_at dksX4_cond_0 0 rfl rfl)
theorem dX4_cond_1 : decode cX4_cond 1 = .ok (.invokevirtual 97, 3) := dk_182 0 97 (dk_at dksX4_cond_0 1 rfl rfl)
theorem dX4_cond_4 : decode cX4_cond 4 = .ok (.aload_n 0, 1) := dk_42 (dk_at dksX4_cond_0 4 rfl rfl)
theorem dX4_cond_5 : decode cX4_cond 5 = .ok (.bipush 24, 2) := dk_16 24 (dk_at dksX4_cond_0 5 rfl rfl)
theorem dX4_cond_7 : decode cX4_cond 7 = .ok (.getstatic 169, 3) := dk_178 0 169 (dk_at dksX4_cond_0 7 rfl rfl)
theorem dX4_cond_10 : decode cX4_cond 10 = .ok (.invokevirtual 172, 3) := dk_182 0 172 (dk_at dksX4_cond_0 10 rfl rfl)
theorem dX4_cond_13 : decode cX4_cond 13 = .ok (.aload_n 0, 1) := dk_42 (dk_at dksX4_cond_0 13 rfl rfl)
theorem dX4_cond_14 : decode cX4_cond 14 = .ok (.dup, 1) := dk_89 (dk_at dksX4_cond_0 14 rfl rfl)
theorem dX4_cond_15 : decode cX4_cond 15 = .ok (.getfield 36, 3) := dk_180 0 36 (dk_at dksX4_cond_0 15 rfl rfl)
theorem dX4_cond_18 : decode cX4_cond 18 = .ok (.iconst 1, 1) := dk_4 (dk_at dksX4_cond_0 18 rfl rfl)
theorem dX4_cond_19 : decode cX4_cond 19 = .ok (.isub, 1) := dk_100 (dk_at dksX4_cond_0 19 rfl rfl)
theorem dX4_cond_20 : decode cX4_cond 20 = .ok (.putfield 36, 3) := dk_181 0 36 (dk_at dksX4_cond_0 20 rfl rfl)
theorem dX4_cond_23 : decode cX4_cond 23 = .ok (.return_, 1) := dk_177 (dk_at dksX4_cond_0 23 rfl rfl)
abbrev cX4_joined : ByteArray := prog_4_method_14_code
def yX4_joined : MethodName := ⟨RX4, "joined", "(ILProgramReader$Token;)V"⟩
def dkwX4_joined_4 : List UInt8 := [182, 0, 172, 167, 255, 234, 42, 182, 0, 179, 167, 255, 227, 42, 180, 0, 54, 29, 182, 0, 77, 177]
abbrev dktX4_joined_4 : List UInt8 := dkwX4_joined_4 ++ []
def dkwX4_joined_3 : List UInt8 := [182, 0, 113, 42, 44, 182, 0, 90, 153, 0, 27, 21, 4, 153, 0, 15, 42, 16, 25, 178, 0, 176]
abbrev dktX4_joined_3 : List UInt8 := dkwX4_joined_3 ++ dktX4_joined_4
def dkwX4_joined_2 : List UInt8 := [180, 0, 42, 44, 165, 0, 4, 177, 42, 180, 0, 54, 29, 4, 27, 42, 180, 0, 54, 180, 0, 109, 29, 46]
abbrev dktX4_joined_2 : List UInt8 := dkwX4_joined_2 ++ dktX4_joined_3
def dkwX4_joined_1 : List UInt8 := [153, 0, 15, 42, 16, 25, 178, 0, 176, 182, 0, 172, 167, 0, 7, 42, 182, 0, 179, 42, 180, 0, 12]
abbrev dktX4_joined_1 : List UInt8 := dkwX4_joined_1 ++ dktX4_joined_2
def dkwX4_joined_0 : List UInt8 := [42, 180, 0, 54, 180, 0, 100, 62, 27, 16, 24, 160, 0, 7, 4, 167, 0, 4, 3, 54, 4, 21, 4]
abbrev dktX4_joined_0 : List UInt8 := dkwX4_joined_0 ++ dktX4_joined_1
theorem dksX4_joined_0 : cX4_joined.data.toList.drop 0 = dktX4_joined_0 := by decide +kernel
theorem dksX4_joined_1 : cX4_joined.data.toList.drop 23 = dktX4_joined_1 := dk_seg dksX4_joined_0 23 rfl rfl
theorem dksX4_joined_2 : cX4_joined.data.toList.drop 46 = dktX4_joined_2 := dk_seg dksX4_joined_1 23 rfl rfl
theorem dksX4_joined_3 : cX4_joined.data.toList.drop 70 = dktX4_joined_3 := dk_seg dksX4_joined_2 24 rfl rfl
theorem dksX4_joined_4 : cX4_joined.data.toList.drop 92 = dktX4_joined_4 := dk_seg dksX4_joined_3 22 rfl rfl
theorem dX4_joined_0 : decode cX4_joined 0 = .ok (.aload_n 0, 1) := dk_42 (dk_at dksX4_joined_0 0 rfl rfl)
theorem dX4_joined_1 : decode cX4_joined 1 = .ok (.getfield 54, 3) := dk_180 0 54 (dk_at dksX4_joined_0 1 rfl rfl)
theorem dX4_joined_4 : decode cX4_joined 4 = .ok (.getfield 100, 3) := dk_180 0 100 (dk_at dksX4_joined_0 4 rfl rfl)
theorem dX4_joined_7 : decode cX4_joined 7 = .ok (.istore_n 3, 1) := dk_62 (dk_at dksX4_joined_0 7 rfl rfl)
theorem dX4_joined_8 : decode cX4_joined 8 = .ok (.iload_n 1, 1) := dk_27 (dk_at dksX4_joined_0 8 rfl rfl)
theorem dX4_joined_9 : decode cX4_joined 9 = .ok (.bipush 24, 2) := dk_16 24 (dk_at dksX4_joined_0 9 rfl rfl)
theorem dX4_joined_11 : decode cX4_joined 11 = .ok (.if_icmp .ne 7, 3) := dk_160 0 7 (dk_at dksX4_joined_0 11 rfl rfl)
theorem dX4_joined_14 : decode cX4_joined 14 = .ok (.iconst 1, 1) := dk_4 (dk_at dksX4_joined_0 14 rfl rfl)
theorem dX4_joined_15 : decode cX4_joined 15 = .ok (.goto 4, 3) := dk_167 0 4 (dk_at dksX4_joined_0 15 rfl rfl)
theorem dX4_joined_18 : decode cX4_joined 18 = .ok (.iconst 0, 1) := dk_3 (dk_at dksX4_joined_0 18 rfl rfl)
theorem dX4_joined_19 : decode cX4_joined 19 = .ok (.istore 4, 2) := dk_54 4 (dk_at dksX4_joined_0 19 rfl rfl)
theorem dX4_joined_21 : decode cX4_joined 21 = .ok (.iload 4, 2) := dk_21 4 (dk_at dksX4_joined_0 21 rfl rfl)
theorem dX4_joined_23 : decode cX4_joined 23 = .ok (.ifCond .eq 15, 3) := dk_153 0 15 (dk_at dksX4_joined_1 0 rfl rfl)
theorem dX4_joined_26 : decode cX4_joined 26 = .ok (.aload_n 0, 1) := dk_42 (dk_at dksX4_joined_1 3 rfl rfl)
theorem dX4_joined_27 : decode cX4_joined 27 = .ok (.bipush 25, 2) := dk_16 25 (dk_at dksX4_joined_1 4 rfl rfl)
theorem dX4_joined_29 : decode cX4_joined 29 = .ok (.getstatic 176, 3) := dk_178 0 176 (dk_at dksX4_joined_1 6 rfl rfl)
theorem dX4_joined_32 : decode cX4_joined 32 = .ok (.invokevirtual 172, 3) := dk_182 0 172 (dk_at dksX4_joined_1 9 rfl rfl)
theorem dX4_joined_35 : decode cX4_joined 35 = .ok (.goto 7, 3) := dk_167 0 7 (dk_at dksX4_joined_1 12 rfl rfl)
theorem dX4_joined_38 : decode cX4_joined 38 = .ok (.aload_n 0, 1) := dk_42 (dk_at dksX4_joined_1 15 rfl rfl)
theorem dX4_joined_39 : decode cX4_joined 39 = .ok (.invokevirtual 179, 3) := dk_182 0 179 (dk_at dksX4_joined_1 16 rfl rfl)
theorem dX4_joined_42 : decode cX4_joined 42 = .ok (.aload_n 0, 1) := dk_42 (dk_at dksX4_joined_1 19 rfl rfl)
theorem dX4_joined_43 : decode cX4_joined 43 = .ok (.getfield 12, 3) := dk_180 0 12 (dk_at dksX4_joined_1 20 rfl rfl)
theorem dX4_joined_46 : decode cX4_joined 46 = .ok (.getfield 42, 3) := dk_180 0 42 (dk_at dksX4_joined_2 0 rfl rfl)
theorem dX4_joined_49 : decode cX4_joined 49 = .ok (.aload_n 2, 1) := dk_44 (dk_at dksX4_joined_2 3 rfl rfl)
theorem dX4_joined_50 : decode cX4_joined 50 = .ok (.if_acmp .eq 4, 3) := dk_165 0 4 (dk_at dksX4_joined_2 4 rfl rfl)
theorem dX4_joined_53 : decode cX4_joined 53 = .ok (.return_, 1) := dk_177 (dk_at dksX4_joined_2 7 rfl rfl)
theorem dX4_joined_54 : decode cX4_joined 54 = .ok (.aload_n 0, 1) := dk_42 (dk_at dksX4_joined_2 8 rfl rfl)
theorem dX4_joined_55 : decode cX4_joined 55 = .ok (.getfield 54, 3) := dk_180 0 54 (dk_at dksX4_joined_2 9 rfl rfl)
theorem dX4_joined_58 : decode cX4_joined 58 = .ok (.iload_n 3, 1) := dk_29 (dk_at dksX4_joined_2 12 rfl rfl)
theorem dX4_joined_59 : decode cX4_joined 59 = .ok (.iconst 1, 1) := dk_4 (dk_at dksX4_joined_2 13 rfl rfl)
theorem dX4_joined_60 : decode cX4_joined 60 = .ok (.iload_n 1, 1) := dk_27 (dk_at dksX4_joined_2 14 rfl rfl)
theorem dX4_joined_61 : decode cX4_joined 61 = .ok (.aload_n 0, 1) := dk_42 (dk_at dksX4_joined_2 15 rfl rfl)
theorem dX4_joined_62 : decode cX4_joined 62 = .ok (.getfield 54, 3) := dk_180 0 54 (dk_at dksX4_joined_2 16 rfl rfl)
theorem dX4_joined_65 : decode cX4_joined 65 = .ok (.getfield 109, 3) := dk_180 0 109 (dk_at dksX4_joined_2 19 rfl rfl)
theorem dX4_joined_68 : decode cX4_joined 68 = .ok (.iload_n 3, 1) := dk_29 (dk_at dksX4_joined_2 22 rfl rfl)
theorem dX4_joined_69 : decode cX4_joined 69 = .ok (.iaload, 1) := dk_46 (dk_at dksX4_joined_2 23 rfl rfl)
theorem dX4_joined_70 : decode cX4_joined 70 = .ok (.invokevirtual 113, 3) := dk_182 0 113 (dk_at dksX4_joined_3 0 rfl rfl)
theorem dX4_joined_73 : decode cX4_joined 73 = .ok (.aload_n 0, 1) := dk_42 (dk_at dksX4_joined_3 3 rfl rfl)
theorem dX4_joined_74 : decode cX4_joined 74 = .ok (.aload_n 2, 1) := dk_44 (dk_at dksX4_joined_3 4 rfl rfl)
theorem dX4_joined_75 : decode cX4_joined 75 = .ok (.invokevirtual 90, 3) := dk_182 0 90 (dk_at dksX4_joined_3 5 rfl rfl)
theorem dX4_joined_78 : decode cX4_joined 78 = .ok (.ifCond .eq 27, 3) := dk_153 0 27 (dk_at dksX4_joined_3 8 rfl rfl)
theorem dX4_joined_81 : decode cX4_joined 81 = .ok (.iload 4, 2) := dk_21 4 (dk_at dksX4_joined_3 11 rfl rfl)
theorem dX4_joined_83 : decode cX4_joined 83 = .ok (.ifCond .eq 15, 3) := dk_153 0 15 (dk_at dksX4_joined_3 13 rfl rfl)
theorem dX4_joined_86 : decode cX4_joined 86 = .ok (.aload_n 0, 1) := dk_42 (dk_at dksX4_joined_3 16 rfl rfl)
theorem dX4_joined_87 : decode cX4_joined 87 = .ok (.bipush 25, 2) := dk_16 25 (dk_at dksX4_joined_3 17 rfl rfl)
theorem dX4_joined_89 : decode cX4_joined 89 = .ok (.getstatic 176, 3) := dk_178 0 176 (dk_at dksX4_joined_3 19 rfl rfl)
theorem dX4_joined_92 : decode cX4_joined 92 = .ok (.invokevirtual 172, 3) := dk_182 0 172 (dk_at dksX4_joined_4 0 rfl rfl)
theorem dX4_joined_95 : decode cX4_joined 95 = .ok (.goto (-22), 3) := dk_167 255 234 (dk_at dksX4_joined_4 3 rfl rfl)
theorem dX4_joined_98 : decode cX4_joined 98 = .ok (.aload_n 0, 1) := dk_42 (dk_at dksX4_joined_4 6 rfl rfl)
theorem dX4_joined_99 : decode cX4_joined 99 = .ok (.invokevirtual 179, 3) := dk_182 0 179 (dk_at dksX4_joined_4 7 rfl rfl)
theorem dX4_joined_102 : decode cX4_joined 102 = .ok (.goto (-29), 3) := dk_167 255 227 (dk_at dksX4_joined_4 10 rfl rfl)
theorem dX4_joined_105 : decode cX4_joined 105 = .ok (.aload_n 0, 1) := dk_42 (dk_at dksX4_joined_4 13 rfl rfl)
theorem dX4_joined_106 : decode cX4_joined 106 = .ok (.getfield 54, 3) := dk_180 0 54 (dk_at dksX4_joined_4 14 rfl rfl)
theorem dX4_joined_109 : decode cX4_joined 109 = .ok (.iload_n 3, 1) := dk_29 (dk_at dksX4_joined_4 17 rfl rfl)
theorem dX4_joined_110 : decode cX4_joined 110 = .ok (.invokevirtual 77, 3) := dk_182 0 77 (dk_at dksX4_joined_4 18 rfl rfl)
theorem dX4_joined_113 : decode cX4_joined 113 = .ok (.return_, 1) := dk_177 (dk_at dksX4_joined_4 21 rfl rfl)
abbrev cX4_test : ByteArray := prog_4_method_15_code
def yX4_test : MethodName := ⟨RX4, "test", "()V"⟩
def dkwX4_test_7 : List UInt8 := [182, 0, 147, 42, 180, 0, 54, 27, 182, 0, 77, 177]
abbrev dktX4_test_7 : List UInt8 := dkwX4_test_7 ++ []
def dkwX4_test_6 : List UInt8 := [16, 27, 28, 96, 42, 180, 0, 54, 180, 0, 109, 27, 46, 182, 0, 113, 42, 180, 0, 12, 182, 0, 46, 42]
abbrev dktX4_test_6 : List UInt8 := dkwX4_test_6 ++ dktX4_test_7
def dkwX4_test_5 : List UInt8 := [182, 0, 137, 100, 61, 28, 155, 0, 8, 28, 8, 164, 0, 7, 42, 182, 0, 39, 42, 180, 0, 54, 27, 4]
abbrev dktX4_test_5 : List UInt8 := dkwX4_test_5 ++ dktX4_test_6
def dkwX4_test_4 : List UInt8 := [182, 0, 153, 167, 0, 79, 42, 182, 0, 147, 42, 180, 0, 12, 180, 0, 42, 182, 0, 137, 178, 0, 188]
abbrev dktX4_test_4 : List UInt8 := dkwX4_test_4 ++ dktX4_test_5
def dkwX4_test_3 : List UInt8 := [182, 0, 77, 167, 0, 103, 42, 178, 0, 144, 182, 0, 90, 153, 0, 17, 42, 182, 0, 185, 42, 178, 0, 150]
abbrev dktX4_test_3 : List UInt8 := dkwX4_test_3 ++ dktX4_test_4
def dkwX4_test_2 : List UInt8 := [42, 182, 0, 97, 42, 182, 0, 179, 42, 89, 180, 0, 36, 4, 100, 181, 0, 36, 42, 180, 0, 54, 27]
abbrev dktX4_test_2 : List UInt8 := dkwX4_test_2 ++ dktX4_test_3
def dkwX4_test_1 : List UInt8 := [180, 0, 54, 16, 26, 42, 180, 0, 12, 180, 0, 22, 3, 182, 0, 71, 87, 42, 180, 0, 12, 182, 0, 46]
abbrev dktX4_test_1 : List UInt8 := dkwX4_test_1 ++ dktX4_test_2
def dkwX4_test_0 : List UInt8 := [42, 180, 0, 54, 180, 0, 100, 60, 42, 180, 0, 12, 180, 0, 42, 178, 0, 182, 166, 0, 57, 42]
abbrev dktX4_test_0 : List UInt8 := dkwX4_test_0 ++ dktX4_test_1
theorem dksX4_test_0 : cX4_test.data.toList.drop 0 = dktX4_test_0 := by decide +kernel
theorem dksX4_test_1 : cX4_test.data.toList.drop 22 = dktX4_test_1 := dk_seg dksX4_test_0 22 rfl rfl
theorem dksX4_test_2 : cX4_test.data.toList.drop 46 = dktX4_test_2 := dk_seg dksX4_test_1 24 rfl rfl
theorem dksX4_test_3 : cX4_test.data.toList.drop 69 = dktX4_test_3 := dk_seg dksX4_test_2 23 rfl rfl
theorem dksX4_test_4 : cX4_test.data.toList.drop 93 = dktX4_test_4 := dk_seg dksX4_test_3 24 rfl rfl
theorem dksX4_test_5 : cX4_test.data.toList.drop 116 = dktX4_test_5 := dk_seg dksX4_test_4 23 rfl rfl
theorem dksX4_test_6 : cX4_test.data.toList.drop 140 = dktX4_test_6 := dk_seg dksX4_test_5 24 rfl rfl
theorem dksX4_test_7 : cX4_test.data.toList.drop 164 = dktX4_test_7 := dk_seg dksX4_test_6 24 rfl rfl
theorem dX4_test_0 : decode cX4_test 0 = .ok (.aload_n 0, 1) := dk_42 (dk_at dksX4_test_0 0 rfl rfl)
theorem dX4_test_1 : decode cX4_test 1 = .ok (.getfield 54, 3) := dk_180 0 54 (dk_at dksX4_test_0 1 rfl rfl)
theorem dX4_test_4 : decode cX4_test 4 = .ok (.getfield 100, 3) := dk_180 0 100 (dk_at dksX4_test_0 4 rfl rfl)
theorem dX4_test_7 : decode cX4_test 7 = .ok (.istore_n 1, 1) := dk_60 (dk_at dksX4_test_0 7 rfl rfl)
theorem dX4_test_8 : decode cX4_test 8 = .ok (.aload_n 0, 1) := dk_42 (dk_at dksX4_test_0 8 rfl rfl)
theorem dX4_test_9 : decode cX4_test 9 = .ok (.getfield 12, 3) := dk_180 0 12 (dk_at dksX4_test_0 9 rfl rfl)
theorem dX4_test_12 : decode cX4_test 12 = .ok (.getfield 42, 3) := dk_180 0 42 (dk_at dksX4_test_0 12 rfl rfl)
theorem dX4_test_15 : decode cX4_test 15 = .ok (.getstatic 182, 3) := dk_178 0 182 (dk_at dksX4_test_0 15 rfl rfl)
theorem dX4_test_18 : decode cX4_test 18 = .ok (.if_acmp .ne 57, 3) := dk_166 0 57 (dk_at dksX4_test_0 18 rfl rfl)
theorem dX4_test_21 : decode cX4_test 21 = .ok (.aload_n 0, 1) := dk_42 (dk_at dksX4_test_0 21 rfl rfl)
theorem dX4_test_22 : decode cX4_test 22 = .ok (.getfield 54, 3) := dk_180 0 54 (dk_at dksX4_test_1 0 rfl rfl)
theorem dX4_test_25 : decode cX4_test 25 = .ok (.bipush 26, 2) := dk_16 26 (dk_at dksX4_test_1 3 rfl rfl)
theorem dX4_test_27 : decode cX4_test 27 = .ok (.aload_n 0, 1) := dk_42 (dk_at dksX4_test_1 5 rfl rfl)
theorem dX4_test_28 : decode cX4_test 28 = .ok (.getfield 12, 3) := dk_180 0 12 (dk_at dksX4_test_1 6 rfl rfl)
theorem dX4_test_31 : decode cX4_test 31 = .ok (.getfield 22, 3) := dk_180 0 22 (dk_at dksX4_test_1 9 rfl rfl)
theorem dX4_test_34 : decode cX4_test 34 = .ok (.iconst 0, 1) := dk_3 (dk_at dksX4_test_1 12 rfl rfl)
theorem dX4_test_35 : decode cX4_test 35 = .ok (.invokevirtual 71, 3) := dk_182 0 71 (dk_at dksX4_test_1 13 rfl rfl)
theorem dX4_test_38 : decode cX4_test 38 = .ok (.pop, 1) := dk_87 (dk_at dksX4_test_1 16 rfl rfl)
theorem dX4_test_39 : decode cX4_test 39 = .ok (.aload_n 0, 1) := dk_42 (dk_at dksX4_test_1 17 rfl rfl)
theorem dX4_test_40 : decode cX4_test 40 = .ok (.getfield 12, 3) := dk_180 0 12 (dk_at dksX4_test_1 18 rfl rfl)
theorem dX4_test_43 : decode cX4_test 43 = .ok (.invokevirtual 46, 3) := dk_182 0 46 (dk_at dksX4_test_1 21 rfl rfl)
theorem dX4_test_46 : decode cX4_test 46 = .ok (.aload_n 0, 1) := dk_42 (dk_at dksX4_test_2 0 rfl rfl)
theorem dX4_test_47 : decode cX4_test 47 = .ok (.invokevirtual 97, 3) := dk_182 0 97 (dk_at dksX4_test_2 1 rfl rfl)
theorem dX4_test_50 : decode cX4_test 50 = .ok (.aload_n 0, 1) := dk_42 (dk_at dksX4_test_2 4 rfl rfl)
theorem dX4_test_51 : decode cX4_test 51 = .ok (.invokevirtual 179, 3) := dk_182 0 179 (dk_at dksX4_test_2 5 rfl rfl)
theorem dX4_test_54 : decode cX4_test 54 = .ok (.aload_n 0, 1) := dk_42 (dk_at dksX4_test_2 8 rfl rfl)
theorem dX4_test_55 : decode cX4_test 55 = .ok (.dup, 1) := dk_89 (dk_at dksX4_test_2 9 rfl rfl)
theorem dX4_test_56 : decode cX4_test 56 = .ok (.getfield 36, 3) := dk_180 0 36 (dk_at dksX4_test_2 10 rfl rfl)
theorem dX4_test_59 : decode cX4_test 59 = .ok (.iconst 1, 1) := dk_4 (dk_at dksX4_test_2 13 rfl rfl)
theorem dX4_test_60 : decode cX4_test 60 = .ok (.isub, 1) := dk_100 (dk_at dksX4_test_2 14 rfl rfl)
theorem dX4_test_61 : decode cX4_test 61 = .ok (.putfield 36, 3) := dk_181 0 36 (dk_at dksX4_test_2 15 rfl rfl)
theorem dX4_test_64 : decode cX4_test 64 = .ok (.aload_n 0, 1) := dk_42 (dk_at dksX4_test_2 18 rfl rfl)
theorem dX4_test_65 : decode cX4_test 65 = .ok (.getfield 54, 3) := dk_180 0 54 (dk_at dksX4_test_2 19 rfl rfl)
theorem dX4_test_68 : decode cX4_test 68 = .ok (.iload_n 1, 1) := dk_27 (dk_at dksX4_test_2 22 rfl rfl)
theorem dX4_test_69 : decode cX4_test 69 = .ok (.invokevirtual 77, 3) := dk_182 0 77 (dk_at dksX4_test_3 0 rfl rfl)
theorem dX4_test_72 : decode cX4_test 72 = .ok (.goto 103, 3) := dk_167 0 103 (dk_at dksX4_test_3 3 rfl rfl)
theorem dX4_test_75 : decode cX4_test 75 = .ok (.aload_n 0, 1) := dk_42 (dk_at dksX4_test_3 6 rfl rfl)
theorem dX4_test_76 : decode cX4_test 76 = .ok (.getstatic 144, 3) := dk_178 0 144 (dk_at dksX4_test_3 7 rfl rfl)
theorem dX4_test_79 : decode cX4_test 79 = .ok (.invokevirtual 90, 3) := dk_182 0 90 (dk_at dksX4_test_3 10 rfl rfl)
theorem dX4_test_82 : decode cX4_test 82 = .ok (.ifCond .eq 17, 3) := dk_153 0 17 (dk_at dksX4_test_3 13 rfl rfl)
theorem dX4_test_85 : decode cX4_test 85 = .ok (.aload_n 0, 1) := dk_42 (dk_at dksX4_test_3 16 rfl rfl)
theorem dX4_test_86 : decode cX4_test 86 = .ok (.invokevirtual 185, 3) := dk_182 0 185 (dk_at dksX4_test_3 17 rfl rfl)
theorem dX4_test_89 : decode cX4_test 89 = .ok (.aload_n 0, 1) := dk_42 (dk_at dksX4_test_3 20 rfl rfl)
theorem dX4_test_90 : decode cX4_test 90 = .ok (.getstatic 150, 3) := dk_178 0 150 (dk_at dksX4_test_3 21 rfl rfl)
theorem dX4_test_93 : decode cX4_test 93 = .ok (.invokevirtual 153, 3) := dk_182 0 153 (dk_at dksX4_test_4 0 rfl rfl)
theorem dX4_test_96 : decode cX4_test 96 = .ok (.goto 79, 3) := dk_167 0 79 (dk_at dksX4_test_4 3 rfl rfl)
theorem dX4_test_99 : decode cX4_test 99 = .ok (.aload_n 0, 1) := dk_42 (dk_at dksX4_test_4 6 rfl rfl)
theorem dX4_test_100 : decode cX4_test 100 = .ok (.invokevirtual 147, 3) := dk_182 0 147 (dk_at dksX4_test_4 7 rfl rfl)
theorem dX4_test_103 : decode cX4_test 103 = .ok (.aload_n 0, 1) := dk_42 (dk_at dksX4_test_4 10 rfl rfl)
theorem dX4_test_104 : decode cX4_test 104 = .ok (.getfield 12, 3) := dk_180 0 12 (dk_at dksX4_test_4 11 rfl rfl)
theorem dX4_test_107 : decode cX4_test 107 = .ok (.getfield 42, 3) := dk_180 0 42 (dk_at dksX4_test_4 14 rfl rfl)
theorem dX4_test_110 : decode cX4_test 110 = .ok (.invokevirtual 137, 3) := dk_182 0 137 (dk_at dksX4_test_4 17 rfl rfl)
theorem dX4_test_113 : decode cX4_test 113 = .ok (.getstatic 188, 3) := dk_178 0 188 (dk_at dksX4_test_4 20 rfl rfl)
theorem dX4_test_116 : decode cX4_test 116 = .ok (.invokevirtual 137, 3) := dk_182 0 137 (dk_at dksX4_test_5 0 rfl rfl)
theorem dX4_test_119 : decode cX4_test 119 = .ok (.isub, 1) := dk_100 (dk_at dksX4_test_5 3 rfl rfl)
theorem dX4_test_120 : decode cX4_test 120 = .ok (.istore_n 2, 1) := dk_61 (dk_at dksX4_test_5 4 rfl rfl)
theorem dX4_test_121 : decode cX4_test 121 = .ok (.iload_n 2, 1) := dk_28 (dk_at dksX4_test_5 5 rfl rfl)
theorem dX4_test_122 : decode cX4_test 122 = .ok (.ifCond .lt 8, 3) := dk_155 0 8 (dk_at dksX4_test_5 6 rfl rfl)
theorem dX4_test_125 : decode cX4_test 125 = .ok (.iload_n 2, 1) := dk_28 (dk_at dksX4_test_5 9 rfl rfl)
theorem dX4_test_126 : decode cX4_test 126 = .ok (.iconst 5, 1) := dk_8 (dk_at dksX4_test_5 10 rfl rfl)
theorem dX4_test_127 : decode cX4_test 127 = .ok (.if_icmp .le 7, 3) := dk_164 0 7 (dk_at dksX4_test_5 11 rfl rfl)
theorem dX4_test_130 : decode cX4_test 130 = .ok (.aload_n 0, 1) := dk_42 (dk_at dksX4_test_5 14 rfl rfl)
theorem dX4_test_131 : decode cX4_test 131 = .ok (.invokevirtual 39, 3) := dk_182 0 39 (dk_at dksX4_test_5 15 rfl rfl)
theorem dX4_test_134 : decode cX4_test 134 = .ok (.aload_n 0, 1) := dk_42 (dk_at dksX4_test_5 18 rfl rfl)
theorem dX4_test_135 : decode cX4_test 135 = .ok (.getfield 54, 3) := dk_180 0 54 (dk_at dksX4_test_5 19 rfl rfl)
theorem dX4_test_138 : decode cX4_test 138 = .ok (.iload_n 1, 1) := dk_27 (dk_at dksX4_test_5 22 rfl rfl)
theorem dX4_test_139 : decode cX4_test 139 = .ok (.iconst 1, 1) := dk_4 (dk_at dksX4_test_5 23 rfl rfl)
theorem dX4_test_140 : decode cX4_test 140 = .ok (.bipush 27, 2) := dk_16 27 (dk_at dksX4_test_6 0 rfl rfl)
theorem dX4_test_142 : decode cX4_test 142 = .ok (.iload_n 2, 1) := dk_28 (dk_at dksX4_test_6 2 rfl rfl)
theorem dX4_test_143 : decode cX4_test 143 = .ok (.iadd, 1) := dk_96 (dk_at dksX4_test_6 3 rfl rfl)
theorem dX4_test_144 : decode cX4_test 144 = .ok (.aload_n 0, 1) := dk_42 (dk_at dksX4_test_6 4 rfl rfl)
theorem dX4_test_145 : decode cX4_test 145 = .ok (.getfield 54, 3) := dk_180 0 54 (dk_at dksX4_test_6 5 rfl rfl)
theorem dX4_test_148 : decode cX4_test 148 = .ok (.getfield 109, 3) := dk_180 0 109 (dk_at dksX4_test_6 8 rfl rfl)
theorem dX4_test_151 : decode cX4_test 151 = .ok (.iload_n 1, 1) := dk_27 (dk_at dksX4_test_6 11 rfl rfl)
theorem dX4_test_152 : decode cX4_test 152 = .ok (.iaload, 1) := dk_46 (dk_at dksX4_test_6 12 rfl rfl)
theorem dX4_test_153 : decode cX4_test 153 = .ok (.invokevirtual 113, 3) := dk_182 0 113 (dk_at dksX4_test_6 13 rfl rfl)
theorem dX4_test_156 : decode cX4_test 156 = .ok (.aload_n 0, 1) := dk_42 (dk_at dksX4_test_6 16 rfl rfl)
theorem dX4_test_157 : decode cX4_test 157 = .ok (.getfield 12, 3) := dk_180 0 12 (dk_at dksX4_test_6 17 rfl rfl)
theorem dX4_test_160 : decode cX4_test 160 = .ok (.invokevirtual 46, 3) := dk_182 0 46 (dk_at dksX4_test_6 20 rfl rfl)
theorem dX4_test_163 : decode cX4_test 163 = .ok (.aload_n 0, 1) := dk_42 (dk_at dksX4_test_6 23 rfl rfl)
theorem dX4_test_164 : decode cX4_test 164 = .ok (.invokevirtual 147, 3) := dk_182 0 147 (dk_at dksX4_test_7 0 rfl rfl)
theorem dX4_test_167 : decode cX4_test 167 = .ok (.aload_n 0, 1) := dk_42 (dk_at dksX4_test_7 3 rfl rfl)
theorem dX4_test_168 : decode cX4_test 168 = .ok (.getfield 54, 3) := dk_180 0 54 (dk_at dksX4_test_7 4 rfl rfl)
theorem dX4_test_171 : decode cX4_test 171 = .ok (.iload_n 1, 1) := dk_27 (dk_at dksX4_test_7 7 rfl rfl)
theorem dX4_test_172 : decode cX4_test 172 = .ok (.invokevirtual 77, 3) := dk_182 0 77 (dk_at dksX4_test_7 8 rfl rfl)
theorem dX4_test_175 : decode cX4_test 175 = .ok (.return_, 1) := dk_177 (dk_at dksX4_test_7 11 rfl rfl)
theorem q100 : (Jvm.Cond.initialized "ProgramReader$Reader") ∈ lw_all := lw_g (lw_at lw_m1 6 rfl) rfl
theorem q151 : (Jvm.Cond.fieldLinkNest "ProgramReader$Reader" (239 : Nat) "ProgramReader$Names" "count" "I" "ProgramReader") ∈ lw_tbl := lw_at lw_m1 57 rfl
theorem q194 : (Jvm.Cond.fieldLinkNest "ProgramReader$Reader" (117 : Nat) "ProgramReader$Tree" "kinds" "[B" "ProgramReader") ∈ lw_tbl := lw_at lw_m1 100 rfl
theorem q197 : (Jvm.Cond.fieldLinkNest "ProgramReader$Reader" (109 : Nat) "ProgramReader$Tree" "places" "[I" "ProgramReader") ∈ lw_tbl := lw_at lw_m1 103 rfl
theorem q207 : (Jvm.Cond.fieldLinkNest "ProgramReader$Reader" (100 : Nat) "ProgramReader$Tree" "count" "I" "ProgramReader") ∈ lw_tbl := lw_at lw_m1 113 rfl
theorem q220 : (Jvm.Cond.instantiable "ProgramReader$Reader" (5 : Nat)) ∈ lw_all := lw_g (lw_at lw_m1 126 rfl) rfl
theorem q222 : (Jvm.Cond.instanceMethod ({ cls := "ProgramReader$Reader", name := "<init>", desc := "(LProgramReader$Names;)V" } : Jvm.MethodName)) ∈ lw_all := lw_g (lw_at lw_m1 128 rfl) rfl
theorem q223 : (Jvm.Cond.code ({ cls := "ProgramReader$Reader", name := "<init>", desc := "(LProgramReader$Names;)V" } : Jvm.MethodName) prog_4_method_1_code (2 : Nat) (Option.none : Option Jvm.ClassFile.FieldType)) ∈ lw_all := lw_g (lw_at lw_m1 129 rfl) rfl
theorem q224 : (Jvm.Cond.methodLink "ProgramReader$Reader" (3 : Nat) ({ cls := "java/lang/Object", name := "<init>", desc := "()V" } : Jvm.MethodName)) ∈ lw_all := lw_g (lw_at lw_m1 130 rfl) rfl
theorem q225 : (Jvm.Cond.classLink "ProgramReader$Reader" (9 : Nat) "ProgramReader$Tokens") ∈ lw_all := lw_g (lw_at lw_m1 131 rfl) rfl
theorem q227 : (Jvm.Cond.methodLinkNest "ProgramReader$Reader" (11 : Nat) ({ cls := "ProgramReader$Tokens", name := "<init>", desc := "()V" } : Jvm.MethodName) "ProgramReader") ∈ lw_tbl := lw_at lw_m1 133 rfl
theorem q246 : (Jvm.Cond.fieldLinkNest "ProgramReader$Reader" (58 : Nat) "ProgramReader$Tokens" "bytes" "LProgramReader$Bytes;" "ProgramReader") ∈ lw_tbl := lw_at lw_m1 152 rfl
theorem q249 : (Jvm.Cond.fieldLinkNest "ProgramReader$Reader" (42 : Nat) "ProgramReader$Tokens" "token" "LProgramReader$Token;" "ProgramReader") ∈ lw_tbl := lw_at lw_m1 155 rfl
theorem q251 : (Jvm.Cond.fieldLinkNest "ProgramReader$Reader" (22 : Nat) "ProgramReader$Tokens" "place" "I" "ProgramReader") ∈ lw_tbl := lw_at lw_m1 157 rfl
theorem q253 : (Jvm.Cond.fieldLinkNest "ProgramReader$Reader" (62 : Nat) "ProgramReader$Tokens" "length" "I" "ProgramReader") ∈ lw_tbl := lw_at lw_m1 159 rfl
theorem q255 : (Jvm.Cond.fieldLinkNest "ProgramReader$Reader" (84 : Nat) "ProgramReader$Tokens" "value" "I" "ProgramReader") ∈ lw_tbl := lw_at lw_m1 161 rfl
theorem q274 : (Jvm.Cond.fieldLink "ProgramReader$Reader" (18 : Nat) "ProgramReader$Reader" "names" "LProgramReader$Names;") ∈ lw_all := lw_g (lw_at lw_m1 180 rfl) rfl
theorem q275 : (Jvm.Cond.fieldLink "ProgramReader$Reader" (12 : Nat) "ProgramReader$Reader" "t" "LProgramReader$Tokens;") ∈ lw_all := lw_g (lw_at lw_m1 181 rfl) rfl
theorem q276 : (Jvm.Cond.fieldLink "ProgramReader$Reader" (54 : Nat) "ProgramReader$Reader" "tree" "LProgramReader$Tree;") ∈ lw_all := lw_g (lw_at lw_m1 182 rfl) rfl
theorem q277 : (Jvm.Cond.fieldLink "ProgramReader$Reader" (36 : Nat) "ProgramReader$Reader" "depth" "I") ∈ lw_all := lw_g (lw_at lw_m1 183 rfl) rfl
theorem q278 : (Jvm.Cond.fieldLink "ProgramReader$Reader" (26 : Nat) "ProgramReader$Reader" "fault" "I") ∈ lw_all := lw_g (lw_at lw_m1 184 rfl) rfl
theorem q279 : (Jvm.Cond.laysFinal "ProgramReader$Reader" "ProgramReader$Reader" "names" "LProgramReader$Names;") ∈ lw_all := lw_g (lw_at lw_m1 185 rfl) rfl
theorem q280 : (Jvm.Cond.soleField "ProgramReader$Reader" "names") ∈ lw_all := lw_g (lw_at lw_m1 186 rfl) rfl
theorem q281 : (Jvm.Cond.laysFinal "ProgramReader$Reader" "ProgramReader$Reader" "t" "LProgramReader$Tokens;") ∈ lw_all := lw_g (lw_at lw_m1 187 rfl) rfl
theorem q282 : (Jvm.Cond.soleField "ProgramReader$Reader" "t") ∈ lw_all := lw_g (lw_at lw_m1 188 rfl) rfl
theorem q283 : (Jvm.Cond.lays "ProgramReader$Reader" "ProgramReader$Reader" "tree" "LProgramReader$Tree;") ∈ lw_all := lw_g (lw_at lw_m1 189 rfl) rfl
theorem q284 : (Jvm.Cond.soleField "ProgramReader$Reader" "tree") ∈ lw_all := lw_g (lw_at lw_m1 190 rfl) rfl
theorem q285 : (Jvm.Cond.lays "ProgramReader$Reader" "ProgramReader$Reader" "depth" "I") ∈ lw_all := lw_g (lw_at lw_m1 191 rfl) rfl
theorem q286 : (Jvm.Cond.soleField "ProgramReader$Reader" "depth") ∈ lw_all := lw_g (lw_at lw_m1 192 rfl) rfl
theorem q287 : (Jvm.Cond.lays "ProgramReader$Reader" "ProgramReader$Reader" "fault" "I") ∈ lw_all := lw_g (lw_at lw_m1 193 rfl) rfl
theorem q288 : (Jvm.Cond.soleField "ProgramReader$Reader" "fault") ∈ lw_all := lw_g (lw_at lw_m1 194 rfl) rfl
theorem q289 : (Jvm.Cond.superclass "ProgramReader$Reader" "java/lang/Object") ∈ lw_all := lw_g (lw_at lw_m1 195 rfl) rfl
theorem q360 : (Jvm.Cond.instanceMethod ({ cls := "ProgramReader$Reader", name := "read", desc := "(LProgramReader$Bytes;ILProgramReader$Tree;)I" } : Jvm.MethodName)) ∈ lw_all := lw_g (lw_at lw_m2 26 rfl) rfl
theorem q361 : (Jvm.Cond.selects "ProgramReader$Reader" ({ cls := "ProgramReader$Reader", name := "read", desc := "(LProgramReader$Bytes;ILProgramReader$Tree;)I" } : Jvm.MethodName) ({ cls := "ProgramReader$Reader", name := "read", desc := "(LProgramReader$Bytes;ILProgramReader$Tree;)I" } : Jvm.MethodName)) ∈ lw_all := lw_g (lw_at lw_m2 27 rfl) rfl
theorem q362 : (Jvm.Cond.codeWith ({ cls := "ProgramReader$Reader", name := "read", desc := "(LProgramReader$Bytes;ILProgramReader$Tree;)I" } : Jvm.MethodName) prog_4_method_23_code (7 : Nat) (Option.some Jvm.ClassFile.FieldType.int) [((51 : Nat), (91 : Nat), (94 : Nat), (29 : Nat))]) ∈ lw_all := lw_g (lw_at lw_m2 28 rfl) rfl
theorem q363 : (Jvm.Cond.classLink "ProgramReader$Reader" (29 : Nat) "java/lang/IllegalStateException") ∈ lw_all := lw_g (lw_at lw_m2 29 rfl) rfl
theorem q364 : (Jvm.Cond.methodLink "ProgramReader$Reader" (232 : Nat) ({ cls := "ProgramReader$Tree", name := "clear", desc := "()V" } : Jvm.MethodName)) ∈ lw_all := lw_g (lw_at lw_m2 30 rfl) rfl
theorem q365 : (Jvm.Cond.methodLink "ProgramReader$Reader" (235 : Nat) ({ cls := "ProgramReader$Tokens", name := "begin", desc := "(LProgramReader$Bytes;I)V" } : Jvm.MethodName)) ∈ lw_all := lw_g (lw_at lw_m2 31 rfl) rfl
theorem q369 : (Jvm.Cond.methodLink "ProgramReader$Reader" (46 : Nat) ({ cls := "ProgramReader$Tokens", name := "next", desc := "()V" } : Jvm.MethodName)) ∈ lw_all := lw_g (lw_at lw_m2 35 rfl) rfl
theorem q469 : (Jvm.Cond.methodLink "ProgramReader$Reader" (240 : Nat) ({ cls := "ProgramReader$Reader", name := "function", desc := "()V" } : Jvm.MethodName)) ∈ lw_all := lw_g (lw_at lw_m2 135 rfl) rfl
theorem q470 : (Jvm.Cond.privateMethod ({ cls := "ProgramReader$Reader", name := "function", desc := "()V" } : Jvm.MethodName)) ∈ lw_tbl := lw_at lw_m2 136 rfl
theorem q471 : (Jvm.Cond.instanceMethod ({ cls := "ProgramReader$Reader", name := "function", desc := "()V" } : Jvm.MethodName)) ∈ lw_all := lw_g (lw_at lw_m2 137 rfl) rfl
theorem q472 : (Jvm.Cond.code ({ cls := "ProgramReader$Reader", name := "function", desc := "()V" } : Jvm.MethodName) prog_4_method_22_code (2 : Nat) (Option.none : Option Jvm.ClassFile.FieldType)) ∈ lw_all := lw_g (lw_at lw_m2 138 rfl) rfl
theorem q473 : (Jvm.Cond.methodLink "ProgramReader$Reader" (71 : Nat) ({ cls := "ProgramReader$Tree", name := "add", desc := "(III)I" } : Jvm.MethodName)) ∈ lw_all := lw_g (lw_at lw_m2 139 rfl) rfl
theorem q474 : (Jvm.Cond.fieldLink "ProgramReader$Reader" (229 : Nat) "ProgramReader$Token" "FUN" "LProgramReader$Token;") ∈ lw_all := lw_g (lw_at lw_m2 140 rfl) rfl
theorem q475 : (Jvm.Cond.methodLink "ProgramReader$Reader" (153 : Nat) ({ cls := "ProgramReader$Reader", name := "take", desc := "(LProgramReader$Token;)V" } : Jvm.MethodName)) ∈ lw_all := lw_g (lw_at lw_m2 141 rfl) rfl
theorem q476 : (Jvm.Cond.privateMethod ({ cls := "ProgramReader$Reader", name := "take", desc := "(LProgramReader$Token;)V" } : Jvm.MethodName)) ∈ lw_tbl := lw_at lw_m2 142 rfl
theorem q477 : (Jvm.Cond.instanceMethod ({ cls := "ProgramReader$Reader", name := "take", desc := "(LProgramReader$Token;)V" } : Jvm.MethodName)) ∈ lw_all := lw_g (lw_at lw_m2 143 rfl) rfl
theorem q478 : (Jvm.Cond.code ({ cls := "ProgramReader$Reader", name := "take", desc := "(LProgramReader$Token;)V" } : Jvm.MethodName) prog_4_method_4_code (2 : Nat) (Option.none : Option Jvm.ClassFile.FieldType)) ∈ lw_all := lw_g (lw_at lw_m2 144 rfl) rfl
theorem q479 : (Jvm.Cond.methodLink "ProgramReader$Reader" (39 : Nat) ({ cls := "ProgramReader$Reader", name := "fail", desc := "()V" } : Jvm.MethodName)) ∈ lw_all := lw_g (lw_at lw_m2 145 rfl) rfl
theorem q480 : (Jvm.Cond.privateMethod ({ cls := "ProgramReader$Reader", name := "fail", desc := "()V" } : Jvm.MethodName)) ∈ lw_tbl := lw_at lw_m2 146 rfl
theorem q481 : (Jvm.Cond.instanceMethod ({ cls := "ProgramReader$Reader", name := "fail", desc := "()V" } : Jvm.MethodName)) ∈ lw_all := lw_g (lw_at lw_m2 147 rfl) rfl
theorem q482 : (Jvm.Cond.code ({ cls := "ProgramReader$Reader", name := "fail", desc := "()V" } : Jvm.MethodName) prog_4_method_2_code (1 : Nat) (Option.none : Option Jvm.ClassFile.FieldType)) ∈ lw_all := lw_g (lw_at lw_m2 148 rfl) rfl
theorem q521 : (Jvm.Cond.stringRef "ProgramReader$Reader" (31 : Nat) "it can't stand there") ∈ lw_tbl := lw_at lw_m2 187 rfl
theorem q522 : (Jvm.Cond.methodLink "ProgramReader$Reader" (33 : Nat) ({ cls := "java/lang/IllegalStateException", name := "<init>", desc := "(Ljava/lang/String;)V" } : Jvm.MethodName)) ∈ lw_all := lw_g (lw_at lw_m2 188 rfl) rfl
theorem q547 : (Jvm.Cond.methodLink "ProgramReader$Reader" (141 : Nat) ({ cls := "ProgramReader$Reader", name := "name", desc := "()V" } : Jvm.MethodName)) ∈ lw_all := lw_g (lw_at lw_m2 213 rfl) rfl
theorem q548 : (Jvm.Cond.privateMethod ({ cls := "ProgramReader$Reader", name := "name", desc := "()V" } : Jvm.MethodName)) ∈ lw_tbl := lw_at lw_m2 214 rfl
theorem q549 : (Jvm.Cond.instanceMethod ({ cls := "ProgramReader$Reader", name := "name", desc := "()V" } : Jvm.MethodName)) ∈ lw_all := lw_g (lw_at lw_m2 215 rfl) rfl
theorem q550 : (Jvm.Cond.code ({ cls := "ProgramReader$Reader", name := "name", desc := "()V" } : Jvm.MethodName) prog_4_method_6_code (1 : Nat) (Option.none : Option Jvm.ClassFile.FieldType)) ∈ lw_all := lw_g (lw_at lw_m2 216 rfl) rfl
theorem q551 : (Jvm.Cond.fieldLink "ProgramReader$Reader" (49 : Nat) "ProgramReader$Token" "NAME" "LProgramReader$Token;") ∈ lw_all := lw_g (lw_at lw_m2 217 rfl) rfl
theorem q552 : (Jvm.Cond.methodLink "ProgramReader$Reader" (65 : Nat) ({ cls := "ProgramReader$Names", name := "number", desc := "(LProgramReader$Bytes;II)I" } : Jvm.MethodName)) ∈ lw_all := lw_g (lw_at lw_m2 218 rfl) rfl
theorem q582 : (Jvm.Cond.methodLink "ProgramReader$Reader" (77 : Nat) ({ cls := "ProgramReader$Tree", name := "end", desc := "(I)V" } : Jvm.MethodName)) ∈ lw_all := lw_g (lw_at lw_m3 8 rfl) rfl
theorem q583 : (Jvm.Cond.fieldLink "ProgramReader$Reader" (160 : Nat) "ProgramReader$Token" "OPEN" "LProgramReader$Token;") ∈ lw_all := lw_g (lw_at lw_m3 9 rfl) rfl
theorem q584 : (Jvm.Cond.fieldLink "ProgramReader$Reader" (157 : Nat) "ProgramReader$Token" "CLOSE" "LProgramReader$Token;") ∈ lw_all := lw_g (lw_at lw_m3 10 rfl) rfl
theorem q586 : (Jvm.Cond.fieldLink "ProgramReader$Reader" (166 : Nat) "ProgramReader$Token" "COMMA" "LProgramReader$Token;") ∈ lw_all := lw_g (lw_at lw_m3 12 rfl) rfl
theorem q588 : (Jvm.Cond.methodLink "ProgramReader$Reader" (90 : Nat) ({ cls := "ProgramReader$Reader", name := "takes", desc := "(LProgramReader$Token;)Z" } : Jvm.MethodName)) ∈ lw_all := lw_g (lw_at lw_m3 14 rfl) rfl
theorem q589 : (Jvm.Cond.privateMethod ({ cls := "ProgramReader$Reader", name := "takes", desc := "(LProgramReader$Token;)Z" } : Jvm.MethodName)) ∈ lw_tbl := lw_at lw_m3 15 rfl
theorem q590 : (Jvm.Cond.instanceMethod ({ cls := "ProgramReader$Reader", name := "takes", desc := "(LProgramReader$Token;)Z" } : Jvm.MethodName)) ∈ lw_all := lw_g (lw_at lw_m3 16 rfl) rfl
theorem q591 : (Jvm.Cond.code ({ cls := "ProgramReader$Reader", name := "takes", desc := "(LProgramReader$Token;)Z" } : Jvm.MethodName) prog_4_method_5_code (3 : Nat) (Option.some Jvm.ClassFile.FieldType.boolean)) ∈ lw_all := lw_g (lw_at lw_m3 17 rfl) rfl
theorem q592 : (Jvm.Cond.methodLink "ProgramReader$Reader" (210 : Nat) ({ cls := "ProgramReader$Reader", name := "block", desc := "()V" } : Jvm.MethodName)) ∈ lw_all := lw_g (lw_at lw_m3 18 rfl) rfl
theorem q593 : (Jvm.Cond.privateMethod ({ cls := "ProgramReader$Reader", name := "block", desc := "()V" } : Jvm.MethodName)) ∈ lw_tbl := lw_at lw_m3 19 rfl
theorem q594 : (Jvm.Cond.instanceMethod ({ cls := "ProgramReader$Reader", name := "block", desc := "()V" } : Jvm.MethodName)) ∈ lw_all := lw_g (lw_at lw_m3 20 rfl) rfl
theorem q595 : (Jvm.Cond.code ({ cls := "ProgramReader$Reader", name := "block", desc := "()V" } : Jvm.MethodName) prog_4_method_16_code (2 : Nat) (Option.none : Option Jvm.ClassFile.FieldType)) ∈ lw_all := lw_g (lw_at lw_m3 21 rfl) rfl
theorem q596 : (Jvm.Cond.methodLink "ProgramReader$Reader" (97 : Nat) ({ cls := "ProgramReader$Reader", name := "deeper", desc := "()V" } : Jvm.MethodName)) ∈ lw_all := lw_g (lw_at lw_m3 22 rfl) rfl
theorem q597 : (Jvm.Cond.privateMethod ({ cls := "ProgramReader$Reader", name := "deeper", desc := "()V" } : Jvm.MethodName)) ∈ lw_tbl := lw_at lw_m3 23 rfl
theorem q598 : (Jvm.Cond.instanceMethod ({ cls := "ProgramReader$Reader", name := "deeper", desc := "()V" } : Jvm.MethodName)) ∈ lw_all := lw_g (lw_at lw_m3 24 rfl) rfl
theorem q599 : (Jvm.Cond.code ({ cls := "ProgramReader$Reader", name := "deeper", desc := "()V" } : Jvm.MethodName) prog_4_method_3_code (1 : Nat) (Option.none : Option Jvm.ClassFile.FieldType)) ∈ lw_all := lw_g (lw_at lw_m3 25 rfl) rfl
theorem q600 : (Jvm.Cond.fieldLink "ProgramReader$Reader" (191 : Nat) "ProgramReader$Token" "BEGIN" "LProgramReader$Token;") ∈ lw_all := lw_g (lw_at lw_m3 26 rfl) rfl
theorem q602 : (Jvm.Cond.fieldLink "ProgramReader$Reader" (194 : Nat) "ProgramReader$Token" "FINISH" "LProgramReader$Token;") ∈ lw_all := lw_g (lw_at lw_m3 28 rfl) rfl
theorem q604 : (Jvm.Cond.methodLink "ProgramReader$Reader" (197 : Nat) ({ cls := "ProgramReader$Reader", name := "statement", desc := "()V" } : Jvm.MethodName)) ∈ lw_all := lw_g (lw_at lw_m3 30 rfl) rfl
theorem q605 : (Jvm.Cond.privateMethod ({ cls := "ProgramReader$Reader", name := "statement", desc := "()V" } : Jvm.MethodName)) ∈ lw_tbl := lw_at lw_m3 31 rfl
theorem q606 : (Jvm.Cond.instanceMethod ({ cls := "ProgramReader$Reader", name := "statement", desc := "()V" } : Jvm.MethodName)) ∈ lw_all := lw_g (lw_at lw_m3 32 rfl) rfl
theorem q607 : (Jvm.Cond.code ({ cls := "ProgramReader$Reader", name := "statement", desc := "()V" } : Jvm.MethodName) prog_4_method_17_code (3 : Nat) (Option.none : Option Jvm.ClassFile.FieldType)) ∈ lw_all := lw_g (lw_at lw_m3 33 rfl) rfl
theorem q608 : (Jvm.Cond.methodLink "ProgramReader$Reader" (137 : Nat) ({ cls := "ProgramReader$Token", name := "ordinal", desc := "()I" } : Jvm.MethodName)) ∈ lw_all := lw_g (lw_at lw_m3 34 rfl) rfl
theorem q609 : (Jvm.Cond.methodLink "ProgramReader$Reader" (200 : Nat) ({ cls := "ProgramReader$Reader", name := "variable", desc := "(I)V" } : Jvm.MethodName)) ∈ lw_all := lw_g (lw_at lw_m3 35 rfl) rfl
theorem q610 : (Jvm.Cond.privateMethod ({ cls := "ProgramReader$Reader", name := "variable", desc := "(I)V" } : Jvm.MethodName)) ∈ lw_tbl := lw_at lw_m3 36 rfl
theorem q611 : (Jvm.Cond.instanceMethod ({ cls := "ProgramReader$Reader", name := "variable", desc := "(I)V" } : Jvm.MethodName)) ∈ lw_all := lw_g (lw_at lw_m3 37 rfl) rfl
theorem q612 : (Jvm.Cond.code ({ cls := "ProgramReader$Reader", name := "variable", desc := "(I)V" } : Jvm.MethodName) prog_4_method_19_code (2 : Nat) (Option.none : Option Jvm.ClassFile.FieldType)) ∈ lw_all := lw_g (lw_at lw_m3 38 rfl) rfl
theorem q613 : (Jvm.Cond.fieldLink "ProgramReader$Reader" (144 : Nat) "ProgramReader$Token" "FROM" "LProgramReader$Token;") ∈ lw_all := lw_g (lw_at lw_m3 39 rfl) rfl
theorem q615 : (Jvm.Cond.methodLink "ProgramReader$Reader" (94 : Nat) ({ cls := "ProgramReader$Reader", name := "number", desc := "(ZI)V" } : Jvm.MethodName)) ∈ lw_all := lw_g (lw_at lw_m3 41 rfl) rfl
theorem q616 : (Jvm.Cond.privateMethod ({ cls := "ProgramReader$Reader", name := "number", desc := "(ZI)V" } : Jvm.MethodName)) ∈ lw_tbl := lw_at lw_m3 42 rfl
theorem q617 : (Jvm.Cond.instanceMethod ({ cls := "ProgramReader$Reader", name := "number", desc := "(ZI)V" } : Jvm.MethodName)) ∈ lw_all := lw_g (lw_at lw_m3 43 rfl) rfl
theorem q618 : (Jvm.Cond.code ({ cls := "ProgramReader$Reader", name := "number", desc := "(ZI)V" } : Jvm.MethodName) prog_4_method_7_code (3 : Nat) (Option.none : Option Jvm.ClassFile.FieldType)) ∈ lw_all := lw_g (lw_at lw_m3 44 rfl) rfl
theorem q619 : (Jvm.Cond.fieldLink "ProgramReader$Reader" (81 : Nat) "ProgramReader$Token" "NUMBER" "LProgramReader$Token;") ∈ lw_all := lw_g (lw_at lw_m3 45 rfl) rfl
theorem q620 : (Jvm.Cond.fieldLink "ProgramReader$Reader" (150 : Nat) "ProgramReader$Token" "TO" "LProgramReader$Token;") ∈ lw_all := lw_g (lw_at lw_m3 46 rfl) rfl
theorem q622 : (Jvm.Cond.fieldLink "ProgramReader$Reader" (219 : Nat) "ProgramReader$Token" "BECOMES" "LProgramReader$Token;") ∈ lw_all := lw_g (lw_at lw_m3 48 rfl) rfl
theorem q624 : (Jvm.Cond.methodLink "ProgramReader$Reader" (147 : Nat) ({ cls := "ProgramReader$Reader", name := "sum", desc := "()V" } : Jvm.MethodName)) ∈ lw_all := lw_g (lw_at lw_m3 50 rfl) rfl
theorem q625 : (Jvm.Cond.privateMethod ({ cls := "ProgramReader$Reader", name := "sum", desc := "()V" } : Jvm.MethodName)) ∈ lw_tbl := lw_at lw_m3 51 rfl
theorem q626 : (Jvm.Cond.instanceMethod ({ cls := "ProgramReader$Reader", name := "sum", desc := "()V" } : Jvm.MethodName)) ∈ lw_all := lw_g (lw_at lw_m3 52 rfl) rfl
theorem q627 : (Jvm.Cond.code ({ cls := "ProgramReader$Reader", name := "sum", desc := "()V" } : Jvm.MethodName) prog_4_method_9_code (3 : Nat) (Option.none : Option Jvm.ClassFile.FieldType)) ∈ lw_all := lw_g (lw_at lw_m3 53 rfl) rfl
theorem q628 : (Jvm.Cond.methodLink "ProgramReader$Reader" (103 : Nat) ({ cls := "ProgramReader$Reader", name := "product", desc := "()V" } : Jvm.MethodName)) ∈ lw_all := lw_g (lw_at lw_m3 54 rfl) rfl
theorem q629 : (Jvm.Cond.privateMethod ({ cls := "ProgramReader$Reader", name := "product", desc := "()V" } : Jvm.MethodName)) ∈ lw_tbl := lw_at lw_m3 55 rfl
theorem q630 : (Jvm.Cond.instanceMethod ({ cls := "ProgramReader$Reader", name := "product", desc := "()V" } : Jvm.MethodName)) ∈ lw_all := lw_g (lw_at lw_m3 56 rfl) rfl
theorem q631 : (Jvm.Cond.code ({ cls := "ProgramReader$Reader", name := "product", desc := "()V" } : Jvm.MethodName) prog_4_method_11_code (3 : Nat) (Option.none : Option Jvm.ClassFile.FieldType)) ∈ lw_all := lw_g (lw_at lw_m3 57 rfl) rfl
theorem q632 : (Jvm.Cond.methodLink "ProgramReader$Reader" (130 : Nat) ({ cls := "ProgramReader$Reader", name := "factor", desc := "()V" } : Jvm.MethodName)) ∈ lw_all := lw_g (lw_at lw_m3 58 rfl) rfl
theorem q633 : (Jvm.Cond.privateMethod ({ cls := "ProgramReader$Reader", name := "factor", desc := "()V" } : Jvm.MethodName)) ∈ lw_tbl := lw_at lw_m3 59 rfl
theorem q634 : (Jvm.Cond.instanceMethod ({ cls := "ProgramReader$Reader", name := "factor", desc := "()V" } : Jvm.MethodName)) ∈ lw_all := lw_g (lw_at lw_m3 60 rfl) rfl
theorem q635 : (Jvm.Cond.code ({ cls := "ProgramReader$Reader", name := "factor", desc := "()V" } : Jvm.MethodName) prog_4_method_12_code (3 : Nat) (Option.none : Option Jvm.ClassFile.FieldType)) ∈ lw_all := lw_g (lw_at lw_m3 61 rfl) rfl
theorem q636 : (Jvm.Cond.methodLink "ProgramReader$Reader" (113 : Nat) ({ cls := "ProgramReader$Tree", name := "insert", desc := "(IIII)V" } : Jvm.MethodName)) ∈ lw_all := lw_g (lw_at lw_m3 62 rfl) rfl
theorem q640 : (Jvm.Cond.methodLink "ProgramReader$Reader" (163 : Nat) ({ cls := "ProgramReader$Reader", name := "limit", desc := "()V" } : Jvm.MethodName)) ∈ lw_all := lw_g (lw_at lw_m3 66 rfl) rfl
theorem q641 : (Jvm.Cond.privateMethod ({ cls := "ProgramReader$Reader", name := "limit", desc := "()V" } : Jvm.MethodName)) ∈ lw_tbl := lw_at lw_m3 67 rfl
theorem q642 : (Jvm.Cond.instanceMethod ({ cls := "ProgramReader$Reader", name := "limit", desc := "()V" } : Jvm.MethodName)) ∈ lw_all := lw_g (lw_at lw_m3 68 rfl) rfl
theorem q643 : (Jvm.Cond.code ({ cls := "ProgramReader$Reader", name := "limit", desc := "()V" } : Jvm.MethodName) prog_4_method_8_code (2 : Nat) (Option.none : Option Jvm.ClassFile.FieldType)) ∈ lw_all := lw_g (lw_at lw_m3 69 rfl) rfl
theorem q644 : (Jvm.Cond.fieldLink "ProgramReader$Reader" (87 : Nat) "ProgramReader$Token" "MINUS" "LProgramReader$Token;") ∈ lw_all := lw_g (lw_at lw_m3 70 rfl) rfl
theorem q646 : (Jvm.Cond.methodLink "ProgramReader$Reader" (133 : Nat) ({ cls := "ProgramReader$Reader", name := "isProduct", desc := "()Z" } : Jvm.MethodName)) ∈ lw_all := lw_g (lw_at lw_m3 72 rfl) rfl
theorem q647 : (Jvm.Cond.privateMethod ({ cls := "ProgramReader$Reader", name := "isProduct", desc := "()Z" } : Jvm.MethodName)) ∈ lw_tbl := lw_at lw_m3 73 rfl
theorem q648 : (Jvm.Cond.instanceMethod ({ cls := "ProgramReader$Reader", name := "isProduct", desc := "()Z" } : Jvm.MethodName)) ∈ lw_all := lw_g (lw_at lw_m3 74 rfl) rfl
theorem q649 : (Jvm.Cond.code ({ cls := "ProgramReader$Reader", name := "isProduct", desc := "()Z" } : Jvm.MethodName) prog_4_method_10_code (1 : Nat) (Option.some Jvm.ClassFile.FieldType.boolean)) ∈ lw_all := lw_g (lw_at lw_m3 75 rfl) rfl
theorem q650 : (Jvm.Cond.fieldLink "ProgramReader$Reader" (121 : Nat) "ProgramReader$Token" "TIMES" "LProgramReader$Token;") ∈ lw_all := lw_g (lw_at lw_m3 76 rfl) rfl
theorem q652 : (Jvm.Cond.fieldLink "ProgramReader$Reader" (124 : Nat) "ProgramReader$Token" "OVER" "LProgramReader$Token;") ∈ lw_all := lw_g (lw_at lw_m3 78 rfl) rfl
theorem q654 : (Jvm.Cond.fieldLink "ProgramReader$Reader" (127 : Nat) "ProgramReader$Token" "REST" "LProgramReader$Token;") ∈ lw_all := lw_g (lw_at lw_m3 80 rfl) rfl
theorem q656 : (Jvm.Cond.fieldLink "ProgramReader$Reader" (106 : Nat) "ProgramReader$Token" "PLUS" "LProgramReader$Token;") ∈ lw_all := lw_g (lw_at lw_m3 82 rfl) rfl
theorem q658 : (Jvm.Cond.fieldLink "ProgramReader$Reader" (216 : Nat) "ProgramReader$Token" "STOP" "LProgramReader$Token;") ∈ lw_all := lw_g (lw_at lw_m3 84 rfl) rfl
theorem q660 : (Jvm.Cond.methodLink "ProgramReader$Reader" (203 : Nat) ({ cls := "ProgramReader$Reader", name := "named", desc := "(II)V" } : Jvm.MethodName)) ∈ lw_all := lw_g (lw_at lw_m3 86 rfl) rfl
theorem q661 : (Jvm.Cond.privateMethod ({ cls := "ProgramReader$Reader", name := "named", desc := "(II)V" } : Jvm.MethodName)) ∈ lw_tbl := lw_at lw_m3 87 rfl
theorem q662 : (Jvm.Cond.instanceMethod ({ cls := "ProgramReader$Reader", name := "named", desc := "(II)V" } : Jvm.MethodName)) ∈ lw_all := lw_g (lw_at lw_m3 88 rfl) rfl
theorem q663 : (Jvm.Cond.code ({ cls := "ProgramReader$Reader", name := "named", desc := "(II)V" } : Jvm.MethodName) prog_4_method_20_code (4 : Nat) (Option.none : Option Jvm.ClassFile.FieldType)) ∈ lw_all := lw_g (lw_at lw_m3 89 rfl) rfl
theorem q664 : (Jvm.Cond.methodLink "ProgramReader$Reader" (222 : Nat) ({ cls := "ProgramReader$Tokens", name := "opensBehind", desc := "()Z" } : Jvm.MethodName)) ∈ lw_all := lw_g (lw_at lw_m3 90 rfl) rfl
theorem q668 : (Jvm.Cond.methodLink "ProgramReader$Reader" (225 : Nat) ({ cls := "ProgramReader$Reader", name := "called", desc := "(IIZ)V" } : Jvm.MethodName)) ∈ lw_all := lw_g (lw_at lw_m3 94 rfl) rfl
theorem q669 : (Jvm.Cond.privateMethod ({ cls := "ProgramReader$Reader", name := "called", desc := "(IIZ)V" } : Jvm.MethodName)) ∈ lw_tbl := lw_at lw_m3 95 rfl
theorem q670 : (Jvm.Cond.instanceMethod ({ cls := "ProgramReader$Reader", name := "called", desc := "(IIZ)V" } : Jvm.MethodName)) ∈ lw_all := lw_g (lw_at lw_m3 96 rfl) rfl
theorem q671 : (Jvm.Cond.code ({ cls := "ProgramReader$Reader", name := "called", desc := "(IIZ)V" } : Jvm.MethodName) prog_4_method_21_code (4 : Nat) (Option.none : Option Jvm.ClassFile.FieldType)) ∈ lw_all := lw_g (lw_at lw_m3 97 rfl) rfl
theorem q672 : (Jvm.Cond.methodLink "ProgramReader$Reader" (207 : Nat) ({ cls := "ProgramReader$Reader", name := "condition", desc := "()V" } : Jvm.MethodName)) ∈ lw_all := lw_g (lw_at lw_m3 98 rfl) rfl
theorem q673 : (Jvm.Cond.privateMethod ({ cls := "ProgramReader$Reader", name := "condition", desc := "()V" } : Jvm.MethodName)) ∈ lw_tbl := lw_at lw_m3 99 rfl
theorem q674 : (Jvm.Cond.instanceMethod ({ cls := "ProgramReader$Reader", name := "condition", desc := "()V" } : Jvm.MethodName)) ∈ lw_all := lw_g (lw_at lw_m3 100 rfl) rfl
theorem q675 : (Jvm.Cond.code ({ cls := "ProgramReader$Reader", name := "condition", desc := "()V" } : Jvm.MethodName) prog_4_method_18_code (1 : Nat) (Option.none : Option Jvm.ClassFile.FieldType)) ∈ lw_all := lw_g (lw_at lw_m3 101 rfl) rfl
theorem q676 : (Jvm.Cond.methodLink "ProgramReader$Reader" (185 : Nat) ({ cls := "ProgramReader$Reader", name := "cond", desc := "()V" } : Jvm.MethodName)) ∈ lw_all := lw_g (lw_at lw_m3 102 rfl) rfl
theorem q677 : (Jvm.Cond.privateMethod ({ cls := "ProgramReader$Reader", name := "cond", desc := "()V" } : Jvm.MethodName)) ∈ lw_tbl := lw_at lw_m3 103 rfl
theorem q678 : (Jvm.Cond.instanceMethod ({ cls := "ProgramReader$Reader", name := "cond", desc := "()V" } : Jvm.MethodName)) ∈ lw_all := lw_g (lw_at lw_m3 104 rfl) rfl
theorem q679 : (Jvm.Cond.code ({ cls := "ProgramReader$Reader", name := "cond", desc := "()V" } : Jvm.MethodName) prog_4_method_13_code (1 : Nat) (Option.none : Option Jvm.ClassFile.FieldType)) ∈ lw_all := lw_g (lw_at lw_m3 105 rfl) rfl
theorem q680 : (Jvm.Cond.fieldLink "ProgramReader$Reader" (169 : Nat) "ProgramReader$Token" "EITHER" "LProgramReader$Token;") ∈ lw_all := lw_g (lw_at lw_m3 106 rfl) rfl
theorem q682 : (Jvm.Cond.methodLink "ProgramReader$Reader" (172 : Nat) ({ cls := "ProgramReader$Reader", name := "joined", desc := "(ILProgramReader$Token;)V" } : Jvm.MethodName)) ∈ lw_all := lw_g (lw_at lw_m3 108 rfl) rfl
theorem q683 : (Jvm.Cond.privateMethod ({ cls := "ProgramReader$Reader", name := "joined", desc := "(ILProgramReader$Token;)V" } : Jvm.MethodName)) ∈ lw_tbl := lw_at lw_m3 109 rfl
theorem q684 : (Jvm.Cond.instanceMethod ({ cls := "ProgramReader$Reader", name := "joined", desc := "(ILProgramReader$Token;)V" } : Jvm.MethodName)) ∈ lw_all := lw_g (lw_at lw_m3 110 rfl) rfl
theorem q685 : (Jvm.Cond.code ({ cls := "ProgramReader$Reader", name := "joined", desc := "(ILProgramReader$Token;)V" } : Jvm.MethodName) prog_4_method_14_code (5 : Nat) (Option.none : Option Jvm.ClassFile.FieldType)) ∈ lw_all := lw_g (lw_at lw_m3 111 rfl) rfl
theorem q686 : (Jvm.Cond.fieldLink "ProgramReader$Reader" (176 : Nat) "ProgramReader$Token" "BOTH" "LProgramReader$Token;") ∈ lw_all := lw_g (lw_at lw_m3 112 rfl) rfl
theorem q688 : (Jvm.Cond.methodLink "ProgramReader$Reader" (179 : Nat) ({ cls := "ProgramReader$Reader", name := "test", desc := "()V" } : Jvm.MethodName)) ∈ lw_all := lw_g (lw_at lw_m3 114 rfl) rfl
theorem q689 : (Jvm.Cond.privateMethod ({ cls := "ProgramReader$Reader", name := "test", desc := "()V" } : Jvm.MethodName)) ∈ lw_tbl := lw_at lw_m3 115 rfl
theorem q690 : (Jvm.Cond.instanceMethod ({ cls := "ProgramReader$Reader", name := "test", desc := "()V" } : Jvm.MethodName)) ∈ lw_all := lw_g (lw_at lw_m3 116 rfl) rfl
theorem q691 : (Jvm.Cond.code ({ cls := "ProgramReader$Reader", name := "test", desc := "()V" } : Jvm.MethodName) prog_4_method_15_code (3 : Nat) (Option.none : Option Jvm.ClassFile.FieldType)) ∈ lw_all := lw_g (lw_at lw_m3 117 rfl) rfl
theorem q692 : (Jvm.Cond.fieldLink "ProgramReader$Reader" (182 : Nat) "ProgramReader$Token" "NOT" "LProgramReader$Token;") ∈ lw_all := lw_g (lw_at lw_m3 118 rfl) rfl
theorem q694 : (Jvm.Cond.fieldLink "ProgramReader$Reader" (188 : Nat) "ProgramReader$Token" "LESS" "LProgramReader$Token;") ∈ lw_all := lw_g (lw_at lw_m3 120 rfl) rfl
theorem q696 : (Jvm.Cond.fieldLink "ProgramReader$Reader" (213 : Nat) "ProgramReader$Token" "ELSE" "LProgramReader$Token;") ∈ lw_all := lw_g (lw_at lw_m3 122 rfl) rfl
theorem q698 : (Jvm.Cond.fieldLink "ProgramReader$Reader" (243 : Nat) "ProgramReader$Token" "END" "LProgramReader$Token;") ∈ lw_all := lw_g (lw_at lw_m3 124 rfl) rfl
theorem q699 : (Jvm.Cond.methodLink "ProgramReader$Reader" (246 : Nat) ({ cls := "ProgramReader$Names", name := "cut", desc := "(I)V" } : Jvm.MethodName)) ∈ lw_all := lw_g (lw_at lw_m3 125 rfl) rfl
theorem in_X4 : ∀ w ∈ wsX40, w ∈ lw_all := lw_in wsX40 [279, 281, 283, 285, 287] (by decide +kernel) (by decide +kernel)

/-! ProgramReader$Tokens -/
set_option maxRecDepth 100000
def RX5 : String := "ProgramReader$Tokens"
def TX5 : u_T := fun k => match k with
  | 0 => ("ProgramReader$Tokens", "all", "[LProgramReader$Token;", true)
  | 1 => ("ProgramReader$Tokens", "bytes", "LProgramReader$Bytes;", false)
  | 2 => ("ProgramReader$Tokens", "end", "I", false)
  | 3 => ("ProgramReader$Tokens", "at", "I", false)
  | 4 => ("ProgramReader$Tokens", "token", "LProgramReader$Token;", false)
  | 5 => ("ProgramReader$Tokens", "place", "I", false)
  | 6 => ("ProgramReader$Tokens", "length", "I", false)
  | _ => ("ProgramReader$Tokens", "value", "I", false)
def tyX5 : Nat → FieldType := fun k => match k with
  | 0 => .array (.object "ProgramReader$Token")
  | 1 => .object "ProgramReader$Bytes"
  | 2 => .int
  | 3 => .int
  | 4 => .object "ProgramReader$Token"
  | 5 => .int
  | 6 => .int
  | _ => .int
abbrev wsX50 : List Cond := u_ws RX5 TX5 8
theorem nmX5 : ∀ a, a < 8 → ∀ b, b < 8 → a ≠ b → (TX5 a).2.1 ≠ (TX5 b).2.1 := by decide +kernel
theorem tyX5_ok : ∀ k, k < 8 → parseFieldDescriptor (TX5 k).2.2.1 = some (tyX5 k) := by decide +kernel
abbrev cX5_init : ByteArray := prog_6_method_1_code
def yX5_init : MethodName := ⟨RX5, "<init>", "()V"⟩
def dkwX5_init_0 : List UInt8 := [42, 183, 0, 1, 42, 184, 0, 7, 181, 0, 13, 177]
abbrev dktX5_init_0 : List UInt8 := dkwX5_init_0 ++ []
theorem dksX5_init_0 : cX5_init.data.toList.drop 0 = dktX5_init_0 := by decide +kernel
theorem dX5_init_0 : decode cX5_init 0 = .ok (.aload_n 0, 1) := dk_42 (dk_at dksX5_init_0 0 rfl rfl)
theorem dX5_init_1 : decode cX5_init 1 = .ok (.invokespecial 1, 3) := dk_183 0 1 (dk_at dksX5_init_0 1 rfl rfl)
theorem dX5_init_4 : decode cX5_init 4 = .ok (.aload_n 0, 1) := dk_42 (dk_at dksX5_init_0 4 rfl rfl)
theorem dX5_init_5 : decode cX5_init 5 = .ok (.invokestatic 7, 3) := dk_184 0 7 (dk_at dksX5_init_0 5 rfl rfl)
theorem dX5_init_8 : decode cX5_init 8 = .ok (.putfield 13, 3) := dk_181 0 13 (dk_at dksX5_init_0 8 rfl rfl)
theorem dX5_init_11 : decode cX5_init 11 = .ok (.return_, 1) := dk_177 (dk_at dksX5_init_0 11 rfl rfl)
abbrev cX5_begin : ByteArray := prog_6_method_2_code
def yX5_begin : MethodName := ⟨RX5, "begin", "(LProgramReader$Bytes;I)V"⟩
def dkwX5_begin_0 : List UInt8 := [42, 43, 181, 0, 19, 42, 28, 181, 0, 23, 42, 3, 181, 0, 27, 177]
abbrev dktX5_begin_0 : List UInt8 := dkwX5_begin_0 ++ []
theorem dksX5_begin_0 : cX5_begin.data.toList.drop 0 = dktX5_begin_0 := by decide +kernel
theorem dX5_begin_0 : decode cX5_begin 0 = .ok (.aload_n 0, 1) := dk_42 (dk_at dksX5_begin_0 0 rfl rfl)
theorem dX5_begin_1 : decode cX5_begin 1 = .ok (.aload_n 1, 1) := dk_43 (dk_at dksX5_begin_0 1 rfl rfl)
theorem dX5_begin_2 : decode cX5_begin 2 = .ok (.putfield 19, 3) := dk_181 0 19 (dk_at dksX5_begin_0 2 rfl rfl)
theorem dX5_begin_5 : decode cX5_begin 5 = .ok (.aload_n 0, 1) := dk_42 (dk_at dksX5_begin_0 5 rfl rfl)
theorem dX5_begin_6 : decode cX5_begin 6 = .ok (.iload_n 2, 1) := dk_28 (dk_at dksX5_begin_0 6 rfl rfl)
theorem dX5_begin_7 : decode cX5_begin 7 = .ok (.putfield 23, 3) := dk_181 0 23 (dk_at dksX5_begin_0 7 rfl rfl)
theorem dX5_begin_10 : decode cX5_begin 10 = .ok (.aload_n 0, 1) := dk_42 (dk_at dksX5_begin_0 10 rfl rfl)
theorem dX5_begin_11 : decode cX5_begin 11 = .ok (.iconst 0, 1) := dk_3 (dk_at dksX5_begin_0 11 rfl rfl)
theorem dX5_begin_12 : decode cX5_begin 12 = .ok (.putfield 27, 3) := dk_181 0 27 (dk_at dksX5_begin_0 12 rfl rfl)
theorem dX5_begin_15 : decode cX5_begin 15 = .ok (.return_, 1) := dk_177 (dk_at dksX5_begin_0 15 rfl rfl)
abbrev cX5_next : ByteArray := prog_6_method_7_code
def yX5_next : MethodName := ⟨RX5, "next", "()V"⟩
def dkwX5_next_10 : List UInt8 := [180, 0, 27, 42, 180, 0, 45, 96, 181, 0, 27, 177]
abbrev dktX5_next_10 : List UInt8 := dkwX5_next_10 ++ []
def dkwX5_next_9 : List UInt8 := [178, 0, 69, 166, 0, 19, 42, 4, 181, 0, 45, 42, 42, 178, 0, 78, 182, 0, 65, 181, 0, 52, 42, 89]
abbrev dktX5_next_9 : List UInt8 := dkwX5_next_9 ++ dktX5_next_10
def dkwX5_next_8 : List UInt8 := [162, 0, 13, 42, 178, 0, 78, 182, 0, 65, 167, 0, 6, 178, 0, 69, 181, 0, 52, 42, 180, 0, 52]
abbrev dktX5_next_8 : List UInt8 := dkwX5_next_8 ++ dktX5_next_9
def dkwX5_next_7 : List UInt8 := [182, 0, 75, 167, 0, 64, 42, 5, 181, 0, 45, 42, 42, 180, 0, 27, 4, 96, 42, 180, 0, 23]
abbrev dktX5_next_7 : List UInt8 := dkwX5_next_7 ++ dktX5_next_8
def dkwX5_next_6 : List UInt8 := [178, 0, 72, 167, 0, 7, 42, 180, 0, 52, 181, 0, 52, 167, 0, 78, 27, 184, 0, 59, 153, 0, 10, 42]
abbrev dktX5_next_6 : List UInt8 := dkwX5_next_6 ++ dktX5_next_7
def dkwX5_next_5 : List UInt8 := [181, 0, 52, 42, 42, 180, 0, 52, 178, 0, 69, 166, 0, 18, 42, 180, 0, 45, 16, 30, 163, 0, 9]
abbrev dktX5_next_5 : List UInt8 := dkwX5_next_5 ++ dktX5_next_6
def dkwX5_next_4 : List UInt8 := [153, 0, 16, 42, 89, 180, 0, 45, 4, 96, 181, 0, 45, 167, 255, 208, 42, 42, 178, 0, 62, 182, 0, 65]
abbrev dktX5_next_4 : List UInt8 := dkwX5_next_4 ++ dktX5_next_5
def dkwX5_next_3 : List UInt8 := [184, 0, 55, 154, 0, 22, 42, 42, 180, 0, 27, 42, 180, 0, 45, 96, 182, 0, 36, 184, 0, 59]
abbrev dktX5_next_3 : List UInt8 := dkwX5_next_3 ++ dktX5_next_4
def dkwX5_next_2 : List UInt8 := [167, 0, 183, 27, 184, 0, 55, 153, 0, 101, 42, 42, 180, 0, 27, 42, 180, 0, 45, 96, 182, 0, 36]
abbrev dktX5_next_2 : List UInt8 := dkwX5_next_2 ++ dktX5_next_3
def dkwX5_next_1 : List UInt8 := [182, 0, 36, 60, 42, 180, 0, 27, 42, 180, 0, 23, 160, 0, 13, 42, 178, 0, 48, 181, 0, 52]
abbrev dktX5_next_1 : List UInt8 := dkwX5_next_1 ++ dktX5_next_2
def dkwX5_next_0 : List UInt8 := [42, 182, 0, 39, 42, 42, 180, 0, 27, 181, 0, 42, 42, 3, 181, 0, 45, 42, 42, 180, 0, 27]
abbrev dktX5_next_0 : List UInt8 := dkwX5_next_0 ++ dktX5_next_1
theorem dksX5_next_0 : cX5_next.data.toList.drop 0 = dktX5_next_0 := by decide +kernel
theorem dksX5_next_1 : cX5_next.data.toList.drop 22 = dktX5_next_1 := dk_seg dksX5_next_0 22 rfl rfl
theorem dksX5_next_2 : cX5_next.data.toList.drop 44 = dktX5_next_2 := dk_seg dksX5_next_1 22 rfl rfl
theorem dksX5_next_3 : cX5_next.data.toList.drop 67 = dktX5_next_3 := dk_seg dksX5_next_2 23 rfl rfl
theorem dksX5_next_4 : cX5_next.data.toList.drop 89 = dktX5_next_4 := dk_seg dksX5_next_3 22 rfl rfl
theorem dksX5_next_5 : cX5_next.data.toList.drop 113 = dktX5_next_5 := dk_seg dksX5_next_4 24 rfl rfl
theorem dksX5_next_6 : cX5_next.data.toList.drop 136 = dktX5_next_6 := dk_seg dksX5_next_5 23 rfl rfl
theorem dksX5_next_7 : cX5_next.data.toList.drop 160 = dktX5_next_7 := dk_seg dksX5_next_6 24 rfl rfl
theorem dksX5_next_8 : cX5_next.data.toList.drop 182 = dktX5_next_8 := dk_seg dksX5_next_7 22 rfl rfl
theorem dksX5_next_9 : cX5_next.data.toList.drop 205 = dktX5_next_9 := dk_seg dksX5_next_8 23 rfl rfl
theorem dksX5_next_10 : cX5_next.data.toList.drop 229 = dktX5_next_10 := dk_seg dksX5_next_9 24 rfl rfl
theorem dX5_next_0 : decode cX5_next 0 = .ok (.aload_n 0, 1) := dk_42 (dk_at dksX5_next_0 0 rfl rfl)
theorem dX5_next_1 : decode cX5_next 1 = .ok (.invokevirtual 39, 3) := dk_182 0 39 (dk_at dksX5_next_0 1 rfl rfl)
theorem dX5_next_4 : decode cX5_next 4 = .ok (.aload_n 0, 1) := dk_42 (dk_at dksX5_next_0 4 rfl rfl)
theorem dX5_next_5 : decode cX5_next 5 = .ok (.aload_n 0, 1) := dk_42 (dk_at dksX5_next_0 5 rfl rfl)
theorem dX5_next_6 : decode cX5_next 6 = .ok (.getfield 27, 3) := dk_180 0 27 (dk_at dksX5_next_0 6 rfl rfl)
theorem dX5_next_9 : decode cX5_next 9 = .ok (.putfield 42, 3) := dk_181 0 42 (dk_at dksX5_next_0 9 rfl rfl)
theorem dX5_next_12 : decode cX5_next 12 = .ok (.aload_n 0, 1) := dk_42 (dk_at dksX5_next_0 12 rfl rfl)
theorem dX5_next_13 : decode cX5_next 13 = .ok (.iconst 0, 1) := dk_3 (dk_at dksX5_next_0 13 rfl rfl)
theorem dX5_next_14 : decode cX5_next 14 = .ok (.putfield 45, 3) := dk_181 0 45 (dk_at dksX5_next_0 14 rfl rfl)
theorem dX5_next_17 : decode cX5_next 17 = .ok (.aload_n 0, 1) := dk_42 (dk_at dksX5_next_0 17 rfl rfl)
theorem dX5_next_18 : decode cX5_next 18 = .ok (.aload_n 0, 1) := dk_42 (dk_at dksX5_next_0 18 rfl rfl)
theorem dX5_next_19 : decode cX5_next 19 = .ok (.getfield 27, 3) := dk_180 0 27 (dk_at dksX5_next_0 19 rfl rfl)
theorem dX5_next_22 : decode cX5_next 22 = .ok (.invokevirtual 36, 3) := dk_182 0 36 (dk_at dksX5_next_1 0 rfl rfl)
theorem dX5_next_25 : decode cX5_next 25 = .ok (.istore_n 1, 1) := dk_60 (dk_at dksX5_next_1 3 rfl rfl)
theorem dX5_next_26 : decode cX5_next 26 = .ok (.aload_n 0, 1) := dk_42 (dk_at dksX5_next_1 4 rfl rfl)
theorem dX5_next_27 : decode cX5_next 27 = .ok (.getfield 27, 3) := dk_180 0 27 (dk_at dksX5_next_1 5 rfl rfl)
theorem dX5_next_30 : decode cX5_next 30 = .ok (.aload_n 0, 1) := dk_42 (dk_at dksX5_next_1 8 rfl rfl)
theorem dX5_next_31 : decode cX5_next 31 = .ok (.getfield 23, 3) := dk_180 0 23 (dk_at dksX5_next_1 9 rfl rfl)
theorem dX5_next_34 : decode cX5_next 34 = .ok (.if_icmp .ne 13, 3) := dk_160 0 13 (dk_at dksX5_next_1 12 rfl rfl)
theorem dX5_next_37 : decode cX5_next 37 = .ok (.aload_n 0, 1) := dk_42 (dk_at dksX5_next_1 15 rfl rfl)
theorem dX5_next_38 : decode cX5_next 38 = .ok (.getstatic 48, 3) := dk_178 0 48 (dk_at dksX5_next_1 16 rfl rfl)
theorem dX5_next_41 : decode cX5_next 41 = .ok (.putfield 52, 3) := dk_181 0 52 (dk_at dksX5_next_1 19 rfl rfl)
theorem dX5_next_44 : decode cX5_next 44 = .ok (.goto 183, 3) := dk_167 0 183 (dk_at dksX5_next_2 0 rfl rfl)
theorem dX5_next_47 : decode cX5_next 47 = .ok (.iload_n 1, 1) := dk_27 (dk_at dksX5_next_2 3 rfl rfl)
theorem dX5_next_48 : decode cX5_next 48 = .ok (.invokestatic 55, 3) := dk_184 0 55 (dk_at dksX5_next_2 4 rfl rfl)
theorem dX5_next_51 : decode cX5_next 51 = .ok (.ifCond .eq 101, 3) := dk_153 0 101 (dk_at dksX5_next_2 7 rfl rfl)
theorem dX5_next_54 : decode cX5_next 54 = .ok (.aload_n 0, 1) := dk_42 (dk_at dksX5_next_2 10 rfl rfl)
theorem dX5_next_55 : decode cX5_next 55 = .ok (.aload_n 0, 1) := dk_42 (dk_at dksX5_next_2 11 rfl rfl)
theorem dX5_next_56 : decode cX5_next 56 = .ok (.getfield 27, 3) := dk_180 0 27 (dk_at dksX5_next_2 12 rfl rfl)
theorem dX5_next_59 : decode cX5_next 59 = .ok (.aload_n 0, 1) := dk_42 (dk_at dksX5_next_2 15 rfl rfl)
theorem dX5_next_60 : decode cX5_next 60 = .ok (.getfield 45, 3) := dk_180 0 45 (dk_at dksX5_next_2 16 rfl rfl)
theorem dX5_next_63 : decode cX5_next 63 = .ok (.iadd, 1) := dk_96 (dk_at dksX5_next_2 19 rfl rfl)
theorem dX5_next_64 : decode cX5_next 64 = .ok (.invokevirtual 36, 3) := dk_182 0 36 (dk_at dksX5_next_2 20 rfl rfl)
theorem dX5_next_67 : decode cX5_next 67 = .ok (.invokestatic 55, 3) := dk_184 0 55 (dk_at dksX5_next_3 0 rfl rfl)
theorem dX5_next_70 : decode cX5_next 70 = .ok (.ifCond .ne 22, 3) := dk_154 0 22 (dk_at dksX5_next_3 3 rfl rfl)
theorem dX5_next_73 : decode cX5_next 73 = .ok (.aload_n 0, 1) := dk_42 (dk_at dksX5_next_3 6 rfl rfl)
theorem dX5_next_74 : decode cX5_next 74 = .ok (.aload_n 0, 1) := dk_42 (dk_at dksX5_next_3 7 rfl rfl)
theorem dX5_next_75 : decode cX5_next 75 = .ok (.getfield 27, 3) := dk_180 0 27 (dk_at dksX5_next_3 8 rfl rfl)
theorem dX5_next_78 : decode cX5_next 78 = .ok (.aload_n 0, 1) := dk_42 (dk_at dksX5_next_3 11 rfl rfl)
theorem dX5_next_79 : decode cX5_next 79 = .ok (.getfield 45, 3) := dk_180 0 45 (dk_at dksX5_next_3 12 rfl rfl)
theorem dX5_next_82 : decode cX5_next 82 = .ok (.iadd, 1) := dk_96 (dk_at dksX5_next_3 15 rfl rfl)
theorem dX5_next_83 : decode cX5_next 83 = .ok (.invokevirtual 36, 3) := dk_182 0 36 (dk_at dksX5_next_3 16 rfl rfl)
theorem dX5_next_86 : decode cX5_next 86 = .ok (.invokestatic 59, 3) := dk_184 0 59 (dk_at dksX5_next_3 19 rfl rfl)
theorem dX5_next_89 : decode cX5_next 89 = .ok (.ifCond .eq 16, 3) := dk_153 0 16 (dk_at dksX5_next_4 0 rfl rfl)
theorem dX5_next_92 : decode cX5_next 92 = .ok (.aload_n 0, 1) := dk_42 (dk_at dksX5_next_4 3 rfl rfl)
theorem dX5_next_93 : decode cX5_next 93 = .ok (.dup, 1) := dk_89 (dk_at dksX5_next_4 4 rfl rfl)
theorem dX5_next_94 : decode cX5_next 94 = .ok (.getfield 45, 3) := dk_180 0 45 (dk_at dksX5_next_4 5 rfl rfl)
theorem dX5_next_97 : decode cX5_next 97 = .ok (.iconst 1, 1) := dk_4 (dk_at dksX5_next_4 8 rfl rfl)
theorem dX5_next_98 : decode cX5_next 98 = .ok (.iadd, 1) := dk_96 (dk_at dksX5_next_4 9 rfl rfl)
theorem dX5_next_99 : decode cX5_next 99 = .ok (.putfield 45, 3) := dk_181 0 45 (dk_at dksX5_next_4 10 rfl rfl)
theorem dX5_next_102 : decode cX5_next 102 = .ok (.goto (-48), 3) := dk_167 255 208 (dk_at dksX5_next_4 13 rfl rfl)
theorem dX5_next_105 : decode cX5_next 105 = .ok (.aload_n 0, 1) := dk_42 (dk_at dksX5_next_4 16 rfl rfl)
theorem dX5_next_106 : decode cX5_next 106 = .ok (.aload_n 0, 1) := dk_42 (dk_at dksX5_next_4 17 rfl rfl)
theorem dX5_next_107 : decode cX5_next 107 = .ok (.getstatic 62, 3) := dk_178 0 62 (dk_at dksX5_next_4 18 rfl rfl)
theorem dX5_next_110 : decode cX5_next 110 = .ok (.invokevirtual 65, 3) := dk_182 0 65 (dk_at dksX5_next_4 21 rfl rfl)
theorem dX5_next_113 : decode cX5_next 113 = .ok (.putfield 52, 3) := dk_181 0 52 (dk_at dksX5_next_5 0 rfl rfl)
theorem dX5_next_116 : decode cX5_next 116 = .ok (.aload_n 0, 1) := dk_42 (dk_at dksX5_next_5 3 rfl rfl)
theorem dX5_next_117 : decode cX5_next 117 = .ok (.aload_n 0, 1) := dk_42 (dk_at dksX5_next_5 4 rfl rfl)
theorem dX5_next_118 : decode cX5_next 118 = .ok (.getfield 52, 3) := dk_180 0 52 (dk_at dksX5_next_5 5 rfl rfl)
theorem dX5_next_121 : decode cX5_next 121 = .ok (.getstatic 69, 3) := dk_178 0 69 (dk_at dksX5_next_5 8 rfl rfl)
theorem dX5_next_124 : decode cX5_next 124 = .ok (.if_acmp .ne 18, 3) := dk_166 0 18 (dk_at dksX5_next_5 11 rfl rfl)
theorem dX5_next_127 : decode cX5_next 127 = .ok (.aload_n 0, 1) := dk_42 (dk_at dksX5_next_5 14 rfl rfl)
theorem dX5_next_128 : decode cX5_next 128 = .ok (.getfield 45, 3) := dk_180 0 45 (dk_at dksX5_next_5 15 rfl rfl)
theorem dX5_next_131 : decode cX5_next 131 = .ok (.bipush 30, 2) := dk_16 30 (dk_at dksX5_next_5 18 rfl rfl)
theorem dX5_next_133 : decode cX5_next 133 = .ok (.if_icmp .gt 9, 3) := dk_163 0 9 (dk_at dksX5_next_5 20 rfl rfl)
theorem dX5_next_136 : decode cX5_next 136 = .ok (.getstatic 72, 3) := dk_178 0 72 (dk_at dksX5_next_6 0 rfl rfl)
theorem dX5_next_139 : decode cX5_next 139 = .ok (.goto 7, 3) := dk_167 0 7 (dk_at dksX5_next_6 3 rfl rfl)
theorem dX5_next_142 : decode cX5_next 142 = .ok (.aload_n 0, 1) := dk_42 (dk_at dksX5_next_6 6 rfl rfl)
theorem dX5_next_143 : decode cX5_next 143 = .ok (.getfield 52, 3) := dk_180 0 52 (dk_at dksX5_next_6 7 rfl rfl)
theorem dX5_next_146 : decode cX5_next 146 = .ok (.putfield 52, 3) := dk_181 0 52 (dk_at dksX5_next_6 10 rfl rfl)
theorem dX5_next_149 : decode cX5_next 149 = .ok (.goto 78, 3) := dk_167 0 78 (dk_at dksX5_next_6 13 rfl rfl)
theorem dX5_next_152 : decode cX5_next 152 = .ok (.iload_n 1, 1) := dk_27 (dk_at dksX5_next_6 16 rfl rfl)
theorem dX5_next_153 : decode cX5_next 153 = .ok (.invokestatic 59, 3) := dk_184 0 59 (dk_at dksX5_next_6 17 rfl rfl)
theorem dX5_next_156 : decode cX5_next 156 = .ok (.ifCond .eq 10, 3) := dk_153 0 10 (dk_at dksX5_next_6 20 rfl rfl)
theorem dX5_next_159 : decode cX5_next 159 = .ok (.aload_n 0, 1) := dk_42 (dk_at dksX5_next_6 23 rfl rfl)
theorem dX5_next_160 : decode cX5_next 160 = .ok (.invokevirtual 75, 3) := dk_182 0 75 (dk_at dksX5_next_7 0 rfl rfl)
theorem dX5_next_163 : decode cX5_next 163 = .ok (.goto 64, 3) := dk_167 0 64 (dk_at dksX5_next_7 3 rfl rfl)
theorem dX5_next_166 : decode cX5_next 166 = .ok (.aload_n 0, 1) := dk_42 (dk_at dksX5_next_7 6 rfl rfl)
theorem dX5_next_167 : decode cX5_next 167 = .ok (.iconst 2, 1) := dk_5 (dk_at dksX5_next_7 7 rfl rfl)
theorem dX5_next_168 : decode cX5_next 168 = .ok (.putfield 45, 3) := dk_181 0 45 (dk_at dksX5_next_7 8 rfl rfl)
theorem dX5_next_171 : decode cX5_next 171 = .ok (.aload_n 0, 1) := dk_42 (dk_at dksX5_next_7 11 rfl rfl)
theorem dX5_next_172 : decode cX5_next 172 = .ok (.aload_n 0, 1) := dk_42 (dk_at dksX5_next_7 12 rfl rfl)
theorem dX5_next_173 : decode cX5_next 173 = .ok (.getfield 27, 3) := dk_180 0 27 (dk_at dksX5_next_7 13 rfl rfl)
theorem dX5_next_176 : decode cX5_next 176 = .ok (.iconst 1, 1) := dk_4 (dk_at dksX5_next_7 16 rfl rfl)
theorem dX5_next_177 : decode cX5_next 177 = .ok (.iadd, 1) := dk_96 (dk_at dksX5_next_7 17 rfl rfl)
theorem dX5_next_178 : decode cX5_next 178 = .ok (.aload_n 0, 1) := dk_42 (dk_at dksX5_next_7 18 rfl rfl)
theorem dX5_next_179 : decode cX5_next 179 = .ok (.getfield 23, 3) := dk_180 0 23 (dk_at dksX5_next_7 19 rfl rfl)
theorem dX5_next_182 : decode cX5_next 182 = .ok (.if_icmp .ge 13, 3) := dk_162 0 13 (dk_at dksX5_next_8 0 rfl rfl)
theorem dX5_next_185 : decode cX5_next 185 = .ok (.aload_n 0, 1) := dk_42 (dk_at dksX5_next_8 3 rfl rfl)
theorem dX5_next_186 : decode cX5_next 186 = .ok (.getstatic 78, 3) := dk_178 0 78 (dk_at dksX5_next_8 4 rfl rfl)
theorem dX5_next_189 : decode cX5_next 189 = .ok (.invokevirtual 65, 3) := dk_182 0 65 (dk_at dksX5_next_8 7 rfl rfl)
theorem dX5_next_192 : decode cX5_next 192 = .ok (.goto 6, 3) := dk_167 0 6 (dk_at dksX5_next_8 10 rfl rfl)
theorem dX5_next_195 : decode cX5_next 195 = .ok (.getstatic 69, 3) := dk_178 0 69 (dk_at dksX5_next_8 13 rfl rfl)
theorem dX5_next_198 : decode cX5_next 198 = .ok (.putfield 52, 3) := dk_181 0 52 (dk_at dksX5_next_8 16 rfl rfl)
theorem dX5_next_201 : decode cX5_next 201 = .ok (.aload_n 0, 1) := dk_42 (dk_at dksX5_next_8 19 rfl rfl)
theorem dX5_next_202 : decode cX5_next 202 = .ok (.getfield 52, 3) := dk_180 0 52 (dk_at dksX5_next_8 20 rfl rfl)
theorem dX5_next_205 : decode cX5_next 205 = .ok (.getstatic 69, 3) := dk_178 0 69 (dk_at dksX5_next_9 0 rfl rfl)
theorem dX5_next_208 : decode cX5_next 208 = .ok (.if_acmp .ne 19, 3) := dk_166 0 19 (dk_at dksX5_next_9 3 rfl rfl)
theorem dX5_next_211 : decode cX5_next 211 = .ok (.aload_n 0, 1) := dk_42 (dk_at dksX5_next_9 6 rfl rfl)
theorem dX5_next_212 : decode cX5_next 212 = .ok (.iconst 1, 1) := dk_4 (dk_at dksX5_next_9 7 rfl rfl)
theorem dX5_next_213 : decode cX5_next 213 = .ok (.putfield 45, 3) := dk_181 0 45 (dk_at dksX5_next_9 8 rfl rfl)
theorem dX5_next_216 : decode cX5_next 216 = .ok (.aload_n 0, 1) := dk_42 (dk_at dksX5_next_9 11 rfl rfl)
theorem dX5_next_217 : decode cX5_next 217 = .ok (.aload_n 0, 1) := dk_42 (dk_at dksX5_next_9 12 rfl rfl)
theorem dX5_next_218 : decode cX5_next 218 = .ok (.getstatic 78, 3) := dk_178 0 78 (dk_at dksX5_next_9 13 rfl rfl)
theorem dX5_next_221 : decode cX5_next 221 = .ok (.invokevirtual 65, 3) := dk_182 0 65 (dk_at dksX5_next_9 16 rfl rfl)
theorem dX5_next_224 : decode cX5_next 224 = .ok (.putfield 52, 3) := dk_181 0 52 (dk_at dksX5_next_9 19 rfl rfl)
theorem dX5_next_227 : decode cX5_next 227 = .ok (.aload_n 0, 1) := dk_42 (dk_at dksX5_next_9 22 rfl rfl)
theorem dX5_next_228 : decode cX5_next 228 = .ok (.dup, 1) := dk_89 (dk_at dksX5_next_9 23 rfl rfl)
theorem dX5_next_229 : decode cX5_next 229 = .ok (.getfield 27, 3) := dk_180 0 27 (dk_at dksX5_next_10 0 rfl rfl)
theorem dX5_next_232 : decode cX5_next 232 = .ok (.aload_n 0, 1) := dk_42 (dk_at dksX5_next_10 3 rfl rfl)
theorem dX5_next_233 : decode cX5_next 233 = .ok (.getfield 45, 3) := dk_180 0 45 (dk_at dksX5_next_10 4 rfl rfl)
theorem dX5_next_236 : decode cX5_next 236 = .ok (.iadd, 1) := dk_96 (dk_at dksX5_next_10 7 rfl rfl)
theorem dX5_next_237 : decode cX5_next 237 = .ok (.putfield 27, 3) := dk_181 0 27 (dk_at dksX5_next_10 8 rfl rfl)
theorem dX5_next_240 : decode cX5_next 240 = .ok (.return_, 1) := dk_177 (dk_at dksX5_next_10 11 rfl rfl)
abbrev cX5_blanks : ByteArray := prog_6_method_6_code
def yX5_blanks : MethodName := ⟨RX5, "blanks", "()V"⟩
def dkwX5_blanks_5 : List UInt8 := [181, 0, 27, 167, 255, 222, 3, 60, 167, 255, 135, 177]
abbrev dktX5_blanks_5 : List UInt8 := dkwX5_blanks_5 ++ []
def dkwX5_blanks_4 : List UInt8 := [162, 0, 31, 42, 42, 180, 0, 27, 182, 0, 36, 16, 10, 159, 0, 18, 42, 89, 180, 0, 27, 4, 96]
abbrev dktX5_blanks_4 : List UInt8 := dkwX5_blanks_4 ++ dktX5_blanks_5
def dkwX5_blanks_3 : List UInt8 := [42, 42, 180, 0, 27, 4, 96, 182, 0, 36, 16, 47, 160, 0, 40, 42, 180, 0, 27, 42, 180, 0, 23]
abbrev dktX5_blanks_3 : List UInt8 := dkwX5_blanks_3 ++ dktX5_blanks_4
def dkwX5_blanks_2 : List UInt8 := [16, 32, 160, 0, 16, 42, 89, 180, 0, 27, 4, 96, 181, 0, 27, 167, 0, 63, 28, 16, 47, 160, 0, 55]
abbrev dktX5_blanks_2 : List UInt8 := dkwX5_blanks_2 ++ dktX5_blanks_3
def dkwX5_blanks_1 : List UInt8 := [182, 0, 36, 61, 28, 16, 9, 159, 0, 21, 28, 16, 10, 159, 0, 15, 28, 16, 13, 159, 0, 9, 28]
abbrev dktX5_blanks_1 : List UInt8 := dkwX5_blanks_1 ++ dktX5_blanks_2
def dkwX5_blanks_0 : List UInt8 := [4, 60, 27, 153, 0, 123, 42, 180, 0, 27, 42, 180, 0, 23, 162, 0, 112, 42, 42, 180, 0, 27]
abbrev dktX5_blanks_0 : List UInt8 := dkwX5_blanks_0 ++ dktX5_blanks_1
theorem dksX5_blanks_0 : cX5_blanks.data.toList.drop 0 = dktX5_blanks_0 := by decide +kernel
theorem dksX5_blanks_1 : cX5_blanks.data.toList.drop 22 = dktX5_blanks_1 := dk_seg dksX5_blanks_0 22 rfl rfl
theorem dksX5_blanks_2 : cX5_blanks.data.toList.drop 45 = dktX5_blanks_2 := dk_seg dksX5_blanks_1 23 rfl rfl
theorem dksX5_blanks_3 : cX5_blanks.data.toList.drop 69 = dktX5_blanks_3 := dk_seg dksX5_blanks_2 24 rfl rfl
theorem dksX5_blanks_4 : cX5_blanks.data.toList.drop 92 = dktX5_blanks_4 := dk_seg dksX5_blanks_3 23 rfl rfl
theorem dksX5_blanks_5 : cX5_blanks.data.toList.drop 115 = dktX5_blanks_5 := dk_seg dksX5_blanks_4 23 rfl rfl
theorem dX5_blanks_0 : decode cX5_blanks 0 = .ok (.iconst 1, 1) := dk_4 (dk_at dksX5_blanks_0 0 rfl rfl)
theorem dX5_blanks_1 : decode cX5_blanks 1 = .ok (.istore_n 1, 1) := dk_60 (dk_at dksX5_blanks_0 1 rfl rfl)
theorem dX5_blanks_2 : decode cX5_blanks 2 = .ok (.iload_n 1, 1) := dk_27 (dk_at dksX5_blanks_0 2 rfl rfl)
theorem dX5_blanks_3 : decode cX5_blanks 3 = .ok (.ifCond .eq 123, 3) := dk_153 0 123 (dk_at dksX5_blanks_0 3 rfl rfl)
theorem dX5_blanks_6 : decode cX5_blanks 6 = .ok (.aload_n 0, 1) := dk_42 (dk_at dksX5_blanks_0 6 rfl rfl)
theorem dX5_blanks_7 : decode cX5_blanks 7 = .ok (.getfield 27, 3) := dk_180 0 27 (dk_at dksX5_blanks_0 7 rfl rfl)
theorem dX5_blanks_10 : decode cX5_blanks 10 = .ok (.aload_n 0, 1) := dk_42 (dk_at dksX5_blanks_0 10 rfl rfl)
theorem dX5_blanks_11 : decode cX5_blanks 11 = .ok (.getfield 23, 3) := dk_180 0 23 (dk_at dksX5_blanks_0 11 rfl rfl)
theorem dX5_blanks_14 : decode cX5_blanks 14 = .ok (.if_icmp .ge 112, 3) := dk_162 0 112 (dk_at dksX5_blanks_0 14 rfl rfl)
theorem dX5_blanks_17 : decode cX5_blanks 17 = .ok (.aload_n 0, 1) := dk_42 (dk_at dksX5_blanks_0 17 rfl rfl)
theorem dX5_blanks_18 : decode cX5_blanks 18 = .ok (.aload_n 0, 1) := dk_42 (dk_at dksX5_blanks_0 18 rfl rfl)
theorem dX5_blanks_19 : decode cX5_blanks 19 = .ok (.getfield 27, 3) := dk_180 0 27 (dk_at dksX5_blanks_0 19 rfl rfl)
theorem dX5_blanks_22 : decode cX5_blanks 22 = .ok (.invokevirtual 36, 3) := dk_182 0 36 (dk_at dksX5_blanks_1 0 rfl rfl)
theorem dX5_blanks_25 : decode cX5_blanks 25 = .ok (.istore_n 2, 1) := dk_61 (dk_at dksX5_blanks_1 3 rfl rfl)
theorem dX5_blanks_26 : decode cX5_blanks 26 = .ok (.iload_n 2, 1) := dk_28 (dk_at dksX5_blanks_1 4 rfl rfl)
theorem dX5_blanks_27 : decode cX5_blanks 27 = .ok (.bipush 9, 2) := dk_16 9 (dk_at dksX5_blanks_1 5 rfl rfl)
theorem dX5_blanks_29 : decode cX5_blanks 29 = .ok (.if_icmp .eq 21, 3) := dk_159 0 21 (dk_at dksX5_blanks_1 7 rfl rfl)
theorem dX5_blanks_32 : decode cX5_blanks 32 = .ok (.iload_n 2, 1) := dk_28 (dk_at dksX5_blanks_1 10 rfl rfl)
theorem dX5_blanks_33 : decode cX5_blanks 33 = .ok (.bipush 10, 2) := dk_16 10 (dk_at dksX5_blanks_1 11 rfl rfl)
theorem dX5_blanks_35 : decode cX5_blanks 35 = .ok (.if_icmp .eq 15, 3) := dk_159 0 15 (dk_at dksX5_blanks_1 13 rfl rfl)
theorem dX5_blanks_38 : decode cX5_blanks 38 = .ok (.iload_n 2, 1) := dk_28 (dk_at dksX5_blanks_1 16 rfl rfl)
theorem dX5_blanks_39 : decode cX5_blanks 39 = .ok (.bipush 13, 2) := dk_16 13 (dk_at dksX5_blanks_1 17 rfl rfl)
theorem dX5_blanks_41 : decode cX5_blanks 41 = .ok (.if_icmp .eq 9, 3) := dk_159 0 9 (dk_at dksX5_blanks_1 19 rfl rfl)
theorem dX5_blanks_44 : decode cX5_blanks 44 = .ok (.iload_n 2, 1) := dk_28 (dk_at dksX5_blanks_1 22 rfl rfl)
theorem dX5_blanks_45 : decode cX5_blanks 45 = .ok (.bipush 32, 2) := dk_16 32 (dk_at dksX5_blanks_2 0 rfl rfl)
theorem dX5_blanks_47 : decode cX5_blanks 47 = .ok (.if_icmp .ne 16, 3) := dk_160 0 16 (dk_at dksX5_blanks_2 2 rfl rfl)
theorem dX5_blanks_50 : decode cX5_blanks 50 = .ok (.aload_n 0, 1) := dk_42 (dk_at dksX5_blanks_2 5 rfl rfl)
theorem dX5_blanks_51 : decode cX5_blanks 51 = .ok (.dup, 1) := dk_89 (dk_at dksX5_blanks_2 6 rfl rfl)
theorem dX5_blanks_52 : decode cX5_blanks 52 = .ok (.getfield 27, 3) := dk_180 0 27 (dk_at dksX5_blanks_2 7 rfl rfl)
theorem dX5_blanks_55 : decode cX5_blanks 55 = .ok (.iconst 1, 1) := dk_4 (dk_at dksX5_blanks_2 10 rfl rfl)
theorem dX5_blanks_56 : decode cX5_blanks 56 = .ok (.iadd, 1) := dk_96 (dk_at dksX5_blanks_2 11 rfl rfl)
theorem dX5_blanks_57 : decode cX5_blanks 57 = .ok (.putfield 27, 3) := dk_181 0 27 (dk_at dksX5_blanks_2 12 rfl rfl)
theorem dX5_blanks_60 : decode cX5_blanks 60 = .ok (.goto 63, 3) := dk_167 0 63 (dk_at dksX5_blanks_2 15 rfl rfl)
theorem dX5_blanks_63 : decode cX5_blanks 63 = .ok (.iload_n 2, 1) := dk_28 (dk_at dksX5_blanks_2 18 rfl rfl)
theorem dX5_blanks_64 : decode cX5_blanks 64 = .ok (.bipush 47, 2) := dk_16 47 (dk_at dksX5_blanks_2 19 rfl rfl)
theorem dX5_blanks_66 : decode cX5_blanks 66 = .ok (.if_icmp .ne 55, 3) := dk_160 0 55 (dk_at dksX5_blanks_2 21 rfl rfl)
theorem dX5_blanks_69 : decode cX5_blanks 69 = .ok (.aload_n 0, 1) := dk_42 (dk_at dksX5_blanks_3 0 rfl rfl)
theorem dX5_blanks_70 : decode cX5_blanks 70 = .ok (.aload_n 0, 1) := dk_42 (dk_at dksX5_blanks_3 1 rfl rfl)
theorem dX5_blanks_71 : decode cX5_blanks 71 = .ok (.getfield 27, 3) := dk_180 0 27 (dk_at dksX5_blanks_3 2 rfl rfl)
theorem dX5_blanks_74 : decode cX5_blanks 74 = .ok (.iconst 1, 1) := dk_4 (dk_at dksX5_blanks_3 5 rfl rfl)
theorem dX5_blanks_75 : decode cX5_blanks 75 = .ok (.iadd, 1) := dk_96 (dk_at dksX5_blanks_3 6 rfl rfl)
theorem dX5_blanks_76 : decode cX5_blanks 76 = .ok (.invokevirtual 36, 3) := dk_182 0 36 (dk_at dksX5_blanks_3 7 rfl rfl)
theorem dX5_blanks_79 : decode cX5_blanks 79 = .ok (.bipush 47, 2) := dk_16 47 (dk_at dksX5_blanks_3 10 rfl rfl)
theorem dX5_blanks_81 : decode cX5_blanks 81 = .ok (.if_icmp .ne 40, 3) := dk_160 0 40 (dk_at dksX5_blanks_3 12 rfl rfl)
theorem dX5_blanks_84 : decode cX5_blanks 84 = .ok (.aload_n 0, 1) := dk_42 (dk_at dksX5_blanks_3 15 rfl rfl)
theorem dX5_blanks_85 : decode cX5_blanks 85 = .ok (.getfield 27, 3) := dk_180 0 27 (dk_at dksX5_blanks_3 16 rfl rfl)
theorem dX5_blanks_88 : decode cX5_blanks 88 = .ok (.aload_n 0, 1) := dk_42 (dk_at dksX5_blanks_3 19 rfl rfl)
theorem dX5_blanks_89 : decode cX5_blanks 89 = .ok (.getfield 23, 3) := dk_180 0 23 (dk_at dksX5_blanks_3 20 rfl rfl)
theorem dX5_blanks_92 : decode cX5_blanks 92 = .ok (.if_icmp .ge 31, 3) := dk_162 0 31 (dk_at dksX5_blanks_4 0 rfl rfl)
theorem dX5_blanks_95 : decode cX5_blanks 95 = .ok (.aload_n 0, 1) := dk_42 (dk_at dksX5_blanks_4 3 rfl rfl)
theorem dX5_blanks_96 : decode cX5_blanks 96 = .ok (.aload_n 0, 1) := dk_42 (dk_at dksX5_blanks_4 4 rfl rfl)
theorem dX5_blanks_97 : decode cX5_blanks 97 = .ok (.getfield 27, 3) := dk_180 0 27 (dk_at dksX5_blanks_4 5 rfl rfl)
theorem dX5_blanks_100 : decode cX5_blanks 100 = .ok (.invokevirtual 36, 3) := dk_182 0 36 (dk_at dksX5_blanks_4 8 rfl rfl)
theorem dX5_blanks_103 : decode cX5_blanks 103 = .ok (.bipush 10, 2) := dk_16 10 (dk_at dksX5_blanks_4 11 rfl rfl)
theorem dX5_blanks_105 : decode cX5_blanks 105 = .ok (.if_icmp .eq 18, 3) := dk_159 0 18 (dk_at dksX5_blanks_4 13 rfl rfl)
theorem dX5_blanks_108 : decode cX5_blanks 108 = .ok (.aload_n 0, 1) := dk_42 (dk_at dksX5_blanks_4 16 rfl rfl)
theorem dX5_blanks_109 : decode cX5_blanks 109 = .ok (.dup, 1) := dk_89 (dk_at dksX5_blanks_4 17 rfl rfl)
theorem dX5_blanks_110 : decode cX5_blanks 110 = .ok (.getfield 27, 3) := dk_180 0 27 (dk_at dksX5_blanks_4 18 rfl rfl)
theorem dX5_blanks_113 : decode cX5_blanks 113 = .ok (.iconst 1, 1) := dk_4 (dk_at dksX5_blanks_4 21 rfl rfl)
theorem dX5_blanks_114 : decode cX5_blanks 114 = .ok (.iadd, 1) := dk_96 (dk_at dksX5_blanks_4 22 rfl rfl)
theorem dX5_blanks_115 : decode cX5_blanks 115 = .ok (.putfield 27, 3) := dk_181 0 27 (dk_at dksX5_blanks_5 0 rfl rfl)
theorem dX5_blanks_118 : decode cX5_blanks 118 = .ok (.goto (-34), 3) := dk_167 255 222 (dk_at dksX5_blanks_5 3 rfl rfl)
theorem dX5_blanks_121 : decode cX5_blanks 121 = .ok (.iconst 0, 1) := dk_3 (dk_at dksX5_blanks_5 6 rfl rfl)
theorem dX5_blanks_122 : decode cX5_blanks 122 = .ok (.istore_n 1, 1) := dk_60 (dk_at dksX5_blanks_5 7 rfl rfl)
theorem dX5_blanks_123 : decode cX5_blanks 123 = .ok (.goto (-121), 3) := dk_167 255 135 (dk_at dksX5_blanks_5 8 rfl rfl)
theorem dX5_blanks_126 : decode cX5_blanks 126 = .ok (.return_, 1) := dk_177 (dk_at dksX5_blanks_5 11 rfl rfl)
abbrev cX5_look : ByteArray := prog_6_method_3_code
def yX5_look : MethodName := ⟨RX5, "look", "(I)I"⟩
def dkwX5_look_0 : List UInt8 := [27, 42, 180, 0, 23, 162, 0, 14, 42, 180, 0, 19, 27, 182, 0, 30, 167, 0, 4, 3, 172]
abbrev dktX5_look_0 : List UInt8 := dkwX5_look_0 ++ []
theorem dksX5_look_0 : cX5_look.data.toList.drop 0 = dktX5_look_0 := by decide +kernel
theorem dX5_look_0 : decode cX5_look 0 = .ok (.iload_n 1, 1) := dk_27 (dk_at dksX5_look_0 0 rfl rfl)
theorem dX5_look_1 : decode cX5_look 1 = .ok (.aload_n 0, 1) := dk_42 (dk_at dksX5_look_0 1 rfl rfl)
theorem dX5_look_2 : decode cX5_look 2 = .ok (.getfield 23, 3) := dk_180 0 23 (dk_at dksX5_look_0 2 rfl rfl)
theorem dX5_look_5 : decode cX5_look 5 = .ok (.if_icmp .ge 14, 3) := dk_162 0 14 (dk_at dksX5_look_0 5 rfl rfl)
theorem dX5_look_8 : decode cX5_look 8 = .ok (.aload_n 0, 1) := dk_42 (dk_at dksX5_look_0 8 rfl rfl)
theorem dX5_look_9 : decode cX5_look 9 = .ok (.getfield 19, 3) := dk_180 0 19 (dk_at dksX5_look_0 9 rfl rfl)
theorem dX5_look_12 : decode cX5_look 12 = .ok (.iload_n 1, 1) := dk_27 (dk_at dksX5_look_0 12 rfl rfl)
theorem dX5_look_13 : decode cX5_look 13 = .ok (.invokevirtual 30, 3) := dk_182 0 30 (dk_at dksX5_look_0 13 rfl rfl)
theorem dX5_look_16 : decode cX5_look 16 = .ok (.goto 4, 3) := dk_167 0 4 (dk_at dksX5_look_0 16 rfl rfl)
theorem dX5_look_19 : decode cX5_look 19 = .ok (.iconst 0, 1) := dk_3 (dk_at dksX5_look_0 19 rfl rfl)
theorem dX5_look_20 : decode cX5_look 20 = .ok (.ireturn, 1) := dk_172 (dk_at dksX5_look_0 20 rfl rfl)
abbrev cX5_begins : ByteArray := prog_6_method_5_code
def yX5_begins : MethodName := ⟨RX5, "begins", "(I)Z"⟩
def dkwX5_begins_1 : List UInt8 := [26, 16, 95, 160, 0, 7, 4, 167, 0, 4, 3, 172]
abbrev dktX5_begins_1 : List UInt8 := dkwX5_begins_1 ++ []
def dkwX5_begins_0 : List UInt8 := [26, 16, 97, 161, 0, 9, 26, 16, 122, 164, 0, 21, 26, 16, 65, 161, 0, 9, 26, 16, 90, 164, 0, 9]
abbrev dktX5_begins_0 : List UInt8 := dkwX5_begins_0 ++ dktX5_begins_1
theorem dksX5_begins_0 : cX5_begins.data.toList.drop 0 = dktX5_begins_0 := by decide +kernel
theorem dksX5_begins_1 : cX5_begins.data.toList.drop 24 = dktX5_begins_1 := dk_seg dksX5_begins_0 24 rfl rfl
theorem dX5_begins_0 : decode cX5_begins 0 = .ok (.iload_n 0, 1) := dk_26 (dk_at dksX5_begins_0 0 rfl rfl)
theorem dX5_begins_1 : decode cX5_begins 1 = .ok (.bipush 97, 2) := dk_16 97 (dk_at dksX5_begins_0 1 rfl rfl)
theorem dX5_begins_3 : decode cX5_begins 3 = .ok (.if_icmp .lt 9, 3) := dk_161 0 9 (dk_at dksX5_begins_0 3 rfl rfl)
theorem dX5_begins_6 : decode cX5_begins 6 = .ok (.iload_n 0, 1) := dk_26 (dk_at dksX5_begins_0 6 rfl rfl)
theorem dX5_begins_7 : decode cX5_begins 7 = .ok (.bipush 122, 2) := dk_16 122 (dk_at dksX5_begins_0 7 rfl rfl)
theorem dX5_begins_9 : decode cX5_begins 9 = .ok (.if_icmp .le 21, 3) := dk_164 0 21 (dk_at dksX5_begins_0 9 rfl rfl)
theorem dX5_begins_12 : decode cX5_begins 12 = .ok (.iload_n 0, 1) := dk_26 (dk_at dksX5_begins_0 12 rfl rfl)
theorem dX5_begins_13 : decode cX5_begins 13 = .ok (.bipush 65, 2) := dk_16 65 (dk_at dksX5_begins_0 13 rfl rfl)
theorem dX5_begins_15 : decode cX5_begins 15 = .ok (.if_icmp .lt 9, 3) := dk_161 0 9 (dk_at dksX5_begins_0 15 rfl rfl)
theorem dX5_begins_18 : decode cX5_begins 18 = .ok (.iload_n 0, 1) := dk_26 (dk_at dksX5_begins_0 18 rfl rfl)
theorem dX5_begins_19 : decode cX5_begins 19 = .ok (.bipush 90, 2) := dk_16 90 (dk_at dksX5_begins_0 19 rfl rfl)
theorem dX5_begins_21 : decode cX5_begins 21 = .ok (.if_icmp .le 9, 3) := dk_164 0 9 (dk_at dksX5_begins_0 21 rfl rfl)
theorem dX5_begins_24 : decode cX5_begins 24 = .ok (.iload_n 0, 1) := dk_26 (dk_at dksX5_begins_1 0 rfl rfl)
theorem dX5_begins_25 : decode cX5_begins 25 = .ok (.bipush 95, 2) := dk_16 95 (dk_at dksX5_begins_1 1 rfl rfl)
theorem dX5_begins_27 : decode cX5_begins 27 = .ok (.if_icmp .ne 7, 3) := dk_160 0 7 (dk_at dksX5_begins_1 3 rfl rfl)
theorem dX5_begins_30 : decode cX5_begins 30 = .ok (.iconst 1, 1) := dk_4 (dk_at dksX5_begins_1 6 rfl rfl)
theorem dX5_begins_31 : decode cX5_begins 31 = .ok (.goto 4, 3) := dk_167 0 4 (dk_at dksX5_begins_1 7 rfl rfl)
theorem dX5_begins_34 : decode cX5_begins 34 = .ok (.iconst 0, 1) := dk_3 (dk_at dksX5_begins_1 10 rfl rfl)
theorem dX5_begins_35 : decode cX5_begins 35 = .ok (.ireturn, 1) := dk_172 (dk_at dksX5_begins_1 11 rfl rfl)
abbrev cX5_isDigit : ByteArray := prog_6_method_4_code
def yX5_isDigit : MethodName := ⟨RX5, "isDigit", "(I)Z"⟩
def dkwX5_isDigit_0 : List UInt8 := [26, 16, 48, 161, 0, 13, 26, 16, 57, 163, 0, 7, 4, 167, 0, 4, 3, 172]
abbrev dktX5_isDigit_0 : List UInt8 := dkwX5_isDigit_0 ++ []
theorem dksX5_isDigit_0 : cX5_isDigit.data.toList.drop 0 = dktX5_isDigit_0 := by decide +kernel
theorem dX5_isDigit_0 : decode cX5_isDigit 0 = .ok (.iload_n 0, 1) := dk_26 (dk_at dksX5_isDigit_0 0 rfl rfl)
theorem dX5_isDigit_1 : decode cX5_isDigit 1 = .ok (.bipush 48, 2) := dk_16 48 (dk_at dksX5_isDigit_0 1 rfl rfl)
theorem dX5_isDigit_3 : decode cX5_isDigit 3 = .ok (.if_icmp .lt 13, 3) := dk_161 0 13 (dk_at dksX5_isDigit_0 3 rfl rfl)
theorem dX5_isDigit_6 : decode cX5_isDigit 6 = .ok (.iload_n 0, 1) := dk_26 (dk_at dksX5_isDigit_0 6 rfl rfl)
theorem dX5_isDigit_7 : decode cX5_isDigit 7 = .ok (.bipush 57, 2) := dk_16 57 (dk_at dksX5_isDigit_0 7 rfl rfl)
theorem dX5_isDigit_9 : decode cX5_isDigit 9 = .ok (.if_icmp .gt 7, 3) := dk_163 0 7 (dk_at dksX5_isDigit_0 9 rfl rfl)
theorem dX5_isDigit_12 : decode cX5_isDigit 12 = .ok (.iconst 1, 1) := dk_4 (dk_at dksX5_isDigit_0 12 rfl rfl)
theorem dX5_isDigit_13 : decode cX5_isDigit 13 = .ok (.goto 4, 3) := dk_167 0 4 (dk_at dksX5_isDigit_0 13 rfl rfl)
theorem dX5_isDigit_16 : decode cX5_isDigit 16 = .ok (.iconst 0, 1) := dk_3 (dk_at dksX5_isDigit_0 16 rfl rfl)
theorem dX5_isDigit_17 : decode cX5_isDigit 17 = .ok (.ireturn, 1) := dk_172 (dk_at dksX5_isDigit_0 17 rfl rfl)
abbrev cX5_spelt : ByteArray := prog_6_method_9_code
def yX5_spelt : MethodName := ⟨RX5, "spelt", "(LProgramReader$Token;)LProgramReader$Token;"⟩
def dkwX5_spelt_4 : List UInt8 := [153, 0, 10, 42, 180, 0, 13, 28, 50, 176, 132, 2, 1, 167, 255, 154, 178, 0, 69, 176]
abbrev dktX5_spelt_4 : List UInt8 := dkwX5_spelt_4 ++ []
def dkwX5_spelt_3 : List UInt8 := [21, 5, 182, 0, 107, 160, 0, 7, 4, 167, 0, 4, 3, 54, 4, 132, 5, 1, 167, 255, 212, 21, 4]
abbrev dktX5_spelt_3 : List UInt8 := dkwX5_spelt_3 ++ dktX5_spelt_4
def dkwX5_spelt_2 : List UInt8 := [180, 0, 45, 162, 0, 41, 21, 4, 153, 0, 36, 42, 42, 180, 0, 27, 21, 5, 96, 182, 0, 36, 45]
abbrev dktX5_spelt_2 : List UInt8 := dkwX5_spelt_2 ++ dktX5_spelt_3
def dkwX5_spelt_1 : List UInt8 := [45, 182, 0, 103, 42, 180, 0, 45, 160, 0, 7, 4, 167, 0, 4, 3, 54, 4, 3, 54, 5, 21, 5, 42]
abbrev dktX5_spelt_1 : List UInt8 := dkwX5_spelt_1 ++ dktX5_spelt_2
def dkwX5_spelt_0 : List UInt8 := [43, 182, 0, 95, 61, 28, 42, 180, 0, 13, 190, 162, 0, 99, 42, 180, 0, 13, 28, 50, 180, 0, 99, 78]
abbrev dktX5_spelt_0 : List UInt8 := dkwX5_spelt_0 ++ dktX5_spelt_1
theorem dksX5_spelt_0 : cX5_spelt.data.toList.drop 0 = dktX5_spelt_0 := by decide +kernel
theorem dksX5_spelt_1 : cX5_spelt.data.toList.drop 24 = dktX5_spelt_1 := dk_seg dksX5_spelt_0 24 rfl rfl
theorem dksX5_spelt_2 : cX5_spelt.data.toList.drop 48 = dktX5_spelt_2 := dk_seg dksX5_spelt_1 24 rfl rfl
theorem dksX5_spelt_3 : cX5_spelt.data.toList.drop 71 = dktX5_spelt_3 := dk_seg dksX5_spelt_2 23 rfl rfl
theorem dksX5_spelt_4 : cX5_spelt.data.toList.drop 94 = dktX5_spelt_4 := dk_seg dksX5_spelt_3 23 rfl rfl
theorem dX5_spelt_0 : decode cX5_spelt 0 = .ok (.aload_n 1, 1) := dk_43 (dk_at dksX5_spelt_0 0 rfl rfl)
theorem dX5_spelt_1 : decode cX5_spelt 1 = .ok (.invokevirtual 95, 3) := dk_182 0 95 (dk_at dksX5_spelt_0 1 rfl rfl)
theorem dX5_spelt_4 : decode cX5_spelt 4 = .ok (.istore_n 2, 1) := dk_61 (dk_at dksX5_spelt_0 4 rfl rfl)
theorem dX5_spelt_5 : decode cX5_spelt 5 = .ok (.iload_n 2, 1) := dk_28 (dk_at dksX5_spelt_0 5 rfl rfl)
theorem dX5_spelt_6 : decode cX5_spelt 6 = .ok (.aload_n 0, 1) := dk_42 (dk_at dksX5_spelt_0 6 rfl rfl)
theorem dX5_spelt_7 : decode cX5_spelt 7 = .ok (.getfield 13, 3) := dk_180 0 13 (dk_at dksX5_spelt_0 7 rfl rfl)
theorem dX5_spelt_10 : decode cX5_spelt 10 = .ok (.arraylength, 1) := dk_190 (dk_at dksX5_spelt_0 10 rfl rfl)
theorem dX5_spelt_11 : decode cX5_spelt 11 = .ok (.if_icmp .ge 99, 3) := dk_162 0 99 (dk_at dksX5_spelt_0 11 rfl rfl)
theorem dX5_spelt_14 : decode cX5_spelt 14 = .ok (.aload_n 0, 1) := dk_42 (dk_at dksX5_spelt_0 14 rfl rfl)
theorem dX5_spelt_15 : decode cX5_spelt 15 = .ok (.getfield 13, 3) := dk_180 0 13 (dk_at dksX5_spelt_0 15 rfl rfl)
theorem dX5_spelt_18 : decode cX5_spelt 18 = .ok (.iload_n 2, 1) := dk_28 (dk_at dksX5_spelt_0 18 rfl rfl)
theorem dX5_spelt_19 : decode cX5_spelt 19 = .ok (.aaload, 1) := dk_50 (dk_at dksX5_spelt_0 19 rfl rfl)
theorem dX5_spelt_20 : decode cX5_spelt 20 = .ok (.getfield 99, 3) := dk_180 0 99 (dk_at dksX5_spelt_0 20 rfl rfl)
theorem dX5_spelt_23 : decode cX5_spelt 23 = .ok (.astore_n 3, 1) := dk_78 (dk_at dksX5_spelt_0 23 rfl rfl)
theorem dX5_spelt_24 : decode cX5_spelt 24 = .ok (.aload_n 3, 1) := dk_45 (dk_at dksX5_spelt_1 0 rfl rfl)
theorem dX5_spelt_25 : decode cX5_spelt 25 = .ok (.invokevirtual 103, 3) := dk_182 0 103 (dk_at dksX5_spelt_1 1 rfl rfl)
theorem dX5_spelt_28 : decode cX5_spelt 28 = .ok (.aload_n 0, 1) := dk_42 (dk_at dksX5_spelt_1 4 rfl rfl)
theorem dX5_spelt_29 : decode cX5_spelt 29 = .ok (.getfield 45, 3) := dk_180 0 45 (dk_at dksX5_spelt_1 5 rfl rfl)
theorem dX5_spelt_32 : decode cX5_spelt 32 = .ok (.if_icmp .ne 7, 3) := dk_160 0 7 (dk_at dksX5_spelt_1 8 rfl rfl)
theorem dX5_spelt_35 : decode cX5_spelt 35 = .ok (.iconst 1, 1) := dk_4 (dk_at dksX5_spelt_1 11 rfl rfl)
theorem dX5_spelt_36 : decode cX5_spelt 36 = .ok (.goto 4, 3) := dk_167 0 4 (dk_at dksX5_spelt_1 12 rfl rfl)
theorem dX5_spelt_39 : decode cX5_spelt 39 = .ok (.iconst 0, 1) := dk_3 (dk_at dksX5_spelt_1 15 rfl rfl)
theorem dX5_spelt_40 : decode cX5_spelt 40 = .ok (.istore 4, 2) := dk_54 4 (dk_at dksX5_spelt_1 16 rfl rfl)
theorem dX5_spelt_42 : decode cX5_spelt 42 = .ok (.iconst 0, 1) := dk_3 (dk_at dksX5_spelt_1 18 rfl rfl)
theorem dX5_spelt_43 : decode cX5_spelt 43 = .ok (.istore 5, 2) := dk_54 5 (dk_at dksX5_spelt_1 19 rfl rfl)
theorem dX5_spelt_45 : decode cX5_spelt 45 = .ok (.iload 5, 2) := dk_21 5 (dk_at dksX5_spelt_1 21 rfl rfl)
theorem dX5_spelt_47 : decode cX5_spelt 47 = .ok (.aload_n 0, 1) := dk_42 (dk_at dksX5_spelt_1 23 rfl rfl)
theorem dX5_spelt_48 : decode cX5_spelt 48 = .ok (.getfield 45, 3) := dk_180 0 45 (dk_at dksX5_spelt_2 0 rfl rfl)
theorem dX5_spelt_51 : decode cX5_spelt 51 = .ok (.if_icmp .ge 41, 3) := dk_162 0 41 (dk_at dksX5_spelt_2 3 rfl rfl)
theorem dX5_spelt_54 : decode cX5_spelt 54 = .ok (.iload 4, 2) := dk_21 4 (dk_at dksX5_spelt_2 6 rfl rfl)
theorem dX5_spelt_56 : decode cX5_spelt 56 = .ok (.ifCond .eq 36, 3) := dk_153 0 36 (dk_at dksX5_spelt_2 8 rfl rfl)
theorem dX5_spelt_59 : decode cX5_spelt 59 = .ok (.aload_n 0, 1) := dk_42 (dk_at dksX5_spelt_2 11 rfl rfl)
theorem dX5_spelt_60 : decode cX5_spelt 60 = .ok (.aload_n 0, 1) := dk_42 (dk_at dksX5_spelt_2 12 rfl rfl)
theorem dX5_spelt_61 : decode cX5_spelt 61 = .ok (.getfield 27, 3) := dk_180 0 27 (dk_at dksX5_spelt_2 13 rfl rfl)
theorem dX5_spelt_64 : decode cX5_spelt 64 = .ok (.iload 5, 2) := dk_21 5 (dk_at dksX5_spelt_2 16 rfl rfl)
theorem dX5_spelt_66 : decode cX5_spelt 66 = .ok (.iadd, 1) := dk_96 (dk_at dksX5_spelt_2 18 rfl rfl)
theorem dX5_spelt_67 : decode cX5_spelt 67 = .ok (.invokevirtual 36, 3) := dk_182 0 36 (dk_at dksX5_spelt_2 19 rfl rfl)
theorem dX5_spelt_70 : decode cX5_spelt 70 = .ok (.aload_n 3, 1) := dk_45 (dk_at dksX5_spelt_2 22 rfl rfl)
theorem dX5_spelt_71 : decode cX5_spelt 71 = .ok (.iload 5, 2) := dk_21 5 (dk_at dksX5_spelt_3 0 rfl rfl)
theorem dX5_spelt_73 : decode cX5_spelt 73 = .ok (.invokevirtual 107, 3) := dk_182 0 107 (dk_at dksX5_spelt_3 2 rfl rfl)
theorem dX5_spelt_76 : decode cX5_spelt 76 = .ok (.if_icmp .ne 7, 3) := dk_160 0 7 (dk_at dksX5_spelt_3 5 rfl rfl)
theorem dX5_spelt_79 : decode cX5_spelt 79 = .ok (.iconst 1, 1) := dk_4 (dk_at dksX5_spelt_3 8 rfl rfl)
theorem dX5_spelt_80 : decode cX5_spelt 80 = .ok (.goto 4, 3) := dk_167 0 4 (dk_at dksX5_spelt_3 9 rfl rfl)
theorem dX5_spelt_83 : decode cX5_spelt 83 = .ok (.iconst 0, 1) := dk_3 (dk_at dksX5_spelt_3 12 rfl rfl)
theorem dX5_spelt_84 : decode cX5_spelt 84 = .ok (.istore 4, 2) := dk_54 4 (dk_at dksX5_spelt_3 13 rfl rfl)
theorem dX5_spelt_86 : decode cX5_spelt 86 = .ok (.iinc 5 1, 3) := dk_132 5 1 (dk_at dksX5_spelt_3 15 rfl rfl)
theorem dX5_spelt_89 : decode cX5_spelt 89 = .ok (.goto (-44), 3) := dk_167 255 212 (dk_at dksX5_spelt_3 18 rfl rfl)
theorem dX5_spelt_92 : decode cX5_spelt 92 = .ok (.iload 4, 2) := dk_21 4 (dk_at dksX5_spelt_3 21 rfl rfl)
theorem dX5_spelt_94 : decode cX5_spelt 94 = .ok (.ifCond .eq 10, 3) := dk_153 0 10 (dk_at dksX5_spelt_4 0 rfl rfl)
theorem dX5_spelt_97 : decode cX5_spelt 97 = .ok (.aload_n 0, 1) := dk_42 (dk_at dksX5_spelt_4 3 rfl rfl)
theorem dX5_spelt_98 : decode cX5_spelt 98 = .ok (.getfield 13, 3) := dk_180 0 13 (dk_at dksX5_spelt_4 4 rfl rfl)
theorem dX5_spelt_101 : decode cX5_spelt 101 = .ok (.iload_n 2, 1) := dk_28 (dk_at dksX5_spelt_4 7 rfl rfl)
theorem dX5_spelt_102 : decode cX5_spelt 102 = .ok (.aaload, 1) := dk_50 (dk_at dksX5_spelt_4 8 rfl rfl)
theorem dX5_spelt_103 : decode cX5_spelt 103 = .ok (.areturn, 1) := dk_176 (dk_at dksX5_spelt_4 9 rfl rfl)
theorem dX5_spelt_104 : decode cX5_spelt 104 = .ok (.iinc 2 1, 3) := dk_132 2 1 (dk_at dksX5_spelt_4 10 rfl rfl)
theorem dX5_spelt_107 : decode cX5_spelt 107 = .ok (.goto (-102), 3) := dk_167 255 154 (dk_at dksX5_spelt_4 13 rfl rfl)
theorem dX5_spelt_110 : decode cX5_spelt 110 = .ok (.getstatic 69, 3) := dk_178 0 69 (dk_at dksX5_spelt_4 16 rfl rfl)
theorem dX5_spelt_113 : decode cX5_spelt 113 = .ok (.areturn, 1) := dk_176 (dk_at dksX5_spelt_4 19 rfl rfl)
abbrev cX5_number : ByteArray := prog_6_method_8_code
def yX5_number : MethodName := ⟨RX5, "number", "()V"⟩
def dkwX5_number_6 : List UInt8 := [29, 153, 0, 9, 178, 0, 69, 167, 0, 6, 178, 0, 92, 181, 0, 52, 177]
abbrev dktX5_number_6 : List UInt8 := dkwX5_number_6 ++ []
def dkwX5_number_5 : List UInt8 := [153, 0, 7, 4, 167, 0, 4, 3, 62, 42, 29, 153, 0, 7, 3, 167, 0, 5, 31, 136, 181, 0, 89, 42]
abbrev dktX5_number_5 : List UInt8 := dkwX5_number_5 ++ dktX5_number_6
def dkwX5_number_4 : List UInt8 := [182, 0, 36, 16, 48, 159, 0, 22, 42, 42, 180, 0, 27, 42, 180, 0, 45, 96, 182, 0, 36, 184, 0, 55]
abbrev dktX5_number_4 : List UInt8 := dkwX5_number_4 ++ dktX5_number_5
def dkwX5_number_3 : List UInt8 := [167, 255, 190, 31, 20, 0, 87, 148, 157, 0, 43, 42, 180, 0, 45, 4, 164, 0, 16, 42, 42, 180, 0, 27]
abbrev dktX5_number_3 : List UInt8 := dkwX5_number_3 ++ dktX5_number_4
def dkwX5_number_2 : List UInt8 := [180, 0, 45, 96, 182, 0, 36, 133, 97, 20, 0, 85, 101, 64, 42, 89, 180, 0, 45, 4, 96, 181, 0, 45]
abbrev dktX5_number_2 : List UInt8 := dkwX5_number_2 ++ dktX5_number_3
def dkwX5_number_1 : List UInt8 := [20, 0, 81, 148, 158, 0, 7, 31, 167, 0, 27, 20, 0, 83, 31, 105, 42, 42, 180, 0, 27, 42]
abbrev dktX5_number_1 : List UInt8 := dkwX5_number_1 ++ dktX5_number_2
def dkwX5_number_0 : List UInt8 := [9, 64, 42, 42, 180, 0, 27, 42, 180, 0, 45, 96, 182, 0, 36, 184, 0, 59, 153, 0, 53, 31]
abbrev dktX5_number_0 : List UInt8 := dkwX5_number_0 ++ dktX5_number_1
theorem dksX5_number_0 : cX5_number.data.toList.drop 0 = dktX5_number_0 := by decide +kernel
theorem dksX5_number_1 : cX5_number.data.toList.drop 22 = dktX5_number_1 := dk_seg dksX5_number_0 22 rfl rfl
theorem dksX5_number_2 : cX5_number.data.toList.drop 44 = dktX5_number_2 := dk_seg dksX5_number_1 22 rfl rfl
theorem dksX5_number_3 : cX5_number.data.toList.drop 68 = dktX5_number_3 := dk_seg dksX5_number_2 24 rfl rfl
theorem dksX5_number_4 : cX5_number.data.toList.drop 92 = dktX5_number_4 := dk_seg dksX5_number_3 24 rfl rfl
theorem dksX5_number_5 : cX5_number.data.toList.drop 116 = dktX5_number_5 := dk_seg dksX5_number_4 24 rfl rfl
theorem dksX5_number_6 : cX5_number.data.toList.drop 140 = dktX5_number_6 := dk_seg dksX5_number_5 24 rfl rfl
theorem dX5_number_0 : decode cX5_number 0 = .ok (.lconst 0, 1) := dk_9 (dk_at dksX5_number_0 0 rfl rfl)
theorem dX5_number_1 : decode cX5_number 1 = .ok (.lstore_n 1, 1) := dk_64 (dk_at dksX5_number_0 1 rfl rfl)
theorem dX5_number_2 : decode cX5_number 2 = .ok (.aload_n 0, 1) := dk_42 (dk_at dksX5_number_0 2 rfl rfl)
theorem dX5_number_3 : decode cX5_number 3 = .ok (.aload_n 0, 1) := dk_42 (dk_at dksX5_number_0 3 rfl rfl)
theorem dX5_number_4 : decode cX5_number 4 = .ok (.getfield 27, 3) := dk_180 0 27 (dk_at dksX5_number_0 4 rfl rfl)
theorem dX5_number_7 : decode cX5_number 7 = .ok (.aload_n 0, 1) := dk_42 (dk_at dksX5_number_0 7 rfl rfl)
theorem dX5_number_8 : decode cX5_number 8 = .ok (.getfield 45, 3) := dk_180 0 45 (dk_at dksX5_number_0 8 rfl rfl)
theorem dX5_number_11 : decode cX5_number 11 = .ok (.iadd, 1) := dk_96 (dk_at dksX5_number_0 11 rfl rfl)
theorem dX5_number_12 : decode cX5_number 12 = .ok (.invokevirtual 36, 3) := dk_182 0 36 (dk_at dksX5_number_0 12 rfl rfl)
theorem dX5_number_15 : decode cX5_number 15 = .ok (.invokestatic 59, 3) := dk_184 0 59 (dk_at dksX5_number_0 15 rfl rfl)
theorem dX5_number_18 : decode cX5_number 18 = .ok (.ifCond .eq 53, 3) := dk_153 0 53 (dk_at dksX5_number_0 18 rfl rfl)
theorem dX5_number_21 : decode cX5_number 21 = .ok (.lload_n 1, 1) := dk_31 (dk_at dksX5_number_0 21 rfl rfl)
theorem dX5_number_22 : decode cX5_number 22 = .ok (.ldc2_w 81, 3) := dk_20 0 81 (dk_at dksX5_number_1 0 rfl rfl)
theorem dX5_number_25 : decode cX5_number 25 = .ok (.lcmp, 1) := dk_148 (dk_at dksX5_number_1 3 rfl rfl)
theorem dX5_number_26 : decode cX5_number 26 = .ok (.ifCond .le 7, 3) := dk_158 0 7 (dk_at dksX5_number_1 4 rfl rfl)
theorem dX5_number_29 : decode cX5_number 29 = .ok (.lload_n 1, 1) := dk_31 (dk_at dksX5_number_1 7 rfl rfl)
theorem dX5_number_30 : decode cX5_number 30 = .ok (.goto 27, 3) := dk_167 0 27 (dk_at dksX5_number_1 8 rfl rfl)
theorem dX5_number_33 : decode cX5_number 33 = .ok (.ldc2_w 83, 3) := dk_20 0 83 (dk_at dksX5_number_1 11 rfl rfl)
theorem dX5_number_36 : decode cX5_number 36 = .ok (.lload_n 1, 1) := dk_31 (dk_at dksX5_number_1 14 rfl rfl)
theorem dX5_number_37 : decode cX5_number 37 = .ok (.lmul, 1) := dk_105 (dk_at dksX5_number_1 15 rfl rfl)
theorem dX5_number_38 : decode cX5_number 38 = .ok (.aload_n 0, 1) := dk_42 (dk_at dksX5_number_1 16 rfl rfl)
theorem dX5_number_39 : decode cX5_number 39 = .ok (.aload_n 0, 1) := dk_42 (dk_at dksX5_number_1 17 rfl rfl)
theorem dX5_number_40 : decode cX5_number 40 = .ok (.getfield 27, 3) := dk_180 0 27 (dk_at dksX5_number_1 18 rfl rfl)
theorem dX5_number_43 : decode cX5_number 43 = .ok (.aload_n 0, 1) := dk_42 (dk_at dksX5_number_1 21 rfl rfl)
theorem dX5_number_44 : decode cX5_number 44 = .ok (.getfield 45, 3) := dk_180 0 45 (dk_at dksX5_number_2 0 rfl rfl)
theorem dX5_number_47 : decode cX5_number 47 = .ok (.iadd, 1) := dk_96 (dk_at dksX5_number_2 3 rfl rfl)
theorem dX5_number_48 : decode cX5_number 48 = .ok (.invokevirtual 36, 3) := dk_182 0 36 (dk_at dksX5_number_2 4 rfl rfl)
theorem dX5_number_51 : decode cX5_number 51 = .ok (.i2l, 1) := dk_133 (dk_at dksX5_number_2 7 rfl rfl)
theorem dX5_number_52 : decode cX5_number 52 = .ok (.ladd, 1) := dk_97 (dk_at dksX5_number_2 8 rfl rfl)
theorem dX5_number_53 : decode cX5_number 53 = .ok (.ldc2_w 85, 3) := dk_20 0 85 (dk_at dksX5_number_2 9 rfl rfl)
theorem dX5_number_56 : decode cX5_number 56 = .ok (.lsub, 1) := dk_101 (dk_at dksX5_number_2 12 rfl rfl)
theorem dX5_number_57 : decode cX5_number 57 = .ok (.lstore_n 1, 1) := dk_64 (dk_at dksX5_number_2 13 rfl rfl)
theorem dX5_number_58 : decode cX5_number 58 = .ok (.aload_n 0, 1) := dk_42 (dk_at dksX5_number_2 14 rfl rfl)
theorem dX5_number_59 : decode cX5_number 59 = .ok (.dup, 1) := dk_89 (dk_at dksX5_number_2 15 rfl rfl)
theorem dX5_number_60 : decode cX5_number 60 = .ok (.getfield 45, 3) := dk_180 0 45 (dk_at dksX5_number_2 16 rfl rfl)
theorem dX5_number_63 : decode cX5_number 63 = .ok (.iconst 1, 1) := dk_4 (dk_at dksX5_number_2 19 rfl rfl)
theorem dX5_number_64 : decode cX5_number 64 = .ok (.iadd, 1) := dk_96 (dk_at dksX5_number_2 20 rfl rfl)
theorem dX5_number_65 : decode cX5_number 65 = .ok (.putfield 45, 3) := dk_181 0 45 (dk_at dksX5_number_2 21 rfl rfl)
theorem dX5_number_68 : decode cX5_number 68 = .ok (.goto (-66), 3) := dk_167 255 190 (dk_at dksX5_number_3 0 rfl rfl)
theorem dX5_number_71 : decode cX5_number 71 = .ok (.lload_n 1, 1) := dk_31 (dk_at dksX5_number_3 3 rfl rfl)
theorem dX5_number_72 : decode cX5_number 72 = .ok (.ldc2_w 87, 3) := dk_20 0 87 (dk_at dksX5_number_3 4 rfl rfl)
theorem dX5_number_75 : decode cX5_number 75 = .ok (.lcmp, 1) := dk_148 (dk_at dksX5_number_3 7 rfl rfl)
theorem dX5_number_76 : decode cX5_number 76 = .ok (.ifCond .gt 43, 3) := dk_157 0 43 (dk_at dksX5_number_3 8 rfl rfl)
theorem dX5_number_79 : decode cX5_number 79 = .ok (.aload_n 0, 1) := dk_42 (dk_at dksX5_number_3 11 rfl rfl)
theorem dX5_number_80 : decode cX5_number 80 = .ok (.getfield 45, 3) := dk_180 0 45 (dk_at dksX5_number_3 12 rfl rfl)
theorem dX5_number_83 : decode cX5_number 83 = .ok (.iconst 1, 1) := dk_4 (dk_at dksX5_number_3 15 rfl rfl)
theorem dX5_number_84 : decode cX5_number 84 = .ok (.if_icmp .le 16, 3) := dk_164 0 16 (dk_at dksX5_number_3 16 rfl rfl)
theorem dX5_number_87 : decode cX5_number 87 = .ok (.aload_n 0, 1) := dk_42 (dk_at dksX5_number_3 19 rfl rfl)
theorem dX5_number_88 : decode cX5_number 88 = .ok (.aload_n 0, 1) := dk_42 (dk_at dksX5_number_3 20 rfl rfl)
theorem dX5_number_89 : decode cX5_number 89 = .ok (.getfield 27, 3) := dk_180 0 27 (dk_at dksX5_number_3 21 rfl rfl)
theorem dX5_number_92 : decode cX5_number 92 = .ok (.invokevirtual 36, 3) := dk_182 0 36 (dk_at dksX5_number_4 0 rfl rfl)
theorem dX5_number_95 : decode cX5_number 95 = .ok (.bipush 48, 2) := dk_16 48 (dk_at dksX5_number_4 3 rfl rfl)
theorem dX5_number_97 : decode cX5_number 97 = .ok (.if_icmp .eq 22, 3) := dk_159 0 22 (dk_at dksX5_number_4 5 rfl rfl)
theorem dX5_number_100 : decode cX5_number 100 = .ok (.aload_n 0, 1) := dk_42 (dk_at dksX5_number_4 8 rfl rfl)
theorem dX5_number_101 : decode cX5_number 101 = .ok (.aload_n 0, 1) := dk_42 (dk_at dksX5_number_4 9 rfl rfl)
theorem dX5_number_102 : decode cX5_number 102 = .ok (.getfield 27, 3) := dk_180 0 27 (dk_at dksX5_number_4 10 rfl rfl)
theorem dX5_number_105 : decode cX5_number 105 = .ok (.aload_n 0, 1) := dk_42 (dk_at dksX5_number_4 13 rfl rfl)
theorem dX5_number_106 : decode cX5_number 106 = .ok (.getfield 45, 3) := dk_180 0 45 (dk_at dksX5_number_4 14 rfl rfl)
theorem dX5_number_109 : decode cX5_number 109 = .ok (.iadd, 1) := dk_96 (dk_at dksX5_number_4 17 rfl rfl)
theorem dX5_number_110 : decode cX5_number 110 = .ok (.invokevirtual 36, 3) := dk_182 0 36 (dk_at dksX5_number_4 18 rfl rfl)
theorem dX5_number_113 : decode cX5_number 113 = .ok (.invokestatic 55, 3) := dk_184 0 55 (dk_at dksX5_number_4 21 rfl rfl)
theorem dX5_number_116 : decode cX5_number 116 = .ok (.ifCond .eq 7, 3) := dk_153 0 7 (dk_at dksX5_number_5 0 rfl rfl)
theorem dX5_number_119 : decode cX5_number 119 = .ok (.iconst 1, 1) := dk_4 (dk_at dksX5_number_5 3 rfl rfl)
theorem dX5_number_120 : decode cX5_number 120 = .ok (.goto 4, 3) := dk_167 0 4 (dk_at dksX5_number_5 4 rfl rfl)
theorem dX5_number_123 : decode cX5_number 123 = .ok (.iconst 0, 1) := dk_3 (dk_at dksX5_number_5 7 rfl rfl)
theorem dX5_number_124 : decode cX5_number 124 = .ok (.istore_n 3, 1) := dk_62 (dk_at dksX5_number_5 8 rfl rfl)
theorem dX5_number_125 : decode cX5_number 125 = .ok (.aload_n 0, 1) := dk_42 (dk_at dksX5_number_5 9 rfl rfl)
theorem dX5_number_126 : decode cX5_number 126 = .ok (.iload_n 3, 1) := dk_29 (dk_at dksX5_number_5 10 rfl rfl)
theorem dX5_number_127 : decode cX5_number 127 = .ok (.ifCond .eq 7, 3) := dk_153 0 7 (dk_at dksX5_number_5 11 rfl rfl)
theorem dX5_number_130 : decode cX5_number 130 = .ok (.iconst 0, 1) := dk_3 (dk_at dksX5_number_5 14 rfl rfl)
theorem dX5_number_131 : decode cX5_number 131 = .ok (.goto 5, 3) := dk_167 0 5 (dk_at dksX5_number_5 15 rfl rfl)
theorem dX5_number_134 : decode cX5_number 134 = .ok (.lload_n 1, 1) := dk_31 (dk_at dksX5_number_5 18 rfl rfl)
theorem dX5_number_135 : decode cX5_number 135 = .ok (.l2i, 1) := dk_136 (dk_at dksX5_number_5 19 rfl rfl)
theorem dX5_number_136 : decode cX5_number 136 = .ok (.putfield 89, 3) := dk_181 0 89 (dk_at dksX5_number_5 20 rfl rfl)
theorem dX5_number_139 : decode cX5_number 139 = .ok (.aload_n 0, 1) := dk_42 (dk_at dksX5_number_5 23 rfl rfl)
theorem dX5_number_140 : decode cX5_number 140 = .ok (.iload_n 3, 1) := dk_29 (dk_at dksX5_number_6 0 rfl rfl)
theorem dX5_number_141 : decode cX5_number 141 = .ok (.ifCond .eq 9, 3) := dk_153 0 9 (dk_at dksX5_number_6 1 rfl rfl)
theorem dX5_number_144 : decode cX5_number 144 = .ok (.getstatic 69, 3) := dk_178 0 69 (dk_at dksX5_number_6 4 rfl rfl)
theorem dX5_number_147 : decode cX5_number 147 = .ok (.goto 6, 3) := dk_167 0 6 (dk_at dksX5_number_6 7 rfl rfl)
theorem dX5_number_150 : decode cX5_number 150 = .ok (.getstatic 92, 3) := dk_178 0 92 (dk_at dksX5_number_6 10 rfl rfl)
theorem dX5_number_153 : decode cX5_number 153 = .ok (.putfield 52, 3) := dk_181 0 52 (dk_at dksX5_number_6 13 rfl rfl)
theorem dX5_number_156 : decode cX5_number 156 = .ok (.return_, 1) := dk_177 (dk_at dksX5_number_6 16 rfl rfl)
abbrev cX5_opensBehind : ByteArray := prog_6_method_10_code
def yX5_opensBehind : MethodName := ⟨RX5, "opensBehind", "()Z"⟩
def dkwX5_opensBehind_1 : List UInt8 := [167, 0, 4, 3, 61, 42, 27, 181, 0, 27, 28, 172]
abbrev dktX5_opensBehind_1 : List UInt8 := dkwX5_opensBehind_1 ++ []
def dkwX5_opensBehind_0 : List UInt8 := [42, 180, 0, 27, 60, 42, 182, 0, 39, 42, 42, 180, 0, 27, 182, 0, 36, 16, 40, 160, 0, 7, 4]
abbrev dktX5_opensBehind_0 : List UInt8 := dkwX5_opensBehind_0 ++ dktX5_opensBehind_1
theorem dksX5_opensBehind_0 : cX5_opensBehind.data.toList.drop 0 = dktX5_opensBehind_0 := by decide +kernel
theorem dksX5_opensBehind_1 : cX5_opensBehind.data.toList.drop 23 = dktX5_opensBehind_1 := dk_seg dksX5_opensBehind_0 23 rfl rfl
theorem dX5_opensBehind_0 : decode cX5_opensBehind 0 = .ok (.aload_n 0, 1) := dk_42 (dk_at dksX5_opensBehind_0 0 rfl rfl)
theorem dX5_opensBehind_1 : decode cX5_opensBehind 1 = .ok (.getfield 27, 3) := dk_180 0 27 (dk_at dksX5_opensBehind_0 1 rfl rfl)
theorem dX5_opensBehind_4 : decode cX5_opensBehind 4 = .ok (.istore_n 1, 1) := dk_60 (dk_at dksX5_opensBehind_0 4 rfl rfl)
theorem dX5_opensBehind_5 : decode cX5_opensBehind 5 = .ok (.aload_n 0, 1) := dk_42 (dk_at dksX5_opensBehind_0 5 rfl rfl)
theorem dX5_opensBehind_6 : decode cX5_opensBehind 6 = .ok (.invokevirtual 39, 3) := dk_182 0 39 (dk_at dksX5_opensBehind_0 6 rfl rfl)
theorem dX5_opensBehind_9 : decode cX5_opensBehind 9 = .ok (.aload_n 0, 1) := dk_42 (dk_at dksX5_opensBehind_0 9 rfl rfl)
theorem dX5_opensBehind_10 : decode cX5_opensBehind 10 = .ok (.aload_n 0, 1) := dk_42 (dk_at dksX5_opensBehind_0 10 rfl rfl)
theorem dX5_opensBehind_11 : decode cX5_opensBehind 11 = .ok (.getfield 27, 3) := dk_180 0 27 (dk_at dksX5_opensBehind_0 11 rfl rfl)
theorem dX5_opensBehind_14 : decode cX5_opensBehind 14 = .ok (.invokevirtual 36, 3) := dk_182 0 36 (dk_at dksX5_opensBehind_0 14 rfl rfl)
theorem dX5_opensBehind_17 : decode cX5_opensBehind 17 = .ok (.bipush 40, 2) := dk_16 40 (dk_at dksX5_opensBehind_0 17 rfl rfl)
theorem dX5_opensBehind_19 : decode cX5_opensBehind 19 = .ok (.if_icmp .ne 7, 3) := dk_160 0 7 (dk_at dksX5_opensBehind_0 19 rfl rfl)
theorem dX5_opensBehind_22 : decode cX5_opensBehind 22 = .ok (.iconst 1, 1) := dk_4 (dk_at dksX5_opensBehind_0 22 rfl rfl)
theorem dX5_opensBehind_23 : decode cX5_opensBehind 23 = .ok (.goto 4, 3) := dk_167 0 4 (dk_at dksX5_opensBehind_1 0 rfl rfl)
theorem dX5_opensBehind_26 : decode cX5_opensBehind 26 = .ok (.iconst 0, 1) := dk_3 (dk_at dksX5_opensBehind_1 3 rfl rfl)
theorem dX5_opensBehind_27 : decode cX5_opensBehind 27 = .ok (.istore_n 2, 1) := dk_61 (dk_at dksX5_opensBehind_1 4 rfl rfl)
theorem dX5_opensBehind_28 : decode cX5_opensBehind 28 = .ok (.aload_n 0, 1) := dk_42 (dk_at dksX5_opensBehind_1 5 rfl rfl)
theorem dX5_opensBehind_29 : decode cX5_opensBehind 29 = .ok (.iload_n 1, 1) := dk_27 (dk_at dksX5_opensBehind_1 6 rfl rfl)
theorem dX5_opensBehind_30 : decode cX5_opensBehind 30 = .ok (.putfield 27, 3) := dk_181 0 27 (dk_at dksX5_opensBehind_1 7 rfl rfl)
theorem dX5_opensBehind_33 : decode cX5_opensBehind 33 = .ok (.iload_n 2, 1) := dk_28 (dk_at dksX5_opensBehind_1 10 rfl rfl)
theorem dX5_opensBehind_34 : decode cX5_opensBehind 34 = .ok (.ireturn, 1) := dk_172 (dk_at dksX5_opensBehind_1 11 rfl rfl)
theorem q101 : (Jvm.Cond.initialized "ProgramReader$Tokens") ∈ lw_all := lw_g (lw_at lw_m1 7 rfl) rfl
theorem q226 : (Jvm.Cond.instantiable "ProgramReader$Tokens" (8 : Nat)) ∈ lw_all := lw_g (lw_at lw_m1 132 rfl) rfl
theorem q228 : (Jvm.Cond.instanceMethod ({ cls := "ProgramReader$Tokens", name := "<init>", desc := "()V" } : Jvm.MethodName)) ∈ lw_all := lw_g (lw_at lw_m1 134 rfl) rfl
theorem q229 : (Jvm.Cond.code ({ cls := "ProgramReader$Tokens", name := "<init>", desc := "()V" } : Jvm.MethodName) prog_6_method_1_code (1 : Nat) (Option.none : Option Jvm.ClassFile.FieldType)) ∈ lw_all := lw_g (lw_at lw_m1 135 rfl) rfl
theorem q230 : (Jvm.Cond.methodLink "ProgramReader$Tokens" (1 : Nat) ({ cls := "java/lang/Object", name := "<init>", desc := "()V" } : Jvm.MethodName)) ∈ lw_all := lw_g (lw_at lw_m1 136 rfl) rfl
theorem q231 : (Jvm.Cond.methodLink "ProgramReader$Tokens" (7 : Nat) ({ cls := "ProgramReader$Token", name := "values", desc := "()[LProgramReader$Token;" } : Jvm.MethodName)) ∈ lw_all := lw_g (lw_at lw_m1 137 rfl) rfl
theorem q244 : (Jvm.Cond.fieldLink "ProgramReader$Tokens" (13 : Nat) "ProgramReader$Tokens" "all" "[LProgramReader$Token;") ∈ lw_all := lw_g (lw_at lw_m1 150 rfl) rfl
theorem q245 : (Jvm.Cond.fieldLink "ProgramReader$Tokens" (19 : Nat) "ProgramReader$Tokens" "bytes" "LProgramReader$Bytes;") ∈ lw_all := lw_g (lw_at lw_m1 151 rfl) rfl
theorem q247 : (Jvm.Cond.fieldLink "ProgramReader$Tokens" (23 : Nat) "ProgramReader$Tokens" "end" "I") ∈ lw_all := lw_g (lw_at lw_m1 153 rfl) rfl
theorem q248 : (Jvm.Cond.fieldLink "ProgramReader$Tokens" (27 : Nat) "ProgramReader$Tokens" "at" "I") ∈ lw_all := lw_g (lw_at lw_m1 154 rfl) rfl
theorem q250 : (Jvm.Cond.fieldLink "ProgramReader$Tokens" (52 : Nat) "ProgramReader$Tokens" "token" "LProgramReader$Token;") ∈ lw_all := lw_g (lw_at lw_m1 156 rfl) rfl
theorem q252 : (Jvm.Cond.fieldLink "ProgramReader$Tokens" (42 : Nat) "ProgramReader$Tokens" "place" "I") ∈ lw_all := lw_g (lw_at lw_m1 158 rfl) rfl
theorem q254 : (Jvm.Cond.fieldLink "ProgramReader$Tokens" (45 : Nat) "ProgramReader$Tokens" "length" "I") ∈ lw_all := lw_g (lw_at lw_m1 160 rfl) rfl
theorem q256 : (Jvm.Cond.fieldLink "ProgramReader$Tokens" (89 : Nat) "ProgramReader$Tokens" "value" "I") ∈ lw_all := lw_g (lw_at lw_m1 162 rfl) rfl
theorem q257 : (Jvm.Cond.laysFinal "ProgramReader$Tokens" "ProgramReader$Tokens" "all" "[LProgramReader$Token;") ∈ lw_all := lw_g (lw_at lw_m1 163 rfl) rfl
theorem q258 : (Jvm.Cond.soleField "ProgramReader$Tokens" "all") ∈ lw_all := lw_g (lw_at lw_m1 164 rfl) rfl
theorem q259 : (Jvm.Cond.lays "ProgramReader$Tokens" "ProgramReader$Tokens" "bytes" "LProgramReader$Bytes;") ∈ lw_all := lw_g (lw_at lw_m1 165 rfl) rfl
theorem q260 : (Jvm.Cond.soleField "ProgramReader$Tokens" "bytes") ∈ lw_all := lw_g (lw_at lw_m1 166 rfl) rfl
theorem q261 : (Jvm.Cond.lays "ProgramReader$Tokens" "ProgramReader$Tokens" "end" "I") ∈ lw_all := lw_g (lw_at lw_m1 167 rfl) rfl
theorem q262 : (Jvm.Cond.soleField "ProgramReader$Tokens" "end") ∈ lw_all := lw_g (lw_at lw_m1 168 rfl) rfl
theorem q263 : (Jvm.Cond.lays "ProgramReader$Tokens" "ProgramReader$Tokens" "at" "I") ∈ lw_all := lw_g (lw_at lw_m1 169 rfl) rfl
theorem q264 : (Jvm.Cond.soleField "ProgramReader$Tokens" "at") ∈ lw_all := lw_g (lw_at lw_m1 170 rfl) rfl
theorem q265 : (Jvm.Cond.lays "ProgramReader$Tokens" "ProgramReader$Tokens" "token" "LProgramReader$Token;") ∈ lw_all := lw_g (lw_at lw_m1 171 rfl) rfl
theorem q266 : (Jvm.Cond.soleField "ProgramReader$Tokens" "token") ∈ lw_all := lw_g (lw_at lw_m1 172 rfl) rfl
theorem q267 : (Jvm.Cond.lays "ProgramReader$Tokens" "ProgramReader$Tokens" "place" "I") ∈ lw_all := lw_g (lw_at lw_m1 173 rfl) rfl
theorem q268 : (Jvm.Cond.soleField "ProgramReader$Tokens" "place") ∈ lw_all := lw_g (lw_at lw_m1 174 rfl) rfl
theorem q269 : (Jvm.Cond.lays "ProgramReader$Tokens" "ProgramReader$Tokens" "length" "I") ∈ lw_all := lw_g (lw_at lw_m1 175 rfl) rfl
theorem q270 : (Jvm.Cond.soleField "ProgramReader$Tokens" "length") ∈ lw_all := lw_g (lw_at lw_m1 176 rfl) rfl
theorem q271 : (Jvm.Cond.lays "ProgramReader$Tokens" "ProgramReader$Tokens" "value" "I") ∈ lw_all := lw_g (lw_at lw_m1 177 rfl) rfl
theorem q272 : (Jvm.Cond.soleField "ProgramReader$Tokens" "value") ∈ lw_all := lw_g (lw_at lw_m1 178 rfl) rfl
theorem q273 : (Jvm.Cond.superclass "ProgramReader$Tokens" "java/lang/Object") ∈ lw_all := lw_g (lw_at lw_m1 179 rfl) rfl
theorem q366 : (Jvm.Cond.instanceMethod ({ cls := "ProgramReader$Tokens", name := "begin", desc := "(LProgramReader$Bytes;I)V" } : Jvm.MethodName)) ∈ lw_all := lw_g (lw_at lw_m2 32 rfl) rfl
theorem q367 : (Jvm.Cond.selects "ProgramReader$Tokens" ({ cls := "ProgramReader$Tokens", name := "begin", desc := "(LProgramReader$Bytes;I)V" } : Jvm.MethodName) ({ cls := "ProgramReader$Tokens", name := "begin", desc := "(LProgramReader$Bytes;I)V" } : Jvm.MethodName)) ∈ lw_all := lw_g (lw_at lw_m2 33 rfl) rfl
theorem q368 : (Jvm.Cond.code ({ cls := "ProgramReader$Tokens", name := "begin", desc := "(LProgramReader$Bytes;I)V" } : Jvm.MethodName) prog_6_method_2_code (3 : Nat) (Option.none : Option Jvm.ClassFile.FieldType)) ∈ lw_all := lw_g (lw_at lw_m2 34 rfl) rfl
theorem q370 : (Jvm.Cond.instanceMethod ({ cls := "ProgramReader$Tokens", name := "next", desc := "()V" } : Jvm.MethodName)) ∈ lw_all := lw_g (lw_at lw_m2 36 rfl) rfl
theorem q371 : (Jvm.Cond.selects "ProgramReader$Tokens" ({ cls := "ProgramReader$Tokens", name := "next", desc := "()V" } : Jvm.MethodName) ({ cls := "ProgramReader$Tokens", name := "next", desc := "()V" } : Jvm.MethodName)) ∈ lw_all := lw_g (lw_at lw_m2 37 rfl) rfl
theorem q372 : (Jvm.Cond.code ({ cls := "ProgramReader$Tokens", name := "next", desc := "()V" } : Jvm.MethodName) prog_6_method_7_code (2 : Nat) (Option.none : Option Jvm.ClassFile.FieldType)) ∈ lw_all := lw_g (lw_at lw_m2 38 rfl) rfl
theorem q373 : (Jvm.Cond.methodLink "ProgramReader$Tokens" (39 : Nat) ({ cls := "ProgramReader$Tokens", name := "blanks", desc := "()V" } : Jvm.MethodName)) ∈ lw_all := lw_g (lw_at lw_m2 39 rfl) rfl
theorem q374 : (Jvm.Cond.privateMethod ({ cls := "ProgramReader$Tokens", name := "blanks", desc := "()V" } : Jvm.MethodName)) ∈ lw_tbl := lw_at lw_m2 40 rfl
theorem q375 : (Jvm.Cond.instanceMethod ({ cls := "ProgramReader$Tokens", name := "blanks", desc := "()V" } : Jvm.MethodName)) ∈ lw_all := lw_g (lw_at lw_m2 41 rfl) rfl
theorem q376 : (Jvm.Cond.code ({ cls := "ProgramReader$Tokens", name := "blanks", desc := "()V" } : Jvm.MethodName) prog_6_method_6_code (3 : Nat) (Option.none : Option Jvm.ClassFile.FieldType)) ∈ lw_all := lw_g (lw_at lw_m2 42 rfl) rfl
theorem q377 : (Jvm.Cond.methodLink "ProgramReader$Tokens" (36 : Nat) ({ cls := "ProgramReader$Tokens", name := "look", desc := "(I)I" } : Jvm.MethodName)) ∈ lw_all := lw_g (lw_at lw_m2 43 rfl) rfl
theorem q378 : (Jvm.Cond.privateMethod ({ cls := "ProgramReader$Tokens", name := "look", desc := "(I)I" } : Jvm.MethodName)) ∈ lw_tbl := lw_at lw_m2 44 rfl
theorem q379 : (Jvm.Cond.instanceMethod ({ cls := "ProgramReader$Tokens", name := "look", desc := "(I)I" } : Jvm.MethodName)) ∈ lw_all := lw_g (lw_at lw_m2 45 rfl) rfl
theorem q380 : (Jvm.Cond.code ({ cls := "ProgramReader$Tokens", name := "look", desc := "(I)I" } : Jvm.MethodName) prog_6_method_3_code (2 : Nat) (Option.some Jvm.ClassFile.FieldType.int)) ∈ lw_all := lw_g (lw_at lw_m2 46 rfl) rfl
theorem q381 : (Jvm.Cond.methodLink "ProgramReader$Tokens" (30 : Nat) ({ cls := "ProgramReader$Bytes", name := "get", desc := "(I)I" } : Jvm.MethodName)) ∈ lw_all := lw_g (lw_at lw_m2 47 rfl) rfl
theorem q385 : (Jvm.Cond.fieldLink "ProgramReader$Tokens" (48 : Nat) "ProgramReader$Token" "END" "LProgramReader$Token;") ∈ lw_all := lw_g (lw_at lw_m2 51 rfl) rfl
theorem q387 : (Jvm.Cond.methodLink "ProgramReader$Tokens" (55 : Nat) ({ cls := "ProgramReader$Tokens", name := "begins", desc := "(I)Z" } : Jvm.MethodName)) ∈ lw_all := lw_g (lw_at lw_m2 53 rfl) rfl
theorem q388 : (Jvm.Cond.static ({ cls := "ProgramReader$Tokens", name := "begins", desc := "(I)Z" } : Jvm.MethodName)) ∈ lw_all := lw_g (lw_at lw_m2 54 rfl) rfl
theorem q389 : (Jvm.Cond.code ({ cls := "ProgramReader$Tokens", name := "begins", desc := "(I)Z" } : Jvm.MethodName) prog_6_method_5_code (1 : Nat) (Option.some Jvm.ClassFile.FieldType.boolean)) ∈ lw_all := lw_g (lw_at lw_m2 55 rfl) rfl
theorem q390 : (Jvm.Cond.methodLink "ProgramReader$Tokens" (59 : Nat) ({ cls := "ProgramReader$Tokens", name := "isDigit", desc := "(I)Z" } : Jvm.MethodName)) ∈ lw_all := lw_g (lw_at lw_m2 56 rfl) rfl
theorem q391 : (Jvm.Cond.static ({ cls := "ProgramReader$Tokens", name := "isDigit", desc := "(I)Z" } : Jvm.MethodName)) ∈ lw_all := lw_g (lw_at lw_m2 57 rfl) rfl
theorem q392 : (Jvm.Cond.code ({ cls := "ProgramReader$Tokens", name := "isDigit", desc := "(I)Z" } : Jvm.MethodName) prog_6_method_4_code (1 : Nat) (Option.some Jvm.ClassFile.FieldType.boolean)) ∈ lw_all := lw_g (lw_at lw_m2 58 rfl) rfl
theorem q393 : (Jvm.Cond.fieldLink "ProgramReader$Tokens" (62 : Nat) "ProgramReader$Token" "FUN" "LProgramReader$Token;") ∈ lw_all := lw_g (lw_at lw_m2 59 rfl) rfl
theorem q395 : (Jvm.Cond.methodLink "ProgramReader$Tokens" (65 : Nat) ({ cls := "ProgramReader$Tokens", name := "spelt", desc := "(LProgramReader$Token;)LProgramReader$Token;" } : Jvm.MethodName)) ∈ lw_all := lw_g (lw_at lw_m2 61 rfl) rfl
theorem q396 : (Jvm.Cond.privateMethod ({ cls := "ProgramReader$Tokens", name := "spelt", desc := "(LProgramReader$Token;)LProgramReader$Token;" } : Jvm.MethodName)) ∈ lw_tbl := lw_at lw_m2 62 rfl
theorem q397 : (Jvm.Cond.instanceMethod ({ cls := "ProgramReader$Tokens", name := "spelt", desc := "(LProgramReader$Token;)LProgramReader$Token;" } : Jvm.MethodName)) ∈ lw_all := lw_g (lw_at lw_m2 63 rfl) rfl
theorem q398 : (Jvm.Cond.code ({ cls := "ProgramReader$Tokens", name := "spelt", desc := "(LProgramReader$Token;)LProgramReader$Token;" } : Jvm.MethodName) prog_6_method_9_code (6 : Nat) (Option.some (Jvm.ClassFile.FieldType.object "ProgramReader$Token"))) ∈ lw_all := lw_g (lw_at lw_m2 64 rfl) rfl
theorem q399 : (Jvm.Cond.methodLink "ProgramReader$Tokens" (95 : Nat) ({ cls := "ProgramReader$Token", name := "ordinal", desc := "()I" } : Jvm.MethodName)) ∈ lw_all := lw_g (lw_at lw_m2 65 rfl) rfl
theorem q405 : (Jvm.Cond.methodLink "ProgramReader$Tokens" (103 : Nat) ({ cls := "java/lang/String", name := "length", desc := "()I" } : Jvm.MethodName)) ∈ lw_all := lw_g (lw_at lw_m2 71 rfl) rfl
theorem q415 : (Jvm.Cond.methodLink "ProgramReader$Tokens" (107 : Nat) ({ cls := "java/lang/String", name := "charAt", desc := "(I)C" } : Jvm.MethodName)) ∈ lw_all := lw_g (lw_at lw_m2 81 rfl) rfl
theorem q453 : (Jvm.Cond.fieldLink "ProgramReader$Tokens" (69 : Nat) "ProgramReader$Token" "WRONG" "LProgramReader$Token;") ∈ lw_all := lw_g (lw_at lw_m2 119 rfl) rfl
theorem q455 : (Jvm.Cond.fieldLink "ProgramReader$Tokens" (72 : Nat) "ProgramReader$Token" "NAME" "LProgramReader$Token;") ∈ lw_all := lw_g (lw_at lw_m2 121 rfl) rfl
theorem q457 : (Jvm.Cond.methodLink "ProgramReader$Tokens" (75 : Nat) ({ cls := "ProgramReader$Tokens", name := "number", desc := "()V" } : Jvm.MethodName)) ∈ lw_all := lw_g (lw_at lw_m2 123 rfl) rfl
theorem q458 : (Jvm.Cond.privateMethod ({ cls := "ProgramReader$Tokens", name := "number", desc := "()V" } : Jvm.MethodName)) ∈ lw_tbl := lw_at lw_m2 124 rfl
theorem q459 : (Jvm.Cond.instanceMethod ({ cls := "ProgramReader$Tokens", name := "number", desc := "()V" } : Jvm.MethodName)) ∈ lw_all := lw_g (lw_at lw_m2 125 rfl) rfl
theorem q460 : (Jvm.Cond.code ({ cls := "ProgramReader$Tokens", name := "number", desc := "()V" } : Jvm.MethodName) prog_6_method_8_code (4 : Nat) (Option.none : Option Jvm.ClassFile.FieldType)) ∈ lw_all := lw_g (lw_at lw_m2 126 rfl) rfl
theorem q461 : (Jvm.Cond.constantLong "ProgramReader$Tokens" (81 : Nat) (4294967296 : Int64)) ∈ lw_all := lw_g (lw_at lw_m2 127 rfl) rfl
theorem q462 : (Jvm.Cond.constantLong "ProgramReader$Tokens" (83 : Nat) (10 : Int64)) ∈ lw_all := lw_g (lw_at lw_m2 128 rfl) rfl
theorem q463 : (Jvm.Cond.constantLong "ProgramReader$Tokens" (85 : Nat) (48 : Int64)) ∈ lw_all := lw_g (lw_at lw_m2 129 rfl) rfl
theorem q464 : (Jvm.Cond.constantLong "ProgramReader$Tokens" (87 : Nat) (2147483647 : Int64)) ∈ lw_all := lw_g (lw_at lw_m2 130 rfl) rfl
theorem q465 : (Jvm.Cond.fieldLink "ProgramReader$Tokens" (92 : Nat) "ProgramReader$Token" "NUMBER" "LProgramReader$Token;") ∈ lw_all := lw_g (lw_at lw_m2 131 rfl) rfl
theorem q467 : (Jvm.Cond.fieldLink "ProgramReader$Tokens" (78 : Nat) "ProgramReader$Token" "OPEN" "LProgramReader$Token;") ∈ lw_all := lw_g (lw_at lw_m2 133 rfl) rfl
theorem q665 : (Jvm.Cond.instanceMethod ({ cls := "ProgramReader$Tokens", name := "opensBehind", desc := "()Z" } : Jvm.MethodName)) ∈ lw_all := lw_g (lw_at lw_m3 91 rfl) rfl
theorem q666 : (Jvm.Cond.selects "ProgramReader$Tokens" ({ cls := "ProgramReader$Tokens", name := "opensBehind", desc := "()Z" } : Jvm.MethodName) ({ cls := "ProgramReader$Tokens", name := "opensBehind", desc := "()Z" } : Jvm.MethodName)) ∈ lw_all := lw_g (lw_at lw_m3 92 rfl) rfl
theorem q667 : (Jvm.Cond.code ({ cls := "ProgramReader$Tokens", name := "opensBehind", desc := "()Z" } : Jvm.MethodName) prog_6_method_10_code (3 : Nat) (Option.some Jvm.ClassFile.FieldType.boolean)) ∈ lw_all := lw_g (lw_at lw_m3 93 rfl) rfl
theorem q1261 : (Jvm.Cond.fieldLinkNest "ProgramReader$Tokens" (99 : Nat) "ProgramReader$Token" "letters" "Ljava/lang/String;" "ProgramReader") ∈ lw_tbl := lw_at lw_m5 207 rfl
theorem in_X5 : ∀ w ∈ wsX50, w ∈ lw_all := lw_in wsX50 [257, 259, 261, 263, 265, 267, 269, 271] (by decide +kernel) (by decide +kernel)
