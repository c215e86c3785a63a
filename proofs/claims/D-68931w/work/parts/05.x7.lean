/-! ProgramReader$Writer -/
set_option maxRecDepth 100000
def RX7 : String := "ProgramReader$Writer"
def TX7 : u_T := fun k => match k with
  | 0 => ("ProgramReader$Writer", "names", "LProgramReader$Names;", true)
  | 1 => ("ProgramReader$Writer", "tree", "LProgramReader$Tree;", false)
  | _ => ("ProgramReader$Writer", "out", "LProgramReader$Bytes;", false)
def tyX7 : Nat → FieldType := fun k => match k with
  | 0 => .object "ProgramReader$Names"
  | 1 => .object "ProgramReader$Tree"
  | _ => .object "ProgramReader$Bytes"
abbrev wsX70 : List Cond := u_ws RX7 TX7 3
theorem nmX7 : ∀ a, a < 3 → ∀ b, b < 3 → a ≠ b → (TX7 a).2.1 ≠ (TX7 b).2.1 := by decide +kernel
theorem tyX7_ok : ∀ k, k < 3 → parseFieldDescriptor (TX7 k).2.2.1 = some (tyX7 k) := by decide +kernel
abbrev cX7_init : ByteArray := prog_8_method_1_code
def yX7_init : MethodName := ⟨RX7, "<init>", "(LProgramReader$Names;)V"⟩
def dkwX7_init_0 : List UInt8 := [42, 183, 0, 3, 42, 43, 181, 0, 9, 177]
abbrev dktX7_init_0 : List UInt8 := dkwX7_init_0 ++ []
theorem dksX7_init_0 : cX7_init.data.toList.drop 0 = dktX7_init_0 := by decide +kernel
theorem dX7_init_0 : decode cX7_init 0 = .ok (.aload_n 0, 1) := dk_42 (dk_at dksX7_init_0 0 rfl rfl)
theorem dX7_init_1 : decode cX7_init 1 = .ok (.invokespecial 3, 3) := dk_183 0 3 (dk_at dksX7_init_0 1 rfl rfl)
theorem dX7_init_4 : decode cX7_init 4 = .ok (.aload_n 0, 1) := dk_42 (dk_at dksX7_init_0 4 rfl rfl)
theorem dX7_init_5 : decode cX7_init 5 = .ok (.aload_n 1, 1) := dk_43 (dk_at dksX7_init_0 5 rfl rfl)
theorem dX7_init_6 : decode cX7_init 6 = .ok (.putfield 9, 3) := dk_181 0 9 (dk_at dksX7_init_0 6 rfl rfl)
theorem dX7_init_9 : decode cX7_init 9 = .ok (.return_, 1) := dk_177 (dk_at dksX7_init_0 9 rfl rfl)
abbrev cX7_write : ByteArray := prog_8_method_18_code
def yX7_write : MethodName := ⟨RX7, "write", "(LProgramReader$Tree;ILProgramReader$Bytes;)V"⟩
def dkwX7_write_0 : List UInt8 := [42, 43, 181, 0, 57, 42, 45, 181, 0, 24, 42, 180, 0, 24, 3, 181, 0, 28, 42, 28, 182, 0, 90, 177]
abbrev dktX7_write_0 : List UInt8 := dkwX7_write_0 ++ []
theorem dksX7_write_0 : cX7_write.data.toList.drop 0 = dktX7_write_0 := by decide +kernel
theorem dX7_write_0 : decode cX7_write 0 = .ok (.aload_n 0, 1) := dk_42 (dk_at dksX7_write_0 0 rfl rfl)
theorem dX7_write_1 : decode cX7_write 1 = .ok (.aload_n 1, 1) := dk_43 (dk_at dksX7_write_0 1 rfl rfl)
theorem dX7_write_2 : decode cX7_write 2 = .ok (.putfield 57, 3) := dk_181 0 57 (dk_at dksX7_write_0 2 rfl rfl)
theorem dX7_write_5 : decode cX7_write 5 = .ok (.aload_n 0, 1) := dk_42 (dk_at dksX7_write_0 5 rfl rfl)
theorem dX7_write_6 : decode cX7_write 6 = .ok (.aload_n 3, 1) := dk_45 (dk_at dksX7_write_0 6 rfl rfl)
theorem dX7_write_7 : decode cX7_write 7 = .ok (.putfield 24, 3) := dk_181 0 24 (dk_at dksX7_write_0 7 rfl rfl)
theorem dX7_write_10 : decode cX7_write 10 = .ok (.aload_n 0, 1) := dk_42 (dk_at dksX7_write_0 10 rfl rfl)
theorem dX7_write_11 : decode cX7_write 11 = .ok (.getfield 24, 3) := dk_180 0 24 (dk_at dksX7_write_0 11 rfl rfl)
theorem dX7_write_14 : decode cX7_write 14 = .ok (.iconst 0, 1) := dk_3 (dk_at dksX7_write_0 14 rfl rfl)
theorem dX7_write_15 : decode cX7_write 15 = .ok (.putfield 28, 3) := dk_181 0 28 (dk_at dksX7_write_0 15 rfl rfl)
theorem dX7_write_18 : decode cX7_write 18 = .ok (.aload_n 0, 1) := dk_42 (dk_at dksX7_write_0 18 rfl rfl)
theorem dX7_write_19 : decode cX7_write 19 = .ok (.iload_n 2, 1) := dk_28 (dk_at dksX7_write_0 19 rfl rfl)
theorem dX7_write_20 : decode cX7_write 20 = .ok (.invokevirtual 90, 3) := dk_182 0 90 (dk_at dksX7_write_0 20 rfl rfl)
theorem dX7_write_23 : decode cX7_write 23 = .ok (.return_, 1) := dk_177 (dk_at dksX7_write_0 23 rfl rfl)
abbrev cX7_write_2 : ByteArray := prog_8_method_14_code
def yX7_write_2 : MethodName := ⟨RX7, "write", "(I)V"⟩
def dkwX7_write_2_3 : List UInt8 := [182, 0, 164, 177]
abbrev dktX7_write_2_3 : List UInt8 := dkwX7_write_2_3 ++ []
def dkwX7_write_2_2 : List UInt8 := [16, 33, 162, 0, 11, 42, 27, 182, 0, 161, 167, 0, 16, 29, 16, 33, 159, 0, 10, 42, 27, 28, 29]
abbrev dktX7_write_2_2 : List UInt8 := dkwX7_write_2_2 ++ dktX7_write_2_3
def dkwX7_write_2_1 : List UInt8 := [163, 0, 17, 29, 16, 20, 159, 0, 11, 42, 27, 182, 0, 149, 167, 0, 36, 29, 16, 12, 161, 0, 17, 29]
abbrev dktX7_write_2_1 : List UInt8 := dkwX7_write_2_1 ++ dktX7_write_2_2
def dkwX7_write_2_0 : List UInt8 := [27, 4, 96, 61, 42, 180, 0, 57, 180, 0, 96, 27, 51, 62, 29, 16, 18, 161, 0, 23, 29, 16, 23]
abbrev dktX7_write_2_0 : List UInt8 := dkwX7_write_2_0 ++ dktX7_write_2_1
theorem dksX7_write_2_0 : cX7_write_2.data.toList.drop 0 = dktX7_write_2_0 := by decide +kernel
theorem dksX7_write_2_1 : cX7_write_2.data.toList.drop 23 = dktX7_write_2_1 := dk_seg dksX7_write_2_0 23 rfl rfl
theorem dksX7_write_2_2 : cX7_write_2.data.toList.drop 47 = dktX7_write_2_2 := dk_seg dksX7_write_2_1 24 rfl rfl
theorem dksX7_write_2_3 : cX7_write_2.data.toList.drop 70 = dktX7_write_2_3 := dk_seg dksX7_write_2_2 23 rfl rfl
theorem dX7_write_2_0 : decode cX7_write_2 0 = .ok (.iload_n 1, 1) := dk_27 (dk_at dksX7_write_2_0 0 rfl rfl)
theorem dX7_write_2_1 : decode cX7_write_2 1 = .ok (.iconst 1, 1) := dk_4 (dk_at dksX7_write_2_0 1 rfl rfl)
theorem dX7_write_2_2 : decode cX7_write_2 2 = .ok (.iadd, 1) := dk_96 (dk_at dksX7_write_2_0 2 rfl rfl)
theorem dX7_write_2_3 : decode cX7_write_2 3 = .ok (.istore_n 2, 1) := dk_61 (dk_at dksX7_write_2_0 3 rfl rfl)
theorem dX7_write_2_4 : decode cX7_write_2 4 = .ok (.aload_n 0, 1) := dk_42 (dk_at dksX7_write_2_0 4 rfl rfl)
theorem dX7_write_2_5 : decode cX7_write_2 5 = .ok (.getfield 57, 3) := dk_180 0 57 (dk_at dksX7_write_2_0 5 rfl rfl)
theorem dX7_write_2_8 : decode cX7_write_2 8 = .ok (.getfield 96, 3) := dk_180 0 96 (dk_at dksX7_write_2_0 8 rfl rfl)
theorem dX7_write_2_11 : decode cX7_write_2 11 = .ok (.iload_n 1, 1) := dk_27 (dk_at dksX7_write_2_0 11 rfl rfl)
theorem dX7_write_2_12 : decode cX7_write_2 12 = .ok (.baload, 1) := dk_51 (dk_at dksX7_write_2_0 12 rfl rfl)
theorem dX7_write_2_13 : decode cX7_write_2 13 = .ok (.istore_n 3, 1) := dk_62 (dk_at dksX7_write_2_0 13 rfl rfl)
theorem dX7_write_2_14 : decode cX7_write_2 14 = .ok (.iload_n 3, 1) := dk_29 (dk_at dksX7_write_2_0 14 rfl rfl)
theorem dX7_write_2_15 : decode cX7_write_2 15 = .ok (.bipush 18, 2) := dk_16 18 (dk_at dksX7_write_2_0 15 rfl rfl)
theorem dX7_write_2_17 : decode cX7_write_2 17 = .ok (.if_icmp .lt 23, 3) := dk_161 0 23 (dk_at dksX7_write_2_0 17 rfl rfl)
theorem dX7_write_2_20 : decode cX7_write_2 20 = .ok (.iload_n 3, 1) := dk_29 (dk_at dksX7_write_2_0 20 rfl rfl)
theorem dX7_write_2_21 : decode cX7_write_2 21 = .ok (.bipush 23, 2) := dk_16 23 (dk_at dksX7_write_2_0 21 rfl rfl)
theorem dX7_write_2_23 : decode cX7_write_2 23 = .ok (.if_icmp .gt 17, 3) := dk_163 0 17 (dk_at dksX7_write_2_1 0 rfl rfl)
theorem dX7_write_2_26 : decode cX7_write_2 26 = .ok (.iload_n 3, 1) := dk_29 (dk_at dksX7_write_2_1 3 rfl rfl)
theorem dX7_write_2_27 : decode cX7_write_2 27 = .ok (.bipush 20, 2) := dk_16 20 (dk_at dksX7_write_2_1 4 rfl rfl)
theorem dX7_write_2_29 : decode cX7_write_2 29 = .ok (.if_icmp .eq 11, 3) := dk_159 0 11 (dk_at dksX7_write_2_1 6 rfl rfl)
theorem dX7_write_2_32 : decode cX7_write_2 32 = .ok (.aload_n 0, 1) := dk_42 (dk_at dksX7_write_2_1 9 rfl rfl)
theorem dX7_write_2_33 : decode cX7_write_2 33 = .ok (.iload_n 1, 1) := dk_27 (dk_at dksX7_write_2_1 10 rfl rfl)
theorem dX7_write_2_34 : decode cX7_write_2 34 = .ok (.invokevirtual 149, 3) := dk_182 0 149 (dk_at dksX7_write_2_1 11 rfl rfl)
theorem dX7_write_2_37 : decode cX7_write_2 37 = .ok (.goto 36, 3) := dk_167 0 36 (dk_at dksX7_write_2_1 14 rfl rfl)
theorem dX7_write_2_40 : decode cX7_write_2 40 = .ok (.iload_n 3, 1) := dk_29 (dk_at dksX7_write_2_1 17 rfl rfl)
theorem dX7_write_2_41 : decode cX7_write_2 41 = .ok (.bipush 12, 2) := dk_16 12 (dk_at dksX7_write_2_1 18 rfl rfl)
theorem dX7_write_2_43 : decode cX7_write_2 43 = .ok (.if_icmp .lt 17, 3) := dk_161 0 17 (dk_at dksX7_write_2_1 20 rfl rfl)
theorem dX7_write_2_46 : decode cX7_write_2 46 = .ok (.iload_n 3, 1) := dk_29 (dk_at dksX7_write_2_1 23 rfl rfl)
theorem dX7_write_2_47 : decode cX7_write_2 47 = .ok (.bipush 33, 2) := dk_16 33 (dk_at dksX7_write_2_2 0 rfl rfl)
theorem dX7_write_2_49 : decode cX7_write_2 49 = .ok (.if_icmp .ge 11, 3) := dk_162 0 11 (dk_at dksX7_write_2_2 2 rfl rfl)
theorem dX7_write_2_52 : decode cX7_write_2 52 = .ok (.aload_n 0, 1) := dk_42 (dk_at dksX7_write_2_2 5 rfl rfl)
theorem dX7_write_2_53 : decode cX7_write_2 53 = .ok (.iload_n 1, 1) := dk_27 (dk_at dksX7_write_2_2 6 rfl rfl)
theorem dX7_write_2_54 : decode cX7_write_2 54 = .ok (.invokevirtual 161, 3) := dk_182 0 161 (dk_at dksX7_write_2_2 7 rfl rfl)
theorem dX7_write_2_57 : decode cX7_write_2 57 = .ok (.goto 16, 3) := dk_167 0 16 (dk_at dksX7_write_2_2 10 rfl rfl)
theorem dX7_write_2_60 : decode cX7_write_2 60 = .ok (.iload_n 3, 1) := dk_29 (dk_at dksX7_write_2_2 13 rfl rfl)
theorem dX7_write_2_61 : decode cX7_write_2 61 = .ok (.bipush 33, 2) := dk_16 33 (dk_at dksX7_write_2_2 14 rfl rfl)
theorem dX7_write_2_63 : decode cX7_write_2 63 = .ok (.if_icmp .eq 10, 3) := dk_159 0 10 (dk_at dksX7_write_2_2 16 rfl rfl)
theorem dX7_write_2_66 : decode cX7_write_2 66 = .ok (.aload_n 0, 1) := dk_42 (dk_at dksX7_write_2_2 19 rfl rfl)
theorem dX7_write_2_67 : decode cX7_write_2 67 = .ok (.iload_n 1, 1) := dk_27 (dk_at dksX7_write_2_2 20 rfl rfl)
theorem dX7_write_2_68 : decode cX7_write_2 68 = .ok (.iload_n 2, 1) := dk_28 (dk_at dksX7_write_2_2 21 rfl rfl)
theorem dX7_write_2_69 : decode cX7_write_2 69 = .ok (.iload_n 3, 1) := dk_29 (dk_at dksX7_write_2_2 22 rfl rfl)
theorem dX7_write_2_70 : decode cX7_write_2 70 = .ok (.invokevirtual 164, 3) := dk_182 0 164 (dk_at dksX7_write_2_3 0 rfl rfl)
theorem dX7_write_2_73 : decode cX7_write_2 73 = .ok (.return_, 1) := dk_177 (dk_at dksX7_write_2_3 3 rfl rfl)
abbrev cX7_signed : ByteArray := prog_8_method_10_code
def yX7_signed : MethodName := ⟨RX7, "signed", "(I)V"⟩
def dkwX7_signed_5 : List UInt8 := [42, 18, 118, 182, 0, 78, 42, 28, 16, 17, 16, 20, 182, 0, 110, 177]
abbrev dktX7_signed_5 : List UInt8 := dkwX7_signed_5 ++ []
def dkwX7_signed_4 : List UInt8 := [182, 0, 110, 167, 0, 36, 42, 18, 116, 182, 0, 78, 42, 28, 16, 17, 16, 20, 182, 0, 110, 167, 0, 18]
abbrev dktX7_signed_4 : List UInt8 := dkwX7_signed_4 ++ dktX7_signed_5
def dkwX7_signed_3 : List UInt8 := [42, 28, 16, 17, 16, 17, 182, 0, 110, 167, 0, 54, 42, 18, 114, 182, 0, 78, 42, 28, 16, 17, 16, 20]
abbrev dktX7_signed_3 : List UInt8 := dkwX7_signed_3 ++ dktX7_signed_4
def dkwX7_signed_2 : List UInt8 := [42, 18, 108, 182, 0, 78, 42, 28, 16, 17, 16, 17, 182, 0, 110, 167, 0, 72, 42, 18, 76, 182, 0, 78]
abbrev dktX7_signed_2 : List UInt8 := dkwX7_signed_2 ++ dktX7_signed_3
def dkwX7_signed_1 : List UInt8 := [170, 0, 0, 0, 0, 0, 107, 0, 0, 0, 18, 0, 0, 0, 22, 0, 0, 0, 35, 0, 0, 0, 53, 0, 0, 0, 107, 0, 0, 0, 71, 0, 0, 0, 89]
abbrev dktX7_signed_1 : List UInt8 := dkwX7_signed_1 ++ dktX7_signed_2
def dkwX7_signed_0 : List UInt8 := [27, 4, 96, 61, 42, 180, 0, 57, 180, 0, 96, 27, 51]
abbrev dktX7_signed_0 : List UInt8 := dkwX7_signed_0 ++ dktX7_signed_1
theorem dksX7_signed_0 : cX7_signed.data.toList.drop 0 = dktX7_signed_0 := by decide +kernel
theorem dksX7_signed_1 : cX7_signed.data.toList.drop 13 = dktX7_signed_1 := dk_seg dksX7_signed_0 13 rfl rfl
theorem dksX7_signed_2 : cX7_signed.data.toList.drop 48 = dktX7_signed_2 := dk_seg dksX7_signed_1 35 rfl rfl
theorem dksX7_signed_3 : cX7_signed.data.toList.drop 72 = dktX7_signed_3 := dk_seg dksX7_signed_2 24 rfl rfl
theorem dksX7_signed_4 : cX7_signed.data.toList.drop 96 = dktX7_signed_4 := dk_seg dksX7_signed_3 24 rfl rfl
theorem dksX7_signed_5 : cX7_signed.data.toList.drop 120 = dktX7_signed_5 := dk_seg dksX7_signed_4 24 rfl rfl
theorem dX7_signed_0 : decode cX7_signed 0 = .ok (.iload_n 1, 1) := dk_27 (dk_at dksX7_signed_0 0 rfl rfl)
theorem dX7_signed_1 : decode cX7_signed 1 = .ok (.iconst 1, 1) := dk_4 (dk_at dksX7_signed_0 1 rfl rfl)
theorem dX7_signed_2 : decode cX7_signed 2 = .ok (.iadd, 1) := dk_96 (dk_at dksX7_signed_0 2 rfl rfl)
theorem dX7_signed_3 : decode cX7_signed 3 = .ok (.istore_n 2, 1) := dk_61 (dk_at dksX7_signed_0 3 rfl rfl)
theorem dX7_signed_4 : decode cX7_signed 4 = .ok (.aload_n 0, 1) := dk_42 (dk_at dksX7_signed_0 4 rfl rfl)
theorem dX7_signed_5 : decode cX7_signed 5 = .ok (.getfield 57, 3) := dk_180 0 57 (dk_at dksX7_signed_0 5 rfl rfl)
theorem dX7_signed_8 : decode cX7_signed 8 = .ok (.getfield 96, 3) := dk_180 0 96 (dk_at dksX7_signed_0 8 rfl rfl)
theorem dX7_signed_11 : decode cX7_signed 11 = .ok (.iload_n 1, 1) := dk_27 (dk_at dksX7_signed_0 11 rfl rfl)
theorem dX7_signed_12 : decode cX7_signed 12 = .ok (.baload, 1) := dk_51 (dk_at dksX7_signed_0 12 rfl rfl)
theorem dX7_signed_13 : decode cX7_signed 13 = .ok (.tableswitch 107 18 22 #[35, 53, 107, 71, 89], 35) := by decide +kernel
theorem dX7_signed_48 : decode cX7_signed 48 = .ok (.aload_n 0, 1) := dk_42 (dk_at dksX7_signed_2 0 rfl rfl)
theorem dX7_signed_49 : decode cX7_signed 49 = .ok (.ldc 108, 2) := dk_18 108 (dk_at dksX7_signed_2 1 rfl rfl)
theorem dX7_signed_51 : decode cX7_signed 51 = .ok (.invokevirtual 78, 3) := dk_182 0 78 (dk_at dksX7_signed_2 3 rfl rfl)
theorem dX7_signed_54 : decode cX7_signed 54 = .ok (.aload_n 0, 1) := dk_42 (dk_at dksX7_signed_2 6 rfl rfl)
theorem dX7_signed_55 : decode cX7_signed 55 = .ok (.iload_n 2, 1) := dk_28 (dk_at dksX7_signed_2 7 rfl rfl)
theorem dX7_signed_56 : decode cX7_signed 56 = .ok (.bipush 17, 2) := dk_16 17 (dk_at dksX7_signed_2 8 rfl rfl)
theorem dX7_signed_58 : decode cX7_signed 58 = .ok (.bipush 17, 2) := dk_16 17 (dk_at dksX7_signed_2 10 rfl rfl)
theorem dX7_signed_60 : decode cX7_signed 60 = .ok (.invokevirtual 110, 3) := dk_182 0 110 (dk_at dksX7_signed_2 12 rfl rfl)
theorem dX7_signed_63 : decode cX7_signed 63 = .ok (.goto 72, 3) := dk_167 0 72 (dk_at dksX7_signed_2 15 rfl rfl)
theorem dX7_signed_66 : decode cX7_signed 66 = .ok (.aload_n 0, 1) := dk_42 (dk_at dksX7_signed_2 18 rfl rfl)
theorem dX7_signed_67 : decode cX7_signed 67 = .ok (.ldc 76, 2) := dk_18 76 (dk_at dksX7_signed_2 19 rfl rfl)
theorem dX7_signed_69 : decode cX7_signed 69 = .ok (.invokevirtual 78, 3) := dk_182 0 78 (dk_at dksX7_signed_2 21 rfl rfl)
theorem dX7_signed_72 : decode cX7_signed 72 = .ok (.aload_n 0, 1) := dk_42 (dk_at dksX7_signed_3 0 rfl rfl)
theorem dX7_signed_73 : decode cX7_signed 73 = .ok (.iload_n 2, 1) := dk_28 (dk_at dksX7_signed_3 1 rfl rfl)
theorem dX7_signed_74 : decode cX7_signed 74 = .ok (.bipush 17, 2) := dk_16 17 (dk_at dksX7_signed_3 2 rfl rfl)
theorem dX7_signed_76 : decode cX7_signed 76 = .ok (.bipush 17, 2) := dk_16 17 (dk_at dksX7_signed_3 4 rfl rfl)
theorem dX7_signed_78 : decode cX7_signed 78 = .ok (.invokevirtual 110, 3) := dk_182 0 110 (dk_at dksX7_signed_3 6 rfl rfl)
theorem dX7_signed_81 : decode cX7_signed 81 = .ok (.goto 54, 3) := dk_167 0 54 (dk_at dksX7_signed_3 9 rfl rfl)
theorem dX7_signed_84 : decode cX7_signed 84 = .ok (.aload_n 0, 1) := dk_42 (dk_at dksX7_signed_3 12 rfl rfl)
theorem dX7_signed_85 : decode cX7_signed 85 = .ok (.ldc 114, 2) := dk_18 114 (dk_at dksX7_signed_3 13 rfl rfl)
theorem dX7_signed_87 : decode cX7_signed 87 = .ok (.invokevirtual 78, 3) := dk_182 0 78 (dk_at dksX7_signed_3 15 rfl rfl)
theorem dX7_signed_90 : decode cX7_signed 90 = .ok (.aload_n 0, 1) := dk_42 (dk_at dksX7_signed_3 18 rfl rfl)
theorem dX7_signed_91 : decode cX7_signed 91 = .ok (.iload_n 2, 1) := dk_28 (dk_at dksX7_signed_3 19 rfl rfl)
theorem dX7_signed_92 : decode cX7_signed 92 = .ok (.bipush 17, 2) := dk_16 17 (dk_at dksX7_signed_3 20 rfl rfl)
theorem dX7_signed_94 : decode cX7_signed 94 = .ok (.bipush 20, 2) := dk_16 20 (dk_at dksX7_signed_3 22 rfl rfl)
theorem dX7_signed_96 : decode cX7_signed 96 = .ok (.invokevirtual 110, 3) := dk_182 0 110 (dk_at dksX7_signed_4 0 rfl rfl)
theorem dX7_signed_99 : decode cX7_signed 99 = .ok (.goto 36, 3) := dk_167 0 36 (dk_at dksX7_signed_4 3 rfl rfl)
theorem dX7_signed_102 : decode cX7_signed 102 = .ok (.aload_n 0, 1) := dk_42 (dk_at dksX7_signed_4 6 rfl rfl)
theorem dX7_signed_103 : decode cX7_signed 103 = .ok (.ldc 116, 2) := dk_18 116 (dk_at dksX7_signed_4 7 rfl rfl)
theorem dX7_signed_105 : decode cX7_signed 105 = .ok (.invokevirtual 78, 3) := dk_182 0 78 (dk_at dksX7_signed_4 9 rfl rfl)
theorem dX7_signed_108 : decode cX7_signed 108 = .ok (.aload_n 0, 1) := dk_42 (dk_at dksX7_signed_4 12 rfl rfl)
theorem dX7_signed_109 : decode cX7_signed 109 = .ok (.iload_n 2, 1) := dk_28 (dk_at dksX7_signed_4 13 rfl rfl)
theorem dX7_signed_110 : decode cX7_signed 110 = .ok (.bipush 17, 2) := dk_16 17 (dk_at dksX7_signed_4 14 rfl rfl)
theorem dX7_signed_112 : decode cX7_signed 112 = .ok (.bipush 20, 2) := dk_16 20 (dk_at dksX7_signed_4 16 rfl rfl)
theorem dX7_signed_114 : decode cX7_signed 114 = .ok (.invokevirtual 110, 3) := dk_182 0 110 (dk_at dksX7_signed_4 18 rfl rfl)
theorem dX7_signed_117 : decode cX7_signed 117 = .ok (.goto 18, 3) := dk_167 0 18 (dk_at dksX7_signed_4 21 rfl rfl)
theorem dX7_signed_120 : decode cX7_signed 120 = .ok (.aload_n 0, 1) := dk_42 (dk_at dksX7_signed_5 0 rfl rfl)
theorem dX7_signed_121 : decode cX7_signed 121 = .ok (.ldc 118, 2) := dk_18 118 (dk_at dksX7_signed_5 1 rfl rfl)
theorem dX7_signed_123 : decode cX7_signed 123 = .ok (.invokevirtual 78, 3) := dk_182 0 78 (dk_at dksX7_signed_5 3 rfl rfl)
theorem dX7_signed_126 : decode cX7_signed 126 = .ok (.aload_n 0, 1) := dk_42 (dk_at dksX7_signed_5 6 rfl rfl)
theorem dX7_signed_127 : decode cX7_signed 127 = .ok (.iload_n 2, 1) := dk_28 (dk_at dksX7_signed_5 7 rfl rfl)
theorem dX7_signed_128 : decode cX7_signed 128 = .ok (.bipush 17, 2) := dk_16 17 (dk_at dksX7_signed_5 8 rfl rfl)
theorem dX7_signed_130 : decode cX7_signed 130 = .ok (.bipush 20, 2) := dk_16 20 (dk_at dksX7_signed_5 10 rfl rfl)
theorem dX7_signed_132 : decode cX7_signed 132 = .ok (.invokevirtual 110, 3) := dk_182 0 110 (dk_at dksX7_signed_5 12 rfl rfl)
theorem dX7_signed_135 : decode cX7_signed 135 = .ok (.return_, 1) := dk_177 (dk_at dksX7_signed_5 15 rfl rfl)
abbrev cX7_put : ByteArray := prog_8_method_4_code
def yX7_put : MethodName := ⟨RX7, "put", "(Ljava/lang/String;)V"⟩
def dkwX7_put_0 : List UInt8 := [42, 43, 3, 182, 0, 45, 182, 0, 51, 42, 180, 0, 24, 43, 182, 0, 54, 177]
abbrev dktX7_put_0 : List UInt8 := dkwX7_put_0 ++ []
theorem dksX7_put_0 : cX7_put.data.toList.drop 0 = dktX7_put_0 := by decide +kernel
theorem dX7_put_0 : decode cX7_put 0 = .ok (.aload_n 0, 1) := dk_42 (dk_at dksX7_put_0 0 rfl rfl)
theorem dX7_put_1 : decode cX7_put 1 = .ok (.aload_n 1, 1) := dk_43 (dk_at dksX7_put_0 1 rfl rfl)
theorem dX7_put_2 : decode cX7_put 2 = .ok (.iconst 0, 1) := dk_3 (dk_at dksX7_put_0 2 rfl rfl)
theorem dX7_put_3 : decode cX7_put 3 = .ok (.invokevirtual 45, 3) := dk_182 0 45 (dk_at dksX7_put_0 3 rfl rfl)
theorem dX7_put_6 : decode cX7_put 6 = .ok (.invokevirtual 51, 3) := dk_182 0 51 (dk_at dksX7_put_0 6 rfl rfl)
theorem dX7_put_9 : decode cX7_put 9 = .ok (.aload_n 0, 1) := dk_42 (dk_at dksX7_put_0 9 rfl rfl)
theorem dX7_put_10 : decode cX7_put 10 = .ok (.getfield 24, 3) := dk_180 0 24 (dk_at dksX7_put_0 10 rfl rfl)
theorem dX7_put_13 : decode cX7_put 13 = .ok (.aload_n 1, 1) := dk_43 (dk_at dksX7_put_0 13 rfl rfl)
theorem dX7_put_14 : decode cX7_put 14 = .ok (.invokevirtual 54, 3) := dk_182 0 54 (dk_at dksX7_put_0 14 rfl rfl)
theorem dX7_put_17 : decode cX7_put 17 = .ok (.return_, 1) := dk_177 (dk_at dksX7_put_0 17 rfl rfl)
abbrev cX7_apart : ByteArray := prog_8_method_3_code
def yX7_apart : MethodName := ⟨RX7, "apart", "(I)V"⟩
def dkwX7_apart_2 : List UInt8 := [182, 0, 41, 177]
abbrev dktX7_apart_2 : List UInt8 := dkwX7_apart_2 ++ []
def dkwX7_apart_1 : List UInt8 := [182, 0, 34, 184, 0, 38, 153, 0, 19, 27, 184, 0, 38, 153, 0, 12, 42, 180, 0, 24, 16, 32]
abbrev dktX7_apart_1 : List UInt8 := dkwX7_apart_1 ++ dktX7_apart_2
def dkwX7_apart_0 : List UInt8 := [42, 180, 0, 24, 180, 0, 28, 158, 0, 41, 42, 180, 0, 24, 42, 180, 0, 24, 180, 0, 28, 4, 100]
abbrev dktX7_apart_0 : List UInt8 := dkwX7_apart_0 ++ dktX7_apart_1
theorem dksX7_apart_0 : cX7_apart.data.toList.drop 0 = dktX7_apart_0 := by decide +kernel
theorem dksX7_apart_1 : cX7_apart.data.toList.drop 23 = dktX7_apart_1 := dk_seg dksX7_apart_0 23 rfl rfl
theorem dksX7_apart_2 : cX7_apart.data.toList.drop 45 = dktX7_apart_2 := dk_seg dksX7_apart_1 22 rfl rfl
theorem dX7_apart_0 : decode cX7_apart 0 = .ok (.aload_n 0, 1) := dk_42 (dk_at dksX7_apart_0 0 rfl rfl)
theorem dX7_apart_1 : decode cX7_apart 1 = .ok (.getfield 24, 3) := dk_180 0 24 (dk_at dksX7_apart_0 1 rfl rfl)
theorem dX7_apart_4 : decode cX7_apart 4 = .ok (.getfield 28, 3) := dk_180 0 28 (dk_at dksX7_apart_0 4 rfl rfl)
theorem dX7_apart_7 : decode cX7_apart 7 = .ok (.ifCond .le 41, 3) := dk_158 0 41 (dk_at dksX7_apart_0 7 rfl rfl)
theorem dX7_apart_10 : decode cX7_apart 10 = .ok (.aload_n 0, 1) := dk_42 (dk_at dksX7_apart_0 10 rfl rfl)
theorem dX7_apart_11 : decode cX7_apart 11 = .ok (.getfield 24, 3) := dk_180 0 24 (dk_at dksX7_apart_0 11 rfl rfl)
theorem dX7_apart_14 : decode cX7_apart 14 = .ok (.aload_n 0, 1) := dk_42 (dk_at dksX7_apart_0 14 rfl rfl)
theorem dX7_apart_15 : decode cX7_apart 15 = .ok (.getfield 24, 3) := dk_180 0 24 (dk_at dksX7_apart_0 15 rfl rfl)
theorem dX7_apart_18 : decode cX7_apart 18 = .ok (.getfield 28, 3) := dk_180 0 28 (dk_at dksX7_apart_0 18 rfl rfl)
theorem dX7_apart_21 : decode cX7_apart 21 = .ok (.iconst 1, 1) := dk_4 (dk_at dksX7_apart_0 21 rfl rfl)
theorem dX7_apart_22 : decode cX7_apart 22 = .ok (.isub, 1) := dk_100 (dk_at dksX7_apart_0 22 rfl rfl)
theorem dX7_apart_23 : decode cX7_apart 23 = .ok (.invokevirtual 34, 3) := dk_182 0 34 (dk_at dksX7_apart_1 0 rfl rfl)
theorem dX7_apart_26 : decode cX7_apart 26 = .ok (.invokestatic 38, 3) := dk_184 0 38 (dk_at dksX7_apart_1 3 rfl rfl)
theorem dX7_apart_29 : decode cX7_apart 29 = .ok (.ifCond .eq 19, 3) := dk_153 0 19 (dk_at dksX7_apart_1 6 rfl rfl)
theorem dX7_apart_32 : decode cX7_apart 32 = .ok (.iload_n 1, 1) := dk_27 (dk_at dksX7_apart_1 9 rfl rfl)
theorem dX7_apart_33 : decode cX7_apart 33 = .ok (.invokestatic 38, 3) := dk_184 0 38 (dk_at dksX7_apart_1 10 rfl rfl)
theorem dX7_apart_36 : decode cX7_apart 36 = .ok (.ifCond .eq 12, 3) := dk_153 0 12 (dk_at dksX7_apart_1 13 rfl rfl)
theorem dX7_apart_39 : decode cX7_apart 39 = .ok (.aload_n 0, 1) := dk_42 (dk_at dksX7_apart_1 16 rfl rfl)
theorem dX7_apart_40 : decode cX7_apart 40 = .ok (.getfield 24, 3) := dk_180 0 24 (dk_at dksX7_apart_1 17 rfl rfl)
theorem dX7_apart_43 : decode cX7_apart 43 = .ok (.bipush 32, 2) := dk_16 32 (dk_at dksX7_apart_1 20 rfl rfl)
theorem dX7_apart_45 : decode cX7_apart 45 = .ok (.invokevirtual 41, 3) := dk_182 0 41 (dk_at dksX7_apart_2 0 rfl rfl)
theorem dX7_apart_48 : decode cX7_apart 48 = .ok (.return_, 1) := dk_177 (dk_at dksX7_apart_2 3 rfl rfl)
abbrev cX7_isWord : ByteArray := prog_8_method_2_code
def yX7_isWord : MethodName := ⟨RX7, "isWord", "(I)Z"⟩
def dkwX7_isWord_0 : List UInt8 := [26, 184, 0, 15, 154, 0, 10, 26, 184, 0, 21, 153, 0, 7, 4, 167, 0, 4, 3, 172]
abbrev dktX7_isWord_0 : List UInt8 := dkwX7_isWord_0 ++ []
theorem dksX7_isWord_0 : cX7_isWord.data.toList.drop 0 = dktX7_isWord_0 := by decide +kernel
theorem dX7_isWord_0 : decode cX7_isWord 0 = .ok (.iload_n 0, 1) := dk_26 (dk_at dksX7_isWord_0 0 rfl rfl)
theorem dX7_isWord_1 : decode cX7_isWord 1 = .ok (.invokestatic 15, 3) := dk_184 0 15 (dk_at dksX7_isWord_0 1 rfl rfl)
theorem dX7_isWord_4 : decode cX7_isWord 4 = .ok (.ifCond .ne 10, 3) := dk_154 0 10 (dk_at dksX7_isWord_0 4 rfl rfl)
theorem dX7_isWord_7 : decode cX7_isWord 7 = .ok (.iload_n 0, 1) := dk_26 (dk_at dksX7_isWord_0 7 rfl rfl)
theorem dX7_isWord_8 : decode cX7_isWord 8 = .ok (.invokestatic 21, 3) := dk_184 0 21 (dk_at dksX7_isWord_0 8 rfl rfl)
theorem dX7_isWord_11 : decode cX7_isWord 11 = .ok (.ifCond .eq 7, 3) := dk_153 0 7 (dk_at dksX7_isWord_0 11 rfl rfl)
theorem dX7_isWord_14 : decode cX7_isWord 14 = .ok (.iconst 1, 1) := dk_4 (dk_at dksX7_isWord_0 14 rfl rfl)
theorem dX7_isWord_15 : decode cX7_isWord 15 = .ok (.goto 4, 3) := dk_167 0 4 (dk_at dksX7_isWord_0 15 rfl rfl)
theorem dX7_isWord_18 : decode cX7_isWord 18 = .ok (.iconst 0, 1) := dk_3 (dk_at dksX7_isWord_0 18 rfl rfl)
theorem dX7_isWord_19 : decode cX7_isWord 19 = .ok (.ireturn, 1) := dk_172 (dk_at dksX7_isWord_0 19 rfl rfl)
abbrev cX7_part : ByteArray := prog_8_method_9_code
def yX7_part : MethodName := ⟨RX7, "part", "(III)V"⟩
def dkwX7_part_3 : List UInt8 := [21, 5, 153, 0, 19, 42, 21, 6, 153, 0, 8, 18, 104, 167, 0, 5, 18, 106, 182, 0, 78, 177]
abbrev dktX7_part_3 : List UInt8 := dkwX7_part_3 ++ []
def dkwX7_part_2 : List UInt8 := [153, 0, 19, 42, 21, 6, 153, 0, 8, 18, 100, 167, 0, 5, 18, 102, 182, 0, 78, 42, 27, 182, 0, 90]
abbrev dktX7_part_2 : List UInt8 := dkwX7_part_2 ++ dktX7_part_3
def dkwX7_part_1 : List UInt8 := [167, 0, 4, 3, 54, 5, 21, 4, 16, 24, 161, 0, 7, 4, 167, 0, 4, 3, 54, 6, 21, 5]
abbrev dktX7_part_1 : List UInt8 := dkwX7_part_1 ++ dktX7_part_2
def dkwX7_part_0 : List UInt8 := [42, 180, 0, 57, 180, 0, 96, 27, 51, 54, 4, 21, 4, 28, 159, 0, 9, 21, 4, 29, 160, 0, 7, 4]
abbrev dktX7_part_0 : List UInt8 := dkwX7_part_0 ++ dktX7_part_1
theorem dksX7_part_0 : cX7_part.data.toList.drop 0 = dktX7_part_0 := by decide +kernel
theorem dksX7_part_1 : cX7_part.data.toList.drop 24 = dktX7_part_1 := dk_seg dksX7_part_0 24 rfl rfl
theorem dksX7_part_2 : cX7_part.data.toList.drop 46 = dktX7_part_2 := dk_seg dksX7_part_1 22 rfl rfl
theorem dksX7_part_3 : cX7_part.data.toList.drop 70 = dktX7_part_3 := dk_seg dksX7_part_2 24 rfl rfl
theorem dX7_part_0 : decode cX7_part 0 = .ok (.aload_n 0, 1) := dk_42 (dk_at dksX7_part_0 0 rfl rfl)
theorem dX7_part_1 : decode cX7_part 1 = .ok (.getfield 57, 3) := dk_180 0 57 (dk_at dksX7_part_0 1 rfl rfl)
theorem dX7_part_4 : decode cX7_part 4 = .ok (.getfield 96, 3) := dk_180 0 96 (dk_at dksX7_part_0 4 rfl rfl)
theorem dX7_part_7 : decode cX7_part 7 = .ok (.iload_n 1, 1) := dk_27 (dk_at dksX7_part_0 7 rfl rfl)
theorem dX7_part_8 : decode cX7_part 8 = .ok (.baload, 1) := dk_51 (dk_at dksX7_part_0 8 rfl rfl)
theorem dX7_part_9 : decode cX7_part 9 = .ok (.istore 4, 2) := dk_54 4 (dk_at dksX7_part_0 9 rfl rfl)
theorem dX7_part_11 : decode cX7_part 11 = .ok (.iload 4, 2) := dk_21 4 (dk_at dksX7_part_0 11 rfl rfl)
theorem dX7_part_13 : decode cX7_part 13 = .ok (.iload_n 2, 1) := dk_28 (dk_at dksX7_part_0 13 rfl rfl)
theorem dX7_part_14 : decode cX7_part 14 = .ok (.if_icmp .eq 9, 3) := dk_159 0 9 (dk_at dksX7_part_0 14 rfl rfl)
theorem dX7_part_17 : decode cX7_part 17 = .ok (.iload 4, 2) := dk_21 4 (dk_at dksX7_part_0 17 rfl rfl)
theorem dX7_part_19 : decode cX7_part 19 = .ok (.iload_n 3, 1) := dk_29 (dk_at dksX7_part_0 19 rfl rfl)
theorem dX7_part_20 : decode cX7_part 20 = .ok (.if_icmp .ne 7, 3) := dk_160 0 7 (dk_at dksX7_part_0 20 rfl rfl)
theorem dX7_part_23 : decode cX7_part 23 = .ok (.iconst 1, 1) := dk_4 (dk_at dksX7_part_0 23 rfl rfl)
theorem dX7_part_24 : decode cX7_part 24 = .ok (.goto 4, 3) := dk_167 0 4 (dk_at dksX7_part_1 0 rfl rfl)
theorem dX7_part_27 : decode cX7_part 27 = .ok (.iconst 0, 1) := dk_3 (dk_at dksX7_part_1 3 rfl rfl)
theorem dX7_part_28 : decode cX7_part 28 = .ok (.istore 5, 2) := dk_54 5 (dk_at dksX7_part_1 4 rfl rfl)
theorem dX7_part_30 : decode cX7_part 30 = .ok (.iload 4, 2) := dk_21 4 (dk_at dksX7_part_1 6 rfl rfl)
theorem dX7_part_32 : decode cX7_part 32 = .ok (.bipush 24, 2) := dk_16 24 (dk_at dksX7_part_1 8 rfl rfl)
theorem dX7_part_34 : decode cX7_part 34 = .ok (.if_icmp .lt 7, 3) := dk_161 0 7 (dk_at dksX7_part_1 10 rfl rfl)
theorem dX7_part_37 : decode cX7_part 37 = .ok (.iconst 1, 1) := dk_4 (dk_at dksX7_part_1 13 rfl rfl)
theorem dX7_part_38 : decode cX7_part 38 = .ok (.goto 4, 3) := dk_167 0 4 (dk_at dksX7_part_1 14 rfl rfl)
theorem dX7_part_41 : decode cX7_part 41 = .ok (.iconst 0, 1) := dk_3 (dk_at dksX7_part_1 17 rfl rfl)
theorem dX7_part_42 : decode cX7_part 42 = .ok (.istore 6, 2) := dk_54 6 (dk_at dksX7_part_1 18 rfl rfl)
theorem dX7_part_44 : decode cX7_part 44 = .ok (.iload 5, 2) := dk_21 5 (dk_at dksX7_part_1 20 rfl rfl)
theorem dX7_part_46 : decode cX7_part 46 = .ok (.ifCond .eq 19, 3) := dk_153 0 19 (dk_at dksX7_part_2 0 rfl rfl)
theorem dX7_part_49 : decode cX7_part 49 = .ok (.aload_n 0, 1) := dk_42 (dk_at dksX7_part_2 3 rfl rfl)
theorem dX7_part_50 : decode cX7_part 50 = .ok (.iload 6, 2) := dk_21 6 (dk_at dksX7_part_2 4 rfl rfl)
theorem dX7_part_52 : decode cX7_part 52 = .ok (.ifCond .eq 8, 3) := dk_153 0 8 (dk_at dksX7_part_2 6 rfl rfl)
theorem dX7_part_55 : decode cX7_part 55 = .ok (.ldc 100, 2) := dk_18 100 (dk_at dksX7_part_2 9 rfl rfl)
theorem dX7_part_57 : decode cX7_part 57 = .ok (.goto 5, 3) := dk_167 0 5 (dk_at dksX7_part_2 11 rfl rfl)
theorem dX7_part_60 : decode cX7_part 60 = .ok (.ldc 102, 2) := dk_18 102 (dk_at dksX7_part_2 14 rfl rfl)
theorem dX7_part_62 : decode cX7_part 62 = .ok (.invokevirtual 78, 3) := dk_182 0 78 (dk_at dksX7_part_2 16 rfl rfl)
theorem dX7_part_65 : decode cX7_part 65 = .ok (.aload_n 0, 1) := dk_42 (dk_at dksX7_part_2 19 rfl rfl)
theorem dX7_part_66 : decode cX7_part 66 = .ok (.iload_n 1, 1) := dk_27 (dk_at dksX7_part_2 20 rfl rfl)
theorem dX7_part_67 : decode cX7_part 67 = .ok (.invokevirtual 90, 3) := dk_182 0 90 (dk_at dksX7_part_2 21 rfl rfl)
theorem dX7_part_70 : decode cX7_part 70 = .ok (.iload 5, 2) := dk_21 5 (dk_at dksX7_part_3 0 rfl rfl)
theorem dX7_part_72 : decode cX7_part 72 = .ok (.ifCond .eq 19, 3) := dk_153 0 19 (dk_at dksX7_part_3 2 rfl rfl)
theorem dX7_part_75 : decode cX7_part 75 = .ok (.aload_n 0, 1) := dk_42 (dk_at dksX7_part_3 5 rfl rfl)
theorem dX7_part_76 : decode cX7_part 76 = .ok (.iload 6, 2) := dk_21 6 (dk_at dksX7_part_3 6 rfl rfl)
theorem dX7_part_78 : decode cX7_part 78 = .ok (.ifCond .eq 8, 3) := dk_153 0 8 (dk_at dksX7_part_3 8 rfl rfl)
theorem dX7_part_81 : decode cX7_part 81 = .ok (.ldc 104, 2) := dk_18 104 (dk_at dksX7_part_3 11 rfl rfl)
theorem dX7_part_83 : decode cX7_part 83 = .ok (.goto 5, 3) := dk_167 0 5 (dk_at dksX7_part_3 13 rfl rfl)
theorem dX7_part_86 : decode cX7_part 86 = .ok (.ldc 106, 2) := dk_18 106 (dk_at dksX7_part_3 16 rfl rfl)
theorem dX7_part_88 : decode cX7_part 88 = .ok (.invokevirtual 78, 3) := dk_182 0 78 (dk_at dksX7_part_3 18 rfl rfl)
theorem dX7_part_91 : decode cX7_part 91 = .ok (.return_, 1) := dk_177 (dk_at dksX7_part_3 21 rfl rfl)
abbrev cX7_worth : ByteArray := prog_8_method_12_code
def yX7_worth : MethodName := ⟨RX7, "worth", "(I)V"⟩
def dkwX7_worth_12 : List UInt8 := [167, 0, 8, 42, 27, 182, 0, 158, 177]
abbrev dktX7_worth_12 : List UInt8 := dkwX7_worth_12 ++ []
def dkwX7_worth_11 : List UInt8 := [182, 0, 93, 61, 167, 255, 200, 42, 18, 156, 182, 0, 78, 42, 28, 16, 24, 16, 25, 182, 0, 110]
abbrev dktX7_worth_11 : List UInt8 := dkwX7_worth_11 ++ dktX7_worth_12
def dkwX7_worth_10 : List UInt8 := [18, 154, 182, 0, 78, 42, 28, 16, 24, 42, 180, 0, 57, 180, 0, 96, 27, 51, 182, 0, 110, 42, 28]
abbrev dktX7_worth_10 : List UInt8 := dkwX7_worth_10 ++ dktX7_worth_11
def dkwX7_worth_9 : List UInt8 := [162, 0, 76, 42, 42, 180, 0, 57, 180, 0, 96, 27, 51, 16, 24, 160, 0, 8, 18, 152, 167, 0, 5]
abbrev dktX7_worth_9 : List UInt8 := dkwX7_worth_9 ++ dktX7_worth_10
def dkwX7_worth_8 : List UInt8 := [180, 0, 57, 180, 0, 96, 27, 51, 182, 0, 110, 42, 28, 182, 0, 93, 61, 28, 42, 27, 182, 0, 93]
abbrev dktX7_worth_8 : List UInt8 := dkwX7_worth_8 ++ dktX7_worth_9
def dkwX7_worth_7 : List UInt8 := [162, 0, 121, 42, 28, 182, 0, 149, 42, 28, 182, 0, 93, 61, 167, 255, 236, 42, 28, 16, 24, 42]
abbrev dktX7_worth_7 : List UInt8 := dkwX7_worth_7 ++ dktX7_worth_8
def dkwX7_worth_6 : List UInt8 := [180, 0, 57, 180, 0, 96, 27, 51, 182, 0, 110, 42, 28, 182, 0, 93, 61, 28, 42, 27, 182, 0, 93]
abbrev dktX7_worth_6 : List UInt8 := dkwX7_worth_6 ++ dktX7_worth_7
def dkwX7_worth_5 : List UInt8 := [182, 0, 93, 18, 143, 182, 0, 145, 42, 18, 106, 182, 0, 78, 167, 0, 152, 42, 28, 16, 17, 42]
abbrev dktX7_worth_5 : List UInt8 := dkwX7_worth_5 ++ dktX7_worth_6
def dkwX7_worth_4 : List UInt8 := [42, 180, 0, 57, 180, 0, 87, 27, 46, 4, 164, 0, 179, 42, 18, 102, 182, 0, 78, 42, 28, 42, 27]
abbrev dktX7_worth_4 : List UInt8 := dkwX7_worth_4 ++ dktX7_worth_5
def dkwX7_worth_3 : List UInt8 := [42, 18, 76, 182, 0, 78, 42, 28, 16, 17, 16, 20, 182, 0, 110, 167, 0, 198, 42, 18, 141, 182, 0, 78]
abbrev dktX7_worth_3 : List UInt8 := dkwX7_worth_3 ++ dktX7_worth_4
def dkwX7_worth_2 : List UInt8 := [42, 27, 182, 0, 132, 167, 0, 232, 42, 27, 182, 0, 135, 167, 0, 224, 42, 28, 182, 0, 138, 167, 0, 216]
abbrev dktX7_worth_2 : List UInt8 := dkwX7_worth_2 ++ dktX7_worth_3
def dkwX7_worth_1 : List UInt8 := [170, 0, 0, 0, 0, 1, 51, 0, 0, 0, 12, 0, 0, 0, 26, 0, 0, 0, 75, 0, 0, 0, 83, 0, 0, 0, 91, 0, 0, 0, 99, 0, 0, 0, 117, 0, 0, 0, 163, 0, 0, 1, 51, 0, 0, 1, 51, 0, 0, 0, 163, 0, 0, 1, 51, 0, 0, 1, 51, 0, 0, 1, 51, 0, 0, 0, 208, 0, 0, 0, 208, 0, 0, 1, 33]
abbrev dktX7_worth_1 : List UInt8 := dkwX7_worth_1 ++ dktX7_worth_2
def dkwX7_worth_0 : List UInt8 := [27, 4, 96, 61, 42, 180, 0, 57, 180, 0, 96, 27, 51]
abbrev dktX7_worth_0 : List UInt8 := dkwX7_worth_0 ++ dktX7_worth_1
theorem dksX7_worth_0 : cX7_worth.data.toList.drop 0 = dktX7_worth_0 := by decide +kernel
theorem dksX7_worth_1 : cX7_worth.data.toList.drop 13 = dktX7_worth_1 := dk_seg dksX7_worth_0 13 rfl rfl
theorem dksX7_worth_2 : cX7_worth.data.toList.drop 88 = dktX7_worth_2 := dk_seg dksX7_worth_1 75 rfl rfl
theorem dksX7_worth_3 : cX7_worth.data.toList.drop 112 = dktX7_worth_3 := dk_seg dksX7_worth_2 24 rfl rfl
theorem dksX7_worth_4 : cX7_worth.data.toList.drop 136 = dktX7_worth_4 := dk_seg dksX7_worth_3 24 rfl rfl
theorem dksX7_worth_5 : cX7_worth.data.toList.drop 159 = dktX7_worth_5 := dk_seg dksX7_worth_4 23 rfl rfl
theorem dksX7_worth_6 : cX7_worth.data.toList.drop 181 = dktX7_worth_6 := dk_seg dksX7_worth_5 22 rfl rfl
theorem dksX7_worth_7 : cX7_worth.data.toList.drop 204 = dktX7_worth_7 := dk_seg dksX7_worth_6 23 rfl rfl
theorem dksX7_worth_8 : cX7_worth.data.toList.drop 226 = dktX7_worth_8 := dk_seg dksX7_worth_7 22 rfl rfl
theorem dksX7_worth_9 : cX7_worth.data.toList.drop 249 = dktX7_worth_9 := dk_seg dksX7_worth_8 23 rfl rfl
theorem dksX7_worth_10 : cX7_worth.data.toList.drop 272 = dktX7_worth_10 := dk_seg dksX7_worth_9 23 rfl rfl
theorem dksX7_worth_11 : cX7_worth.data.toList.drop 295 = dktX7_worth_11 := dk_seg dksX7_worth_10 23 rfl rfl
theorem dksX7_worth_12 : cX7_worth.data.toList.drop 317 = dktX7_worth_12 := dk_seg dksX7_worth_11 22 rfl rfl
theorem dX7_worth_0 : decode cX7_worth 0 = .ok (.iload_n 1, 1) := dk_27 (dk_at dksX7_worth_0 0 rfl rfl)
theorem dX7_worth_1 : decode cX7_worth 1 = .ok (.iconst 1, 1) := dk_4 (dk_at dksX7_worth_0 1 rfl rfl)
theorem dX7_worth_2 : decode cX7_worth 2 = .ok (.iadd, 1) := dk_96 (dk_at dksX7_worth_0 2 rfl rfl)
theorem dX7_worth_3 : decode cX7_worth 3 = .ok (.istore_n 2, 1) := dk_61 (dk_at dksX7_worth_0 3 rfl rfl)
theorem dX7_worth_4 : decode cX7_worth 4 = .ok (.aload_n 0, 1) := dk_42 (dk_at dksX7_worth_0 4 rfl rfl)
theorem dX7_worth_5 : decode cX7_worth 5 = .ok (.getfield 57, 3) := dk_180 0 57 (dk_at dksX7_worth_0 5 rfl rfl)
theorem dX7_worth_8 : decode cX7_worth 8 = .ok (.getfield 96, 3) := dk_180 0 96 (dk_at dksX7_worth_0 8 rfl rfl)
theorem dX7_worth_11 : decode cX7_worth 11 = .ok (.iload_n 1, 1) := dk_27 (dk_at dksX7_worth_0 11 rfl rfl)
theorem dX7_worth_12 : decode cX7_worth 12 = .ok (.baload, 1) := dk_51 (dk_at dksX7_worth_0 12 rfl rfl)
theorem dX7_worth_13 : decode cX7_worth 13 = .ok (.tableswitch 307 12 26 #[75, 83, 91, 99, 117, 163, 307, 307, 163, 307, 307, 307, 208, 208, 289], 75) := by decide +kernel
theorem dX7_worth_88 : decode cX7_worth 88 = .ok (.aload_n 0, 1) := dk_42 (dk_at dksX7_worth_2 0 rfl rfl)
theorem dX7_worth_89 : decode cX7_worth 89 = .ok (.iload_n 1, 1) := dk_27 (dk_at dksX7_worth_2 1 rfl rfl)
theorem dX7_worth_90 : decode cX7_worth 90 = .ok (.invokevirtual 132, 3) := dk_182 0 132 (dk_at dksX7_worth_2 2 rfl rfl)
theorem dX7_worth_93 : decode cX7_worth 93 = .ok (.goto 232, 3) := dk_167 0 232 (dk_at dksX7_worth_2 5 rfl rfl)
theorem dX7_worth_96 : decode cX7_worth 96 = .ok (.aload_n 0, 1) := dk_42 (dk_at dksX7_worth_2 8 rfl rfl)
theorem dX7_worth_97 : decode cX7_worth 97 = .ok (.iload_n 1, 1) := dk_27 (dk_at dksX7_worth_2 9 rfl rfl)
theorem dX7_worth_98 : decode cX7_worth 98 = .ok (.invokevirtual 135, 3) := dk_182 0 135 (dk_at dksX7_worth_2 10 rfl rfl)
theorem dX7_worth_101 : decode cX7_worth 101 = .ok (.goto 224, 3) := dk_167 0 224 (dk_at dksX7_worth_2 13 rfl rfl)
theorem dX7_worth_104 : decode cX7_worth 104 = .ok (.aload_n 0, 1) := dk_42 (dk_at dksX7_worth_2 16 rfl rfl)
theorem dX7_worth_105 : decode cX7_worth 105 = .ok (.iload_n 2, 1) := dk_28 (dk_at dksX7_worth_2 17 rfl rfl)
theorem dX7_worth_106 : decode cX7_worth 106 = .ok (.invokevirtual 138, 3) := dk_182 0 138 (dk_at dksX7_worth_2 18 rfl rfl)
theorem dX7_worth_109 : decode cX7_worth 109 = .ok (.goto 216, 3) := dk_167 0 216 (dk_at dksX7_worth_2 21 rfl rfl)
theorem dX7_worth_112 : decode cX7_worth 112 = .ok (.aload_n 0, 1) := dk_42 (dk_at dksX7_worth_3 0 rfl rfl)
theorem dX7_worth_113 : decode cX7_worth 113 = .ok (.ldc 76, 2) := dk_18 76 (dk_at dksX7_worth_3 1 rfl rfl)
theorem dX7_worth_115 : decode cX7_worth 115 = .ok (.invokevirtual 78, 3) := dk_182 0 78 (dk_at dksX7_worth_3 3 rfl rfl)
theorem dX7_worth_118 : decode cX7_worth 118 = .ok (.aload_n 0, 1) := dk_42 (dk_at dksX7_worth_3 6 rfl rfl)
theorem dX7_worth_119 : decode cX7_worth 119 = .ok (.iload_n 2, 1) := dk_28 (dk_at dksX7_worth_3 7 rfl rfl)
theorem dX7_worth_120 : decode cX7_worth 120 = .ok (.bipush 17, 2) := dk_16 17 (dk_at dksX7_worth_3 8 rfl rfl)
theorem dX7_worth_122 : decode cX7_worth 122 = .ok (.bipush 20, 2) := dk_16 20 (dk_at dksX7_worth_3 10 rfl rfl)
theorem dX7_worth_124 : decode cX7_worth 124 = .ok (.invokevirtual 110, 3) := dk_182 0 110 (dk_at dksX7_worth_3 12 rfl rfl)
theorem dX7_worth_127 : decode cX7_worth 127 = .ok (.goto 198, 3) := dk_167 0 198 (dk_at dksX7_worth_3 15 rfl rfl)
theorem dX7_worth_130 : decode cX7_worth 130 = .ok (.aload_n 0, 1) := dk_42 (dk_at dksX7_worth_3 18 rfl rfl)
theorem dX7_worth_131 : decode cX7_worth 131 = .ok (.ldc 141, 2) := dk_18 141 (dk_at dksX7_worth_3 19 rfl rfl)
theorem dX7_worth_133 : decode cX7_worth 133 = .ok (.invokevirtual 78, 3) := dk_182 0 78 (dk_at dksX7_worth_3 21 rfl rfl)
theorem dX7_worth_136 : decode cX7_worth 136 = .ok (.aload_n 0, 1) := dk_42 (dk_at dksX7_worth_4 0 rfl rfl)
theorem dX7_worth_137 : decode cX7_worth 137 = .ok (.getfield 57, 3) := dk_180 0 57 (dk_at dksX7_worth_4 1 rfl rfl)
theorem dX7_worth_140 : decode cX7_worth 140 = .ok (.getfield 87, 3) := dk_180 0 87 (dk_at dksX7_worth_4 4 rfl rfl)
theorem dX7_worth_143 : decode cX7_worth 143 = .ok (.iload_n 1, 1) := dk_27 (dk_at dksX7_worth_4 7 rfl rfl)
theorem dX7_worth_144 : decode cX7_worth 144 = .ok (.iaload, 1) := dk_46 (dk_at dksX7_worth_4 8 rfl rfl)
theorem dX7_worth_145 : decode cX7_worth 145 = .ok (.iconst 1, 1) := dk_4 (dk_at dksX7_worth_4 9 rfl rfl)
theorem dX7_worth_146 : decode cX7_worth 146 = .ok (.if_icmp .le 179, 3) := dk_164 0 179 (dk_at dksX7_worth_4 10 rfl rfl)
theorem dX7_worth_149 : decode cX7_worth 149 = .ok (.aload_n 0, 1) := dk_42 (dk_at dksX7_worth_4 13 rfl rfl)
theorem dX7_worth_150 : decode cX7_worth 150 = .ok (.ldc 102, 2) := dk_18 102 (dk_at dksX7_worth_4 14 rfl rfl)
theorem dX7_worth_152 : decode cX7_worth 152 = .ok (.invokevirtual 78, 3) := dk_182 0 78 (dk_at dksX7_worth_4 16 rfl rfl)
theorem dX7_worth_155 : decode cX7_worth 155 = .ok (.aload_n 0, 1) := dk_42 (dk_at dksX7_worth_4 19 rfl rfl)
theorem dX7_worth_156 : decode cX7_worth 156 = .ok (.iload_n 2, 1) := dk_28 (dk_at dksX7_worth_4 20 rfl rfl)
theorem dX7_worth_157 : decode cX7_worth 157 = .ok (.aload_n 0, 1) := dk_42 (dk_at dksX7_worth_4 21 rfl rfl)
theorem dX7_worth_158 : decode cX7_worth 158 = .ok (.iload_n 1, 1) := dk_27 (dk_at dksX7_worth_4 22 rfl rfl)
theorem dX7_worth_159 : decode cX7_worth 159 = .ok (.invokevirtual 93, 3) := dk_182 0 93 (dk_at dksX7_worth_5 0 rfl rfl)
theorem dX7_worth_162 : decode cX7_worth 162 = .ok (.ldc 143, 2) := dk_18 143 (dk_at dksX7_worth_5 3 rfl rfl)
theorem dX7_worth_164 : decode cX7_worth 164 = .ok (.invokevirtual 145, 3) := dk_182 0 145 (dk_at dksX7_worth_5 5 rfl rfl)
theorem dX7_worth_167 : decode cX7_worth 167 = .ok (.aload_n 0, 1) := dk_42 (dk_at dksX7_worth_5 8 rfl rfl)
theorem dX7_worth_168 : decode cX7_worth 168 = .ok (.ldc 106, 2) := dk_18 106 (dk_at dksX7_worth_5 9 rfl rfl)
theorem dX7_worth_170 : decode cX7_worth 170 = .ok (.invokevirtual 78, 3) := dk_182 0 78 (dk_at dksX7_worth_5 11 rfl rfl)
theorem dX7_worth_173 : decode cX7_worth 173 = .ok (.goto 152, 3) := dk_167 0 152 (dk_at dksX7_worth_5 14 rfl rfl)
theorem dX7_worth_176 : decode cX7_worth 176 = .ok (.aload_n 0, 1) := dk_42 (dk_at dksX7_worth_5 17 rfl rfl)
theorem dX7_worth_177 : decode cX7_worth 177 = .ok (.iload_n 2, 1) := dk_28 (dk_at dksX7_worth_5 18 rfl rfl)
theorem dX7_worth_178 : decode cX7_worth 178 = .ok (.bipush 17, 2) := dk_16 17 (dk_at dksX7_worth_5 19 rfl rfl)
theorem dX7_worth_180 : decode cX7_worth 180 = .ok (.aload_n 0, 1) := dk_42 (dk_at dksX7_worth_5 21 rfl rfl)
theorem dX7_worth_181 : decode cX7_worth 181 = .ok (.getfield 57, 3) := dk_180 0 57 (dk_at dksX7_worth_6 0 rfl rfl)
theorem dX7_worth_184 : decode cX7_worth 184 = .ok (.getfield 96, 3) := dk_180 0 96 (dk_at dksX7_worth_6 3 rfl rfl)
theorem dX7_worth_187 : decode cX7_worth 187 = .ok (.iload_n 1, 1) := dk_27 (dk_at dksX7_worth_6 6 rfl rfl)
theorem dX7_worth_188 : decode cX7_worth 188 = .ok (.baload, 1) := dk_51 (dk_at dksX7_worth_6 7 rfl rfl)
theorem dX7_worth_189 : decode cX7_worth 189 = .ok (.invokevirtual 110, 3) := dk_182 0 110 (dk_at dksX7_worth_6 8 rfl rfl)
theorem dX7_worth_192 : decode cX7_worth 192 = .ok (.aload_n 0, 1) := dk_42 (dk_at dksX7_worth_6 11 rfl rfl)
theorem dX7_worth_193 : decode cX7_worth 193 = .ok (.iload_n 2, 1) := dk_28 (dk_at dksX7_worth_6 12 rfl rfl)
theorem dX7_worth_194 : decode cX7_worth 194 = .ok (.invokevirtual 93, 3) := dk_182 0 93 (dk_at dksX7_worth_6 13 rfl rfl)
theorem dX7_worth_197 : decode cX7_worth 197 = .ok (.istore_n 2, 1) := dk_61 (dk_at dksX7_worth_6 16 rfl rfl)
theorem dX7_worth_198 : decode cX7_worth 198 = .ok (.iload_n 2, 1) := dk_28 (dk_at dksX7_worth_6 17 rfl rfl)
theorem dX7_worth_199 : decode cX7_worth 199 = .ok (.aload_n 0, 1) := dk_42 (dk_at dksX7_worth_6 18 rfl rfl)
theorem dX7_worth_200 : decode cX7_worth 200 = .ok (.iload_n 1, 1) := dk_27 (dk_at dksX7_worth_6 19 rfl rfl)
theorem dX7_worth_201 : decode cX7_worth 201 = .ok (.invokevirtual 93, 3) := dk_182 0 93 (dk_at dksX7_worth_6 20 rfl rfl)
theorem dX7_worth_204 : decode cX7_worth 204 = .ok (.if_icmp .ge 121, 3) := dk_162 0 121 (dk_at dksX7_worth_7 0 rfl rfl)
theorem dX7_worth_207 : decode cX7_worth 207 = .ok (.aload_n 0, 1) := dk_42 (dk_at dksX7_worth_7 3 rfl rfl)
theorem dX7_worth_208 : decode cX7_worth 208 = .ok (.iload_n 2, 1) := dk_28 (dk_at dksX7_worth_7 4 rfl rfl)
theorem dX7_worth_209 : decode cX7_worth 209 = .ok (.invokevirtual 149, 3) := dk_182 0 149 (dk_at dksX7_worth_7 5 rfl rfl)
theorem dX7_worth_212 : decode cX7_worth 212 = .ok (.aload_n 0, 1) := dk_42 (dk_at dksX7_worth_7 8 rfl rfl)
theorem dX7_worth_213 : decode cX7_worth 213 = .ok (.iload_n 2, 1) := dk_28 (dk_at dksX7_worth_7 9 rfl rfl)
theorem dX7_worth_214 : decode cX7_worth 214 = .ok (.invokevirtual 93, 3) := dk_182 0 93 (dk_at dksX7_worth_7 10 rfl rfl)
theorem dX7_worth_217 : decode cX7_worth 217 = .ok (.istore_n 2, 1) := dk_61 (dk_at dksX7_worth_7 13 rfl rfl)
theorem dX7_worth_218 : decode cX7_worth 218 = .ok (.goto (-20), 3) := dk_167 255 236 (dk_at dksX7_worth_7 14 rfl rfl)
theorem dX7_worth_221 : decode cX7_worth 221 = .ok (.aload_n 0, 1) := dk_42 (dk_at dksX7_worth_7 17 rfl rfl)
theorem dX7_worth_222 : decode cX7_worth 222 = .ok (.iload_n 2, 1) := dk_28 (dk_at dksX7_worth_7 18 rfl rfl)
theorem dX7_worth_223 : decode cX7_worth 223 = .ok (.bipush 24, 2) := dk_16 24 (dk_at dksX7_worth_7 19 rfl rfl)
theorem dX7_worth_225 : decode cX7_worth 225 = .ok (.aload_n 0, 1) := dk_42 (dk_at dksX7_worth_7 21 rfl rfl)
theorem dX7_worth_226 : decode cX7_worth 226 = .ok (.getfield 57, 3) := dk_180 0 57 (dk_at dksX7_worth_8 0 rfl rfl)
theorem dX7_worth_229 : decode cX7_worth 229 = .ok (.getfield 96, 3) := dk_180 0 96 (dk_at dksX7_worth_8 3 rfl rfl)
theorem dX7_worth_232 : decode cX7_worth 232 = .ok (.iload_n 1, 1) := dk_27 (dk_at dksX7_worth_8 6 rfl rfl)
theorem dX7_worth_233 : decode cX7_worth 233 = .ok (.baload, 1) := dk_51 (dk_at dksX7_worth_8 7 rfl rfl)
theorem dX7_worth_234 : decode cX7_worth 234 = .ok (.invokevirtual 110, 3) := dk_182 0 110 (dk_at dksX7_worth_8 8 rfl rfl)
theorem dX7_worth_237 : decode cX7_worth 237 = .ok (.aload_n 0, 1) := dk_42 (dk_at dksX7_worth_8 11 rfl rfl)
theorem dX7_worth_238 : decode cX7_worth 238 = .ok (.iload_n 2, 1) := dk_28 (dk_at dksX7_worth_8 12 rfl rfl)
theorem dX7_worth_239 : decode cX7_worth 239 = .ok (.invokevirtual 93, 3) := dk_182 0 93 (dk_at dksX7_worth_8 13 rfl rfl)
theorem dX7_worth_242 : decode cX7_worth 242 = .ok (.istore_n 2, 1) := dk_61 (dk_at dksX7_worth_8 16 rfl rfl)
theorem dX7_worth_243 : decode cX7_worth 243 = .ok (.iload_n 2, 1) := dk_28 (dk_at dksX7_worth_8 17 rfl rfl)
theorem dX7_worth_244 : decode cX7_worth 244 = .ok (.aload_n 0, 1) := dk_42 (dk_at dksX7_worth_8 18 rfl rfl)
theorem dX7_worth_245 : decode cX7_worth 245 = .ok (.iload_n 1, 1) := dk_27 (dk_at dksX7_worth_8 19 rfl rfl)
theorem dX7_worth_246 : decode cX7_worth 246 = .ok (.invokevirtual 93, 3) := dk_182 0 93 (dk_at dksX7_worth_8 20 rfl rfl)
theorem dX7_worth_249 : decode cX7_worth 249 = .ok (.if_icmp .ge 76, 3) := dk_162 0 76 (dk_at dksX7_worth_9 0 rfl rfl)
theorem dX7_worth_252 : decode cX7_worth 252 = .ok (.aload_n 0, 1) := dk_42 (dk_at dksX7_worth_9 3 rfl rfl)
theorem dX7_worth_253 : decode cX7_worth 253 = .ok (.aload_n 0, 1) := dk_42 (dk_at dksX7_worth_9 4 rfl rfl)
theorem dX7_worth_254 : decode cX7_worth 254 = .ok (.getfield 57, 3) := dk_180 0 57 (dk_at dksX7_worth_9 5 rfl rfl)
theorem dX7_worth_257 : decode cX7_worth 257 = .ok (.getfield 96, 3) := dk_180 0 96 (dk_at dksX7_worth_9 8 rfl rfl)
theorem dX7_worth_260 : decode cX7_worth 260 = .ok (.iload_n 1, 1) := dk_27 (dk_at dksX7_worth_9 11 rfl rfl)
theorem dX7_worth_261 : decode cX7_worth 261 = .ok (.baload, 1) := dk_51 (dk_at dksX7_worth_9 12 rfl rfl)
theorem dX7_worth_262 : decode cX7_worth 262 = .ok (.bipush 24, 2) := dk_16 24 (dk_at dksX7_worth_9 13 rfl rfl)
theorem dX7_worth_264 : decode cX7_worth 264 = .ok (.if_icmp .ne 8, 3) := dk_160 0 8 (dk_at dksX7_worth_9 15 rfl rfl)
theorem dX7_worth_267 : decode cX7_worth 267 = .ok (.ldc 152, 2) := dk_18 152 (dk_at dksX7_worth_9 18 rfl rfl)
theorem dX7_worth_269 : decode cX7_worth 269 = .ok (.goto 5, 3) := dk_167 0 5 (dk_at dksX7_worth_9 20 rfl rfl)
theorem dX7_worth_272 : decode cX7_worth 272 = .ok (.ldc 154, 2) := dk_18 154 (dk_at dksX7_worth_10 0 rfl rfl)
theorem dX7_worth_274 : decode cX7_worth 274 = .ok (.invokevirtual 78, 3) := dk_182 0 78 (dk_at dksX7_worth_10 2 rfl rfl)
theorem dX7_worth_277 : decode cX7_worth 277 = .ok (.aload_n 0, 1) := dk_42 (dk_at dksX7_worth_10 5 rfl rfl)
theorem dX7_worth_278 : decode cX7_worth 278 = .ok (.iload_n 2, 1) := dk_28 (dk_at dksX7_worth_10 6 rfl rfl)
theorem dX7_worth_279 : decode cX7_worth 279 = .ok (.bipush 24, 2) := dk_16 24 (dk_at dksX7_worth_10 7 rfl rfl)
theorem dX7_worth_281 : decode cX7_worth 281 = .ok (.aload_n 0, 1) := dk_42 (dk_at dksX7_worth_10 9 rfl rfl)
theorem dX7_worth_282 : decode cX7_worth 282 = .ok (.getfield 57, 3) := dk_180 0 57 (dk_at dksX7_worth_10 10 rfl rfl)
theorem dX7_worth_285 : decode cX7_worth 285 = .ok (.getfield 96, 3) := dk_180 0 96 (dk_at dksX7_worth_10 13 rfl rfl)
theorem dX7_worth_288 : decode cX7_worth 288 = .ok (.iload_n 1, 1) := dk_27 (dk_at dksX7_worth_10 16 rfl rfl)
theorem dX7_worth_289 : decode cX7_worth 289 = .ok (.baload, 1) := dk_51 (dk_at dksX7_worth_10 17 rfl rfl)
theorem dX7_worth_290 : decode cX7_worth 290 = .ok (.invokevirtual 110, 3) := dk_182 0 110 (dk_at dksX7_worth_10 18 rfl rfl)
theorem dX7_worth_293 : decode cX7_worth 293 = .ok (.aload_n 0, 1) := dk_42 (dk_at dksX7_worth_10 21 rfl rfl)
theorem dX7_worth_294 : decode cX7_worth 294 = .ok (.iload_n 2, 1) := dk_28 (dk_at dksX7_worth_10 22 rfl rfl)
theorem dX7_worth_295 : decode cX7_worth 295 = .ok (.invokevirtual 93, 3) := dk_182 0 93 (dk_at dksX7_worth_11 0 rfl rfl)
theorem dX7_worth_298 : decode cX7_worth 298 = .ok (.istore_n 2, 1) := dk_61 (dk_at dksX7_worth_11 3 rfl rfl)
theorem dX7_worth_299 : decode cX7_worth 299 = .ok (.goto (-56), 3) := dk_167 255 200 (dk_at dksX7_worth_11 4 rfl rfl)
theorem dX7_worth_302 : decode cX7_worth 302 = .ok (.aload_n 0, 1) := dk_42 (dk_at dksX7_worth_11 7 rfl rfl)
theorem dX7_worth_303 : decode cX7_worth 303 = .ok (.ldc 156, 2) := dk_18 156 (dk_at dksX7_worth_11 8 rfl rfl)
theorem dX7_worth_305 : decode cX7_worth 305 = .ok (.invokevirtual 78, 3) := dk_182 0 78 (dk_at dksX7_worth_11 10 rfl rfl)
theorem dX7_worth_308 : decode cX7_worth 308 = .ok (.aload_n 0, 1) := dk_42 (dk_at dksX7_worth_11 13 rfl rfl)
theorem dX7_worth_309 : decode cX7_worth 309 = .ok (.iload_n 2, 1) := dk_28 (dk_at dksX7_worth_11 14 rfl rfl)
theorem dX7_worth_310 : decode cX7_worth 310 = .ok (.bipush 24, 2) := dk_16 24 (dk_at dksX7_worth_11 15 rfl rfl)
theorem dX7_worth_312 : decode cX7_worth 312 = .ok (.bipush 25, 2) := dk_16 25 (dk_at dksX7_worth_11 17 rfl rfl)
theorem dX7_worth_314 : decode cX7_worth 314 = .ok (.invokevirtual 110, 3) := dk_182 0 110 (dk_at dksX7_worth_11 19 rfl rfl)
theorem dX7_worth_317 : decode cX7_worth 317 = .ok (.goto 8, 3) := dk_167 0 8 (dk_at dksX7_worth_12 0 rfl rfl)
theorem dX7_worth_320 : decode cX7_worth 320 = .ok (.aload_n 0, 1) := dk_42 (dk_at dksX7_worth_12 3 rfl rfl)
theorem dX7_worth_321 : decode cX7_worth 321 = .ok (.iload_n 1, 1) := dk_27 (dk_at dksX7_worth_12 4 rfl rfl)
theorem dX7_worth_322 : decode cX7_worth 322 = .ok (.invokevirtual 158, 3) := dk_182 0 158 (dk_at dksX7_worth_12 5 rfl rfl)
theorem dX7_worth_325 : decode cX7_worth 325 = .ok (.return_, 1) := dk_177 (dk_at dksX7_worth_12 8 rfl rfl)
abbrev cX7_number : ByteArray := prog_8_method_6_code
def yX7_number : MethodName := ⟨RX7, "number", "(I)V"⟩
def dkwX7_number_3 : List UInt8 := [22, 4, 109, 20, 0, 83, 113, 97, 136, 182, 0, 41, 22, 4, 20, 0, 83, 109, 55, 4, 167, 255, 221, 177]
abbrev dktX7_number_3 : List UInt8 := dkwX7_number_3 ++ []
def dkwX7_number_2 : List UInt8 := [20, 0, 83, 105, 55, 4, 167, 255, 237, 22, 4, 9, 148, 158, 0, 34, 42, 180, 0, 24, 20, 0, 85, 32]
abbrev dktX7_number_2 : List UInt8 := dkwX7_number_2 ++ dktX7_number_3
def dkwX7_number_1 : List UInt8 := [117, 65, 42, 16, 48, 182, 0, 51, 10, 55, 4, 32, 22, 4, 109, 20, 0, 81, 148, 158, 0, 14, 22, 4]
abbrev dktX7_number_1 : List UInt8 := dkwX7_number_1 ++ dktX7_number_2
def dkwX7_number_0 : List UInt8 := [42, 180, 0, 57, 180, 0, 61, 27, 46, 133, 65, 32, 9, 148, 156, 0, 12, 42, 18, 76, 182, 0, 78, 32]
abbrev dktX7_number_0 : List UInt8 := dkwX7_number_0 ++ dktX7_number_1
theorem dksX7_number_0 : cX7_number.data.toList.drop 0 = dktX7_number_0 := by decide +kernel
theorem dksX7_number_1 : cX7_number.data.toList.drop 24 = dktX7_number_1 := dk_seg dksX7_number_0 24 rfl rfl
theorem dksX7_number_2 : cX7_number.data.toList.drop 48 = dktX7_number_2 := dk_seg dksX7_number_1 24 rfl rfl
theorem dksX7_number_3 : cX7_number.data.toList.drop 72 = dktX7_number_3 := dk_seg dksX7_number_2 24 rfl rfl
theorem dX7_number_0 : decode cX7_number 0 = .ok (.aload_n 0, 1) := dk_42 (dk_at dksX7_number_0 0 rfl rfl)
theorem dX7_number_1 : decode cX7_number 1 = .ok (.getfield 57, 3) := dk_180 0 57 (dk_at dksX7_number_0 1 rfl rfl)
theorem dX7_number_4 : decode cX7_number 4 = .ok (.getfield 61, 3) := dk_180 0 61 (dk_at dksX7_number_0 4 rfl rfl)
theorem dX7_number_7 : decode cX7_number 7 = .ok (.iload_n 1, 1) := dk_27 (dk_at dksX7_number_0 7 rfl rfl)
theorem dX7_number_8 : decode cX7_number 8 = .ok (.iaload, 1) := dk_46 (dk_at dksX7_number_0 8 rfl rfl)
theorem dX7_number_9 : decode cX7_number 9 = .ok (.i2l, 1) := dk_133 (dk_at dksX7_number_0 9 rfl rfl)
theorem dX7_number_10 : decode cX7_number 10 = .ok (.lstore_n 2, 1) := dk_65 (dk_at dksX7_number_0 10 rfl rfl)
theorem dX7_number_11 : decode cX7_number 11 = .ok (.lload_n 2, 1) := dk_32 (dk_at dksX7_number_0 11 rfl rfl)
theorem dX7_number_12 : decode cX7_number 12 = .ok (.lconst 0, 1) := dk_9 (dk_at dksX7_number_0 12 rfl rfl)
theorem dX7_number_13 : decode cX7_number 13 = .ok (.lcmp, 1) := dk_148 (dk_at dksX7_number_0 13 rfl rfl)
theorem dX7_number_14 : decode cX7_number 14 = .ok (.ifCond .ge 12, 3) := dk_156 0 12 (dk_at dksX7_number_0 14 rfl rfl)
theorem dX7_number_17 : decode cX7_number 17 = .ok (.aload_n 0, 1) := dk_42 (dk_at dksX7_number_0 17 rfl rfl)
theorem dX7_number_18 : decode cX7_number 18 = .ok (.ldc 76, 2) := dk_18 76 (dk_at dksX7_number_0 18 rfl rfl)
theorem dX7_number_20 : decode cX7_number 20 = .ok (.invokevirtual 78, 3) := dk_182 0 78 (dk_at dksX7_number_0 20 rfl rfl)
theorem dX7_number_23 : decode cX7_number 23 = .ok (.lload_n 2, 1) := dk_32 (dk_at dksX7_number_0 23 rfl rfl)
theorem dX7_number_24 : decode cX7_number 24 = .ok (.lneg, 1) := dk_117 (dk_at dksX7_number_1 0 rfl rfl)
theorem dX7_number_25 : decode cX7_number 25 = .ok (.lstore_n 2, 1) := dk_65 (dk_at dksX7_number_1 1 rfl rfl)
theorem dX7_number_26 : decode cX7_number 26 = .ok (.aload_n 0, 1) := dk_42 (dk_at dksX7_number_1 2 rfl rfl)
theorem dX7_number_27 : decode cX7_number 27 = .ok (.bipush 48, 2) := dk_16 48 (dk_at dksX7_number_1 3 rfl rfl)
theorem dX7_number_29 : decode cX7_number 29 = .ok (.invokevirtual 51, 3) := dk_182 0 51 (dk_at dksX7_number_1 5 rfl rfl)
theorem dX7_number_32 : decode cX7_number 32 = .ok (.lconst 1, 1) := dk_10 (dk_at dksX7_number_1 8 rfl rfl)
theorem dX7_number_33 : decode cX7_number 33 = .ok (.lstore 4, 2) := dk_55 4 (dk_at dksX7_number_1 9 rfl rfl)
theorem dX7_number_35 : decode cX7_number 35 = .ok (.lload_n 2, 1) := dk_32 (dk_at dksX7_number_1 11 rfl rfl)
theorem dX7_number_36 : decode cX7_number 36 = .ok (.lload 4, 2) := dk_22 4 (dk_at dksX7_number_1 12 rfl rfl)
theorem dX7_number_38 : decode cX7_number 38 = .ok (.ldiv, 1) := dk_109 (dk_at dksX7_number_1 14 rfl rfl)
theorem dX7_number_39 : decode cX7_number 39 = .ok (.ldc2_w 81, 3) := dk_20 0 81 (dk_at dksX7_number_1 15 rfl rfl)
theorem dX7_number_42 : decode cX7_number 42 = .ok (.lcmp, 1) := dk_148 (dk_at dksX7_number_1 18 rfl rfl)
theorem dX7_number_43 : decode cX7_number 43 = .ok (.ifCond .le 14, 3) := dk_158 0 14 (dk_at dksX7_number_1 19 rfl rfl)
theorem dX7_number_46 : decode cX7_number 46 = .ok (.lload 4, 2) := dk_22 4 (dk_at dksX7_number_1 22 rfl rfl)
theorem dX7_number_48 : decode cX7_number 48 = .ok (.ldc2_w 83, 3) := dk_20 0 83 (dk_at dksX7_number_2 0 rfl rfl)
theorem dX7_number_51 : decode cX7_number 51 = .ok (.lmul, 1) := dk_105 (dk_at dksX7_number_2 3 rfl rfl)
theorem dX7_number_52 : decode cX7_number 52 = .ok (.lstore 4, 2) := dk_55 4 (dk_at dksX7_number_2 4 rfl rfl)
theorem dX7_number_54 : decode cX7_number 54 = .ok (.goto (-19), 3) := dk_167 255 237 (dk_at dksX7_number_2 6 rfl rfl)
theorem dX7_number_57 : decode cX7_number 57 = .ok (.lload 4, 2) := dk_22 4 (dk_at dksX7_number_2 9 rfl rfl)
theorem dX7_number_59 : decode cX7_number 59 = .ok (.lconst 0, 1) := dk_9 (dk_at dksX7_number_2 11 rfl rfl)
theorem dX7_number_60 : decode cX7_number 60 = .ok (.lcmp, 1) := dk_148 (dk_at dksX7_number_2 12 rfl rfl)
theorem dX7_number_61 : decode cX7_number 61 = .ok (.ifCond .le 34, 3) := dk_158 0 34 (dk_at dksX7_number_2 13 rfl rfl)
theorem dX7_number_64 : decode cX7_number 64 = .ok (.aload_n 0, 1) := dk_42 (dk_at dksX7_number_2 16 rfl rfl)
theorem dX7_number_65 : decode cX7_number 65 = .ok (.getfield 24, 3) := dk_180 0 24 (dk_at dksX7_number_2 17 rfl rfl)
theorem dX7_number_68 : decode cX7_number 68 = .ok (.ldc2_w 85, 3) := dk_20 0 85 (dk_at dksX7_number_2 20 rfl rfl)
theorem dX7_number_71 : decode cX7_number 71 = .ok (.lload_n 2, 1) := dk_32 (dk_at dksX7_number_2 23 rfl rfl)
theorem dX7_number_72 : decode cX7_number 72 = .ok (.lload 4, 2) := dk_22 4 (dk_at dksX7_number_3 0 rfl rfl)
theorem dX7_number_74 : decode cX7_number 74 = .ok (.ldiv, 1) := dk_109 (dk_at dksX7_number_3 2 rfl rfl)
theorem dX7_number_75 : decode cX7_number 75 = .ok (.ldc2_w 83, 3) := dk_20 0 83 (dk_at dksX7_number_3 3 rfl rfl)
theorem dX7_number_78 : decode cX7_number 78 = .ok (.lrem, 1) := dk_113 (dk_at dksX7_number_3 6 rfl rfl)
theorem dX7_number_79 : decode cX7_number 79 = .ok (.ladd, 1) := dk_97 (dk_at dksX7_number_3 7 rfl rfl)
theorem dX7_number_80 : decode cX7_number 80 = .ok (.l2i, 1) := dk_136 (dk_at dksX7_number_3 8 rfl rfl)
theorem dX7_number_81 : decode cX7_number 81 = .ok (.invokevirtual 41, 3) := dk_182 0 41 (dk_at dksX7_number_3 9 rfl rfl)
theorem dX7_number_84 : decode cX7_number 84 = .ok (.lload 4, 2) := dk_22 4 (dk_at dksX7_number_3 12 rfl rfl)
theorem dX7_number_86 : decode cX7_number 86 = .ok (.ldc2_w 83, 3) := dk_20 0 83 (dk_at dksX7_number_3 14 rfl rfl)
theorem dX7_number_89 : decode cX7_number 89 = .ok (.ldiv, 1) := dk_109 (dk_at dksX7_number_3 17 rfl rfl)
theorem dX7_number_90 : decode cX7_number 90 = .ok (.lstore 4, 2) := dk_55 4 (dk_at dksX7_number_3 18 rfl rfl)
theorem dX7_number_92 : decode cX7_number 92 = .ok (.goto (-35), 3) := dk_167 255 221 (dk_at dksX7_number_3 20 rfl rfl)
theorem dX7_number_95 : decode cX7_number 95 = .ok (.return_, 1) := dk_177 (dk_at dksX7_number_3 23 rfl rfl)
abbrev cX7_name : ByteArray := prog_8_method_5_code
def yX7_name : MethodName := ⟨RX7, "name", "(I)V"⟩
def dkwX7_name_2 : List UInt8 := [182, 0, 67, 182, 0, 41, 132, 3, 1, 167, 255, 225, 177]
abbrev dktX7_name_2 : List UInt8 := dkwX7_name_2 ++ []
def dkwX7_name_1 : List UInt8 := [62, 29, 42, 180, 0, 9, 28, 182, 0, 73, 162, 0, 25, 42, 180, 0, 24, 42, 180, 0, 9, 28, 29]
abbrev dktX7_name_1 : List UInt8 := dkwX7_name_1 ++ dktX7_name_2
def dkwX7_name_0 : List UInt8 := [42, 180, 0, 57, 180, 0, 61, 27, 46, 61, 42, 42, 180, 0, 9, 28, 3, 182, 0, 67, 182, 0, 51, 3]
abbrev dktX7_name_0 : List UInt8 := dkwX7_name_0 ++ dktX7_name_1
theorem dksX7_name_0 : cX7_name.data.toList.drop 0 = dktX7_name_0 := by decide +kernel
theorem dksX7_name_1 : cX7_name.data.toList.drop 24 = dktX7_name_1 := dk_seg dksX7_name_0 24 rfl rfl
theorem dksX7_name_2 : cX7_name.data.toList.drop 47 = dktX7_name_2 := dk_seg dksX7_name_1 23 rfl rfl
theorem dX7_name_0 : decode cX7_name 0 = .ok (.aload_n 0, 1) := dk_42 (dk_at dksX7_name_0 0 rfl rfl)
theorem dX7_name_1 : decode cX7_name 1 = .ok (.getfield 57, 3) := dk_180 0 57 (dk_at dksX7_name_0 1 rfl rfl)
theorem dX7_name_4 : decode cX7_name 4 = .ok (.getfield 61, 3) := dk_180 0 61 (dk_at dksX7_name_0 4 rfl rfl)
theorem dX7_name_7 : decode cX7_name 7 = .ok (.iload_n 1, 1) := dk_27 (dk_at dksX7_name_0 7 rfl rfl)
theorem dX7_name_8 : decode cX7_name 8 = .ok (.iaload, 1) := dk_46 (dk_at dksX7_name_0 8 rfl rfl)
theorem dX7_name_9 : decode cX7_name 9 = .ok (.istore_n 2, 1) := dk_61 (dk_at dksX7_name_0 9 rfl rfl)
theorem dX7_name_10 : decode cX7_name 10 = .ok (.aload_n 0, 1) := dk_42 (dk_at dksX7_name_0 10 rfl rfl)
theorem dX7_name_11 : decode cX7_name 11 = .ok (.aload_n 0, 1) := dk_42 (dk_at dksX7_name_0 11 rfl rfl)
theorem dX7_name_12 : decode cX7_name 12 = .ok (.getfield 9, 3) := dk_180 0 9 (dk_at dksX7_name_0 12 rfl rfl)
theorem dX7_name_15 : decode cX7_name 15 = .ok (.iload_n 2, 1) := dk_28 (dk_at dksX7_name_0 15 rfl rfl)
theorem dX7_name_16 : decode cX7_name 16 = .ok (.iconst 0, 1) := dk_3 (dk_at dksX7_name_0 16 rfl rfl)
theorem dX7_name_17 : decode cX7_name 17 = .ok (.invokevirtual 67, 3) := dk_182 0 67 (dk_at dksX7_name_0 17 rfl rfl)
theorem dX7_name_20 : decode cX7_name 20 = .ok (.invokevirtual 51, 3) := dk_182 0 51 (dk_at dksX7_name_0 20 rfl rfl)
theorem dX7_name_23 : decode cX7_name 23 = .ok (.iconst 0, 1) := dk_3 (dk_at dksX7_name_0 23 rfl rfl)
theorem dX7_name_24 : decode cX7_name 24 = .ok (.istore_n 3, 1) := dk_62 (dk_at dksX7_name_1 0 rfl rfl)
theorem dX7_name_25 : decode cX7_name 25 = .ok (.iload_n 3, 1) := dk_29 (dk_at dksX7_name_1 1 rfl rfl)
theorem dX7_name_26 : decode cX7_name 26 = .ok (.aload_n 0, 1) := dk_42 (dk_at dksX7_name_1 2 rfl rfl)
theorem dX7_name_27 : decode cX7_name 27 = .ok (.getfield 9, 3) := dk_180 0 9 (dk_at dksX7_name_1 3 rfl rfl)
theorem dX7_name_30 : decode cX7_name 30 = .ok (.iload_n 2, 1) := dk_28 (dk_at dksX7_name_1 6 rfl rfl)
theorem dX7_name_31 : decode cX7_name 31 = .ok (.invokevirtual 73, 3) := dk_182 0 73 (dk_at dksX7_name_1 7 rfl rfl)
theorem dX7_name_34 : decode cX7_name 34 = .ok (.if_icmp .ge 25, 3) := dk_162 0 25 (dk_at dksX7_name_1 10 rfl rfl)
theorem dX7_name_37 : decode cX7_name 37 = .ok (.aload_n 0, 1) := dk_42 (dk_at dksX7_name_1 13 rfl rfl)
theorem dX7_name_38 : decode cX7_name 38 = .ok (.getfield 24, 3) := dk_180 0 24 (dk_at dksX7_name_1 14 rfl rfl)
theorem dX7_name_41 : decode cX7_name 41 = .ok (.aload_n 0, 1) := dk_42 (dk_at dksX7_name_1 17 rfl rfl)
theorem dX7_name_42 : decode cX7_name 42 = .ok (.getfield 9, 3) := dk_180 0 9 (dk_at dksX7_name_1 18 rfl rfl)
theorem dX7_name_45 : decode cX7_name 45 = .ok (.iload_n 2, 1) := dk_28 (dk_at dksX7_name_1 21 rfl rfl)
theorem dX7_name_46 : decode cX7_name 46 = .ok (.iload_n 3, 1) := dk_29 (dk_at dksX7_name_1 22 rfl rfl)
theorem dX7_name_47 : decode cX7_name 47 = .ok (.invokevirtual 67, 3) := dk_182 0 67 (dk_at dksX7_name_2 0 rfl rfl)
theorem dX7_name_50 : decode cX7_name 50 = .ok (.invokevirtual 41, 3) := dk_182 0 41 (dk_at dksX7_name_2 3 rfl rfl)
theorem dX7_name_53 : decode cX7_name 53 = .ok (.iinc 3 1, 3) := dk_132 3 1 (dk_at dksX7_name_2 6 rfl rfl)
theorem dX7_name_56 : decode cX7_name 56 = .ok (.goto (-31), 3) := dk_167 255 225 (dk_at dksX7_name_2 9 rfl rfl)
theorem dX7_name_59 : decode cX7_name 59 = .ok (.return_, 1) := dk_177 (dk_at dksX7_name_2 12 rfl rfl)
abbrev cX7_cell : ByteArray := prog_8_method_13_code
def yX7_cell : MethodName := ⟨RX7, "cell", "(I)V"⟩
def dkwX7_cell_1 : List UInt8 := [177]
abbrev dktX7_cell_1 : List UInt8 := dkwX7_cell_1 ++ []
def dkwX7_cell_0 : List UInt8 := [42, 27, 182, 0, 135, 42, 18, 100, 182, 0, 78, 42, 27, 4, 96, 182, 0, 90, 42, 18, 104, 182, 0, 78]
abbrev dktX7_cell_0 : List UInt8 := dkwX7_cell_0 ++ dktX7_cell_1
theorem dksX7_cell_0 : cX7_cell.data.toList.drop 0 = dktX7_cell_0 := by decide +kernel
theorem dksX7_cell_1 : cX7_cell.data.toList.drop 24 = dktX7_cell_1 := dk_seg dksX7_cell_0 24 rfl rfl
theorem dX7_cell_0 : decode cX7_cell 0 = .ok (.aload_n 0, 1) := dk_42 (dk_at dksX7_cell_0 0 rfl rfl)
theorem dX7_cell_1 : decode cX7_cell 1 = .ok (.iload_n 1, 1) := dk_27 (dk_at dksX7_cell_0 1 rfl rfl)
theorem dX7_cell_2 : decode cX7_cell 2 = .ok (.invokevirtual 135, 3) := dk_182 0 135 (dk_at dksX7_cell_0 2 rfl rfl)
theorem dX7_cell_5 : decode cX7_cell 5 = .ok (.aload_n 0, 1) := dk_42 (dk_at dksX7_cell_0 5 rfl rfl)
theorem dX7_cell_6 : decode cX7_cell 6 = .ok (.ldc 100, 2) := dk_18 100 (dk_at dksX7_cell_0 6 rfl rfl)
theorem dX7_cell_8 : decode cX7_cell 8 = .ok (.invokevirtual 78, 3) := dk_182 0 78 (dk_at dksX7_cell_0 8 rfl rfl)
theorem dX7_cell_11 : decode cX7_cell 11 = .ok (.aload_n 0, 1) := dk_42 (dk_at dksX7_cell_0 11 rfl rfl)
theorem dX7_cell_12 : decode cX7_cell 12 = .ok (.iload_n 1, 1) := dk_27 (dk_at dksX7_cell_0 12 rfl rfl)
theorem dX7_cell_13 : decode cX7_cell 13 = .ok (.iconst 1, 1) := dk_4 (dk_at dksX7_cell_0 13 rfl rfl)
theorem dX7_cell_14 : decode cX7_cell 14 = .ok (.iadd, 1) := dk_96 (dk_at dksX7_cell_0 14 rfl rfl)
theorem dX7_cell_15 : decode cX7_cell 15 = .ok (.invokevirtual 90, 3) := dk_182 0 90 (dk_at dksX7_cell_0 15 rfl rfl)
theorem dX7_cell_18 : decode cX7_cell 18 = .ok (.aload_n 0, 1) := dk_42 (dk_at dksX7_cell_0 18 rfl rfl)
theorem dX7_cell_19 : decode cX7_cell 19 = .ok (.ldc 104, 2) := dk_18 104 (dk_at dksX7_cell_0 19 rfl rfl)
theorem dX7_cell_21 : decode cX7_cell 21 = .ok (.invokevirtual 78, 3) := dk_182 0 78 (dk_at dksX7_cell_0 21 rfl rfl)
theorem dX7_cell_24 : decode cX7_cell 24 = .ok (.return_, 1) := dk_177 (dk_at dksX7_cell_1 0 rfl rfl)
abbrev cX7_after : ByteArray := prog_8_method_7_code
def yX7_after : MethodName := ⟨RX7, "after", "(I)I"⟩
def dkwX7_after_0 : List UInt8 := [27, 42, 180, 0, 57, 180, 0, 87, 27, 46, 96, 172]
abbrev dktX7_after_0 : List UInt8 := dkwX7_after_0 ++ []
theorem dksX7_after_0 : cX7_after.data.toList.drop 0 = dktX7_after_0 := by decide +kernel
theorem dX7_after_0 : decode cX7_after 0 = .ok (.iload_n 1, 1) := dk_27 (dk_at dksX7_after_0 0 rfl rfl)
theorem dX7_after_1 : decode cX7_after 1 = .ok (.aload_n 0, 1) := dk_42 (dk_at dksX7_after_0 1 rfl rfl)
theorem dX7_after_2 : decode cX7_after 2 = .ok (.getfield 57, 3) := dk_180 0 57 (dk_at dksX7_after_0 2 rfl rfl)
theorem dX7_after_5 : decode cX7_after 5 = .ok (.getfield 87, 3) := dk_180 0 87 (dk_at dksX7_after_0 5 rfl rfl)
theorem dX7_after_8 : decode cX7_after 8 = .ok (.iload_n 1, 1) := dk_27 (dk_at dksX7_after_0 8 rfl rfl)
theorem dX7_after_9 : decode cX7_after 9 = .ok (.iaload, 1) := dk_46 (dk_at dksX7_after_0 9 rfl rfl)
theorem dX7_after_10 : decode cX7_after 10 = .ok (.iadd, 1) := dk_96 (dk_at dksX7_after_0 10 rfl rfl)
theorem dX7_after_11 : decode cX7_after 11 = .ok (.ireturn, 1) := dk_172 (dk_at dksX7_after_0 11 rfl rfl)
abbrev cX7_row : ByteArray := prog_8_method_8_code
def yX7_row : MethodName := ⟨RX7, "row", "(IILjava/lang/String;)V"⟩
def dkwX7_row_1 : List UInt8 := [182, 0, 90, 42, 21, 4, 182, 0, 93, 54, 4, 167, 255, 225, 177]
abbrev dktX7_row_1 : List UInt8 := dkwX7_row_1 ++ []
def dkwX7_row_0 : List UInt8 := [27, 54, 4, 21, 4, 28, 162, 0, 31, 21, 4, 27, 164, 0, 8, 42, 45, 182, 0, 78, 42, 21, 4]
abbrev dktX7_row_0 : List UInt8 := dkwX7_row_0 ++ dktX7_row_1
theorem dksX7_row_0 : cX7_row.data.toList.drop 0 = dktX7_row_0 := by decide +kernel
theorem dksX7_row_1 : cX7_row.data.toList.drop 23 = dktX7_row_1 := dk_seg dksX7_row_0 23 rfl rfl
theorem dX7_row_0 : decode cX7_row 0 = .ok (.iload_n 1, 1) := dk_27 (dk_at dksX7_row_0 0 rfl rfl)
theorem dX7_row_1 : decode cX7_row 1 = .ok (.istore 4, 2) := dk_54 4 (dk_at dksX7_row_0 1 rfl rfl)
theorem dX7_row_3 : decode cX7_row 3 = .ok (.iload 4, 2) := dk_21 4 (dk_at dksX7_row_0 3 rfl rfl)
theorem dX7_row_5 : decode cX7_row 5 = .ok (.iload_n 2, 1) := dk_28 (dk_at dksX7_row_0 5 rfl rfl)
theorem dX7_row_6 : decode cX7_row 6 = .ok (.if_icmp .ge 31, 3) := dk_162 0 31 (dk_at dksX7_row_0 6 rfl rfl)
theorem dX7_row_9 : decode cX7_row 9 = .ok (.iload 4, 2) := dk_21 4 (dk_at dksX7_row_0 9 rfl rfl)
theorem dX7_row_11 : decode cX7_row 11 = .ok (.iload_n 1, 1) := dk_27 (dk_at dksX7_row_0 11 rfl rfl)
theorem dX7_row_12 : decode cX7_row 12 = .ok (.if_icmp .le 8, 3) := dk_164 0 8 (dk_at dksX7_row_0 12 rfl rfl)
theorem dX7_row_15 : decode cX7_row 15 = .ok (.aload_n 0, 1) := dk_42 (dk_at dksX7_row_0 15 rfl rfl)
theorem dX7_row_16 : decode cX7_row 16 = .ok (.aload_n 3, 1) := dk_45 (dk_at dksX7_row_0 16 rfl rfl)
theorem dX7_row_17 : decode cX7_row 17 = .ok (.invokevirtual 78, 3) := dk_182 0 78 (dk_at dksX7_row_0 17 rfl rfl)
theorem dX7_row_20 : decode cX7_row 20 = .ok (.aload_n 0, 1) := dk_42 (dk_at dksX7_row_0 20 rfl rfl)
theorem dX7_row_21 : decode cX7_row 21 = .ok (.iload 4, 2) := dk_21 4 (dk_at dksX7_row_0 21 rfl rfl)
theorem dX7_row_23 : decode cX7_row 23 = .ok (.invokevirtual 90, 3) := dk_182 0 90 (dk_at dksX7_row_1 0 rfl rfl)
theorem dX7_row_26 : decode cX7_row 26 = .ok (.aload_n 0, 1) := dk_42 (dk_at dksX7_row_1 3 rfl rfl)
theorem dX7_row_27 : decode cX7_row 27 = .ok (.iload 4, 2) := dk_21 4 (dk_at dksX7_row_1 4 rfl rfl)
theorem dX7_row_29 : decode cX7_row 29 = .ok (.invokevirtual 93, 3) := dk_182 0 93 (dk_at dksX7_row_1 6 rfl rfl)
theorem dX7_row_32 : decode cX7_row 32 = .ok (.istore 4, 2) := dk_54 4 (dk_at dksX7_row_1 9 rfl rfl)
theorem dX7_row_34 : decode cX7_row 34 = .ok (.goto (-31), 3) := dk_167 255 225 (dk_at dksX7_row_1 11 rfl rfl)
theorem dX7_row_37 : decode cX7_row 37 = .ok (.return_, 1) := dk_177 (dk_at dksX7_row_1 14 rfl rfl)
abbrev cX7_relation : ByteArray := prog_8_method_11_code
def yX7_relation : MethodName := ⟨RX7, "relation", "(I)V"⟩
def dkwX7_relation_3 : List UInt8 := [167, 0, 5, 18, 130, 182, 0, 78, 42, 42, 28, 182, 0, 93, 182, 0, 90, 177]
abbrev dktX7_relation_3 : List UInt8 := dkwX7_relation_3 ++ []
def dkwX7_relation_2 : List UInt8 := [18, 124, 167, 0, 25, 29, 6, 160, 0, 8, 18, 126, 167, 0, 15, 29, 7, 160, 0, 8, 18, 128]
abbrev dktX7_relation_2 : List UInt8 := dkwX7_relation_2 ++ dktX7_relation_3
def dkwX7_relation_1 : List UInt8 := [154, 0, 8, 18, 120, 167, 0, 45, 29, 4, 160, 0, 8, 18, 122, 167, 0, 35, 29, 5, 160, 0, 8]
abbrev dktX7_relation_1 : List UInt8 := dkwX7_relation_1 ++ dktX7_relation_2
def dkwX7_relation_0 : List UInt8 := [27, 4, 96, 61, 42, 28, 182, 0, 90, 42, 180, 0, 57, 180, 0, 96, 27, 51, 16, 27, 100, 62, 42, 29]
abbrev dktX7_relation_0 : List UInt8 := dkwX7_relation_0 ++ dktX7_relation_1
theorem dksX7_relation_0 : cX7_relation.data.toList.drop 0 = dktX7_relation_0 := by decide +kernel
theorem dksX7_relation_1 : cX7_relation.data.toList.drop 24 = dktX7_relation_1 := dk_seg dksX7_relation_0 24 rfl rfl
theorem dksX7_relation_2 : cX7_relation.data.toList.drop 47 = dktX7_relation_2 := dk_seg dksX7_relation_1 23 rfl rfl
theorem dksX7_relation_3 : cX7_relation.data.toList.drop 69 = dktX7_relation_3 := dk_seg dksX7_relation_2 22 rfl rfl
theorem dX7_relation_0 : decode cX7_relation 0 = .ok (.iload_n 1, 1) := dk_27 (dk_at dksX7_relation_0 0 rfl rfl)
theorem dX7_relation_1 : decode cX7_relation 1 = .ok (.iconst 1, 1) := dk_4 (dk_at dksX7_relation_0 1 rfl rfl)
theorem dX7_relation_2 : decode cX7_relation 2 = .ok (.iadd, 1) := dk_96 (dk_at dksX7_relation_0 2 rfl rfl)
theorem dX7_relation_3 : decode cX7_relation 3 = .ok (.istore_n 2, 1) := dk_61 (dk_at dksX7_relation_0 3 rfl rfl)
theorem dX7_relation_4 : decode cX7_relation 4 = .ok (.aload_n 0, 1) := dk_42 (dk_at dksX7_relation_0 4 rfl rfl)
theorem dX7_relation_5 : decode cX7_relation 5 = .ok (.iload_n 2, 1) := dk_28 (dk_at dksX7_relation_0 5 rfl rfl)
theorem dX7_relation_6 : decode cX7_relation 6 = .ok (.invokevirtual 90, 3) := dk_182 0 90 (dk_at dksX7_relation_0 6 rfl rfl)
theorem dX7_relation_9 : decode cX7_relation 9 = .ok (.aload_n 0, 1) := dk_42 (dk_at dksX7_relation_0 9 rfl rfl)
theorem dX7_relation_10 : decode cX7_relation 10 = .ok (.getfield 57, 3) := dk_180 0 57 (dk_at dksX7_relation_0 10 rfl rfl)
theorem dX7_relation_13 : decode cX7_relation 13 = .ok (.getfield 96, 3) := dk_180 0 96 (dk_at dksX7_relation_0 13 rfl rfl)
theorem dX7_relation_16 : decode cX7_relation 16 = .ok (.iload_n 1, 1) := dk_27 (dk_at dksX7_relation_0 16 rfl rfl)
theorem dX7_relation_17 : decode cX7_relation 17 = .ok (.baload, 1) := dk_51 (dk_at dksX7_relation_0 17 rfl rfl)
theorem dX7_relation_18 : decode cX7_relation 18 = .ok (.bipush 27, 2) := dk_16 27 (dk_at dksX7_relation_0 18 rfl rfl)
theorem dX7_relation_20 : decode cX7_relation 20 = .ok (.isub, 1) := dk_100 (dk_at dksX7_relation_0 20 rfl rfl)
theorem dX7_relation_21 : decode cX7_relation 21 = .ok (.istore_n 3, 1) := dk_62 (dk_at dksX7_relation_0 21 rfl rfl)
theorem dX7_relation_22 : decode cX7_relation 22 = .ok (.aload_n 0, 1) := dk_42 (dk_at dksX7_relation_0 22 rfl rfl)
theorem dX7_relation_23 : decode cX7_relation 23 = .ok (.iload_n 3, 1) := dk_29 (dk_at dksX7_relation_0 23 rfl rfl)
theorem dX7_relation_24 : decode cX7_relation 24 = .ok (.ifCond .ne 8, 3) := dk_154 0 8 (dk_at dksX7_relation_1 0 rfl rfl)
theorem dX7_relation_27 : decode cX7_relation 27 = .ok (.ldc 120, 2) := dk_18 120 (dk_at dksX7_relation_1 3 rfl rfl)
theorem dX7_relation_29 : decode cX7_relation 29 = .ok (.goto 45, 3) := dk_167 0 45 (dk_at dksX7_relation_1 5 rfl rfl)
theorem dX7_relation_32 : decode cX7_relation 32 = .ok (.iload_n 3, 1) := dk_29 (dk_at dksX7_relation_1 8 rfl rfl)
theorem dX7_relation_33 : decode cX7_relation 33 = .ok (.iconst 1, 1) := dk_4 (dk_at dksX7_relation_1 9 rfl rfl)
theorem dX7_relation_34 : decode cX7_relation 34 = .ok (.if_icmp .ne 8, 3) := dk_160 0 8 (dk_at dksX7_relation_1 10 rfl rfl)
theorem dX7_relation_37 : decode cX7_relation 37 = .ok (.ldc 122, 2) := dk_18 122 (dk_at dksX7_relation_1 13 rfl rfl)
theorem dX7_relation_39 : decode cX7_relation 39 = .ok (.goto 35, 3) := dk_167 0 35 (dk_at dksX7_relation_1 15 rfl rfl)
theorem dX7_relation_42 : decode cX7_relation 42 = .ok (.iload_n 3, 1) := dk_29 (dk_at dksX7_relation_1 18 rfl rfl)
theorem dX7_relation_43 : decode cX7_relation 43 = .ok (.iconst 2, 1) := dk_5 (dk_at dksX7_relation_1 19 rfl rfl)
theorem dX7_relation_44 : decode cX7_relation 44 = .ok (.if_icmp .ne 8, 3) := dk_160 0 8 (dk_at dksX7_relation_1 20 rfl rfl)
theorem dX7_relation_47 : decode cX7_relation 47 = .ok (.ldc 124, 2) := dk_18 124 (dk_at dksX7_relation_2 0 rfl rfl)
theorem dX7_relation_49 : decode cX7_relation 49 = .ok (.goto 25, 3) := dk_167 0 25 (dk_at dksX7_relation_2 2 rfl rfl)
theorem dX7_relation_52 : decode cX7_relation 52 = .ok (.iload_n 3, 1) := dk_29 (dk_at dksX7_relation_2 5 rfl rfl)
theorem dX7_relation_53 : decode cX7_relation 53 = .ok (.iconst 3, 1) := dk_6 (dk_at dksX7_relation_2 6 rfl rfl)
theorem dX7_relation_54 : decode cX7_relation 54 = .ok (.if_icmp .ne 8, 3) := dk_160 0 8 (dk_at dksX7_relation_2 7 rfl rfl)
theorem dX7_relation_57 : decode cX7_relation 57 = .ok (.ldc 126, 2) := dk_18 126 (dk_at dksX7_relation_2 10 rfl rfl)
theorem dX7_relation_59 : decode cX7_relation 59 = .ok (.goto 15, 3) := dk_167 0 15 (dk_at dksX7_relation_2 12 rfl rfl)
theorem dX7_relation_62 : decode cX7_relation 62 = .ok (.iload_n 3, 1) := dk_29 (dk_at dksX7_relation_2 15 rfl rfl)
theorem dX7_relation_63 : decode cX7_relation 63 = .ok (.iconst 4, 1) := dk_7 (dk_at dksX7_relation_2 16 rfl rfl)
theorem dX7_relation_64 : decode cX7_relation 64 = .ok (.if_icmp .ne 8, 3) := dk_160 0 8 (dk_at dksX7_relation_2 17 rfl rfl)
theorem dX7_relation_67 : decode cX7_relation 67 = .ok (.ldc 128, 2) := dk_18 128 (dk_at dksX7_relation_2 20 rfl rfl)
theorem dX7_relation_69 : decode cX7_relation 69 = .ok (.goto 5, 3) := dk_167 0 5 (dk_at dksX7_relation_3 0 rfl rfl)
theorem dX7_relation_72 : decode cX7_relation 72 = .ok (.ldc 130, 2) := dk_18 130 (dk_at dksX7_relation_3 3 rfl rfl)
theorem dX7_relation_74 : decode cX7_relation 74 = .ok (.invokevirtual 78, 3) := dk_182 0 78 (dk_at dksX7_relation_3 5 rfl rfl)
theorem dX7_relation_77 : decode cX7_relation 77 = .ok (.aload_n 0, 1) := dk_42 (dk_at dksX7_relation_3 8 rfl rfl)
theorem dX7_relation_78 : decode cX7_relation 78 = .ok (.aload_n 0, 1) := dk_42 (dk_at dksX7_relation_3 9 rfl rfl)
theorem dX7_relation_79 : decode cX7_relation 79 = .ok (.iload_n 2, 1) := dk_28 (dk_at dksX7_relation_3 10 rfl rfl)
theorem dX7_relation_80 : decode cX7_relation 80 = .ok (.invokevirtual 93, 3) := dk_182 0 93 (dk_at dksX7_relation_3 11 rfl rfl)
theorem dX7_relation_83 : decode cX7_relation 83 = .ok (.invokevirtual 90, 3) := dk_182 0 90 (dk_at dksX7_relation_3 14 rfl rfl)
theorem dX7_relation_86 : decode cX7_relation 86 = .ok (.return_, 1) := dk_177 (dk_at dksX7_relation_3 17 rfl rfl)
abbrev cX7_statement : ByteArray := prog_8_method_15_code
def yX7_statement : MethodName := ⟨RX7, "statement", "(III)V"⟩
def dkwX7_statement_10 : List UInt8 := [29, 182, 0, 181, 42, 18, 184, 182, 0, 78, 177]
abbrev dktX7_statement_10 : List UInt8 := dkwX7_statement_10 ++ []
def dkwX7_statement_9 : List UInt8 := [182, 0, 90, 42, 18, 106, 182, 0, 78, 42, 42, 28, 182, 0, 93, 182, 0, 90, 167, 0, 16, 42, 27, 28]
abbrev dktX7_statement_9 : List UInt8 := dkwX7_statement_9 ++ dktX7_statement_10
def dkwX7_statement_8 : List UInt8 := [42, 28, 182, 0, 93, 182, 0, 93, 182, 0, 90, 167, 0, 45, 42, 18, 179, 182, 0, 78, 42, 28]
abbrev dktX7_statement_8 : List UInt8 := dkwX7_statement_8 ++ dktX7_statement_9
def dkwX7_statement_7 : List UInt8 := [42, 28, 182, 0, 93, 182, 0, 93, 42, 27, 182, 0, 93, 162, 0, 67, 42, 18, 177, 182, 0, 78, 42, 42]
abbrev dktX7_statement_7 : List UInt8 := dkwX7_statement_7 ++ dktX7_statement_8
def dkwX7_statement_6 : List UInt8 := [182, 0, 78, 42, 28, 182, 0, 90, 42, 18, 106, 182, 0, 78, 42, 42, 28, 182, 0, 93, 182, 0, 90, 42]
abbrev dktX7_statement_6 : List UInt8 := dkwX7_statement_6 ++ dktX7_statement_7
def dkwX7_statement_5 : List UInt8 := [21, 4, 182, 0, 93, 54, 4, 167, 255, 232, 42, 18, 173, 182, 0, 78, 167, 0, 110, 42, 18, 175]
abbrev dktX7_statement_5 : List UInt8 := dkwX7_statement_5 ++ dktX7_statement_6
def dkwX7_statement_4 : List UInt8 := [182, 0, 78, 28, 54, 4, 21, 4, 42, 27, 182, 0, 93, 162, 0, 20, 42, 21, 4, 182, 0, 90, 42]
abbrev dktX7_statement_4 : List UInt8 := dkwX7_statement_4 ++ dktX7_statement_5
def dkwX7_statement_3 : List UInt8 := [182, 0, 93, 54, 4, 167, 255, 232, 167, 0, 164, 42, 27, 28, 182, 0, 167, 167, 0, 155, 42, 18, 171]
abbrev dktX7_statement_3 : List UInt8 := dkwX7_statement_3 ++ dktX7_statement_4
def dkwX7_statement_2 : List UInt8 := [28, 54, 4, 21, 4, 42, 27, 182, 0, 93, 162, 0, 20, 42, 21, 4, 182, 0, 90, 42, 21, 4]
abbrev dktX7_statement_2 : List UInt8 := dkwX7_statement_2 ++ dktX7_statement_3
def dkwX7_statement_1 : List UInt8 := [170, 0, 0, 0, 0, 0, 236, 0, 0, 0, 0, 0, 0, 0, 9, 0, 0, 0, 55, 0, 0, 0, 88, 0, 0, 0, 97, 0, 0, 0, 236, 0, 0, 0, 236, 0, 0, 0, 236, 0, 0, 0, 236, 0, 0, 0, 236, 0, 0, 0, 142, 0, 0, 0, 207]
abbrev dktX7_statement_1 : List UInt8 := dkwX7_statement_1 ++ dktX7_statement_2
def dkwX7_statement_0 : List UInt8 := [29]
abbrev dktX7_statement_0 : List UInt8 := dkwX7_statement_0 ++ dktX7_statement_1
theorem dksX7_statement_0 : cX7_statement.data.toList.drop 0 = dktX7_statement_0 := by decide +kernel
theorem dksX7_statement_1 : cX7_statement.data.toList.drop 1 = dktX7_statement_1 := dk_seg dksX7_statement_0 1 rfl rfl
theorem dksX7_statement_2 : cX7_statement.data.toList.drop 56 = dktX7_statement_2 := dk_seg dksX7_statement_1 55 rfl rfl
theorem dksX7_statement_3 : cX7_statement.data.toList.drop 78 = dktX7_statement_3 := dk_seg dksX7_statement_2 22 rfl rfl
theorem dksX7_statement_4 : cX7_statement.data.toList.drop 101 = dktX7_statement_4 := dk_seg dksX7_statement_3 23 rfl rfl
theorem dksX7_statement_5 : cX7_statement.data.toList.drop 124 = dktX7_statement_5 := dk_seg dksX7_statement_4 23 rfl rfl
theorem dksX7_statement_6 : cX7_statement.data.toList.drop 146 = dktX7_statement_6 := dk_seg dksX7_statement_5 22 rfl rfl
theorem dksX7_statement_7 : cX7_statement.data.toList.drop 170 = dktX7_statement_7 := dk_seg dksX7_statement_6 24 rfl rfl
theorem dksX7_statement_8 : cX7_statement.data.toList.drop 194 = dktX7_statement_8 := dk_seg dksX7_statement_7 24 rfl rfl
theorem dksX7_statement_9 : cX7_statement.data.toList.drop 216 = dktX7_statement_9 := dk_seg dksX7_statement_8 22 rfl rfl
theorem dksX7_statement_10 : cX7_statement.data.toList.drop 240 = dktX7_statement_10 := dk_seg dksX7_statement_9 24 rfl rfl
theorem dX7_statement_0 : decode cX7_statement 0 = .ok (.iload_n 3, 1) := dk_29 (dk_at dksX7_statement_0 0 rfl rfl)
theorem dX7_statement_1 : decode cX7_statement 1 = .ok (.tableswitch 236 0 9 #[55, 88, 97, 236, 236, 236, 236, 236, 142, 207], 55) := by decide +kernel
theorem dX7_statement_56 : decode cX7_statement 56 = .ok (.iload_n 2, 1) := dk_28 (dk_at dksX7_statement_2 0 rfl rfl)
theorem dX7_statement_57 : decode cX7_statement 57 = .ok (.istore 4, 2) := dk_54 4 (dk_at dksX7_statement_2 1 rfl rfl)
theorem dX7_statement_59 : decode cX7_statement 59 = .ok (.iload 4, 2) := dk_21 4 (dk_at dksX7_statement_2 3 rfl rfl)
theorem dX7_statement_61 : decode cX7_statement 61 = .ok (.aload_n 0, 1) := dk_42 (dk_at dksX7_statement_2 5 rfl rfl)
theorem dX7_statement_62 : decode cX7_statement 62 = .ok (.iload_n 1, 1) := dk_27 (dk_at dksX7_statement_2 6 rfl rfl)
theorem dX7_statement_63 : decode cX7_statement 63 = .ok (.invokevirtual 93, 3) := dk_182 0 93 (dk_at dksX7_statement_2 7 rfl rfl)
theorem dX7_statement_66 : decode cX7_statement 66 = .ok (.if_icmp .ge 20, 3) := dk_162 0 20 (dk_at dksX7_statement_2 10 rfl rfl)
theorem dX7_statement_69 : decode cX7_statement 69 = .ok (.aload_n 0, 1) := dk_42 (dk_at dksX7_statement_2 13 rfl rfl)
theorem dX7_statement_70 : decode cX7_statement 70 = .ok (.iload 4, 2) := dk_21 4 (dk_at dksX7_statement_2 14 rfl rfl)
theorem dX7_statement_72 : decode cX7_statement 72 = .ok (.invokevirtual 90, 3) := dk_182 0 90 (dk_at dksX7_statement_2 16 rfl rfl)
theorem dX7_statement_75 : decode cX7_statement 75 = .ok (.aload_n 0, 1) := dk_42 (dk_at dksX7_statement_2 19 rfl rfl)
theorem dX7_statement_76 : decode cX7_statement 76 = .ok (.iload 4, 2) := dk_21 4 (dk_at dksX7_statement_2 20 rfl rfl)
theorem dX7_statement_78 : decode cX7_statement 78 = .ok (.invokevirtual 93, 3) := dk_182 0 93 (dk_at dksX7_statement_3 0 rfl rfl)
theorem dX7_statement_81 : decode cX7_statement 81 = .ok (.istore 4, 2) := dk_54 4 (dk_at dksX7_statement_3 3 rfl rfl)
theorem dX7_statement_83 : decode cX7_statement 83 = .ok (.goto (-24), 3) := dk_167 255 232 (dk_at dksX7_statement_3 5 rfl rfl)
theorem dX7_statement_86 : decode cX7_statement 86 = .ok (.goto 164, 3) := dk_167 0 164 (dk_at dksX7_statement_3 8 rfl rfl)
theorem dX7_statement_89 : decode cX7_statement 89 = .ok (.aload_n 0, 1) := dk_42 (dk_at dksX7_statement_3 11 rfl rfl)
theorem dX7_statement_90 : decode cX7_statement 90 = .ok (.iload_n 1, 1) := dk_27 (dk_at dksX7_statement_3 12 rfl rfl)
theorem dX7_statement_91 : decode cX7_statement 91 = .ok (.iload_n 2, 1) := dk_28 (dk_at dksX7_statement_3 13 rfl rfl)
theorem dX7_statement_92 : decode cX7_statement 92 = .ok (.invokevirtual 167, 3) := dk_182 0 167 (dk_at dksX7_statement_3 14 rfl rfl)
theorem dX7_statement_95 : decode cX7_statement 95 = .ok (.goto 155, 3) := dk_167 0 155 (dk_at dksX7_statement_3 17 rfl rfl)
theorem dX7_statement_98 : decode cX7_statement 98 = .ok (.aload_n 0, 1) := dk_42 (dk_at dksX7_statement_3 20 rfl rfl)
theorem dX7_statement_99 : decode cX7_statement 99 = .ok (.ldc 171, 2) := dk_18 171 (dk_at dksX7_statement_3 21 rfl rfl)
theorem dX7_statement_101 : decode cX7_statement 101 = .ok (.invokevirtual 78, 3) := dk_182 0 78 (dk_at dksX7_statement_4 0 rfl rfl)
theorem dX7_statement_104 : decode cX7_statement 104 = .ok (.iload_n 2, 1) := dk_28 (dk_at dksX7_statement_4 3 rfl rfl)
theorem dX7_statement_105 : decode cX7_statement 105 = .ok (.istore 4, 2) := dk_54 4 (dk_at dksX7_statement_4 4 rfl rfl)
theorem dX7_statement_107 : decode cX7_statement 107 = .ok (.iload 4, 2) := dk_21 4 (dk_at dksX7_statement_4 6 rfl rfl)
theorem dX7_statement_109 : decode cX7_statement 109 = .ok (.aload_n 0, 1) := dk_42 (dk_at dksX7_statement_4 8 rfl rfl)
theorem dX7_statement_110 : decode cX7_statement 110 = .ok (.iload_n 1, 1) := dk_27 (dk_at dksX7_statement_4 9 rfl rfl)
theorem dX7_statement_111 : decode cX7_statement 111 = .ok (.invokevirtual 93, 3) := dk_182 0 93 (dk_at dksX7_statement_4 10 rfl rfl)
theorem dX7_statement_114 : decode cX7_statement 114 = .ok (.if_icmp .ge 20, 3) := dk_162 0 20 (dk_at dksX7_statement_4 13 rfl rfl)
theorem dX7_statement_117 : decode cX7_statement 117 = .ok (.aload_n 0, 1) := dk_42 (dk_at dksX7_statement_4 16 rfl rfl)
theorem dX7_statement_118 : decode cX7_statement 118 = .ok (.iload 4, 2) := dk_21 4 (dk_at dksX7_statement_4 17 rfl rfl)
theorem dX7_statement_120 : decode cX7_statement 120 = .ok (.invokevirtual 90, 3) := dk_182 0 90 (dk_at dksX7_statement_4 19 rfl rfl)
theorem dX7_statement_123 : decode cX7_statement 123 = .ok (.aload_n 0, 1) := dk_42 (dk_at dksX7_statement_4 22 rfl rfl)
theorem dX7_statement_124 : decode cX7_statement 124 = .ok (.iload 4, 2) := dk_21 4 (dk_at dksX7_statement_5 0 rfl rfl)
theorem dX7_statement_126 : decode cX7_statement 126 = .ok (.invokevirtual 93, 3) := dk_182 0 93 (dk_at dksX7_statement_5 2 rfl rfl)
theorem dX7_statement_129 : decode cX7_statement 129 = .ok (.istore 4, 2) := dk_54 4 (dk_at dksX7_statement_5 5 rfl rfl)
theorem dX7_statement_131 : decode cX7_statement 131 = .ok (.goto (-24), 3) := dk_167 255 232 (dk_at dksX7_statement_5 7 rfl rfl)
theorem dX7_statement_134 : decode cX7_statement 134 = .ok (.aload_n 0, 1) := dk_42 (dk_at dksX7_statement_5 10 rfl rfl)
theorem dX7_statement_135 : decode cX7_statement 135 = .ok (.ldc 173, 2) := dk_18 173 (dk_at dksX7_statement_5 11 rfl rfl)
theorem dX7_statement_137 : decode cX7_statement 137 = .ok (.invokevirtual 78, 3) := dk_182 0 78 (dk_at dksX7_statement_5 13 rfl rfl)
theorem dX7_statement_140 : decode cX7_statement 140 = .ok (.goto 110, 3) := dk_167 0 110 (dk_at dksX7_statement_5 16 rfl rfl)
theorem dX7_statement_143 : decode cX7_statement 143 = .ok (.aload_n 0, 1) := dk_42 (dk_at dksX7_statement_5 19 rfl rfl)
theorem dX7_statement_144 : decode cX7_statement 144 = .ok (.ldc 175, 2) := dk_18 175 (dk_at dksX7_statement_5 20 rfl rfl)
theorem dX7_statement_146 : decode cX7_statement 146 = .ok (.invokevirtual 78, 3) := dk_182 0 78 (dk_at dksX7_statement_6 0 rfl rfl)
theorem dX7_statement_149 : decode cX7_statement 149 = .ok (.aload_n 0, 1) := dk_42 (dk_at dksX7_statement_6 3 rfl rfl)
theorem dX7_statement_150 : decode cX7_statement 150 = .ok (.iload_n 2, 1) := dk_28 (dk_at dksX7_statement_6 4 rfl rfl)
theorem dX7_statement_151 : decode cX7_statement 151 = .ok (.invokevirtual 90, 3) := dk_182 0 90 (dk_at dksX7_statement_6 5 rfl rfl)
theorem dX7_statement_154 : decode cX7_statement 154 = .ok (.aload_n 0, 1) := dk_42 (dk_at dksX7_statement_6 8 rfl rfl)
theorem dX7_statement_155 : decode cX7_statement 155 = .ok (.ldc 106, 2) := dk_18 106 (dk_at dksX7_statement_6 9 rfl rfl)
theorem dX7_statement_157 : decode cX7_statement 157 = .ok (.invokevirtual 78, 3) := dk_182 0 78 (dk_at dksX7_statement_6 11 rfl rfl)
theorem dX7_statement_160 : decode cX7_statement 160 = .ok (.aload_n 0, 1) := dk_42 (dk_at dksX7_statement_6 14 rfl rfl)
theorem dX7_statement_161 : decode cX7_statement 161 = .ok (.aload_n 0, 1) := dk_42 (dk_at dksX7_statement_6 15 rfl rfl)
theorem dX7_statement_162 : decode cX7_statement 162 = .ok (.iload_n 2, 1) := dk_28 (dk_at dksX7_statement_6 16 rfl rfl)
theorem dX7_statement_163 : decode cX7_statement 163 = .ok (.invokevirtual 93, 3) := dk_182 0 93 (dk_at dksX7_statement_6 17 rfl rfl)
theorem dX7_statement_166 : decode cX7_statement 166 = .ok (.invokevirtual 90, 3) := dk_182 0 90 (dk_at dksX7_statement_6 20 rfl rfl)
theorem dX7_statement_169 : decode cX7_statement 169 = .ok (.aload_n 0, 1) := dk_42 (dk_at dksX7_statement_6 23 rfl rfl)
theorem dX7_statement_170 : decode cX7_statement 170 = .ok (.aload_n 0, 1) := dk_42 (dk_at dksX7_statement_7 0 rfl rfl)
theorem dX7_statement_171 : decode cX7_statement 171 = .ok (.iload_n 2, 1) := dk_28 (dk_at dksX7_statement_7 1 rfl rfl)
theorem dX7_statement_172 : decode cX7_statement 172 = .ok (.invokevirtual 93, 3) := dk_182 0 93 (dk_at dksX7_statement_7 2 rfl rfl)
theorem dX7_statement_175 : decode cX7_statement 175 = .ok (.invokevirtual 93, 3) := dk_182 0 93 (dk_at dksX7_statement_7 5 rfl rfl)
theorem dX7_statement_178 : decode cX7_statement 178 = .ok (.aload_n 0, 1) := dk_42 (dk_at dksX7_statement_7 8 rfl rfl)
theorem dX7_statement_179 : decode cX7_statement 179 = .ok (.iload_n 1, 1) := dk_27 (dk_at dksX7_statement_7 9 rfl rfl)
theorem dX7_statement_180 : decode cX7_statement 180 = .ok (.invokevirtual 93, 3) := dk_182 0 93 (dk_at dksX7_statement_7 10 rfl rfl)
theorem dX7_statement_183 : decode cX7_statement 183 = .ok (.if_icmp .ge 67, 3) := dk_162 0 67 (dk_at dksX7_statement_7 13 rfl rfl)
theorem dX7_statement_186 : decode cX7_statement 186 = .ok (.aload_n 0, 1) := dk_42 (dk_at dksX7_statement_7 16 rfl rfl)
theorem dX7_statement_187 : decode cX7_statement 187 = .ok (.ldc 177, 2) := dk_18 177 (dk_at dksX7_statement_7 17 rfl rfl)
theorem dX7_statement_189 : decode cX7_statement 189 = .ok (.invokevirtual 78, 3) := dk_182 0 78 (dk_at dksX7_statement_7 19 rfl rfl)
theorem dX7_statement_192 : decode cX7_statement 192 = .ok (.aload_n 0, 1) := dk_42 (dk_at dksX7_statement_7 22 rfl rfl)
theorem dX7_statement_193 : decode cX7_statement 193 = .ok (.aload_n 0, 1) := dk_42 (dk_at dksX7_statement_7 23 rfl rfl)
theorem dX7_statement_194 : decode cX7_statement 194 = .ok (.aload_n 0, 1) := dk_42 (dk_at dksX7_statement_8 0 rfl rfl)
theorem dX7_statement_195 : decode cX7_statement 195 = .ok (.iload_n 2, 1) := dk_28 (dk_at dksX7_statement_8 1 rfl rfl)
theorem dX7_statement_196 : decode cX7_statement 196 = .ok (.invokevirtual 93, 3) := dk_182 0 93 (dk_at dksX7_statement_8 2 rfl rfl)
theorem dX7_statement_199 : decode cX7_statement 199 = .ok (.invokevirtual 93, 3) := dk_182 0 93 (dk_at dksX7_statement_8 5 rfl rfl)
theorem dX7_statement_202 : decode cX7_statement 202 = .ok (.invokevirtual 90, 3) := dk_182 0 90 (dk_at dksX7_statement_8 8 rfl rfl)
theorem dX7_statement_205 : decode cX7_statement 205 = .ok (.goto 45, 3) := dk_167 0 45 (dk_at dksX7_statement_8 11 rfl rfl)
theorem dX7_statement_208 : decode cX7_statement 208 = .ok (.aload_n 0, 1) := dk_42 (dk_at dksX7_statement_8 14 rfl rfl)
theorem dX7_statement_209 : decode cX7_statement 209 = .ok (.ldc 179, 2) := dk_18 179 (dk_at dksX7_statement_8 15 rfl rfl)
theorem dX7_statement_211 : decode cX7_statement 211 = .ok (.invokevirtual 78, 3) := dk_182 0 78 (dk_at dksX7_statement_8 17 rfl rfl)
theorem dX7_statement_214 : decode cX7_statement 214 = .ok (.aload_n 0, 1) := dk_42 (dk_at dksX7_statement_8 20 rfl rfl)
theorem dX7_statement_215 : decode cX7_statement 215 = .ok (.iload_n 2, 1) := dk_28 (dk_at dksX7_statement_8 21 rfl rfl)
theorem dX7_statement_216 : decode cX7_statement 216 = .ok (.invokevirtual 90, 3) := dk_182 0 90 (dk_at dksX7_statement_9 0 rfl rfl)
theorem dX7_statement_219 : decode cX7_statement 219 = .ok (.aload_n 0, 1) := dk_42 (dk_at dksX7_statement_9 3 rfl rfl)
theorem dX7_statement_220 : decode cX7_statement 220 = .ok (.ldc 106, 2) := dk_18 106 (dk_at dksX7_statement_9 4 rfl rfl)
theorem dX7_statement_222 : decode cX7_statement 222 = .ok (.invokevirtual 78, 3) := dk_182 0 78 (dk_at dksX7_statement_9 6 rfl rfl)
theorem dX7_statement_225 : decode cX7_statement 225 = .ok (.aload_n 0, 1) := dk_42 (dk_at dksX7_statement_9 9 rfl rfl)
theorem dX7_statement_226 : decode cX7_statement 226 = .ok (.aload_n 0, 1) := dk_42 (dk_at dksX7_statement_9 10 rfl rfl)
theorem dX7_statement_227 : decode cX7_statement 227 = .ok (.iload_n 2, 1) := dk_28 (dk_at dksX7_statement_9 11 rfl rfl)
theorem dX7_statement_228 : decode cX7_statement 228 = .ok (.invokevirtual 93, 3) := dk_182 0 93 (dk_at dksX7_statement_9 12 rfl rfl)
theorem dX7_statement_231 : decode cX7_statement 231 = .ok (.invokevirtual 90, 3) := dk_182 0 90 (dk_at dksX7_statement_9 15 rfl rfl)
theorem dX7_statement_234 : decode cX7_statement 234 = .ok (.goto 16, 3) := dk_167 0 16 (dk_at dksX7_statement_9 18 rfl rfl)
theorem dX7_statement_237 : decode cX7_statement 237 = .ok (.aload_n 0, 1) := dk_42 (dk_at dksX7_statement_9 21 rfl rfl)
theorem dX7_statement_238 : decode cX7_statement 238 = .ok (.iload_n 1, 1) := dk_27 (dk_at dksX7_statement_9 22 rfl rfl)
theorem dX7_statement_239 : decode cX7_statement 239 = .ok (.iload_n 2, 1) := dk_28 (dk_at dksX7_statement_9 23 rfl rfl)
theorem dX7_statement_240 : decode cX7_statement 240 = .ok (.iload_n 3, 1) := dk_29 (dk_at dksX7_statement_10 0 rfl rfl)
theorem dX7_statement_241 : decode cX7_statement 241 = .ok (.invokevirtual 181, 3) := dk_182 0 181 (dk_at dksX7_statement_10 1 rfl rfl)
theorem dX7_statement_244 : decode cX7_statement 244 = .ok (.aload_n 0, 1) := dk_42 (dk_at dksX7_statement_10 4 rfl rfl)
theorem dX7_statement_245 : decode cX7_statement 245 = .ok (.ldc 184, 2) := dk_18 184 (dk_at dksX7_statement_10 5 rfl rfl)
theorem dX7_statement_247 : decode cX7_statement 247 = .ok (.invokevirtual 78, 3) := dk_182 0 78 (dk_at dksX7_statement_10 7 rfl rfl)
theorem dX7_statement_250 : decode cX7_statement 250 = .ok (.return_, 1) := dk_177 (dk_at dksX7_statement_10 10 rfl rfl)
abbrev cX7_function : ByteArray := prog_8_method_16_code
def yX7_function : MethodName := ⟨RX7, "function", "(II)V"⟩
def dkwX7_function_3 : List UInt8 := [182, 0, 78, 42, 29, 182, 0, 90, 177]
abbrev dktX7_function_3 : List UInt8 := dkwX7_function_3 ++ []
def dkwX7_function_2 : List UInt8 := [18, 143, 182, 0, 78, 42, 29, 182, 0, 135, 42, 29, 182, 0, 93, 62, 167, 255, 216, 42, 18, 106]
abbrev dktX7_function_2 : List UInt8 := dkwX7_function_2 ++ dktX7_function_3
def dkwX7_function_1 : List UInt8 := [180, 0, 57, 180, 0, 96, 29, 51, 16, 13, 160, 0, 32, 29, 42, 28, 182, 0, 93, 164, 0, 9, 42]
abbrev dktX7_function_1 : List UInt8 := dkwX7_function_1 ++ dktX7_function_2
def dkwX7_function_0 : List UInt8 := [42, 18, 186, 182, 0, 78, 42, 28, 182, 0, 135, 42, 18, 102, 182, 0, 78, 42, 28, 182, 0, 93, 62, 42]
abbrev dktX7_function_0 : List UInt8 := dkwX7_function_0 ++ dktX7_function_1
theorem dksX7_function_0 : cX7_function.data.toList.drop 0 = dktX7_function_0 := by decide +kernel
theorem dksX7_function_1 : cX7_function.data.toList.drop 24 = dktX7_function_1 := dk_seg dksX7_function_0 24 rfl rfl
theorem dksX7_function_2 : cX7_function.data.toList.drop 47 = dktX7_function_2 := dk_seg dksX7_function_1 23 rfl rfl
theorem dksX7_function_3 : cX7_function.data.toList.drop 69 = dktX7_function_3 := dk_seg dksX7_function_2 22 rfl rfl
theorem dX7_function_0 : decode cX7_function 0 = .ok (.aload_n 0, 1) := dk_42 (dk_at dksX7_function_0 0 rfl rfl)
theorem dX7_function_1 : decode cX7_function 1 = .ok (.ldc 186, 2) := dk_18 186 (dk_at dksX7_function_0 1 rfl rfl)
theorem dX7_function_3 : decode cX7_function 3 = .ok (.invokevirtual 78, 3) := dk_182 0 78 (dk_at dksX7_function_0 3 rfl rfl)
theorem dX7_function_6 : decode cX7_function 6 = .ok (.aload_n 0, 1) := dk_42 (dk_at dksX7_function_0 6 rfl rfl)
theorem dX7_function_7 : decode cX7_function 7 = .ok (.iload_n 2, 1) := dk_28 (dk_at dksX7_function_0 7 rfl rfl)
theorem dX7_function_8 : decode cX7_function 8 = .ok (.invokevirtual 135, 3) := dk_182 0 135 (dk_at dksX7_function_0 8 rfl rfl)
theorem dX7_function_11 : decode cX7_function 11 = .ok (.aload_n 0, 1) := dk_42 (dk_at dksX7_function_0 11 rfl rfl)
theorem dX7_function_12 : decode cX7_function 12 = .ok (.ldc 102, 2) := dk_18 102 (dk_at dksX7_function_0 12 rfl rfl)
theorem dX7_function_14 : decode cX7_function 14 = .ok (.invokevirtual 78, 3) := dk_182 0 78 (dk_at dksX7_function_0 14 rfl rfl)
theorem dX7_function_17 : decode cX7_function 17 = .ok (.aload_n 0, 1) := dk_42 (dk_at dksX7_function_0 17 rfl rfl)
theorem dX7_function_18 : decode cX7_function 18 = .ok (.iload_n 2, 1) := dk_28 (dk_at dksX7_function_0 18 rfl rfl)
theorem dX7_function_19 : decode cX7_function 19 = .ok (.invokevirtual 93, 3) := dk_182 0 93 (dk_at dksX7_function_0 19 rfl rfl)
theorem dX7_function_22 : decode cX7_function 22 = .ok (.istore_n 3, 1) := dk_62 (dk_at dksX7_function_0 22 rfl rfl)
theorem dX7_function_23 : decode cX7_function 23 = .ok (.aload_n 0, 1) := dk_42 (dk_at dksX7_function_0 23 rfl rfl)
theorem dX7_function_24 : decode cX7_function 24 = .ok (.getfield 57, 3) := dk_180 0 57 (dk_at dksX7_function_1 0 rfl rfl)
theorem dX7_function_27 : decode cX7_function 27 = .ok (.getfield 96, 3) := dk_180 0 96 (dk_at dksX7_function_1 3 rfl rfl)
theorem dX7_function_30 : decode cX7_function 30 = .ok (.iload_n 3, 1) := dk_29 (dk_at dksX7_function_1 6 rfl rfl)
theorem dX7_function_31 : decode cX7_function 31 = .ok (.baload, 1) := dk_51 (dk_at dksX7_function_1 7 rfl rfl)
theorem dX7_function_32 : decode cX7_function 32 = .ok (.bipush 13, 2) := dk_16 13 (dk_at dksX7_function_1 8 rfl rfl)
theorem dX7_function_34 : decode cX7_function 34 = .ok (.if_icmp .ne 32, 3) := dk_160 0 32 (dk_at dksX7_function_1 10 rfl rfl)
theorem dX7_function_37 : decode cX7_function 37 = .ok (.iload_n 3, 1) := dk_29 (dk_at dksX7_function_1 13 rfl rfl)
theorem dX7_function_38 : decode cX7_function 38 = .ok (.aload_n 0, 1) := dk_42 (dk_at dksX7_function_1 14 rfl rfl)
theorem dX7_function_39 : decode cX7_function 39 = .ok (.iload_n 2, 1) := dk_28 (dk_at dksX7_function_1 15 rfl rfl)
theorem dX7_function_40 : decode cX7_function 40 = .ok (.invokevirtual 93, 3) := dk_182 0 93 (dk_at dksX7_function_1 16 rfl rfl)
theorem dX7_function_43 : decode cX7_function 43 = .ok (.if_icmp .le 9, 3) := dk_164 0 9 (dk_at dksX7_function_1 19 rfl rfl)
theorem dX7_function_46 : decode cX7_function 46 = .ok (.aload_n 0, 1) := dk_42 (dk_at dksX7_function_1 22 rfl rfl)
theorem dX7_function_47 : decode cX7_function 47 = .ok (.ldc 143, 2) := dk_18 143 (dk_at dksX7_function_2 0 rfl rfl)
theorem dX7_function_49 : decode cX7_function 49 = .ok (.invokevirtual 78, 3) := dk_182 0 78 (dk_at dksX7_function_2 2 rfl rfl)
theorem dX7_function_52 : decode cX7_function 52 = .ok (.aload_n 0, 1) := dk_42 (dk_at dksX7_function_2 5 rfl rfl)
theorem dX7_function_53 : decode cX7_function 53 = .ok (.iload_n 3, 1) := dk_29 (dk_at dksX7_function_2 6 rfl rfl)
theorem dX7_function_54 : decode cX7_function 54 = .ok (.invokevirtual 135, 3) := dk_182 0 135 (dk_at dksX7_function_2 7 rfl rfl)
theorem dX7_function_57 : decode cX7_function 57 = .ok (.aload_n 0, 1) := dk_42 (dk_at dksX7_function_2 10 rfl rfl)
theorem dX7_function_58 : decode cX7_function 58 = .ok (.iload_n 3, 1) := dk_29 (dk_at dksX7_function_2 11 rfl rfl)
theorem dX7_function_59 : decode cX7_function 59 = .ok (.invokevirtual 93, 3) := dk_182 0 93 (dk_at dksX7_function_2 12 rfl rfl)
theorem dX7_function_62 : decode cX7_function 62 = .ok (.istore_n 3, 1) := dk_62 (dk_at dksX7_function_2 15 rfl rfl)
theorem dX7_function_63 : decode cX7_function 63 = .ok (.goto (-40), 3) := dk_167 255 216 (dk_at dksX7_function_2 16 rfl rfl)
theorem dX7_function_66 : decode cX7_function 66 = .ok (.aload_n 0, 1) := dk_42 (dk_at dksX7_function_2 19 rfl rfl)
theorem dX7_function_67 : decode cX7_function 67 = .ok (.ldc 106, 2) := dk_18 106 (dk_at dksX7_function_2 20 rfl rfl)
theorem dX7_function_69 : decode cX7_function 69 = .ok (.invokevirtual 78, 3) := dk_182 0 78 (dk_at dksX7_function_3 0 rfl rfl)
theorem dX7_function_72 : decode cX7_function 72 = .ok (.aload_n 0, 1) := dk_42 (dk_at dksX7_function_3 3 rfl rfl)
theorem dX7_function_73 : decode cX7_function 73 = .ok (.iload_n 3, 1) := dk_29 (dk_at dksX7_function_3 4 rfl rfl)
theorem dX7_function_74 : decode cX7_function 74 = .ok (.invokevirtual 90, 3) := dk_182 0 90 (dk_at dksX7_function_3 5 rfl rfl)
theorem dX7_function_77 : decode cX7_function 77 = .ok (.return_, 1) := dk_177 (dk_at dksX7_function_3 8 rfl rfl)
abbrev cX7_simple : ByteArray := prog_8_method_17_code
def yX7_simple : MethodName := ⟨RX7, "simple", "(III)V"⟩
def dkwX7_simple_9 : List UInt8 := [182, 0, 90, 42, 18, 106, 182, 0, 78, 167, 0, 14, 42, 18, 194, 182, 0, 78, 42, 28, 182, 0, 90, 177]
abbrev dktX7_simple_9 : List UInt8 := dkwX7_simple_9 ++ []
def dkwX7_simple_8 : List UInt8 := [18, 143, 182, 0, 145, 42, 18, 106, 182, 0, 78, 167, 0, 34, 42, 18, 192, 182, 0, 78, 42, 28]
abbrev dktX7_simple_8 : List UInt8 := dkwX7_simple_8 ++ dktX7_simple_9
def dkwX7_simple_7 : List UInt8 := [42, 21, 4, 182, 0, 135, 42, 18, 102, 182, 0, 78, 42, 42, 21, 4, 182, 0, 93, 42, 27, 182, 0, 93]
abbrev dktX7_simple_7 : List UInt8 := dkwX7_simple_7 ++ dktX7_simple_8
def dkwX7_simple_6 : List UInt8 := [180, 0, 57, 180, 0, 96, 28, 51, 16, 13, 160, 0, 14, 42, 28, 182, 0, 135, 42, 18, 190, 182, 0, 78]
abbrev dktX7_simple_6 : List UInt8 := dkwX7_simple_6 ++ dktX7_simple_7
def dkwX7_simple_5 : List UInt8 := [28, 182, 0, 138, 42, 18, 190, 182, 0, 78, 42, 42, 21, 4, 182, 0, 93, 182, 0, 90, 167, 0, 97, 42]
abbrev dktX7_simple_5 : List UInt8 := dkwX7_simple_5 ++ dktX7_simple_6
def dkwX7_simple_4 : List UInt8 := [167, 0, 141, 42, 28, 182, 0, 135, 42, 18, 190, 182, 0, 78, 42, 21, 4, 182, 0, 90, 167, 0, 121, 42]
abbrev dktX7_simple_4 : List UInt8 := dkwX7_simple_4 ++ dktX7_simple_5
def dkwX7_simple_3 : List UInt8 := [182, 0, 78, 42, 21, 4, 182, 0, 90, 167, 0, 155, 42, 18, 188, 182, 0, 78, 42, 28, 182, 0, 138]
abbrev dktX7_simple_3 : List UInt8 := dkwX7_simple_3 ++ dktX7_simple_4
def dkwX7_simple_2 : List UInt8 := [42, 18, 188, 182, 0, 78, 42, 28, 182, 0, 135, 21, 4, 42, 27, 182, 0, 93, 162, 0, 170, 42, 18, 190]
abbrev dktX7_simple_2 : List UInt8 := dkwX7_simple_2 ++ dktX7_simple_3
def dkwX7_simple_1 : List UInt8 := [170, 0, 0, 0, 0, 0, 0, 225, 0, 0, 0, 3, 0, 0, 0, 10, 0, 0, 0, 48, 0, 0, 0, 84, 0, 0, 0, 98, 0, 0, 0, 118, 0, 0, 0, 142, 0, 0, 0, 225, 0, 0, 0, 225, 0, 0, 0, 205]
abbrev dktX7_simple_1 : List UInt8 := dkwX7_simple_1 ++ dktX7_simple_2
def dkwX7_simple_0 : List UInt8 := [42, 28, 182, 0, 93, 54, 4, 29]
abbrev dktX7_simple_0 : List UInt8 := dkwX7_simple_0 ++ dktX7_simple_1
theorem dksX7_simple_0 : cX7_simple.data.toList.drop 0 = dktX7_simple_0 := by decide +kernel
theorem dksX7_simple_1 : cX7_simple.data.toList.drop 8 = dktX7_simple_1 := dk_seg dksX7_simple_0 8 rfl rfl
theorem dksX7_simple_2 : cX7_simple.data.toList.drop 56 = dktX7_simple_2 := dk_seg dksX7_simple_1 48 rfl rfl
theorem dksX7_simple_3 : cX7_simple.data.toList.drop 80 = dktX7_simple_3 := dk_seg dksX7_simple_2 24 rfl rfl
theorem dksX7_simple_4 : cX7_simple.data.toList.drop 103 = dktX7_simple_4 := dk_seg dksX7_simple_3 23 rfl rfl
theorem dksX7_simple_5 : cX7_simple.data.toList.drop 127 = dktX7_simple_5 := dk_seg dksX7_simple_4 24 rfl rfl
theorem dksX7_simple_6 : cX7_simple.data.toList.drop 151 = dktX7_simple_6 := dk_seg dksX7_simple_5 24 rfl rfl
theorem dksX7_simple_7 : cX7_simple.data.toList.drop 175 = dktX7_simple_7 := dk_seg dksX7_simple_6 24 rfl rfl
theorem dksX7_simple_8 : cX7_simple.data.toList.drop 199 = dktX7_simple_8 := dk_seg dksX7_simple_7 24 rfl rfl
theorem dksX7_simple_9 : cX7_simple.data.toList.drop 221 = dktX7_simple_9 := dk_seg dksX7_simple_8 22 rfl rfl
theorem dX7_simple_0 : decode cX7_simple 0 = .ok (.aload_n 0, 1) := dk_42 (dk_at dksX7_simple_0 0 rfl rfl)
theorem dX7_simple_1 : decode cX7_simple 1 = .ok (.iload_n 2, 1) := dk_28 (dk_at dksX7_simple_0 1 rfl rfl)
theorem dX7_simple_2 : decode cX7_simple 2 = .ok (.invokevirtual 93, 3) := dk_182 0 93 (dk_at dksX7_simple_0 2 rfl rfl)
theorem dX7_simple_5 : decode cX7_simple 5 = .ok (.istore 4, 2) := dk_54 4 (dk_at dksX7_simple_0 5 rfl rfl)
theorem dX7_simple_7 : decode cX7_simple 7 = .ok (.iload_n 3, 1) := dk_29 (dk_at dksX7_simple_0 7 rfl rfl)
theorem dX7_simple_8 : decode cX7_simple 8 = .ok (.tableswitch 225 3 10 #[48, 84, 98, 118, 142, 225, 225, 205], 48) := by decide +kernel
theorem dX7_simple_56 : decode cX7_simple 56 = .ok (.aload_n 0, 1) := dk_42 (dk_at dksX7_simple_2 0 rfl rfl)
theorem dX7_simple_57 : decode cX7_simple 57 = .ok (.ldc 188, 2) := dk_18 188 (dk_at dksX7_simple_2 1 rfl rfl)
theorem dX7_simple_59 : decode cX7_simple 59 = .ok (.invokevirtual 78, 3) := dk_182 0 78 (dk_at dksX7_simple_2 3 rfl rfl)
theorem dX7_simple_62 : decode cX7_simple 62 = .ok (.aload_n 0, 1) := dk_42 (dk_at dksX7_simple_2 6 rfl rfl)
theorem dX7_simple_63 : decode cX7_simple 63 = .ok (.iload_n 2, 1) := dk_28 (dk_at dksX7_simple_2 7 rfl rfl)
theorem dX7_simple_64 : decode cX7_simple 64 = .ok (.invokevirtual 135, 3) := dk_182 0 135 (dk_at dksX7_simple_2 8 rfl rfl)
theorem dX7_simple_67 : decode cX7_simple 67 = .ok (.iload 4, 2) := dk_21 4 (dk_at dksX7_simple_2 11 rfl rfl)
theorem dX7_simple_69 : decode cX7_simple 69 = .ok (.aload_n 0, 1) := dk_42 (dk_at dksX7_simple_2 13 rfl rfl)
theorem dX7_simple_70 : decode cX7_simple 70 = .ok (.iload_n 1, 1) := dk_27 (dk_at dksX7_simple_2 14 rfl rfl)
theorem dX7_simple_71 : decode cX7_simple 71 = .ok (.invokevirtual 93, 3) := dk_182 0 93 (dk_at dksX7_simple_2 15 rfl rfl)
theorem dX7_simple_74 : decode cX7_simple 74 = .ok (.if_icmp .ge 170, 3) := dk_162 0 170 (dk_at dksX7_simple_2 18 rfl rfl)
theorem dX7_simple_77 : decode cX7_simple 77 = .ok (.aload_n 0, 1) := dk_42 (dk_at dksX7_simple_2 21 rfl rfl)
theorem dX7_simple_78 : decode cX7_simple 78 = .ok (.ldc 190, 2) := dk_18 190 (dk_at dksX7_simple_2 22 rfl rfl)
theorem dX7_simple_80 : decode cX7_simple 80 = .ok (.invokevirtual 78, 3) := dk_182 0 78 (dk_at dksX7_simple_3 0 rfl rfl)
theorem dX7_simple_83 : decode cX7_simple 83 = .ok (.aload_n 0, 1) := dk_42 (dk_at dksX7_simple_3 3 rfl rfl)
theorem dX7_simple_84 : decode cX7_simple 84 = .ok (.iload 4, 2) := dk_21 4 (dk_at dksX7_simple_3 4 rfl rfl)
theorem dX7_simple_86 : decode cX7_simple 86 = .ok (.invokevirtual 90, 3) := dk_182 0 90 (dk_at dksX7_simple_3 6 rfl rfl)
theorem dX7_simple_89 : decode cX7_simple 89 = .ok (.goto 155, 3) := dk_167 0 155 (dk_at dksX7_simple_3 9 rfl rfl)
theorem dX7_simple_92 : decode cX7_simple 92 = .ok (.aload_n 0, 1) := dk_42 (dk_at dksX7_simple_3 12 rfl rfl)
theorem dX7_simple_93 : decode cX7_simple 93 = .ok (.ldc 188, 2) := dk_18 188 (dk_at dksX7_simple_3 13 rfl rfl)
theorem dX7_simple_95 : decode cX7_simple 95 = .ok (.invokevirtual 78, 3) := dk_182 0 78 (dk_at dksX7_simple_3 15 rfl rfl)
theorem dX7_simple_98 : decode cX7_simple 98 = .ok (.aload_n 0, 1) := dk_42 (dk_at dksX7_simple_3 18 rfl rfl)
theorem dX7_simple_99 : decode cX7_simple 99 = .ok (.iload_n 2, 1) := dk_28 (dk_at dksX7_simple_3 19 rfl rfl)
theorem dX7_simple_100 : decode cX7_simple 100 = .ok (.invokevirtual 138, 3) := dk_182 0 138 (dk_at dksX7_simple_3 20 rfl rfl)
theorem dX7_simple_103 : decode cX7_simple 103 = .ok (.goto 141, 3) := dk_167 0 141 (dk_at dksX7_simple_4 0 rfl rfl)
theorem dX7_simple_106 : decode cX7_simple 106 = .ok (.aload_n 0, 1) := dk_42 (dk_at dksX7_simple_4 3 rfl rfl)
theorem dX7_simple_107 : decode cX7_simple 107 = .ok (.iload_n 2, 1) := dk_28 (dk_at dksX7_simple_4 4 rfl rfl)
theorem dX7_simple_108 : decode cX7_simple 108 = .ok (.invokevirtual 135, 3) := dk_182 0 135 (dk_at dksX7_simple_4 5 rfl rfl)
theorem dX7_simple_111 : decode cX7_simple 111 = .ok (.aload_n 0, 1) := dk_42 (dk_at dksX7_simple_4 8 rfl rfl)
theorem dX7_simple_112 : decode cX7_simple 112 = .ok (.ldc 190, 2) := dk_18 190 (dk_at dksX7_simple_4 9 rfl rfl)
theorem dX7_simple_114 : decode cX7_simple 114 = .ok (.invokevirtual 78, 3) := dk_182 0 78 (dk_at dksX7_simple_4 11 rfl rfl)
theorem dX7_simple_117 : decode cX7_simple 117 = .ok (.aload_n 0, 1) := dk_42 (dk_at dksX7_simple_4 14 rfl rfl)
theorem dX7_simple_118 : decode cX7_simple 118 = .ok (.iload 4, 2) := dk_21 4 (dk_at dksX7_simple_4 15 rfl rfl)
theorem dX7_simple_120 : decode cX7_simple 120 = .ok (.invokevirtual 90, 3) := dk_182 0 90 (dk_at dksX7_simple_4 17 rfl rfl)
theorem dX7_simple_123 : decode cX7_simple 123 = .ok (.goto 121, 3) := dk_167 0 121 (dk_at dksX7_simple_4 20 rfl rfl)
theorem dX7_simple_126 : decode cX7_simple 126 = .ok (.aload_n 0, 1) := dk_42 (dk_at dksX7_simple_4 23 rfl rfl)
theorem dX7_simple_127 : decode cX7_simple 127 = .ok (.iload_n 2, 1) := dk_28 (dk_at dksX7_simple_5 0 rfl rfl)
theorem dX7_simple_128 : decode cX7_simple 128 = .ok (.invokevirtual 138, 3) := dk_182 0 138 (dk_at dksX7_simple_5 1 rfl rfl)
theorem dX7_simple_131 : decode cX7_simple 131 = .ok (.aload_n 0, 1) := dk_42 (dk_at dksX7_simple_5 4 rfl rfl)
theorem dX7_simple_132 : decode cX7_simple 132 = .ok (.ldc 190, 2) := dk_18 190 (dk_at dksX7_simple_5 5 rfl rfl)
theorem dX7_simple_134 : decode cX7_simple 134 = .ok (.invokevirtual 78, 3) := dk_182 0 78 (dk_at dksX7_simple_5 7 rfl rfl)
theorem dX7_simple_137 : decode cX7_simple 137 = .ok (.aload_n 0, 1) := dk_42 (dk_at dksX7_simple_5 10 rfl rfl)
theorem dX7_simple_138 : decode cX7_simple 138 = .ok (.aload_n 0, 1) := dk_42 (dk_at dksX7_simple_5 11 rfl rfl)
theorem dX7_simple_139 : decode cX7_simple 139 = .ok (.iload 4, 2) := dk_21 4 (dk_at dksX7_simple_5 12 rfl rfl)
theorem dX7_simple_141 : decode cX7_simple 141 = .ok (.invokevirtual 93, 3) := dk_182 0 93 (dk_at dksX7_simple_5 14 rfl rfl)
theorem dX7_simple_144 : decode cX7_simple 144 = .ok (.invokevirtual 90, 3) := dk_182 0 90 (dk_at dksX7_simple_5 17 rfl rfl)
theorem dX7_simple_147 : decode cX7_simple 147 = .ok (.goto 97, 3) := dk_167 0 97 (dk_at dksX7_simple_5 20 rfl rfl)
theorem dX7_simple_150 : decode cX7_simple 150 = .ok (.aload_n 0, 1) := dk_42 (dk_at dksX7_simple_5 23 rfl rfl)
theorem dX7_simple_151 : decode cX7_simple 151 = .ok (.getfield 57, 3) := dk_180 0 57 (dk_at dksX7_simple_6 0 rfl rfl)
theorem dX7_simple_154 : decode cX7_simple 154 = .ok (.getfield 96, 3) := dk_180 0 96 (dk_at dksX7_simple_6 3 rfl rfl)
theorem dX7_simple_157 : decode cX7_simple 157 = .ok (.iload_n 2, 1) := dk_28 (dk_at dksX7_simple_6 6 rfl rfl)
theorem dX7_simple_158 : decode cX7_simple 158 = .ok (.baload, 1) := dk_51 (dk_at dksX7_simple_6 7 rfl rfl)
theorem dX7_simple_159 : decode cX7_simple 159 = .ok (.bipush 13, 2) := dk_16 13 (dk_at dksX7_simple_6 8 rfl rfl)
theorem dX7_simple_161 : decode cX7_simple 161 = .ok (.if_icmp .ne 14, 3) := dk_160 0 14 (dk_at dksX7_simple_6 10 rfl rfl)
theorem dX7_simple_164 : decode cX7_simple 164 = .ok (.aload_n 0, 1) := dk_42 (dk_at dksX7_simple_6 13 rfl rfl)
theorem dX7_simple_165 : decode cX7_simple 165 = .ok (.iload_n 2, 1) := dk_28 (dk_at dksX7_simple_6 14 rfl rfl)
theorem dX7_simple_166 : decode cX7_simple 166 = .ok (.invokevirtual 135, 3) := dk_182 0 135 (dk_at dksX7_simple_6 15 rfl rfl)
theorem dX7_simple_169 : decode cX7_simple 169 = .ok (.aload_n 0, 1) := dk_42 (dk_at dksX7_simple_6 18 rfl rfl)
theorem dX7_simple_170 : decode cX7_simple 170 = .ok (.ldc 190, 2) := dk_18 190 (dk_at dksX7_simple_6 19 rfl rfl)
theorem dX7_simple_172 : decode cX7_simple 172 = .ok (.invokevirtual 78, 3) := dk_182 0 78 (dk_at dksX7_simple_6 21 rfl rfl)
theorem dX7_simple_175 : decode cX7_simple 175 = .ok (.aload_n 0, 1) := dk_42 (dk_at dksX7_simple_7 0 rfl rfl)
theorem dX7_simple_176 : decode cX7_simple 176 = .ok (.iload 4, 2) := dk_21 4 (dk_at dksX7_simple_7 1 rfl rfl)
theorem dX7_simple_178 : decode cX7_simple 178 = .ok (.invokevirtual 135, 3) := dk_182 0 135 (dk_at dksX7_simple_7 3 rfl rfl)
theorem dX7_simple_181 : decode cX7_simple 181 = .ok (.aload_n 0, 1) := dk_42 (dk_at dksX7_simple_7 6 rfl rfl)
theorem dX7_simple_182 : decode cX7_simple 182 = .ok (.ldc 102, 2) := dk_18 102 (dk_at dksX7_simple_7 7 rfl rfl)
theorem dX7_simple_184 : decode cX7_simple 184 = .ok (.invokevirtual 78, 3) := dk_182 0 78 (dk_at dksX7_simple_7 9 rfl rfl)
theorem dX7_simple_187 : decode cX7_simple 187 = .ok (.aload_n 0, 1) := dk_42 (dk_at dksX7_simple_7 12 rfl rfl)
theorem dX7_simple_188 : decode cX7_simple 188 = .ok (.aload_n 0, 1) := dk_42 (dk_at dksX7_simple_7 13 rfl rfl)
theorem dX7_simple_189 : decode cX7_simple 189 = .ok (.iload 4, 2) := dk_21 4 (dk_at dksX7_simple_7 14 rfl rfl)
theorem dX7_simple_191 : decode cX7_simple 191 = .ok (.invokevirtual 93, 3) := dk_182 0 93 (dk_at dksX7_simple_7 16 rfl rfl)
theorem dX7_simple_194 : decode cX7_simple 194 = .ok (.aload_n 0, 1) := dk_42 (dk_at dksX7_simple_7 19 rfl rfl)
theorem dX7_simple_195 : decode cX7_simple 195 = .ok (.iload_n 1, 1) := dk_27 (dk_at dksX7_simple_7 20 rfl rfl)
theorem dX7_simple_196 : decode cX7_simple 196 = .ok (.invokevirtual 93, 3) := dk_182 0 93 (dk_at dksX7_simple_7 21 rfl rfl)
theorem dX7_simple_199 : decode cX7_simple 199 = .ok (.ldc 143, 2) := dk_18 143 (dk_at dksX7_simple_8 0 rfl rfl)
theorem dX7_simple_201 : decode cX7_simple 201 = .ok (.invokevirtual 145, 3) := dk_182 0 145 (dk_at dksX7_simple_8 2 rfl rfl)
theorem dX7_simple_204 : decode cX7_simple 204 = .ok (.aload_n 0, 1) := dk_42 (dk_at dksX7_simple_8 5 rfl rfl)
theorem dX7_simple_205 : decode cX7_simple 205 = .ok (.ldc 106, 2) := dk_18 106 (dk_at dksX7_simple_8 6 rfl rfl)
theorem dX7_simple_207 : decode cX7_simple 207 = .ok (.invokevirtual 78, 3) := dk_182 0 78 (dk_at dksX7_simple_8 8 rfl rfl)
theorem dX7_simple_210 : decode cX7_simple 210 = .ok (.goto 34, 3) := dk_167 0 34 (dk_at dksX7_simple_8 11 rfl rfl)
theorem dX7_simple_213 : decode cX7_simple 213 = .ok (.aload_n 0, 1) := dk_42 (dk_at dksX7_simple_8 14 rfl rfl)
theorem dX7_simple_214 : decode cX7_simple 214 = .ok (.ldc 192, 2) := dk_18 192 (dk_at dksX7_simple_8 15 rfl rfl)
theorem dX7_simple_216 : decode cX7_simple 216 = .ok (.invokevirtual 78, 3) := dk_182 0 78 (dk_at dksX7_simple_8 17 rfl rfl)
theorem dX7_simple_219 : decode cX7_simple 219 = .ok (.aload_n 0, 1) := dk_42 (dk_at dksX7_simple_8 20 rfl rfl)
theorem dX7_simple_220 : decode cX7_simple 220 = .ok (.iload_n 2, 1) := dk_28 (dk_at dksX7_simple_8 21 rfl rfl)
theorem dX7_simple_221 : decode cX7_simple 221 = .ok (.invokevirtual 90, 3) := dk_182 0 90 (dk_at dksX7_simple_9 0 rfl rfl)
theorem dX7_simple_224 : decode cX7_simple 224 = .ok (.aload_n 0, 1) := dk_42 (dk_at dksX7_simple_9 3 rfl rfl)
theorem dX7_simple_225 : decode cX7_simple 225 = .ok (.ldc 106, 2) := dk_18 106 (dk_at dksX7_simple_9 4 rfl rfl)
theorem dX7_simple_227 : decode cX7_simple 227 = .ok (.invokevirtual 78, 3) := dk_182 0 78 (dk_at dksX7_simple_9 6 rfl rfl)
theorem dX7_simple_230 : decode cX7_simple 230 = .ok (.goto 14, 3) := dk_167 0 14 (dk_at dksX7_simple_9 9 rfl rfl)
theorem dX7_simple_233 : decode cX7_simple 233 = .ok (.aload_n 0, 1) := dk_42 (dk_at dksX7_simple_9 12 rfl rfl)
theorem dX7_simple_234 : decode cX7_simple 234 = .ok (.ldc 194, 2) := dk_18 194 (dk_at dksX7_simple_9 13 rfl rfl)
theorem dX7_simple_236 : decode cX7_simple 236 = .ok (.invokevirtual 78, 3) := dk_182 0 78 (dk_at dksX7_simple_9 15 rfl rfl)
theorem dX7_simple_239 : decode cX7_simple 239 = .ok (.aload_n 0, 1) := dk_42 (dk_at dksX7_simple_9 18 rfl rfl)
theorem dX7_simple_240 : decode cX7_simple 240 = .ok (.iload_n 2, 1) := dk_28 (dk_at dksX7_simple_9 19 rfl rfl)
theorem dX7_simple_241 : decode cX7_simple 241 = .ok (.invokevirtual 90, 3) := dk_182 0 90 (dk_at dksX7_simple_9 20 rfl rfl)
theorem dX7_simple_244 : decode cX7_simple 244 = .ok (.return_, 1) := dk_177 (dk_at dksX7_simple_9 23 rfl rfl)
theorem q104 : (Jvm.Cond.initialized "ProgramReader$Writer") ∈ lw_all := lw_g (lw_at lw_m1 10 rfl) rfl
theorem q130 : (Jvm.Cond.fieldLinkNest "ProgramReader$Writer" (28 : Nat) "ProgramReader$Bytes" "size" "I" "ProgramReader") ∈ lw_tbl := lw_at lw_m1 36 rfl
theorem q193 : (Jvm.Cond.fieldLinkNest "ProgramReader$Writer" (96 : Nat) "ProgramReader$Tree" "kinds" "[B" "ProgramReader") ∈ lw_tbl := lw_at lw_m1 99 rfl
theorem q200 : (Jvm.Cond.fieldLinkNest "ProgramReader$Writer" (61 : Nat) "ProgramReader$Tree" "values" "[I" "ProgramReader") ∈ lw_tbl := lw_at lw_m1 106 rfl
theorem q203 : (Jvm.Cond.fieldLinkNest "ProgramReader$Writer" (87 : Nat) "ProgramReader$Tree" "sizes" "[I" "ProgramReader") ∈ lw_tbl := lw_at lw_m1 109 rfl
theorem q291 : (Jvm.Cond.instantiable "ProgramReader$Writer" (3 : Nat)) ∈ lw_all := lw_g (lw_at lw_m1 197 rfl) rfl
theorem q293 : (Jvm.Cond.instanceMethod ({ cls := "ProgramReader$Writer", name := "<init>", desc := "(LProgramReader$Names;)V" } : Jvm.MethodName)) ∈ lw_all := lw_g (lw_at lw_m1 199 rfl) rfl
theorem q294 : (Jvm.Cond.code ({ cls := "ProgramReader$Writer", name := "<init>", desc := "(LProgramReader$Names;)V" } : Jvm.MethodName) prog_8_method_1_code (2 : Nat) (Option.none : Option Jvm.ClassFile.FieldType)) ∈ lw_all := lw_g (lw_at lw_m1 200 rfl) rfl
theorem q295 : (Jvm.Cond.methodLink "ProgramReader$Writer" (3 : Nat) ({ cls := "java/lang/Object", name := "<init>", desc := "()V" } : Jvm.MethodName)) ∈ lw_all := lw_g (lw_at lw_m1 201 rfl) rfl
theorem q296 : (Jvm.Cond.fieldLink "ProgramReader$Writer" (9 : Nat) "ProgramReader$Writer" "names" "LProgramReader$Names;") ∈ lw_all := lw_g (lw_at lw_m1 202 rfl) rfl
theorem q297 : (Jvm.Cond.fieldLink "ProgramReader$Writer" (57 : Nat) "ProgramReader$Writer" "tree" "LProgramReader$Tree;") ∈ lw_all := lw_g (lw_at lw_m1 203 rfl) rfl
theorem q298 : (Jvm.Cond.fieldLink "ProgramReader$Writer" (24 : Nat) "ProgramReader$Writer" "out" "LProgramReader$Bytes;") ∈ lw_all := lw_g (lw_at lw_m1 204 rfl) rfl
theorem q299 : (Jvm.Cond.laysFinal "ProgramReader$Writer" "ProgramReader$Writer" "names" "LProgramReader$Names;") ∈ lw_all := lw_g (lw_at lw_m1 205 rfl) rfl
theorem q300 : (Jvm.Cond.soleField "ProgramReader$Writer" "names") ∈ lw_all := lw_g (lw_at lw_m1 206 rfl) rfl
theorem q301 : (Jvm.Cond.lays "ProgramReader$Writer" "ProgramReader$Writer" "tree" "LProgramReader$Tree;") ∈ lw_all := lw_g (lw_at lw_m1 207 rfl) rfl
theorem q302 : (Jvm.Cond.soleField "ProgramReader$Writer" "tree") ∈ lw_all := lw_g (lw_at lw_m1 208 rfl) rfl
theorem q303 : (Jvm.Cond.lays "ProgramReader$Writer" "ProgramReader$Writer" "out" "LProgramReader$Bytes;") ∈ lw_all := lw_g (lw_at lw_m1 209 rfl) rfl
theorem q304 : (Jvm.Cond.soleField "ProgramReader$Writer" "out") ∈ lw_all := lw_g (lw_at lw_m1 210 rfl) rfl
theorem q305 : (Jvm.Cond.superclass "ProgramReader$Writer" "java/lang/Object") ∈ lw_all := lw_g (lw_at lw_m1 211 rfl) rfl
theorem q754 : (Jvm.Cond.instanceMethod ({ cls := "ProgramReader$Writer", name := "write", desc := "(LProgramReader$Tree;ILProgramReader$Bytes;)V" } : Jvm.MethodName)) ∈ lw_all := lw_g (lw_at lw_m3 180 rfl) rfl
theorem q755 : (Jvm.Cond.selects "ProgramReader$Writer" ({ cls := "ProgramReader$Writer", name := "write", desc := "(LProgramReader$Tree;ILProgramReader$Bytes;)V" } : Jvm.MethodName) ({ cls := "ProgramReader$Writer", name := "write", desc := "(LProgramReader$Tree;ILProgramReader$Bytes;)V" } : Jvm.MethodName)) ∈ lw_all := lw_g (lw_at lw_m3 181 rfl) rfl
theorem q756 : (Jvm.Cond.code ({ cls := "ProgramReader$Writer", name := "write", desc := "(LProgramReader$Tree;ILProgramReader$Bytes;)V" } : Jvm.MethodName) prog_8_method_18_code (4 : Nat) (Option.none : Option Jvm.ClassFile.FieldType)) ∈ lw_all := lw_g (lw_at lw_m3 182 rfl) rfl
theorem q757 : (Jvm.Cond.methodLink "ProgramReader$Writer" (90 : Nat) ({ cls := "ProgramReader$Writer", name := "write", desc := "(I)V" } : Jvm.MethodName)) ∈ lw_all := lw_g (lw_at lw_m3 183 rfl) rfl
theorem q758 : (Jvm.Cond.privateMethod ({ cls := "ProgramReader$Writer", name := "write", desc := "(I)V" } : Jvm.MethodName)) ∈ lw_tbl := lw_at lw_m3 184 rfl
theorem q759 : (Jvm.Cond.instanceMethod ({ cls := "ProgramReader$Writer", name := "write", desc := "(I)V" } : Jvm.MethodName)) ∈ lw_all := lw_g (lw_at lw_m3 185 rfl) rfl
theorem q760 : (Jvm.Cond.code ({ cls := "ProgramReader$Writer", name := "write", desc := "(I)V" } : Jvm.MethodName) prog_8_method_14_code (4 : Nat) (Option.none : Option Jvm.ClassFile.FieldType)) ∈ lw_all := lw_g (lw_at lw_m3 186 rfl) rfl
theorem q761 : (Jvm.Cond.methodLink "ProgramReader$Writer" (149 : Nat) ({ cls := "ProgramReader$Writer", name := "signed", desc := "(I)V" } : Jvm.MethodName)) ∈ lw_all := lw_g (lw_at lw_m3 187 rfl) rfl
theorem q762 : (Jvm.Cond.privateMethod ({ cls := "ProgramReader$Writer", name := "signed", desc := "(I)V" } : Jvm.MethodName)) ∈ lw_tbl := lw_at lw_m3 188 rfl
theorem q763 : (Jvm.Cond.instanceMethod ({ cls := "ProgramReader$Writer", name := "signed", desc := "(I)V" } : Jvm.MethodName)) ∈ lw_all := lw_g (lw_at lw_m3 189 rfl) rfl
theorem q764 : (Jvm.Cond.code ({ cls := "ProgramReader$Writer", name := "signed", desc := "(I)V" } : Jvm.MethodName) prog_8_method_10_code (3 : Nat) (Option.none : Option Jvm.ClassFile.FieldType)) ∈ lw_all := lw_g (lw_at lw_m3 190 rfl) rfl
theorem q765 : (Jvm.Cond.stringRef "ProgramReader$Writer" (108 : Nat) "+") ∈ lw_tbl := lw_at lw_m3 191 rfl
theorem q766 : (Jvm.Cond.methodLink "ProgramReader$Writer" (78 : Nat) ({ cls := "ProgramReader$Writer", name := "put", desc := "(Ljava/lang/String;)V" } : Jvm.MethodName)) ∈ lw_all := lw_g (lw_at lw_m3 192 rfl) rfl
theorem q767 : (Jvm.Cond.privateMethod ({ cls := "ProgramReader$Writer", name := "put", desc := "(Ljava/lang/String;)V" } : Jvm.MethodName)) ∈ lw_tbl := lw_at lw_m3 193 rfl
theorem q768 : (Jvm.Cond.instanceMethod ({ cls := "ProgramReader$Writer", name := "put", desc := "(Ljava/lang/String;)V" } : Jvm.MethodName)) ∈ lw_all := lw_g (lw_at lw_m3 194 rfl) rfl
theorem q769 : (Jvm.Cond.code ({ cls := "ProgramReader$Writer", name := "put", desc := "(Ljava/lang/String;)V" } : Jvm.MethodName) prog_8_method_4_code (2 : Nat) (Option.none : Option Jvm.ClassFile.FieldType)) ∈ lw_all := lw_g (lw_at lw_m3 195 rfl) rfl
theorem q770 : (Jvm.Cond.methodLink "ProgramReader$Writer" (45 : Nat) ({ cls := "java/lang/String", name := "charAt", desc := "(I)C" } : Jvm.MethodName)) ∈ lw_all := lw_g (lw_at lw_m3 196 rfl) rfl
theorem q771 : (Jvm.Cond.methodLink "ProgramReader$Writer" (51 : Nat) ({ cls := "ProgramReader$Writer", name := "apart", desc := "(I)V" } : Jvm.MethodName)) ∈ lw_all := lw_g (lw_at lw_m3 197 rfl) rfl
theorem q772 : (Jvm.Cond.privateMethod ({ cls := "ProgramReader$Writer", name := "apart", desc := "(I)V" } : Jvm.MethodName)) ∈ lw_tbl := lw_at lw_m3 198 rfl
theorem q773 : (Jvm.Cond.instanceMethod ({ cls := "ProgramReader$Writer", name := "apart", desc := "(I)V" } : Jvm.MethodName)) ∈ lw_all := lw_g (lw_at lw_m3 199 rfl) rfl
theorem q774 : (Jvm.Cond.code ({ cls := "ProgramReader$Writer", name := "apart", desc := "(I)V" } : Jvm.MethodName) prog_8_method_3_code (2 : Nat) (Option.none : Option Jvm.ClassFile.FieldType)) ∈ lw_all := lw_g (lw_at lw_m3 200 rfl) rfl
theorem q775 : (Jvm.Cond.methodLink "ProgramReader$Writer" (34 : Nat) ({ cls := "ProgramReader$Bytes", name := "get", desc := "(I)I" } : Jvm.MethodName)) ∈ lw_all := lw_g (lw_at lw_m3 201 rfl) rfl
theorem q776 : (Jvm.Cond.methodLink "ProgramReader$Writer" (38 : Nat) ({ cls := "ProgramReader$Writer", name := "isWord", desc := "(I)Z" } : Jvm.MethodName)) ∈ lw_all := lw_g (lw_at lw_m3 202 rfl) rfl
theorem q777 : (Jvm.Cond.static ({ cls := "ProgramReader$Writer", name := "isWord", desc := "(I)Z" } : Jvm.MethodName)) ∈ lw_all := lw_g (lw_at lw_m3 203 rfl) rfl
theorem q778 : (Jvm.Cond.code ({ cls := "ProgramReader$Writer", name := "isWord", desc := "(I)Z" } : Jvm.MethodName) prog_8_method_2_code (1 : Nat) (Option.some Jvm.ClassFile.FieldType.boolean)) ∈ lw_all := lw_g (lw_at lw_m3 204 rfl) rfl
theorem q779 : (Jvm.Cond.methodLinkNest "ProgramReader$Writer" (15 : Nat) ({ cls := "ProgramReader$Tokens", name := "begins", desc := "(I)Z" } : Jvm.MethodName) "ProgramReader") ∈ lw_tbl := lw_at lw_m3 205 rfl
theorem q780 : (Jvm.Cond.methodLinkNest "ProgramReader$Writer" (21 : Nat) ({ cls := "ProgramReader$Tokens", name := "isDigit", desc := "(I)Z" } : Jvm.MethodName) "ProgramReader") ∈ lw_tbl := lw_at lw_m3 206 rfl
theorem q781 : (Jvm.Cond.methodLink "ProgramReader$Writer" (41 : Nat) ({ cls := "ProgramReader$Bytes", name := "add", desc := "(I)V" } : Jvm.MethodName)) ∈ lw_all := lw_g (lw_at lw_m3 207 rfl) rfl
theorem q782 : (Jvm.Cond.methodLink "ProgramReader$Writer" (54 : Nat) ({ cls := "ProgramReader$Bytes", name := "add", desc := "(Ljava/lang/String;)V" } : Jvm.MethodName)) ∈ lw_all := lw_g (lw_at lw_m3 208 rfl) rfl
theorem q789 : (Jvm.Cond.methodLink "ProgramReader$Writer" (110 : Nat) ({ cls := "ProgramReader$Writer", name := "part", desc := "(III)V" } : Jvm.MethodName)) ∈ lw_all := lw_g (lw_at lw_m3 215 rfl) rfl
theorem q790 : (Jvm.Cond.privateMethod ({ cls := "ProgramReader$Writer", name := "part", desc := "(III)V" } : Jvm.MethodName)) ∈ lw_tbl := lw_at lw_m3 216 rfl
theorem q791 : (Jvm.Cond.instanceMethod ({ cls := "ProgramReader$Writer", name := "part", desc := "(III)V" } : Jvm.MethodName)) ∈ lw_all := lw_g (lw_at lw_m3 217 rfl) rfl
theorem q792 : (Jvm.Cond.code ({ cls := "ProgramReader$Writer", name := "part", desc := "(III)V" } : Jvm.MethodName) prog_8_method_9_code (7 : Nat) (Option.none : Option Jvm.ClassFile.FieldType)) ∈ lw_all := lw_g (lw_at lw_m3 218 rfl) rfl
theorem q793 : (Jvm.Cond.stringRef "ProgramReader$Writer" (100 : Nat) "[") ∈ lw_tbl := lw_at lw_m3 219 rfl
theorem q794 : (Jvm.Cond.stringRef "ProgramReader$Writer" (102 : Nat) "(") ∈ lw_tbl := lw_at lw_m3 220 rfl
theorem q795 : (Jvm.Cond.stringRef "ProgramReader$Writer" (104 : Nat) "]") ∈ lw_tbl := lw_at lw_m3 221 rfl
theorem q796 : (Jvm.Cond.stringRef "ProgramReader$Writer" (106 : Nat) ")") ∈ lw_tbl := lw_at lw_m3 222 rfl
theorem q797 : (Jvm.Cond.stringRef "ProgramReader$Writer" (76 : Nat) "-") ∈ lw_tbl := lw_at lw_m3 223 rfl
theorem q798 : (Jvm.Cond.stringRef "ProgramReader$Writer" (114 : Nat) "*") ∈ lw_tbl := lw_at lw_m3 224 rfl
theorem q799 : (Jvm.Cond.stringRef "ProgramReader$Writer" (116 : Nat) "/") ∈ lw_tbl := lw_at lw_m3 225 rfl
theorem q800 : (Jvm.Cond.stringRef "ProgramReader$Writer" (118 : Nat) "%") ∈ lw_tbl := lw_at lw_m3 226 rfl
theorem q801 : (Jvm.Cond.methodLink "ProgramReader$Writer" (161 : Nat) ({ cls := "ProgramReader$Writer", name := "worth", desc := "(I)V" } : Jvm.MethodName)) ∈ lw_all := lw_g (lw_at lw_m3 227 rfl) rfl
theorem q802 : (Jvm.Cond.privateMethod ({ cls := "ProgramReader$Writer", name := "worth", desc := "(I)V" } : Jvm.MethodName)) ∈ lw_tbl := lw_at lw_m3 228 rfl
theorem q803 : (Jvm.Cond.instanceMethod ({ cls := "ProgramReader$Writer", name := "worth", desc := "(I)V" } : Jvm.MethodName)) ∈ lw_all := lw_g (lw_at lw_m3 229 rfl) rfl
theorem q804 : (Jvm.Cond.code ({ cls := "ProgramReader$Writer", name := "worth", desc := "(I)V" } : Jvm.MethodName) prog_8_method_12_code (3 : Nat) (Option.none : Option Jvm.ClassFile.FieldType)) ∈ lw_all := lw_g (lw_at lw_m3 230 rfl) rfl
theorem q805 : (Jvm.Cond.methodLink "ProgramReader$Writer" (132 : Nat) ({ cls := "ProgramReader$Writer", name := "number", desc := "(I)V" } : Jvm.MethodName)) ∈ lw_all := lw_g (lw_at lw_m3 231 rfl) rfl
theorem q806 : (Jvm.Cond.privateMethod ({ cls := "ProgramReader$Writer", name := "number", desc := "(I)V" } : Jvm.MethodName)) ∈ lw_tbl := lw_at lw_m3 232 rfl
theorem q807 : (Jvm.Cond.instanceMethod ({ cls := "ProgramReader$Writer", name := "number", desc := "(I)V" } : Jvm.MethodName)) ∈ lw_all := lw_g (lw_at lw_m3 233 rfl) rfl
theorem q808 : (Jvm.Cond.code ({ cls := "ProgramReader$Writer", name := "number", desc := "(I)V" } : Jvm.MethodName) prog_8_method_6_code (6 : Nat) (Option.none : Option Jvm.ClassFile.FieldType)) ∈ lw_all := lw_g (lw_at lw_m3 234 rfl) rfl
theorem q809 : (Jvm.Cond.constantLong "ProgramReader$Writer" (81 : Nat) (9 : Int64)) ∈ lw_all := lw_g (lw_at lw_m3 235 rfl) rfl
theorem q810 : (Jvm.Cond.constantLong "ProgramReader$Writer" (83 : Nat) (10 : Int64)) ∈ lw_all := lw_g (lw_at lw_m3 236 rfl) rfl
theorem q811 : (Jvm.Cond.constantLong "ProgramReader$Writer" (85 : Nat) (48 : Int64)) ∈ lw_all := lw_g (lw_at lw_m3 237 rfl) rfl
theorem q812 : (Jvm.Cond.methodLink "ProgramReader$Writer" (135 : Nat) ({ cls := "ProgramReader$Writer", name := "name", desc := "(I)V" } : Jvm.MethodName)) ∈ lw_all := lw_g (lw_at lw_m3 238 rfl) rfl
theorem q813 : (Jvm.Cond.privateMethod ({ cls := "ProgramReader$Writer", name := "name", desc := "(I)V" } : Jvm.MethodName)) ∈ lw_tbl := lw_at lw_m3 239 rfl
theorem q814 : (Jvm.Cond.instanceMethod ({ cls := "ProgramReader$Writer", name := "name", desc := "(I)V" } : Jvm.MethodName)) ∈ lw_all := lw_g (lw_at lw_m4 0 rfl) rfl
theorem q815 : (Jvm.Cond.code ({ cls := "ProgramReader$Writer", name := "name", desc := "(I)V" } : Jvm.MethodName) prog_8_method_5_code (4 : Nat) (Option.none : Option Jvm.ClassFile.FieldType)) ∈ lw_all := lw_g (lw_at lw_m4 1 rfl) rfl
theorem q816 : (Jvm.Cond.methodLink "ProgramReader$Writer" (67 : Nat) ({ cls := "ProgramReader$Names", name := "letter", desc := "(II)I" } : Jvm.MethodName)) ∈ lw_all := lw_g (lw_at lw_m4 2 rfl) rfl
theorem q817 : (Jvm.Cond.methodLink "ProgramReader$Writer" (73 : Nat) ({ cls := "ProgramReader$Names", name := "length", desc := "(I)I" } : Jvm.MethodName)) ∈ lw_all := lw_g (lw_at lw_m4 3 rfl) rfl
theorem q818 : (Jvm.Cond.methodLink "ProgramReader$Writer" (138 : Nat) ({ cls := "ProgramReader$Writer", name := "cell", desc := "(I)V" } : Jvm.MethodName)) ∈ lw_all := lw_g (lw_at lw_m4 4 rfl) rfl
theorem q819 : (Jvm.Cond.privateMethod ({ cls := "ProgramReader$Writer", name := "cell", desc := "(I)V" } : Jvm.MethodName)) ∈ lw_tbl := lw_at lw_m4 5 rfl
theorem q820 : (Jvm.Cond.instanceMethod ({ cls := "ProgramReader$Writer", name := "cell", desc := "(I)V" } : Jvm.MethodName)) ∈ lw_all := lw_g (lw_at lw_m4 6 rfl) rfl
theorem q821 : (Jvm.Cond.code ({ cls := "ProgramReader$Writer", name := "cell", desc := "(I)V" } : Jvm.MethodName) prog_8_method_13_code (2 : Nat) (Option.none : Option Jvm.ClassFile.FieldType)) ∈ lw_all := lw_g (lw_at lw_m4 7 rfl) rfl
theorem q822 : (Jvm.Cond.stringRef "ProgramReader$Writer" (141 : Nat) "any") ∈ lw_tbl := lw_at lw_m4 8 rfl
theorem q823 : (Jvm.Cond.methodLink "ProgramReader$Writer" (93 : Nat) ({ cls := "ProgramReader$Writer", name := "after", desc := "(I)I" } : Jvm.MethodName)) ∈ lw_all := lw_g (lw_at lw_m4 9 rfl) rfl
theorem q824 : (Jvm.Cond.privateMethod ({ cls := "ProgramReader$Writer", name := "after", desc := "(I)I" } : Jvm.MethodName)) ∈ lw_tbl := lw_at lw_m4 10 rfl
theorem q825 : (Jvm.Cond.instanceMethod ({ cls := "ProgramReader$Writer", name := "after", desc := "(I)I" } : Jvm.MethodName)) ∈ lw_all := lw_g (lw_at lw_m4 11 rfl) rfl
theorem q826 : (Jvm.Cond.code ({ cls := "ProgramReader$Writer", name := "after", desc := "(I)I" } : Jvm.MethodName) prog_8_method_7_code (2 : Nat) (Option.some Jvm.ClassFile.FieldType.int)) ∈ lw_all := lw_g (lw_at lw_m4 12 rfl) rfl
theorem q827 : (Jvm.Cond.stringRef "ProgramReader$Writer" (143 : Nat) ",") ∈ lw_tbl := lw_at lw_m4 13 rfl
theorem q828 : (Jvm.Cond.methodLink "ProgramReader$Writer" (145 : Nat) ({ cls := "ProgramReader$Writer", name := "row", desc := "(IILjava/lang/String;)V" } : Jvm.MethodName)) ∈ lw_all := lw_g (lw_at lw_m4 14 rfl) rfl
theorem q829 : (Jvm.Cond.privateMethod ({ cls := "ProgramReader$Writer", name := "row", desc := "(IILjava/lang/String;)V" } : Jvm.MethodName)) ∈ lw_tbl := lw_at lw_m4 15 rfl
theorem q830 : (Jvm.Cond.instanceMethod ({ cls := "ProgramReader$Writer", name := "row", desc := "(IILjava/lang/String;)V" } : Jvm.MethodName)) ∈ lw_all := lw_g (lw_at lw_m4 16 rfl) rfl
theorem q831 : (Jvm.Cond.code ({ cls := "ProgramReader$Writer", name := "row", desc := "(IILjava/lang/String;)V" } : Jvm.MethodName) prog_8_method_8_code (5 : Nat) (Option.none : Option Jvm.ClassFile.FieldType)) ∈ lw_all := lw_g (lw_at lw_m4 17 rfl) rfl
theorem q832 : (Jvm.Cond.stringRef "ProgramReader$Writer" (152 : Nat) "||") ∈ lw_tbl := lw_at lw_m4 18 rfl
theorem q833 : (Jvm.Cond.stringRef "ProgramReader$Writer" (154 : Nat) "&&") ∈ lw_tbl := lw_at lw_m4 19 rfl
theorem q834 : (Jvm.Cond.stringRef "ProgramReader$Writer" (156 : Nat) "!") ∈ lw_tbl := lw_at lw_m4 20 rfl
theorem q835 : (Jvm.Cond.methodLink "ProgramReader$Writer" (158 : Nat) ({ cls := "ProgramReader$Writer", name := "relation", desc := "(I)V" } : Jvm.MethodName)) ∈ lw_all := lw_g (lw_at lw_m4 21 rfl) rfl
theorem q836 : (Jvm.Cond.privateMethod ({ cls := "ProgramReader$Writer", name := "relation", desc := "(I)V" } : Jvm.MethodName)) ∈ lw_tbl := lw_at lw_m4 22 rfl
theorem q837 : (Jvm.Cond.instanceMethod ({ cls := "ProgramReader$Writer", name := "relation", desc := "(I)V" } : Jvm.MethodName)) ∈ lw_all := lw_g (lw_at lw_m4 23 rfl) rfl
theorem q838 : (Jvm.Cond.code ({ cls := "ProgramReader$Writer", name := "relation", desc := "(I)V" } : Jvm.MethodName) prog_8_method_11_code (4 : Nat) (Option.none : Option Jvm.ClassFile.FieldType)) ∈ lw_all := lw_g (lw_at lw_m4 24 rfl) rfl
theorem q839 : (Jvm.Cond.stringRef "ProgramReader$Writer" (120 : Nat) "<") ∈ lw_tbl := lw_at lw_m4 25 rfl
theorem q840 : (Jvm.Cond.stringRef "ProgramReader$Writer" (122 : Nat) "<=") ∈ lw_tbl := lw_at lw_m4 26 rfl
theorem q841 : (Jvm.Cond.stringRef "ProgramReader$Writer" (124 : Nat) ">") ∈ lw_tbl := lw_at lw_m4 27 rfl
theorem q842 : (Jvm.Cond.stringRef "ProgramReader$Writer" (126 : Nat) ">=") ∈ lw_tbl := lw_at lw_m4 28 rfl
theorem q843 : (Jvm.Cond.stringRef "ProgramReader$Writer" (128 : Nat) "==") ∈ lw_tbl := lw_at lw_m4 29 rfl
theorem q844 : (Jvm.Cond.stringRef "ProgramReader$Writer" (130 : Nat) "!=") ∈ lw_tbl := lw_at lw_m4 30 rfl
theorem q845 : (Jvm.Cond.methodLink "ProgramReader$Writer" (164 : Nat) ({ cls := "ProgramReader$Writer", name := "statement", desc := "(III)V" } : Jvm.MethodName)) ∈ lw_all := lw_g (lw_at lw_m4 31 rfl) rfl
theorem q846 : (Jvm.Cond.privateMethod ({ cls := "ProgramReader$Writer", name := "statement", desc := "(III)V" } : Jvm.MethodName)) ∈ lw_tbl := lw_at lw_m4 32 rfl
theorem q847 : (Jvm.Cond.instanceMethod ({ cls := "ProgramReader$Writer", name := "statement", desc := "(III)V" } : Jvm.MethodName)) ∈ lw_all := lw_g (lw_at lw_m4 33 rfl) rfl
theorem q848 : (Jvm.Cond.code ({ cls := "ProgramReader$Writer", name := "statement", desc := "(III)V" } : Jvm.MethodName) prog_8_method_15_code (5 : Nat) (Option.none : Option Jvm.ClassFile.FieldType)) ∈ lw_all := lw_g (lw_at lw_m4 34 rfl) rfl
theorem q849 : (Jvm.Cond.methodLink "ProgramReader$Writer" (167 : Nat) ({ cls := "ProgramReader$Writer", name := "function", desc := "(II)V" } : Jvm.MethodName)) ∈ lw_all := lw_g (lw_at lw_m4 35 rfl) rfl
theorem q850 : (Jvm.Cond.privateMethod ({ cls := "ProgramReader$Writer", name := "function", desc := "(II)V" } : Jvm.MethodName)) ∈ lw_tbl := lw_at lw_m4 36 rfl
theorem q851 : (Jvm.Cond.instanceMethod ({ cls := "ProgramReader$Writer", name := "function", desc := "(II)V" } : Jvm.MethodName)) ∈ lw_all := lw_g (lw_at lw_m4 37 rfl) rfl
theorem q852 : (Jvm.Cond.code ({ cls := "ProgramReader$Writer", name := "function", desc := "(II)V" } : Jvm.MethodName) prog_8_method_16_code (4 : Nat) (Option.none : Option Jvm.ClassFile.FieldType)) ∈ lw_all := lw_g (lw_at lw_m4 38 rfl) rfl
theorem q853 : (Jvm.Cond.stringRef "ProgramReader$Writer" (186 : Nat) "fun") ∈ lw_tbl := lw_at lw_m4 39 rfl
theorem q854 : (Jvm.Cond.stringRef "ProgramReader$Writer" (171 : Nat) "{") ∈ lw_tbl := lw_at lw_m4 40 rfl
theorem q855 : (Jvm.Cond.stringRef "ProgramReader$Writer" (173 : Nat) "}") ∈ lw_tbl := lw_at lw_m4 41 rfl
theorem q856 : (Jvm.Cond.stringRef "ProgramReader$Writer" (175 : Nat) "if(") ∈ lw_tbl := lw_at lw_m4 42 rfl
theorem q857 : (Jvm.Cond.stringRef "ProgramReader$Writer" (177 : Nat) "else") ∈ lw_tbl := lw_at lw_m4 43 rfl
theorem q858 : (Jvm.Cond.stringRef "ProgramReader$Writer" (179 : Nat) "while(") ∈ lw_tbl := lw_at lw_m4 44 rfl
theorem q859 : (Jvm.Cond.methodLink "ProgramReader$Writer" (181 : Nat) ({ cls := "ProgramReader$Writer", name := "simple", desc := "(III)V" } : Jvm.MethodName)) ∈ lw_all := lw_g (lw_at lw_m4 45 rfl) rfl
theorem q860 : (Jvm.Cond.privateMethod ({ cls := "ProgramReader$Writer", name := "simple", desc := "(III)V" } : Jvm.MethodName)) ∈ lw_tbl := lw_at lw_m4 46 rfl
theorem q861 : (Jvm.Cond.instanceMethod ({ cls := "ProgramReader$Writer", name := "simple", desc := "(III)V" } : Jvm.MethodName)) ∈ lw_all := lw_g (lw_at lw_m4 47 rfl) rfl
theorem q862 : (Jvm.Cond.code ({ cls := "ProgramReader$Writer", name := "simple", desc := "(III)V" } : Jvm.MethodName) prog_8_method_17_code (5 : Nat) (Option.none : Option Jvm.ClassFile.FieldType)) ∈ lw_all := lw_g (lw_at lw_m4 48 rfl) rfl
theorem q863 : (Jvm.Cond.stringRef "ProgramReader$Writer" (188 : Nat) "var") ∈ lw_tbl := lw_at lw_m4 49 rfl
theorem q864 : (Jvm.Cond.stringRef "ProgramReader$Writer" (190 : Nat) "=") ∈ lw_tbl := lw_at lw_m4 50 rfl
theorem q865 : (Jvm.Cond.stringRef "ProgramReader$Writer" (192 : Nat) "assert(") ∈ lw_tbl := lw_at lw_m4 51 rfl
theorem q866 : (Jvm.Cond.stringRef "ProgramReader$Writer" (194 : Nat) "return") ∈ lw_tbl := lw_at lw_m4 52 rfl
theorem q867 : (Jvm.Cond.stringRef "ProgramReader$Writer" (184 : Nat) ";") ∈ lw_tbl := lw_at lw_m4 53 rfl
theorem in_X7 : ∀ w ∈ wsX70, w ∈ lw_all := lw_in wsX70 [299, 301, 303] (by decide +kernel) (by decide +kernel)
