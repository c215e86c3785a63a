/-! java/lang/Object -/
set_option maxRecDepth 100000
def RJ9 : String := "java/lang/Object"
abbrev cJ9_init : ByteArray := object_method_1_code
def yJ9_init : MethodName := ⟨RJ9, "<init>", "()V"⟩
theorem dJ9_init_0 : decode cJ9_init 0 = .ok (.return_, 1) := by decide +kernel
theorem q120 : (Jvm.Cond.instanceMethod ({ cls := "java/lang/Object", name := "<init>", desc := "()V" } : Jvm.MethodName)) ∈ lw_all := lw_g (lw_at lw_m1 26 rfl) rfl
theorem q121 : (Jvm.Cond.code ({ cls := "java/lang/Object", name := "<init>", desc := "()V" } : Jvm.MethodName) object_method_1_code (1 : Nat) (Option.none : Option Jvm.ClassFile.FieldType)) ∈ lw_all := lw_g (lw_at lw_m1 27 rfl) rfl
theorem q238 : (Jvm.Cond.native ({ cls := "java/lang/Object", name := "clone", desc := "()Ljava/lang/Object;" } : Jvm.MethodName)) ∈ lw_all := lw_g (lw_at lw_m1 144 rfl) rfl
theorem q239 : (Jvm.Cond.instanceMethod ({ cls := "java/lang/Object", name := "clone", desc := "()Ljava/lang/Object;" } : Jvm.MethodName)) ∈ lw_all := lw_g (lw_at lw_m1 145 rfl) rfl
theorem q1259 : (Jvm.Cond.initialized "java/lang/Object") ∈ lw_all := lw_g (lw_at lw_m5 205 rfl) rfl

/-! ProgramReader -/
set_option maxRecDepth 100000
def RX0 : String := "ProgramReader"
def TX0 : u_T := fun k => match k with
  | 0 => ("ProgramReader", "tape", "LProgramReader$Bytes;", true)
  | 1 => ("ProgramReader", "paper", "LProgramReader$Bytes;", true)
  | 2 => ("ProgramReader", "draft", "LProgramReader$Bytes;", true)
  | 3 => ("ProgramReader", "names", "LProgramReader$Names;", true)
  | 4 => ("ProgramReader", "first", "LProgramReader$Tree;", true)
  | 5 => ("ProgramReader", "second", "LProgramReader$Tree;", true)
  | 6 => ("ProgramReader", "reader", "LProgramReader$Reader;", true)
  | _ => ("ProgramReader", "writer", "LProgramReader$Writer;", true)
def tyX0 : Nat → FieldType := fun k => match k with
  | 0 => .object "ProgramReader$Bytes"
  | 1 => .object "ProgramReader$Bytes"
  | 2 => .object "ProgramReader$Bytes"
  | 3 => .object "ProgramReader$Names"
  | 4 => .object "ProgramReader$Tree"
  | 5 => .object "ProgramReader$Tree"
  | 6 => .object "ProgramReader$Reader"
  | _ => .object "ProgramReader$Writer"
abbrev wsX00 : List Cond := u_ws RX0 TX0 8
theorem nmX0 : ∀ a, a < 8 → ∀ b, b < 8 → a ≠ b → (TX0 a).2.1 ≠ (TX0 b).2.1 := by decide +kernel
theorem tyX0_ok : ∀ k, k < 8 → parseFieldDescriptor (TX0 k).2.2.1 = some (tyX0 k) := by decide +kernel
abbrev cX0_init : ByteArray := prog_1_method_2_code
def yX0_init : MethodName := ⟨RX0, "<init>", "()V"⟩
def dkwX0_init_5 : List UInt8 := [182, 0, 61, 177]
abbrev dktX0_init_5 : List UInt8 := dkwX0_init_5 ++ []
def dkwX0_init_4 : List UInt8 := [180, 0, 31, 183, 0, 56, 181, 0, 57, 42, 180, 0, 38, 3, 182, 0, 61, 42, 180, 0, 42, 3]
abbrev dktX0_init_4 : List UInt8 := dkwX0_init_4 ++ dktX0_init_5
def dkwX0_init_3 : List UInt8 := [181, 0, 42, 42, 187, 0, 45, 89, 42, 180, 0, 31, 183, 0, 47, 181, 0, 50, 42, 187, 0, 54, 89, 42]
abbrev dktX0_init_3 : List UInt8 := dkwX0_init_3 ++ dktX0_init_4
def dkwX0_init_2 : List UInt8 := [181, 0, 31, 42, 187, 0, 35, 89, 183, 0, 37, 181, 0, 38, 42, 187, 0, 35, 89, 183, 0, 37]
abbrev dktX0_init_2 : List UInt8 := dkwX0_init_2 ++ dktX0_init_3
def dkwX0_init_1 : List UInt8 := [181, 0, 22, 42, 187, 0, 13, 89, 183, 0, 15, 181, 0, 25, 42, 187, 0, 28, 89, 183, 0, 30]
abbrev dktX0_init_1 : List UInt8 := dkwX0_init_1 ++ dktX0_init_2
def dkwX0_init_0 : List UInt8 := [42, 183, 0, 7, 42, 187, 0, 13, 89, 183, 0, 15, 181, 0, 16, 42, 187, 0, 13, 89, 183, 0, 15]
abbrev dktX0_init_0 : List UInt8 := dkwX0_init_0 ++ dktX0_init_1
theorem dksX0_init_0 : cX0_init.data.toList.drop 0 = dktX0_init_0 := by decide +kernel
theorem dksX0_init_1 : cX0_init.data.toList.drop 23 = dktX0_init_1 := dk_seg dksX0_init_0 23 rfl rfl
theorem dksX0_init_2 : cX0_init.data.toList.drop 45 = dktX0_init_2 := dk_seg dksX0_init_1 22 rfl rfl
theorem dksX0_init_3 : cX0_init.data.toList.drop 67 = dktX0_init_3 := dk_seg dksX0_init_2 22 rfl rfl
theorem dksX0_init_4 : cX0_init.data.toList.drop 91 = dktX0_init_4 := dk_seg dksX0_init_3 24 rfl rfl
theorem dksX0_init_5 : cX0_init.data.toList.drop 113 = dktX0_init_5 := dk_seg dksX0_init_4 22 rfl rfl
theorem dX0_init_0 : decode cX0_init 0 = .ok (.aload_n 0, 1) := dk_42 (dk_at dksX0_init_0 0 rfl rfl)
theorem dX0_init_1 : decode cX0_init 1 = .ok (.invokespecial 7, 3) := dk_183 0 7 (dk_at dksX0_init_0 1 rfl rfl)
theorem dX0_init_4 : decode cX0_init 4 = .ok (.aload_n 0, 1) := dk_42 (dk_at dksX0_init_0 4 rfl rfl)
theorem dX0_init_5 : decode cX0_init 5 = .ok (.new 13, 3) := dk_187 0 13 (dk_at dksX0_init_0 5 rfl rfl)
theorem dX0_init_8 : decode cX0_init 8 = .ok (.dup, 1) := dk_89 (dk_at dksX0_init_0 8 rfl rfl)
theorem dX0_init_9 : decode cX0_init 9 = .ok (.invokespecial 15, 3) := dk_183 0 15 (dk_at dksX0_init_0 9 rfl rfl)
theorem dX0_init_12 : decode cX0_init 12 = .ok (.putfield 16, 3) := dk_181 0 16 (dk_at dksX0_init_0 12 rfl rfl)
theorem dX0_init_15 : decode cX0_init 15 = .ok (.aload_n 0, 1) := dk_42 (dk_at dksX0_init_0 15 rfl rfl)
theorem dX0_init_16 : decode cX0_init 16 = .ok (.new 13, 3) := dk_187 0 13 (dk_at dksX0_init_0 16 rfl rfl)
theorem dX0_init_19 : decode cX0_init 19 = .ok (.dup, 1) := dk_89 (dk_at dksX0_init_0 19 rfl rfl)
theorem dX0_init_20 : decode cX0_init 20 = .ok (.invokespecial 15, 3) := dk_183 0 15 (dk_at dksX0_init_0 20 rfl rfl)
theorem dX0_init_23 : decode cX0_init 23 = .ok (.putfield 22, 3) := dk_181 0 22 (dk_at dksX0_init_1 0 rfl rfl)
theorem dX0_init_26 : decode cX0_init 26 = .ok (.aload_n 0, 1) := dk_42 (dk_at dksX0_init_1 3 rfl rfl)
theorem dX0_init_27 : decode cX0_init 27 = .ok (.new 13, 3) := dk_187 0 13 (dk_at dksX0_init_1 4 rfl rfl)
theorem dX0_init_30 : decode cX0_init 30 = .ok (.dup, 1) := dk_89 (dk_at dksX0_init_1 7 rfl rfl)
theorem dX0_init_31 : decode cX0_init 31 = .ok (.invokespecial 15, 3) := dk_183 0 15 (dk_at dksX0_init_1 8 rfl rfl)
theorem dX0_init_34 : decode cX0_init 34 = .ok (.putfield 25, 3) := dk_181 0 25 (dk_at dksX0_init_1 11 rfl rfl)
theorem dX0_init_37 : decode cX0_init 37 = .ok (.aload_n 0, 1) := dk_42 (dk_at dksX0_init_1 14 rfl rfl)
theorem dX0_init_38 : decode cX0_init 38 = .ok (.new 28, 3) := dk_187 0 28 (dk_at dksX0_init_1 15 rfl rfl)
theorem dX0_init_41 : decode cX0_init 41 = .ok (.dup, 1) := dk_89 (dk_at dksX0_init_1 18 rfl rfl)
theorem dX0_init_42 : decode cX0_init 42 = .ok (.invokespecial 30, 3) := dk_183 0 30 (dk_at dksX0_init_1 19 rfl rfl)
theorem dX0_init_45 : decode cX0_init 45 = .ok (.putfield 31, 3) := dk_181 0 31 (dk_at dksX0_init_2 0 rfl rfl)
theorem dX0_init_48 : decode cX0_init 48 = .ok (.aload_n 0, 1) := dk_42 (dk_at dksX0_init_2 3 rfl rfl)
theorem dX0_init_49 : decode cX0_init 49 = .ok (.new 35, 3) := dk_187 0 35 (dk_at dksX0_init_2 4 rfl rfl)
theorem dX0_init_52 : decode cX0_init 52 = .ok (.dup, 1) := dk_89 (dk_at dksX0_init_2 7 rfl rfl)
theorem dX0_init_53 : decode cX0_init 53 = .ok (.invokespecial 37, 3) := dk_183 0 37 (dk_at dksX0_init_2 8 rfl rfl)
theorem dX0_init_56 : decode cX0_init 56 = .ok (.putfield 38, 3) := dk_181 0 38 (dk_at dksX0_init_2 11 rfl rfl)
theorem dX0_init_59 : decode cX0_init 59 = .ok (.aload_n 0, 1) := dk_42 (dk_at dksX0_init_2 14 rfl rfl)
theorem dX0_init_60 : decode cX0_init 60 = .ok (.new 35, 3) := dk_187 0 35 (dk_at dksX0_init_2 15 rfl rfl)
theorem dX0_init_63 : decode cX0_init 63 = .ok (.dup, 1) := dk_89 (dk_at dksX0_init_2 18 rfl rfl)
theorem dX0_init_64 : decode cX0_init 64 = .ok (.invokespecial 37, 3) := dk_183 0 37 (dk_at dksX0_init_2 19 rfl rfl)
theorem dX0_init_67 : decode cX0_init 67 = .ok (.putfield 42, 3) := dk_181 0 42 (dk_at dksX0_init_3 0 rfl rfl)
theorem dX0_init_70 : decode cX0_init 70 = .ok (.aload_n 0, 1) := dk_42 (dk_at dksX0_init_3 3 rfl rfl)
theorem dX0_init_71 : decode cX0_init 71 = .ok (.new 45, 3) := dk_187 0 45 (dk_at dksX0_init_3 4 rfl rfl)
theorem dX0_init_74 : decode cX0_init 74 = .ok (.dup, 1) := dk_89 (dk_at dksX0_init_3 7 rfl rfl)
theorem dX0_init_75 : decode cX0_init 75 = .ok (.aload_n 0, 1) := dk_42 (dk_at dksX0_init_3 8 rfl rfl)
theorem dX0_init_76 : decode cX0_init 76 = .ok (.getfield 31, 3) := dk_180 0 31 (dk_at dksX0_init_3 9 rfl rfl)
theorem dX0_init_79 : decode cX0_init 79 = .ok (.invokespecial 47, 3) := dk_183 0 47 (dk_at dksX0_init_3 12 rfl rfl)
theorem dX0_init_82 : decode cX0_init 82 = .ok (.putfield 50, 3) := dk_181 0 50 (dk_at dksX0_init_3 15 rfl rfl)
theorem dX0_init_85 : decode cX0_init 85 = .ok (.aload_n 0, 1) := dk_42 (dk_at dksX0_init_3 18 rfl rfl)
theorem dX0_init_86 : decode cX0_init 86 = .ok (.new 54, 3) := dk_187 0 54 (dk_at dksX0_init_3 19 rfl rfl)
theorem dX0_init_89 : decode cX0_init 89 = .ok (.dup, 1) := dk_89 (dk_at dksX0_init_3 22 rfl rfl)
theorem dX0_init_90 : decode cX0_init 90 = .ok (.aload_n 0, 1) := dk_42 (dk_at dksX0_init_3 23 rfl rfl)
theorem dX0_init_91 : decode cX0_init 91 = .ok (.getfield 31, 3) := dk_180 0 31 (dk_at dksX0_init_4 0 rfl rfl)
theorem dX0_init_94 : decode cX0_init 94 = .ok (.invokespecial 56, 3) := dk_183 0 56 (dk_at dksX0_init_4 3 rfl rfl)
theorem dX0_init_97 : decode cX0_init 97 = .ok (.putfield 57, 3) := dk_181 0 57 (dk_at dksX0_init_4 6 rfl rfl)
theorem dX0_init_100 : decode cX0_init 100 = .ok (.aload_n 0, 1) := dk_42 (dk_at dksX0_init_4 9 rfl rfl)
theorem dX0_init_101 : decode cX0_init 101 = .ok (.getfield 38, 3) := dk_180 0 38 (dk_at dksX0_init_4 10 rfl rfl)
theorem dX0_init_104 : decode cX0_init 104 = .ok (.iconst 0, 1) := dk_3 (dk_at dksX0_init_4 13 rfl rfl)
theorem dX0_init_105 : decode cX0_init 105 = .ok (.invokevirtual 61, 3) := dk_182 0 61 (dk_at dksX0_init_4 14 rfl rfl)
theorem dX0_init_108 : decode cX0_init 108 = .ok (.aload_n 0, 1) := dk_42 (dk_at dksX0_init_4 17 rfl rfl)
theorem dX0_init_109 : decode cX0_init 109 = .ok (.getfield 42, 3) := dk_180 0 42 (dk_at dksX0_init_4 18 rfl rfl)
theorem dX0_init_112 : decode cX0_init 112 = .ok (.iconst 0, 1) := dk_3 (dk_at dksX0_init_4 21 rfl rfl)
theorem dX0_init_113 : decode cX0_init 113 = .ok (.invokevirtual 61, 3) := dk_182 0 61 (dk_at dksX0_init_5 0 rfl rfl)
theorem dX0_init_116 : decode cX0_init 116 = .ok (.return_, 1) := dk_177 (dk_at dksX0_init_5 3 rfl rfl)
abbrev cX0_grown : ByteArray := prog_1_method_1_code
def yX0_grown : MethodName := ⟨RX0, "grown", "([II)[I"⟩
def dkwX0_grown_1 : List UInt8 := [176]
abbrev dktX0_grown_1 : List UInt8 := dkwX0_grown_1 ++ []
def dkwX0_grown_0 : List UInt8 := [27, 42, 190, 163, 0, 5, 42, 176, 5, 27, 104, 188, 10, 77, 42, 3, 44, 3, 42, 190, 184, 0, 1, 44]
abbrev dktX0_grown_0 : List UInt8 := dkwX0_grown_0 ++ dktX0_grown_1
theorem dksX0_grown_0 : cX0_grown.data.toList.drop 0 = dktX0_grown_0 := by decide +kernel
theorem dksX0_grown_1 : cX0_grown.data.toList.drop 24 = dktX0_grown_1 := dk_seg dksX0_grown_0 24 rfl rfl
theorem dX0_grown_0 : decode cX0_grown 0 = .ok (.iload_n 1, 1) := dk_27 (dk_at dksX0_grown_0 0 rfl rfl)
theorem dX0_grown_1 : decode cX0_grown 1 = .ok (.aload_n 0, 1) := dk_42 (dk_at dksX0_grown_0 1 rfl rfl)
theorem dX0_grown_2 : decode cX0_grown 2 = .ok (.arraylength, 1) := dk_190 (dk_at dksX0_grown_0 2 rfl rfl)
theorem dX0_grown_3 : decode cX0_grown 3 = .ok (.if_icmp .gt 5, 3) := dk_163 0 5 (dk_at dksX0_grown_0 3 rfl rfl)
theorem dX0_grown_6 : decode cX0_grown 6 = .ok (.aload_n 0, 1) := dk_42 (dk_at dksX0_grown_0 6 rfl rfl)
theorem dX0_grown_7 : decode cX0_grown 7 = .ok (.areturn, 1) := dk_176 (dk_at dksX0_grown_0 7 rfl rfl)
theorem dX0_grown_8 : decode cX0_grown 8 = .ok (.iconst 2, 1) := dk_5 (dk_at dksX0_grown_0 8 rfl rfl)
theorem dX0_grown_9 : decode cX0_grown 9 = .ok (.iload_n 1, 1) := dk_27 (dk_at dksX0_grown_0 9 rfl rfl)
theorem dX0_grown_10 : decode cX0_grown 10 = .ok (.imul, 1) := dk_104 (dk_at dksX0_grown_0 10 rfl rfl)
theorem dX0_grown_11 : decode cX0_grown 11 = .ok (.newarray .int, 2) := dk_188_10 (dk_at dksX0_grown_0 11 rfl rfl)
theorem dX0_grown_13 : decode cX0_grown 13 = .ok (.astore_n 2, 1) := dk_77 (dk_at dksX0_grown_0 13 rfl rfl)
theorem dX0_grown_14 : decode cX0_grown 14 = .ok (.aload_n 0, 1) := dk_42 (dk_at dksX0_grown_0 14 rfl rfl)
theorem dX0_grown_15 : decode cX0_grown 15 = .ok (.iconst 0, 1) := dk_3 (dk_at dksX0_grown_0 15 rfl rfl)
theorem dX0_grown_16 : decode cX0_grown 16 = .ok (.aload_n 2, 1) := dk_44 (dk_at dksX0_grown_0 16 rfl rfl)
theorem dX0_grown_17 : decode cX0_grown 17 = .ok (.iconst 0, 1) := dk_3 (dk_at dksX0_grown_0 17 rfl rfl)
theorem dX0_grown_18 : decode cX0_grown 18 = .ok (.aload_n 0, 1) := dk_42 (dk_at dksX0_grown_0 18 rfl rfl)
theorem dX0_grown_19 : decode cX0_grown 19 = .ok (.arraylength, 1) := dk_190 (dk_at dksX0_grown_0 19 rfl rfl)
theorem dX0_grown_20 : decode cX0_grown 20 = .ok (.invokestatic 1, 3) := dk_184 0 1 (dk_at dksX0_grown_0 20 rfl rfl)
theorem dX0_grown_23 : decode cX0_grown 23 = .ok (.aload_n 2, 1) := dk_44 (dk_at dksX0_grown_0 23 rfl rfl)
theorem dX0_grown_24 : decode cX0_grown 24 = .ok (.areturn, 1) := dk_176 (dk_at dksX0_grown_1 0 rfl rfl)
abbrev cX0_feed : ByteArray := prog_1_method_4_code
def yX0_feed : MethodName := ⟨RX0, "feed", "(IIIII)I"⟩
def dkwX0_feed_2 : List UInt8 := [180, 0, 16, 180, 0, 68, 172]
abbrev dktX0_feed_2 : List UInt8 := dkwX0_feed_2 ++ []
def dkwX0_feed_1 : List UInt8 := [28, 182, 0, 72, 42, 29, 182, 0, 72, 42, 21, 4, 182, 0, 72, 42, 21, 5, 182, 0, 72, 42]
abbrev dktX0_feed_1 : List UInt8 := dkwX0_feed_1 ++ dktX0_feed_2
def dkwX0_feed_0 : List UInt8 := [42, 180, 0, 16, 180, 0, 68, 16, 20, 96, 17, 31, 64, 164, 0, 5, 2, 172, 42, 27, 182, 0, 72, 42]
abbrev dktX0_feed_0 : List UInt8 := dkwX0_feed_0 ++ dktX0_feed_1
theorem dksX0_feed_0 : cX0_feed.data.toList.drop 0 = dktX0_feed_0 := by decide +kernel
theorem dksX0_feed_1 : cX0_feed.data.toList.drop 24 = dktX0_feed_1 := dk_seg dksX0_feed_0 24 rfl rfl
theorem dksX0_feed_2 : cX0_feed.data.toList.drop 46 = dktX0_feed_2 := dk_seg dksX0_feed_1 22 rfl rfl
theorem dX0_feed_0 : decode cX0_feed 0 = .ok (.aload_n 0, 1) := dk_42 (dk_at dksX0_feed_0 0 rfl rfl)
theorem dX0_feed_1 : decode cX0_feed 1 = .ok (.getfield 16, 3) := dk_180 0 16 (dk_at dksX0_feed_0 1 rfl rfl)
theorem dX0_feed_4 : decode cX0_feed 4 = .ok (.getfield 68, 3) := dk_180 0 68 (dk_at dksX0_feed_0 4 rfl rfl)
theorem dX0_feed_7 : decode cX0_feed 7 = .ok (.bipush 20, 2) := dk_16 20 (dk_at dksX0_feed_0 7 rfl rfl)
theorem dX0_feed_9 : decode cX0_feed 9 = .ok (.iadd, 1) := dk_96 (dk_at dksX0_feed_0 9 rfl rfl)
theorem dX0_feed_10 : decode cX0_feed 10 = .ok (.sipush 8000, 3) := dk_17 31 64 (dk_at dksX0_feed_0 10 rfl rfl)
theorem dX0_feed_13 : decode cX0_feed 13 = .ok (.if_icmp .le 5, 3) := dk_164 0 5 (dk_at dksX0_feed_0 13 rfl rfl)
theorem dX0_feed_16 : decode cX0_feed 16 = .ok (.iconst (-1), 1) := dk_2 (dk_at dksX0_feed_0 16 rfl rfl)
theorem dX0_feed_17 : decode cX0_feed 17 = .ok (.ireturn, 1) := dk_172 (dk_at dksX0_feed_0 17 rfl rfl)
theorem dX0_feed_18 : decode cX0_feed 18 = .ok (.aload_n 0, 1) := dk_42 (dk_at dksX0_feed_0 18 rfl rfl)
theorem dX0_feed_19 : decode cX0_feed 19 = .ok (.iload_n 1, 1) := dk_27 (dk_at dksX0_feed_0 19 rfl rfl)
theorem dX0_feed_20 : decode cX0_feed 20 = .ok (.invokevirtual 72, 3) := dk_182 0 72 (dk_at dksX0_feed_0 20 rfl rfl)
theorem dX0_feed_23 : decode cX0_feed 23 = .ok (.aload_n 0, 1) := dk_42 (dk_at dksX0_feed_0 23 rfl rfl)
theorem dX0_feed_24 : decode cX0_feed 24 = .ok (.iload_n 2, 1) := dk_28 (dk_at dksX0_feed_1 0 rfl rfl)
theorem dX0_feed_25 : decode cX0_feed 25 = .ok (.invokevirtual 72, 3) := dk_182 0 72 (dk_at dksX0_feed_1 1 rfl rfl)
theorem dX0_feed_28 : decode cX0_feed 28 = .ok (.aload_n 0, 1) := dk_42 (dk_at dksX0_feed_1 4 rfl rfl)
theorem dX0_feed_29 : decode cX0_feed 29 = .ok (.iload_n 3, 1) := dk_29 (dk_at dksX0_feed_1 5 rfl rfl)
theorem dX0_feed_30 : decode cX0_feed 30 = .ok (.invokevirtual 72, 3) := dk_182 0 72 (dk_at dksX0_feed_1 6 rfl rfl)
theorem dX0_feed_33 : decode cX0_feed 33 = .ok (.aload_n 0, 1) := dk_42 (dk_at dksX0_feed_1 9 rfl rfl)
theorem dX0_feed_34 : decode cX0_feed 34 = .ok (.iload 4, 2) := dk_21 4 (dk_at dksX0_feed_1 10 rfl rfl)
theorem dX0_feed_36 : decode cX0_feed 36 = .ok (.invokevirtual 72, 3) := dk_182 0 72 (dk_at dksX0_feed_1 12 rfl rfl)
theorem dX0_feed_39 : decode cX0_feed 39 = .ok (.aload_n 0, 1) := dk_42 (dk_at dksX0_feed_1 15 rfl rfl)
theorem dX0_feed_40 : decode cX0_feed 40 = .ok (.iload 5, 2) := dk_21 5 (dk_at dksX0_feed_1 16 rfl rfl)
theorem dX0_feed_42 : decode cX0_feed 42 = .ok (.invokevirtual 72, 3) := dk_182 0 72 (dk_at dksX0_feed_1 18 rfl rfl)
theorem dX0_feed_45 : decode cX0_feed 45 = .ok (.aload_n 0, 1) := dk_42 (dk_at dksX0_feed_1 21 rfl rfl)
theorem dX0_feed_46 : decode cX0_feed 46 = .ok (.getfield 16, 3) := dk_180 0 16 (dk_at dksX0_feed_2 0 rfl rfl)
theorem dX0_feed_49 : decode cX0_feed 49 = .ok (.getfield 68, 3) := dk_180 0 68 (dk_at dksX0_feed_2 3 rfl rfl)
theorem dX0_feed_52 : decode cX0_feed 52 = .ok (.ireturn, 1) := dk_172 (dk_at dksX0_feed_2 6 rfl rfl)
abbrev cX0_four : ByteArray := prog_1_method_3_code
def yX0_four : MethodName := ⟨RX0, "four", "(I)V"⟩
def dkwX0_four_0 : List UInt8 := [16, 24, 61, 28, 155, 0, 19, 42, 180, 0, 16, 27, 28, 122, 182, 0, 65, 132, 2, 248, 167, 255, 239, 177]
abbrev dktX0_four_0 : List UInt8 := dkwX0_four_0 ++ []
theorem dksX0_four_0 : cX0_four.data.toList.drop 0 = dktX0_four_0 := by decide +kernel
theorem dX0_four_0 : decode cX0_four 0 = .ok (.bipush 24, 2) := dk_16 24 (dk_at dksX0_four_0 0 rfl rfl)
theorem dX0_four_2 : decode cX0_four 2 = .ok (.istore_n 2, 1) := dk_61 (dk_at dksX0_four_0 2 rfl rfl)
theorem dX0_four_3 : decode cX0_four 3 = .ok (.iload_n 2, 1) := dk_28 (dk_at dksX0_four_0 3 rfl rfl)
theorem dX0_four_4 : decode cX0_four 4 = .ok (.ifCond .lt 19, 3) := dk_155 0 19 (dk_at dksX0_four_0 4 rfl rfl)
theorem dX0_four_7 : decode cX0_four 7 = .ok (.aload_n 0, 1) := dk_42 (dk_at dksX0_four_0 7 rfl rfl)
theorem dX0_four_8 : decode cX0_four 8 = .ok (.getfield 16, 3) := dk_180 0 16 (dk_at dksX0_four_0 8 rfl rfl)
theorem dX0_four_11 : decode cX0_four 11 = .ok (.iload_n 1, 1) := dk_27 (dk_at dksX0_four_0 11 rfl rfl)
theorem dX0_four_12 : decode cX0_four 12 = .ok (.iload_n 2, 1) := dk_28 (dk_at dksX0_four_0 12 rfl rfl)
theorem dX0_four_13 : decode cX0_four 13 = .ok (.ishr, 1) := dk_122 (dk_at dksX0_four_0 13 rfl rfl)
theorem dX0_four_14 : decode cX0_four 14 = .ok (.invokevirtual 65, 3) := dk_182 0 65 (dk_at dksX0_four_0 14 rfl rfl)
theorem dX0_four_17 : decode cX0_four 17 = .ok (.iinc 2 (-8), 3) := dk_132 2 248 (dk_at dksX0_four_0 17 rfl rfl)
theorem dX0_four_20 : decode cX0_four 20 = .ok (.goto (-17), 3) := dk_167 255 239 (dk_at dksX0_four_0 20 rfl rfl)
theorem dX0_four_23 : decode cX0_four 23 = .ok (.return_, 1) := dk_177 (dk_at dksX0_four_0 23 rfl rfl)
abbrev cX0_read : ByteArray := prog_1_method_7_code
def yX0_read : MethodName := ⟨RX0, "read", "(II)I"⟩
def dkwX0_read_2 : List UInt8 := [167, 0, 4, 28, 42, 27, 182, 0, 79, 182, 0, 83, 62, 42, 180, 0, 16, 3, 181, 0, 68, 29, 172]
abbrev dktX0_read_2 : List UInt8 := dkwX0_read_2 ++ []
def dkwX0_read_1 : List UInt8 := [16, 254, 172, 42, 180, 0, 50, 42, 180, 0, 16, 28, 2, 160, 0, 13, 42, 180, 0, 16, 180, 0, 68]
abbrev dktX0_read_1 : List UInt8 := dkwX0_read_1 ++ dktX0_read_2
def dkwX0_read_0 : List UInt8 := [27, 184, 0, 75, 153, 0, 19, 28, 2, 161, 0, 14, 28, 42, 180, 0, 16, 180, 0, 68, 164, 0, 6]
abbrev dktX0_read_0 : List UInt8 := dkwX0_read_0 ++ dktX0_read_1
theorem dksX0_read_0 : cX0_read.data.toList.drop 0 = dktX0_read_0 := by decide +kernel
theorem dksX0_read_1 : cX0_read.data.toList.drop 23 = dktX0_read_1 := dk_seg dksX0_read_0 23 rfl rfl
theorem dksX0_read_2 : cX0_read.data.toList.drop 46 = dktX0_read_2 := dk_seg dksX0_read_1 23 rfl rfl
theorem dX0_read_0 : decode cX0_read 0 = .ok (.iload_n 1, 1) := dk_27 (dk_at dksX0_read_0 0 rfl rfl)
theorem dX0_read_1 : decode cX0_read 1 = .ok (.invokestatic 75, 3) := dk_184 0 75 (dk_at dksX0_read_0 1 rfl rfl)
theorem dX0_read_4 : decode cX0_read 4 = .ok (.ifCond .eq 19, 3) := dk_153 0 19 (dk_at dksX0_read_0 4 rfl rfl)
theorem dX0_read_7 : decode cX0_read 7 = .ok (.iload_n 2, 1) := dk_28 (dk_at dksX0_read_0 7 rfl rfl)
theorem dX0_read_8 : decode cX0_read 8 = .ok (.iconst (-1), 1) := dk_2 (dk_at dksX0_read_0 8 rfl rfl)
theorem dX0_read_9 : decode cX0_read 9 = .ok (.if_icmp .lt 14, 3) := dk_161 0 14 (dk_at dksX0_read_0 9 rfl rfl)
theorem dX0_read_12 : decode cX0_read 12 = .ok (.iload_n 2, 1) := dk_28 (dk_at dksX0_read_0 12 rfl rfl)
theorem dX0_read_13 : decode cX0_read 13 = .ok (.aload_n 0, 1) := dk_42 (dk_at dksX0_read_0 13 rfl rfl)
theorem dX0_read_14 : decode cX0_read 14 = .ok (.getfield 16, 3) := dk_180 0 16 (dk_at dksX0_read_0 14 rfl rfl)
theorem dX0_read_17 : decode cX0_read 17 = .ok (.getfield 68, 3) := dk_180 0 68 (dk_at dksX0_read_0 17 rfl rfl)
theorem dX0_read_20 : decode cX0_read 20 = .ok (.if_icmp .le 6, 3) := dk_164 0 6 (dk_at dksX0_read_0 20 rfl rfl)
theorem dX0_read_23 : decode cX0_read 23 = .ok (.bipush (-2), 2) := dk_16 254 (dk_at dksX0_read_1 0 rfl rfl)
theorem dX0_read_25 : decode cX0_read 25 = .ok (.ireturn, 1) := dk_172 (dk_at dksX0_read_1 2 rfl rfl)
theorem dX0_read_26 : decode cX0_read 26 = .ok (.aload_n 0, 1) := dk_42 (dk_at dksX0_read_1 3 rfl rfl)
theorem dX0_read_27 : decode cX0_read 27 = .ok (.getfield 50, 3) := dk_180 0 50 (dk_at dksX0_read_1 4 rfl rfl)
theorem dX0_read_30 : decode cX0_read 30 = .ok (.aload_n 0, 1) := dk_42 (dk_at dksX0_read_1 7 rfl rfl)
theorem dX0_read_31 : decode cX0_read 31 = .ok (.getfield 16, 3) := dk_180 0 16 (dk_at dksX0_read_1 8 rfl rfl)
theorem dX0_read_34 : decode cX0_read 34 = .ok (.iload_n 2, 1) := dk_28 (dk_at dksX0_read_1 11 rfl rfl)
theorem dX0_read_35 : decode cX0_read 35 = .ok (.iconst (-1), 1) := dk_2 (dk_at dksX0_read_1 12 rfl rfl)
theorem dX0_read_36 : decode cX0_read 36 = .ok (.if_icmp .ne 13, 3) := dk_160 0 13 (dk_at dksX0_read_1 13 rfl rfl)
theorem dX0_read_39 : decode cX0_read 39 = .ok (.aload_n 0, 1) := dk_42 (dk_at dksX0_read_1 16 rfl rfl)
theorem dX0_read_40 : decode cX0_read 40 = .ok (.getfield 16, 3) := dk_180 0 16 (dk_at dksX0_read_1 17 rfl rfl)
theorem dX0_read_43 : decode cX0_read 43 = .ok (.getfield 68, 3) := dk_180 0 68 (dk_at dksX0_read_1 20 rfl rfl)
theorem dX0_read_46 : decode cX0_read 46 = .ok (.goto 4, 3) := dk_167 0 4 (dk_at dksX0_read_2 0 rfl rfl)
theorem dX0_read_49 : decode cX0_read 49 = .ok (.iload_n 2, 1) := dk_28 (dk_at dksX0_read_2 3 rfl rfl)
theorem dX0_read_50 : decode cX0_read 50 = .ok (.aload_n 0, 1) := dk_42 (dk_at dksX0_read_2 4 rfl rfl)
theorem dX0_read_51 : decode cX0_read 51 = .ok (.iload_n 1, 1) := dk_27 (dk_at dksX0_read_2 5 rfl rfl)
theorem dX0_read_52 : decode cX0_read 52 = .ok (.invokevirtual 79, 3) := dk_182 0 79 (dk_at dksX0_read_2 6 rfl rfl)
theorem dX0_read_55 : decode cX0_read 55 = .ok (.invokevirtual 83, 3) := dk_182 0 83 (dk_at dksX0_read_2 9 rfl rfl)
theorem dX0_read_58 : decode cX0_read 58 = .ok (.istore_n 3, 1) := dk_62 (dk_at dksX0_read_2 12 rfl rfl)
theorem dX0_read_59 : decode cX0_read 59 = .ok (.aload_n 0, 1) := dk_42 (dk_at dksX0_read_2 13 rfl rfl)
theorem dX0_read_60 : decode cX0_read 60 = .ok (.getfield 16, 3) := dk_180 0 16 (dk_at dksX0_read_2 14 rfl rfl)
theorem dX0_read_63 : decode cX0_read 63 = .ok (.iconst 0, 1) := dk_3 (dk_at dksX0_read_2 17 rfl rfl)
theorem dX0_read_64 : decode cX0_read 64 = .ok (.putfield 68, 3) := dk_181 0 68 (dk_at dksX0_read_2 18 rfl rfl)
theorem dX0_read_67 : decode cX0_read 67 = .ok (.iload_n 3, 1) := dk_29 (dk_at dksX0_read_2 21 rfl rfl)
theorem dX0_read_68 : decode cX0_read 68 = .ok (.ireturn, 1) := dk_172 (dk_at dksX0_read_2 22 rfl rfl)
abbrev cX0_isTree : ByteArray := prog_1_method_6_code
def yX0_isTree : MethodName := ⟨RX0, "isTree", "(I)Z"⟩
def dkwX0_isTree_0 : List UInt8 := [26, 155, 0, 12, 26, 5, 162, 0, 7, 4, 167, 0, 4, 3, 172]
abbrev dktX0_isTree_0 : List UInt8 := dkwX0_isTree_0 ++ []
theorem dksX0_isTree_0 : cX0_isTree.data.toList.drop 0 = dktX0_isTree_0 := by decide +kernel
theorem dX0_isTree_0 : decode cX0_isTree 0 = .ok (.iload_n 0, 1) := dk_26 (dk_at dksX0_isTree_0 0 rfl rfl)
theorem dX0_isTree_1 : decode cX0_isTree 1 = .ok (.ifCond .lt 12, 3) := dk_155 0 12 (dk_at dksX0_isTree_0 1 rfl rfl)
theorem dX0_isTree_4 : decode cX0_isTree 4 = .ok (.iload_n 0, 1) := dk_26 (dk_at dksX0_isTree_0 4 rfl rfl)
theorem dX0_isTree_5 : decode cX0_isTree 5 = .ok (.iconst 2, 1) := dk_5 (dk_at dksX0_isTree_0 5 rfl rfl)
theorem dX0_isTree_6 : decode cX0_isTree 6 = .ok (.if_icmp .ge 7, 3) := dk_162 0 7 (dk_at dksX0_isTree_0 6 rfl rfl)
theorem dX0_isTree_9 : decode cX0_isTree 9 = .ok (.iconst 1, 1) := dk_4 (dk_at dksX0_isTree_0 9 rfl rfl)
theorem dX0_isTree_10 : decode cX0_isTree 10 = .ok (.goto 4, 3) := dk_167 0 4 (dk_at dksX0_isTree_0 10 rfl rfl)
theorem dX0_isTree_13 : decode cX0_isTree 13 = .ok (.iconst 0, 1) := dk_3 (dk_at dksX0_isTree_0 13 rfl rfl)
theorem dX0_isTree_14 : decode cX0_isTree 14 = .ok (.ireturn, 1) := dk_172 (dk_at dksX0_isTree_0 14 rfl rfl)
abbrev cX0_treeOf : ByteArray := prog_1_method_5_code
def yX0_treeOf : MethodName := ⟨RX0, "treeOf", "(I)LProgramReader$Tree;"⟩
def dkwX0_treeOf_0 : List UInt8 := [27, 154, 0, 10, 42, 180, 0, 38, 167, 0, 7, 42, 180, 0, 42, 176]
abbrev dktX0_treeOf_0 : List UInt8 := dkwX0_treeOf_0 ++ []
theorem dksX0_treeOf_0 : cX0_treeOf.data.toList.drop 0 = dktX0_treeOf_0 := by decide +kernel
theorem dX0_treeOf_0 : decode cX0_treeOf 0 = .ok (.iload_n 1, 1) := dk_27 (dk_at dksX0_treeOf_0 0 rfl rfl)
theorem dX0_treeOf_1 : decode cX0_treeOf 1 = .ok (.ifCond .ne 10, 3) := dk_154 0 10 (dk_at dksX0_treeOf_0 1 rfl rfl)
theorem dX0_treeOf_4 : decode cX0_treeOf 4 = .ok (.aload_n 0, 1) := dk_42 (dk_at dksX0_treeOf_0 4 rfl rfl)
theorem dX0_treeOf_5 : decode cX0_treeOf 5 = .ok (.getfield 38, 3) := dk_180 0 38 (dk_at dksX0_treeOf_0 5 rfl rfl)
theorem dX0_treeOf_8 : decode cX0_treeOf 8 = .ok (.goto 7, 3) := dk_167 0 7 (dk_at dksX0_treeOf_0 8 rfl rfl)
theorem dX0_treeOf_11 : decode cX0_treeOf 11 = .ok (.aload_n 0, 1) := dk_42 (dk_at dksX0_treeOf_0 11 rfl rfl)
theorem dX0_treeOf_12 : decode cX0_treeOf 12 = .ok (.getfield 42, 3) := dk_180 0 42 (dk_at dksX0_treeOf_0 12 rfl rfl)
theorem dX0_treeOf_15 : decode cX0_treeOf 15 = .ok (.areturn, 1) := dk_176 (dk_at dksX0_treeOf_0 15 rfl rfl)
abbrev cX0_nodes : ByteArray := prog_1_method_8_code
def yX0_nodes : MethodName := ⟨RX0, "nodes", "(I)I"⟩
def dkwX0_nodes_0 : List UInt8 := [27, 184, 0, 75, 153, 0, 14, 42, 27, 182, 0, 79, 180, 0, 87, 167, 0, 4, 3, 172]
abbrev dktX0_nodes_0 : List UInt8 := dkwX0_nodes_0 ++ []
theorem dksX0_nodes_0 : cX0_nodes.data.toList.drop 0 = dktX0_nodes_0 := by decide +kernel
theorem dX0_nodes_0 : decode cX0_nodes 0 = .ok (.iload_n 1, 1) := dk_27 (dk_at dksX0_nodes_0 0 rfl rfl)
theorem dX0_nodes_1 : decode cX0_nodes 1 = .ok (.invokestatic 75, 3) := dk_184 0 75 (dk_at dksX0_nodes_0 1 rfl rfl)
theorem dX0_nodes_4 : decode cX0_nodes 4 = .ok (.ifCond .eq 14, 3) := dk_153 0 14 (dk_at dksX0_nodes_0 4 rfl rfl)
theorem dX0_nodes_7 : decode cX0_nodes 7 = .ok (.aload_n 0, 1) := dk_42 (dk_at dksX0_nodes_0 7 rfl rfl)
theorem dX0_nodes_8 : decode cX0_nodes 8 = .ok (.iload_n 1, 1) := dk_27 (dk_at dksX0_nodes_0 8 rfl rfl)
theorem dX0_nodes_9 : decode cX0_nodes 9 = .ok (.invokevirtual 79, 3) := dk_182 0 79 (dk_at dksX0_nodes_0 9 rfl rfl)
theorem dX0_nodes_12 : decode cX0_nodes 12 = .ok (.getfield 87, 3) := dk_180 0 87 (dk_at dksX0_nodes_0 12 rfl rfl)
theorem dX0_nodes_15 : decode cX0_nodes 15 = .ok (.goto 4, 3) := dk_167 0 4 (dk_at dksX0_nodes_0 15 rfl rfl)
theorem dX0_nodes_18 : decode cX0_nodes 18 = .ok (.iconst 0, 1) := dk_3 (dk_at dksX0_nodes_0 18 rfl rfl)
theorem dX0_nodes_19 : decode cX0_nodes 19 = .ok (.ireturn, 1) := dk_172 (dk_at dksX0_nodes_0 19 rfl rfl)
abbrev cX0_node : ByteArray := prog_1_method_10_code
def yX0_node : MethodName := ⟨RX0, "node", "(III)I"⟩
def dkwX0_node_3 : List UInt8 := [25, 4, 180, 0, 107, 28, 46, 172, 25, 4, 28, 182, 0, 110, 172, 16, 254, 172]
abbrev dktX0_node_3 : List UInt8 := dkwX0_node_3 ++ []
def dkwX0_node_2 : List UInt8 := [25, 4, 180, 0, 96, 28, 51, 172, 25, 4, 180, 0, 100, 28, 46, 172, 25, 4, 180, 0, 104, 28, 46, 172]
abbrev dktX0_node_2 : List UInt8 := dkwX0_node_2 ++ dktX0_node_3
def dkwX0_node_1 : List UInt8 := [170, 0, 0, 0, 0, 0, 0, 75, 0, 0, 0, 0, 0, 0, 0, 4, 0, 0, 0, 36, 0, 0, 0, 44, 0, 0, 0, 52, 0, 0, 0, 60, 0, 0, 0, 68]
abbrev dktX0_node_1 : List UInt8 := dkwX0_node_1 ++ dktX0_node_2
def dkwX0_node_0 : List UInt8 := [42, 27, 28, 182, 0, 93, 154, 0, 6, 16, 254, 172, 42, 27, 182, 0, 79, 58, 4, 29]
abbrev dktX0_node_0 : List UInt8 := dkwX0_node_0 ++ dktX0_node_1
theorem dksX0_node_0 : cX0_node.data.toList.drop 0 = dktX0_node_0 := by decide +kernel
theorem dksX0_node_1 : cX0_node.data.toList.drop 20 = dktX0_node_1 := dk_seg dksX0_node_0 20 rfl rfl
theorem dksX0_node_2 : cX0_node.data.toList.drop 56 = dktX0_node_2 := dk_seg dksX0_node_1 36 rfl rfl
theorem dksX0_node_3 : cX0_node.data.toList.drop 80 = dktX0_node_3 := dk_seg dksX0_node_2 24 rfl rfl
theorem dX0_node_0 : decode cX0_node 0 = .ok (.aload_n 0, 1) := dk_42 (dk_at dksX0_node_0 0 rfl rfl)
theorem dX0_node_1 : decode cX0_node 1 = .ok (.iload_n 1, 1) := dk_27 (dk_at dksX0_node_0 1 rfl rfl)
theorem dX0_node_2 : decode cX0_node 2 = .ok (.iload_n 2, 1) := dk_28 (dk_at dksX0_node_0 2 rfl rfl)
theorem dX0_node_3 : decode cX0_node 3 = .ok (.invokevirtual 93, 3) := dk_182 0 93 (dk_at dksX0_node_0 3 rfl rfl)
theorem dX0_node_6 : decode cX0_node 6 = .ok (.ifCond .ne 6, 3) := dk_154 0 6 (dk_at dksX0_node_0 6 rfl rfl)
theorem dX0_node_9 : decode cX0_node 9 = .ok (.bipush (-2), 2) := dk_16 254 (dk_at dksX0_node_0 9 rfl rfl)
theorem dX0_node_11 : decode cX0_node 11 = .ok (.ireturn, 1) := dk_172 (dk_at dksX0_node_0 11 rfl rfl)
theorem dX0_node_12 : decode cX0_node 12 = .ok (.aload_n 0, 1) := dk_42 (dk_at dksX0_node_0 12 rfl rfl)
theorem dX0_node_13 : decode cX0_node 13 = .ok (.iload_n 1, 1) := dk_27 (dk_at dksX0_node_0 13 rfl rfl)
theorem dX0_node_14 : decode cX0_node 14 = .ok (.invokevirtual 79, 3) := dk_182 0 79 (dk_at dksX0_node_0 14 rfl rfl)
theorem dX0_node_17 : decode cX0_node 17 = .ok (.astore 4, 2) := dk_58 4 (dk_at dksX0_node_0 17 rfl rfl)
theorem dX0_node_19 : decode cX0_node 19 = .ok (.iload_n 3, 1) := dk_29 (dk_at dksX0_node_0 19 rfl rfl)
theorem dX0_node_20 : decode cX0_node 20 = .ok (.tableswitch 75 0 4 #[36, 44, 52, 60, 68], 36) := by decide +kernel
theorem dX0_node_56 : decode cX0_node 56 = .ok (.aload 4, 2) := dk_25 4 (dk_at dksX0_node_2 0 rfl rfl)
theorem dX0_node_58 : decode cX0_node 58 = .ok (.getfield 96, 3) := dk_180 0 96 (dk_at dksX0_node_2 2 rfl rfl)
theorem dX0_node_61 : decode cX0_node 61 = .ok (.iload_n 2, 1) := dk_28 (dk_at dksX0_node_2 5 rfl rfl)
theorem dX0_node_62 : decode cX0_node 62 = .ok (.baload, 1) := dk_51 (dk_at dksX0_node_2 6 rfl rfl)
theorem dX0_node_63 : decode cX0_node 63 = .ok (.ireturn, 1) := dk_172 (dk_at dksX0_node_2 7 rfl rfl)
theorem dX0_node_64 : decode cX0_node 64 = .ok (.aload 4, 2) := dk_25 4 (dk_at dksX0_node_2 8 rfl rfl)
theorem dX0_node_66 : decode cX0_node 66 = .ok (.getfield 100, 3) := dk_180 0 100 (dk_at dksX0_node_2 10 rfl rfl)
theorem dX0_node_69 : decode cX0_node 69 = .ok (.iload_n 2, 1) := dk_28 (dk_at dksX0_node_2 13 rfl rfl)
theorem dX0_node_70 : decode cX0_node 70 = .ok (.iaload, 1) := dk_46 (dk_at dksX0_node_2 14 rfl rfl)
theorem dX0_node_71 : decode cX0_node 71 = .ok (.ireturn, 1) := dk_172 (dk_at dksX0_node_2 15 rfl rfl)
theorem dX0_node_72 : decode cX0_node 72 = .ok (.aload 4, 2) := dk_25 4 (dk_at dksX0_node_2 16 rfl rfl)
theorem dX0_node_74 : decode cX0_node 74 = .ok (.getfield 104, 3) := dk_180 0 104 (dk_at dksX0_node_2 18 rfl rfl)
theorem dX0_node_77 : decode cX0_node 77 = .ok (.iload_n 2, 1) := dk_28 (dk_at dksX0_node_2 21 rfl rfl)
theorem dX0_node_78 : decode cX0_node 78 = .ok (.iaload, 1) := dk_46 (dk_at dksX0_node_2 22 rfl rfl)
theorem dX0_node_79 : decode cX0_node 79 = .ok (.ireturn, 1) := dk_172 (dk_at dksX0_node_2 23 rfl rfl)
theorem dX0_node_80 : decode cX0_node 80 = .ok (.aload 4, 2) := dk_25 4 (dk_at dksX0_node_3 0 rfl rfl)
theorem dX0_node_82 : decode cX0_node 82 = .ok (.getfield 107, 3) := dk_180 0 107 (dk_at dksX0_node_3 2 rfl rfl)
theorem dX0_node_85 : decode cX0_node 85 = .ok (.iload_n 2, 1) := dk_28 (dk_at dksX0_node_3 5 rfl rfl)
theorem dX0_node_86 : decode cX0_node 86 = .ok (.iaload, 1) := dk_46 (dk_at dksX0_node_3 6 rfl rfl)
theorem dX0_node_87 : decode cX0_node 87 = .ok (.ireturn, 1) := dk_172 (dk_at dksX0_node_3 7 rfl rfl)
theorem dX0_node_88 : decode cX0_node 88 = .ok (.aload 4, 2) := dk_25 4 (dk_at dksX0_node_3 8 rfl rfl)
theorem dX0_node_90 : decode cX0_node 90 = .ok (.iload_n 2, 1) := dk_28 (dk_at dksX0_node_3 10 rfl rfl)
theorem dX0_node_91 : decode cX0_node 91 = .ok (.invokevirtual 110, 3) := dk_182 0 110 (dk_at dksX0_node_3 11 rfl rfl)
theorem dX0_node_94 : decode cX0_node 94 = .ok (.ireturn, 1) := dk_172 (dk_at dksX0_node_3 14 rfl rfl)
theorem dX0_node_95 : decode cX0_node 95 = .ok (.bipush (-2), 2) := dk_16 254 (dk_at dksX0_node_3 15 rfl rfl)
theorem dX0_node_97 : decode cX0_node 97 = .ok (.ireturn, 1) := dk_172 (dk_at dksX0_node_3 17 rfl rfl)
abbrev cX0_has : ByteArray := prog_1_method_9_code
def yX0_has : MethodName := ⟨RX0, "has", "(II)Z"⟩
def dkwX0_has_1 : List UInt8 := [172]
abbrev dktX0_has_1 : List UInt8 := dkwX0_has_1 ++ []
def dkwX0_has_0 : List UInt8 := [27, 184, 0, 75, 153, 0, 19, 42, 27, 182, 0, 79, 28, 182, 0, 90, 153, 0, 7, 4, 167, 0, 4, 3]
abbrev dktX0_has_0 : List UInt8 := dkwX0_has_0 ++ dktX0_has_1
theorem dksX0_has_0 : cX0_has.data.toList.drop 0 = dktX0_has_0 := by decide +kernel
theorem dksX0_has_1 : cX0_has.data.toList.drop 24 = dktX0_has_1 := dk_seg dksX0_has_0 24 rfl rfl
theorem dX0_has_0 : decode cX0_has 0 = .ok (.iload_n 1, 1) := dk_27 (dk_at dksX0_has_0 0 rfl rfl)
theorem dX0_has_1 : decode cX0_has 1 = .ok (.invokestatic 75, 3) := dk_184 0 75 (dk_at dksX0_has_0 1 rfl rfl)
theorem dX0_has_4 : decode cX0_has 4 = .ok (.ifCond .eq 19, 3) := dk_153 0 19 (dk_at dksX0_has_0 4 rfl rfl)
theorem dX0_has_7 : decode cX0_has 7 = .ok (.aload_n 0, 1) := dk_42 (dk_at dksX0_has_0 7 rfl rfl)
theorem dX0_has_8 : decode cX0_has 8 = .ok (.iload_n 1, 1) := dk_27 (dk_at dksX0_has_0 8 rfl rfl)
theorem dX0_has_9 : decode cX0_has 9 = .ok (.invokevirtual 79, 3) := dk_182 0 79 (dk_at dksX0_has_0 9 rfl rfl)
theorem dX0_has_12 : decode cX0_has 12 = .ok (.iload_n 2, 1) := dk_28 (dk_at dksX0_has_0 12 rfl rfl)
theorem dX0_has_13 : decode cX0_has 13 = .ok (.invokevirtual 90, 3) := dk_182 0 90 (dk_at dksX0_has_0 13 rfl rfl)
theorem dX0_has_16 : decode cX0_has 16 = .ok (.ifCond .eq 7, 3) := dk_153 0 7 (dk_at dksX0_has_0 16 rfl rfl)
theorem dX0_has_19 : decode cX0_has 19 = .ok (.iconst 1, 1) := dk_4 (dk_at dksX0_has_0 19 rfl rfl)
theorem dX0_has_20 : decode cX0_has 20 = .ok (.goto 4, 3) := dk_167 0 4 (dk_at dksX0_has_0 20 rfl rfl)
theorem dX0_has_23 : decode cX0_has 23 = .ok (.iconst 0, 1) := dk_3 (dk_at dksX0_has_0 23 rfl rfl)
theorem dX0_has_24 : decode cX0_has 24 = .ok (.ireturn, 1) := dk_172 (dk_at dksX0_has_1 0 rfl rfl)
abbrev cX0_part : ByteArray := prog_1_method_11_code
def yX0_part : MethodName := ⟨RX0, "part", "(III)I"⟩
def dkwX0_part_0 : List UInt8 := [42, 27, 28, 182, 0, 93, 153, 0, 16, 42, 27, 182, 0, 79, 28, 29, 182, 0, 114, 167, 0, 4, 2, 172]
abbrev dktX0_part_0 : List UInt8 := dkwX0_part_0 ++ []
theorem dksX0_part_0 : cX0_part.data.toList.drop 0 = dktX0_part_0 := by decide +kernel
theorem dX0_part_0 : decode cX0_part 0 = .ok (.aload_n 0, 1) := dk_42 (dk_at dksX0_part_0 0 rfl rfl)
theorem dX0_part_1 : decode cX0_part 1 = .ok (.iload_n 1, 1) := dk_27 (dk_at dksX0_part_0 1 rfl rfl)
theorem dX0_part_2 : decode cX0_part 2 = .ok (.iload_n 2, 1) := dk_28 (dk_at dksX0_part_0 2 rfl rfl)
theorem dX0_part_3 : decode cX0_part 3 = .ok (.invokevirtual 93, 3) := dk_182 0 93 (dk_at dksX0_part_0 3 rfl rfl)
theorem dX0_part_6 : decode cX0_part 6 = .ok (.ifCond .eq 16, 3) := dk_153 0 16 (dk_at dksX0_part_0 6 rfl rfl)
theorem dX0_part_9 : decode cX0_part 9 = .ok (.aload_n 0, 1) := dk_42 (dk_at dksX0_part_0 9 rfl rfl)
theorem dX0_part_10 : decode cX0_part 10 = .ok (.iload_n 1, 1) := dk_27 (dk_at dksX0_part_0 10 rfl rfl)
theorem dX0_part_11 : decode cX0_part 11 = .ok (.invokevirtual 79, 3) := dk_182 0 79 (dk_at dksX0_part_0 11 rfl rfl)
theorem dX0_part_14 : decode cX0_part 14 = .ok (.iload_n 2, 1) := dk_28 (dk_at dksX0_part_0 14 rfl rfl)
theorem dX0_part_15 : decode cX0_part 15 = .ok (.iload_n 3, 1) := dk_29 (dk_at dksX0_part_0 15 rfl rfl)
theorem dX0_part_16 : decode cX0_part 16 = .ok (.invokevirtual 114, 3) := dk_182 0 114 (dk_at dksX0_part_0 16 rfl rfl)
theorem dX0_part_19 : decode cX0_part 19 = .ok (.goto 4, 3) := dk_167 0 4 (dk_at dksX0_part_0 19 rfl rfl)
theorem dX0_part_22 : decode cX0_part 22 = .ok (.iconst (-1), 1) := dk_2 (dk_at dksX0_part_0 22 rfl rfl)
theorem dX0_part_23 : decode cX0_part 23 = .ok (.ireturn, 1) := dk_172 (dk_at dksX0_part_0 23 rfl rfl)
abbrev cX0_whole : ByteArray := prog_1_method_12_code
def yX0_whole : MethodName := ⟨RX0, "whole", "(II)I"⟩
def dkwX0_whole_0 : List UInt8 := [42, 27, 28, 182, 0, 93, 153, 0, 15, 42, 27, 182, 0, 79, 28, 182, 0, 118, 167, 0, 4, 2, 172]
abbrev dktX0_whole_0 : List UInt8 := dkwX0_whole_0 ++ []
theorem dksX0_whole_0 : cX0_whole.data.toList.drop 0 = dktX0_whole_0 := by decide +kernel
theorem dX0_whole_0 : decode cX0_whole 0 = .ok (.aload_n 0, 1) := dk_42 (dk_at dksX0_whole_0 0 rfl rfl)
theorem dX0_whole_1 : decode cX0_whole 1 = .ok (.iload_n 1, 1) := dk_27 (dk_at dksX0_whole_0 1 rfl rfl)
theorem dX0_whole_2 : decode cX0_whole 2 = .ok (.iload_n 2, 1) := dk_28 (dk_at dksX0_whole_0 2 rfl rfl)
theorem dX0_whole_3 : decode cX0_whole 3 = .ok (.invokevirtual 93, 3) := dk_182 0 93 (dk_at dksX0_whole_0 3 rfl rfl)
theorem dX0_whole_6 : decode cX0_whole 6 = .ok (.ifCond .eq 15, 3) := dk_153 0 15 (dk_at dksX0_whole_0 6 rfl rfl)
theorem dX0_whole_9 : decode cX0_whole 9 = .ok (.aload_n 0, 1) := dk_42 (dk_at dksX0_whole_0 9 rfl rfl)
theorem dX0_whole_10 : decode cX0_whole 10 = .ok (.iload_n 1, 1) := dk_27 (dk_at dksX0_whole_0 10 rfl rfl)
theorem dX0_whole_11 : decode cX0_whole 11 = .ok (.invokevirtual 79, 3) := dk_182 0 79 (dk_at dksX0_whole_0 11 rfl rfl)
theorem dX0_whole_14 : decode cX0_whole 14 = .ok (.iload_n 2, 1) := dk_28 (dk_at dksX0_whole_0 14 rfl rfl)
theorem dX0_whole_15 : decode cX0_whole 15 = .ok (.invokevirtual 118, 3) := dk_182 0 118 (dk_at dksX0_whole_0 15 rfl rfl)
theorem dX0_whole_18 : decode cX0_whole 18 = .ok (.goto 4, 3) := dk_167 0 4 (dk_at dksX0_whole_0 18 rfl rfl)
theorem dX0_whole_21 : decode cX0_whole 21 = .ok (.iconst (-1), 1) := dk_2 (dk_at dksX0_whole_0 21 rfl rfl)
theorem dX0_whole_22 : decode cX0_whole 22 = .ok (.ireturn, 1) := dk_172 (dk_at dksX0_whole_0 22 rfl rfl)
abbrev cX0_names : ByteArray := prog_1_method_13_code
def yX0_names : MethodName := ⟨RX0, "names", "()I"⟩
def dkwX0_names_0 : List UInt8 := [42, 180, 0, 31, 180, 0, 121, 172]
abbrev dktX0_names_0 : List UInt8 := dkwX0_names_0 ++ []
theorem dksX0_names_0 : cX0_names.data.toList.drop 0 = dktX0_names_0 := by decide +kernel
theorem dX0_names_0 : decode cX0_names 0 = .ok (.aload_n 0, 1) := dk_42 (dk_at dksX0_names_0 0 rfl rfl)
theorem dX0_names_1 : decode cX0_names 1 = .ok (.getfield 31, 3) := dk_180 0 31 (dk_at dksX0_names_0 1 rfl rfl)
theorem dX0_names_4 : decode cX0_names 4 = .ok (.getfield 121, 3) := dk_180 0 121 (dk_at dksX0_names_0 4 rfl rfl)
theorem dX0_names_7 : decode cX0_names 7 = .ok (.ireturn, 1) := dk_172 (dk_at dksX0_names_0 7 rfl rfl)
abbrev cX0_spelt : ByteArray := prog_1_method_14_code
def yX0_spelt : MethodName := ⟨RX0, "spelt", "(II)I"⟩
def dkwX0_spelt_1 : List UInt8 := [27, 182, 0, 122, 161, 0, 7, 2, 167, 0, 12, 42, 180, 0, 31, 27, 28, 182, 0, 125, 172]
abbrev dktX0_spelt_1 : List UInt8 := dkwX0_spelt_1 ++ []
def dkwX0_spelt_0 : List UInt8 := [27, 155, 0, 30, 27, 42, 180, 0, 31, 180, 0, 121, 162, 0, 19, 28, 155, 0, 15, 28, 42, 180, 0, 31]
abbrev dktX0_spelt_0 : List UInt8 := dkwX0_spelt_0 ++ dktX0_spelt_1
theorem dksX0_spelt_0 : cX0_spelt.data.toList.drop 0 = dktX0_spelt_0 := by decide +kernel
theorem dksX0_spelt_1 : cX0_spelt.data.toList.drop 24 = dktX0_spelt_1 := dk_seg dksX0_spelt_0 24 rfl rfl
theorem dX0_spelt_0 : decode cX0_spelt 0 = .ok (.iload_n 1, 1) := dk_27 (dk_at dksX0_spelt_0 0 rfl rfl)
theorem dX0_spelt_1 : decode cX0_spelt 1 = .ok (.ifCond .lt 30, 3) := dk_155 0 30 (dk_at dksX0_spelt_0 1 rfl rfl)
theorem dX0_spelt_4 : decode cX0_spelt 4 = .ok (.iload_n 1, 1) := dk_27 (dk_at dksX0_spelt_0 4 rfl rfl)
theorem dX0_spelt_5 : decode cX0_spelt 5 = .ok (.aload_n 0, 1) := dk_42 (dk_at dksX0_spelt_0 5 rfl rfl)
theorem dX0_spelt_6 : decode cX0_spelt 6 = .ok (.getfield 31, 3) := dk_180 0 31 (dk_at dksX0_spelt_0 6 rfl rfl)
theorem dX0_spelt_9 : decode cX0_spelt 9 = .ok (.getfield 121, 3) := dk_180 0 121 (dk_at dksX0_spelt_0 9 rfl rfl)
theorem dX0_spelt_12 : decode cX0_spelt 12 = .ok (.if_icmp .ge 19, 3) := dk_162 0 19 (dk_at dksX0_spelt_0 12 rfl rfl)
theorem dX0_spelt_15 : decode cX0_spelt 15 = .ok (.iload_n 2, 1) := dk_28 (dk_at dksX0_spelt_0 15 rfl rfl)
theorem dX0_spelt_16 : decode cX0_spelt 16 = .ok (.ifCond .lt 15, 3) := dk_155 0 15 (dk_at dksX0_spelt_0 16 rfl rfl)
theorem dX0_spelt_19 : decode cX0_spelt 19 = .ok (.iload_n 2, 1) := dk_28 (dk_at dksX0_spelt_0 19 rfl rfl)
theorem dX0_spelt_20 : decode cX0_spelt 20 = .ok (.aload_n 0, 1) := dk_42 (dk_at dksX0_spelt_0 20 rfl rfl)
theorem dX0_spelt_21 : decode cX0_spelt 21 = .ok (.getfield 31, 3) := dk_180 0 31 (dk_at dksX0_spelt_0 21 rfl rfl)
theorem dX0_spelt_24 : decode cX0_spelt 24 = .ok (.iload_n 1, 1) := dk_27 (dk_at dksX0_spelt_1 0 rfl rfl)
theorem dX0_spelt_25 : decode cX0_spelt 25 = .ok (.invokevirtual 122, 3) := dk_182 0 122 (dk_at dksX0_spelt_1 1 rfl rfl)
theorem dX0_spelt_28 : decode cX0_spelt 28 = .ok (.if_icmp .lt 7, 3) := dk_161 0 7 (dk_at dksX0_spelt_1 4 rfl rfl)
theorem dX0_spelt_31 : decode cX0_spelt 31 = .ok (.iconst (-1), 1) := dk_2 (dk_at dksX0_spelt_1 7 rfl rfl)
theorem dX0_spelt_32 : decode cX0_spelt 32 = .ok (.goto 12, 3) := dk_167 0 12 (dk_at dksX0_spelt_1 8 rfl rfl)
theorem dX0_spelt_35 : decode cX0_spelt 35 = .ok (.aload_n 0, 1) := dk_42 (dk_at dksX0_spelt_1 11 rfl rfl)
theorem dX0_spelt_36 : decode cX0_spelt 36 = .ok (.getfield 31, 3) := dk_180 0 31 (dk_at dksX0_spelt_1 12 rfl rfl)
theorem dX0_spelt_39 : decode cX0_spelt 39 = .ok (.iload_n 1, 1) := dk_27 (dk_at dksX0_spelt_1 15 rfl rfl)
theorem dX0_spelt_40 : decode cX0_spelt 40 = .ok (.iload_n 2, 1) := dk_28 (dk_at dksX0_spelt_1 16 rfl rfl)
theorem dX0_spelt_41 : decode cX0_spelt 41 = .ok (.invokevirtual 125, 3) := dk_182 0 125 (dk_at dksX0_spelt_1 17 rfl rfl)
theorem dX0_spelt_44 : decode cX0_spelt 44 = .ok (.ireturn, 1) := dk_172 (dk_at dksX0_spelt_1 20 rfl rfl)
abbrev cX0_write : ByteArray := prog_1_method_15_code
def yX0_write : MethodName := ⟨RX0, "write", "(II)I"⟩
def dkwX0_write_2 : List UInt8 := [180, 0, 22, 42, 180, 0, 25, 182, 0, 132, 42, 180, 0, 22, 180, 0, 68, 172]
abbrev dktX0_write_2 : List UInt8 := dkwX0_write_2 ++ []
def dkwX0_write_1 : List UInt8 := [180, 0, 25, 182, 0, 128, 42, 180, 0, 25, 180, 0, 68, 17, 31, 64, 164, 0, 5, 2, 172, 42]
abbrev dktX0_write_1 : List UInt8 := dkwX0_write_1 ++ dktX0_write_2
def dkwX0_write_0 : List UInt8 := [42, 27, 28, 182, 0, 93, 154, 0, 5, 2, 172, 42, 180, 0, 57, 42, 27, 182, 0, 79, 28, 42]
abbrev dktX0_write_0 : List UInt8 := dkwX0_write_0 ++ dktX0_write_1
theorem dksX0_write_0 : cX0_write.data.toList.drop 0 = dktX0_write_0 := by decide +kernel
theorem dksX0_write_1 : cX0_write.data.toList.drop 22 = dktX0_write_1 := dk_seg dksX0_write_0 22 rfl rfl
theorem dksX0_write_2 : cX0_write.data.toList.drop 44 = dktX0_write_2 := dk_seg dksX0_write_1 22 rfl rfl
theorem dX0_write_0 : decode cX0_write 0 = .ok (.aload_n 0, 1) := dk_42 (dk_at dksX0_write_0 0 rfl rfl)
theorem dX0_write_1 : decode cX0_write 1 = .ok (.iload_n 1, 1) := dk_27 (dk_at dksX0_write_0 1 rfl rfl)
theorem dX0_write_2 : decode cX0_write 2 = .ok (.iload_n 2, 1) := dk_28 (dk_at dksX0_write_0 2 rfl rfl)
theorem dX0_write_3 : decode cX0_write 3 = .ok (.invokevirtual 93, 3) := dk_182 0 93 (dk_at dksX0_write_0 3 rfl rfl)
theorem dX0_write_6 : decode cX0_write 6 = .ok (.ifCond .ne 5, 3) := dk_154 0 5 (dk_at dksX0_write_0 6 rfl rfl)
theorem dX0_write_9 : decode cX0_write 9 = .ok (.iconst (-1), 1) := dk_2 (dk_at dksX0_write_0 9 rfl rfl)
theorem dX0_write_10 : decode cX0_write 10 = .ok (.ireturn, 1) := dk_172 (dk_at dksX0_write_0 10 rfl rfl)
theorem dX0_write_11 : decode cX0_write 11 = .ok (.aload_n 0, 1) := dk_42 (dk_at dksX0_write_0 11 rfl rfl)
theorem dX0_write_12 : decode cX0_write 12 = .ok (.getfield 57, 3) := dk_180 0 57 (dk_at dksX0_write_0 12 rfl rfl)
theorem dX0_write_15 : decode cX0_write 15 = .ok (.aload_n 0, 1) := dk_42 (dk_at dksX0_write_0 15 rfl rfl)
theorem dX0_write_16 : decode cX0_write 16 = .ok (.iload_n 1, 1) := dk_27 (dk_at dksX0_write_0 16 rfl rfl)
theorem dX0_write_17 : decode cX0_write 17 = .ok (.invokevirtual 79, 3) := dk_182 0 79 (dk_at dksX0_write_0 17 rfl rfl)
theorem dX0_write_20 : decode cX0_write 20 = .ok (.iload_n 2, 1) := dk_28 (dk_at dksX0_write_0 20 rfl rfl)
theorem dX0_write_21 : decode cX0_write 21 = .ok (.aload_n 0, 1) := dk_42 (dk_at dksX0_write_0 21 rfl rfl)
theorem dX0_write_22 : decode cX0_write 22 = .ok (.getfield 25, 3) := dk_180 0 25 (dk_at dksX0_write_1 0 rfl rfl)
theorem dX0_write_25 : decode cX0_write 25 = .ok (.invokevirtual 128, 3) := dk_182 0 128 (dk_at dksX0_write_1 3 rfl rfl)
theorem dX0_write_28 : decode cX0_write 28 = .ok (.aload_n 0, 1) := dk_42 (dk_at dksX0_write_1 6 rfl rfl)
theorem dX0_write_29 : decode cX0_write 29 = .ok (.getfield 25, 3) := dk_180 0 25 (dk_at dksX0_write_1 7 rfl rfl)
theorem dX0_write_32 : decode cX0_write 32 = .ok (.getfield 68, 3) := dk_180 0 68 (dk_at dksX0_write_1 10 rfl rfl)
theorem dX0_write_35 : decode cX0_write 35 = .ok (.sipush 8000, 3) := dk_17 31 64 (dk_at dksX0_write_1 13 rfl rfl)
theorem dX0_write_38 : decode cX0_write 38 = .ok (.if_icmp .le 5, 3) := dk_164 0 5 (dk_at dksX0_write_1 16 rfl rfl)
theorem dX0_write_41 : decode cX0_write 41 = .ok (.iconst (-1), 1) := dk_2 (dk_at dksX0_write_1 19 rfl rfl)
theorem dX0_write_42 : decode cX0_write 42 = .ok (.ireturn, 1) := dk_172 (dk_at dksX0_write_1 20 rfl rfl)
theorem dX0_write_43 : decode cX0_write 43 = .ok (.aload_n 0, 1) := dk_42 (dk_at dksX0_write_1 21 rfl rfl)
theorem dX0_write_44 : decode cX0_write 44 = .ok (.getfield 22, 3) := dk_180 0 22 (dk_at dksX0_write_2 0 rfl rfl)
theorem dX0_write_47 : decode cX0_write 47 = .ok (.aload_n 0, 1) := dk_42 (dk_at dksX0_write_2 3 rfl rfl)
theorem dX0_write_48 : decode cX0_write 48 = .ok (.getfield 25, 3) := dk_180 0 25 (dk_at dksX0_write_2 4 rfl rfl)
theorem dX0_write_51 : decode cX0_write 51 = .ok (.invokevirtual 132, 3) := dk_182 0 132 (dk_at dksX0_write_2 7 rfl rfl)
theorem dX0_write_54 : decode cX0_write 54 = .ok (.aload_n 0, 1) := dk_42 (dk_at dksX0_write_2 10 rfl rfl)
theorem dX0_write_55 : decode cX0_write 55 = .ok (.getfield 22, 3) := dk_180 0 22 (dk_at dksX0_write_2 11 rfl rfl)
theorem dX0_write_58 : decode cX0_write 58 = .ok (.getfield 68, 3) := dk_180 0 68 (dk_at dksX0_write_2 14 rfl rfl)
theorem dX0_write_61 : decode cX0_write 61 = .ok (.ireturn, 1) := dk_172 (dk_at dksX0_write_2 17 rfl rfl)
abbrev cX0_written : ByteArray := prog_1_method_16_code
def yX0_written : MethodName := ⟨RX0, "written", "(I)I"⟩
def dkwX0_written_1 : List UInt8 := [182, 0, 136, 172]
abbrev dktX0_written_1 : List UInt8 := dkwX0_written_1 ++ []
def dkwX0_written_0 : List UInt8 := [27, 155, 0, 14, 27, 42, 180, 0, 22, 180, 0, 68, 161, 0, 7, 2, 167, 0, 11, 42, 180, 0, 22, 27]
abbrev dktX0_written_0 : List UInt8 := dkwX0_written_0 ++ dktX0_written_1
theorem dksX0_written_0 : cX0_written.data.toList.drop 0 = dktX0_written_0 := by decide +kernel
theorem dksX0_written_1 : cX0_written.data.toList.drop 24 = dktX0_written_1 := dk_seg dksX0_written_0 24 rfl rfl
theorem dX0_written_0 : decode cX0_written 0 = .ok (.iload_n 1, 1) := dk_27 (dk_at dksX0_written_0 0 rfl rfl)
theorem dX0_written_1 : decode cX0_written 1 = .ok (.ifCond .lt 14, 3) := dk_155 0 14 (dk_at dksX0_written_0 1 rfl rfl)
theorem dX0_written_4 : decode cX0_written 4 = .ok (.iload_n 1, 1) := dk_27 (dk_at dksX0_written_0 4 rfl rfl)
theorem dX0_written_5 : decode cX0_written 5 = .ok (.aload_n 0, 1) := dk_42 (dk_at dksX0_written_0 5 rfl rfl)
theorem dX0_written_6 : decode cX0_written 6 = .ok (.getfield 22, 3) := dk_180 0 22 (dk_at dksX0_written_0 6 rfl rfl)
theorem dX0_written_9 : decode cX0_written 9 = .ok (.getfield 68, 3) := dk_180 0 68 (dk_at dksX0_written_0 9 rfl rfl)
theorem dX0_written_12 : decode cX0_written 12 = .ok (.if_icmp .lt 7, 3) := dk_161 0 7 (dk_at dksX0_written_0 12 rfl rfl)
theorem dX0_written_15 : decode cX0_written 15 = .ok (.iconst (-1), 1) := dk_2 (dk_at dksX0_written_0 15 rfl rfl)
theorem dX0_written_16 : decode cX0_written 16 = .ok (.goto 11, 3) := dk_167 0 11 (dk_at dksX0_written_0 16 rfl rfl)
theorem dX0_written_19 : decode cX0_written 19 = .ok (.aload_n 0, 1) := dk_42 (dk_at dksX0_written_0 19 rfl rfl)
theorem dX0_written_20 : decode cX0_written 20 = .ok (.getfield 22, 3) := dk_180 0 22 (dk_at dksX0_written_0 20 rfl rfl)
theorem dX0_written_23 : decode cX0_written 23 = .ok (.iload_n 1, 1) := dk_27 (dk_at dksX0_written_0 23 rfl rfl)
theorem dX0_written_24 : decode cX0_written 24 = .ok (.invokevirtual 136, 3) := dk_182 0 136 (dk_at dksX0_written_1 0 rfl rfl)
theorem dX0_written_27 : decode cX0_written 27 = .ok (.ireturn, 1) := dk_172 (dk_at dksX0_written_1 3 rfl rfl)
abbrev cX0_again : ByteArray := prog_1_method_17_code
def yX0_again : MethodName := ⟨RX0, "again", "()I"⟩
def dkwX0_again_0 : List UInt8 := [42, 180, 0, 16, 42, 180, 0, 22, 182, 0, 132, 42, 180, 0, 16, 180, 0, 68, 172]
abbrev dktX0_again_0 : List UInt8 := dkwX0_again_0 ++ []
theorem dksX0_again_0 : cX0_again.data.toList.drop 0 = dktX0_again_0 := by decide +kernel
theorem dX0_again_0 : decode cX0_again 0 = .ok (.aload_n 0, 1) := dk_42 (dk_at dksX0_again_0 0 rfl rfl)
theorem dX0_again_1 : decode cX0_again 1 = .ok (.getfield 16, 3) := dk_180 0 16 (dk_at dksX0_again_0 1 rfl rfl)
theorem dX0_again_4 : decode cX0_again 4 = .ok (.aload_n 0, 1) := dk_42 (dk_at dksX0_again_0 4 rfl rfl)
theorem dX0_again_5 : decode cX0_again 5 = .ok (.getfield 22, 3) := dk_180 0 22 (dk_at dksX0_again_0 5 rfl rfl)
theorem dX0_again_8 : decode cX0_again 8 = .ok (.invokevirtual 132, 3) := dk_182 0 132 (dk_at dksX0_again_0 8 rfl rfl)
theorem dX0_again_11 : decode cX0_again 11 = .ok (.aload_n 0, 1) := dk_42 (dk_at dksX0_again_0 11 rfl rfl)
theorem dX0_again_12 : decode cX0_again 12 = .ok (.getfield 16, 3) := dk_180 0 16 (dk_at dksX0_again_0 12 rfl rfl)
theorem dX0_again_15 : decode cX0_again 15 = .ok (.getfield 68, 3) := dk_180 0 68 (dk_at dksX0_again_0 15 rfl rfl)
theorem dX0_again_18 : decode cX0_again 18 = .ok (.ireturn, 1) := dk_172 (dk_at dksX0_again_0 18 rfl rfl)
abbrev cX0_same : ByteArray := prog_1_method_18_code
def yX0_same : MethodName := ⟨RX0, "same", "()Z"⟩
def dkwX0_same_0 : List UInt8 := [42, 180, 0, 38, 42, 180, 0, 42, 182, 0, 139, 172]
abbrev dktX0_same_0 : List UInt8 := dkwX0_same_0 ++ []
theorem dksX0_same_0 : cX0_same.data.toList.drop 0 = dktX0_same_0 := by decide +kernel
theorem dX0_same_0 : decode cX0_same 0 = .ok (.aload_n 0, 1) := dk_42 (dk_at dksX0_same_0 0 rfl rfl)
theorem dX0_same_1 : decode cX0_same 1 = .ok (.getfield 38, 3) := dk_180 0 38 (dk_at dksX0_same_0 1 rfl rfl)
theorem dX0_same_4 : decode cX0_same 4 = .ok (.aload_n 0, 1) := dk_42 (dk_at dksX0_same_0 4 rfl rfl)
theorem dX0_same_5 : decode cX0_same 5 = .ok (.getfield 42, 3) := dk_180 0 42 (dk_at dksX0_same_0 5 rfl rfl)
theorem dX0_same_8 : decode cX0_same 8 = .ok (.invokevirtual 139, 3) := dk_182 0 139 (dk_at dksX0_same_0 8 rfl rfl)
theorem dX0_same_11 : decode cX0_same 11 = .ok (.ireturn, 1) := dk_172 (dk_at dksX0_same_0 11 rfl rfl)
theorem q95 : (Jvm.Cond.initialized "ProgramReader") ∈ lw_all := lw_g (lw_at lw_m1 1 rfl) rfl
theorem q115 : (Jvm.Cond.instantiable "ProgramReader" (8 : Nat)) ∈ lw_all := lw_g (lw_at lw_m1 21 rfl) rfl
theorem q117 : (Jvm.Cond.instanceMethod ({ cls := "ProgramReader", name := "<init>", desc := "()V" } : Jvm.MethodName)) ∈ lw_all := lw_g (lw_at lw_m1 23 rfl) rfl
theorem q118 : (Jvm.Cond.code ({ cls := "ProgramReader", name := "<init>", desc := "()V" } : Jvm.MethodName) prog_1_method_2_code (1 : Nat) (Option.none : Option Jvm.ClassFile.FieldType)) ∈ lw_all := lw_g (lw_at lw_m1 24 rfl) rfl
theorem q119 : (Jvm.Cond.methodLink "ProgramReader" (7 : Nat) ({ cls := "java/lang/Object", name := "<init>", desc := "()V" } : Jvm.MethodName)) ∈ lw_all := lw_g (lw_at lw_m1 25 rfl) rfl
theorem q122 : (Jvm.Cond.classLink "ProgramReader" (13 : Nat) "ProgramReader$Bytes") ∈ lw_all := lw_g (lw_at lw_m1 28 rfl) rfl
theorem q124 : (Jvm.Cond.methodLinkNest "ProgramReader" (15 : Nat) ({ cls := "ProgramReader$Bytes", name := "<init>", desc := "()V" } : Jvm.MethodName) "ProgramReader") ∈ lw_tbl := lw_at lw_m1 30 rfl
theorem q131 : (Jvm.Cond.fieldLinkNest "ProgramReader" (68 : Nat) "ProgramReader$Bytes" "size" "I" "ProgramReader") ∈ lw_tbl := lw_at lw_m1 37 rfl
theorem q139 : (Jvm.Cond.classLink "ProgramReader" (28 : Nat) "ProgramReader$Names") ∈ lw_all := lw_g (lw_at lw_m1 45 rfl) rfl
theorem q141 : (Jvm.Cond.methodLinkNest "ProgramReader" (30 : Nat) ({ cls := "ProgramReader$Names", name := "<init>", desc := "()V" } : Jvm.MethodName) "ProgramReader") ∈ lw_tbl := lw_at lw_m1 47 rfl
theorem q150 : (Jvm.Cond.fieldLinkNest "ProgramReader" (121 : Nat) "ProgramReader$Names" "count" "I" "ProgramReader") ∈ lw_tbl := lw_at lw_m1 56 rfl
theorem q163 : (Jvm.Cond.classLink "ProgramReader" (35 : Nat) "ProgramReader$Tree") ∈ lw_all := lw_g (lw_at lw_m1 69 rfl) rfl
theorem q165 : (Jvm.Cond.methodLink "ProgramReader" (37 : Nat) ({ cls := "ProgramReader$Tree", name := "<init>", desc := "()V" } : Jvm.MethodName)) ∈ lw_all := lw_g (lw_at lw_m1 71 rfl) rfl
theorem q185 : (Jvm.Cond.static ({ cls := "ProgramReader", name := "grown", desc := "([II)[I" } : Jvm.MethodName)) ∈ lw_all := lw_g (lw_at lw_m1 91 rfl) rfl
theorem q186 : (Jvm.Cond.code ({ cls := "ProgramReader", name := "grown", desc := "([II)[I" } : Jvm.MethodName) prog_1_method_1_code (3 : Nat) (Option.some (Jvm.ClassFile.FieldType.array Jvm.ClassFile.FieldType.int))) ∈ lw_all := lw_g (lw_at lw_m1 92 rfl) rfl
theorem q187 : (Jvm.Cond.methodLink "ProgramReader" (1 : Nat) ({ cls := "java/lang/System", name := "arraycopy", desc := "(Ljava/lang/Object;ILjava/lang/Object;II)V" } : Jvm.MethodName)) ∈ lw_all := lw_g (lw_at lw_m1 93 rfl) rfl
theorem q195 : (Jvm.Cond.fieldLinkNest "ProgramReader" (96 : Nat) "ProgramReader$Tree" "kinds" "[B" "ProgramReader") ∈ lw_tbl := lw_at lw_m1 101 rfl
theorem q198 : (Jvm.Cond.fieldLinkNest "ProgramReader" (100 : Nat) "ProgramReader$Tree" "places" "[I" "ProgramReader") ∈ lw_tbl := lw_at lw_m1 104 rfl
theorem q201 : (Jvm.Cond.fieldLinkNest "ProgramReader" (104 : Nat) "ProgramReader$Tree" "values" "[I" "ProgramReader") ∈ lw_tbl := lw_at lw_m1 107 rfl
theorem q204 : (Jvm.Cond.fieldLinkNest "ProgramReader" (107 : Nat) "ProgramReader$Tree" "sizes" "[I" "ProgramReader") ∈ lw_tbl := lw_at lw_m1 110 rfl
theorem q206 : (Jvm.Cond.fieldLinkNest "ProgramReader" (87 : Nat) "ProgramReader$Tree" "count" "I" "ProgramReader") ∈ lw_tbl := lw_at lw_m1 112 rfl
theorem q219 : (Jvm.Cond.classLink "ProgramReader" (45 : Nat) "ProgramReader$Reader") ∈ lw_all := lw_g (lw_at lw_m1 125 rfl) rfl
theorem q221 : (Jvm.Cond.methodLink "ProgramReader" (47 : Nat) ({ cls := "ProgramReader$Reader", name := "<init>", desc := "(LProgramReader$Names;)V" } : Jvm.MethodName)) ∈ lw_all := lw_g (lw_at lw_m1 127 rfl) rfl
theorem q290 : (Jvm.Cond.classLink "ProgramReader" (54 : Nat) "ProgramReader$Writer") ∈ lw_all := lw_g (lw_at lw_m1 196 rfl) rfl
theorem q292 : (Jvm.Cond.methodLink "ProgramReader" (56 : Nat) ({ cls := "ProgramReader$Writer", name := "<init>", desc := "(LProgramReader$Names;)V" } : Jvm.MethodName)) ∈ lw_all := lw_g (lw_at lw_m1 198 rfl) rfl
theorem q306 : (Jvm.Cond.methodLink "ProgramReader" (61 : Nat) ({ cls := "ProgramReader$Tree", name := "end", desc := "(I)V" } : Jvm.MethodName)) ∈ lw_all := lw_g (lw_at lw_m1 212 rfl) rfl
theorem q310 : (Jvm.Cond.fieldLink "ProgramReader" (16 : Nat) "ProgramReader" "tape" "LProgramReader$Bytes;") ∈ lw_all := lw_g (lw_at lw_m1 216 rfl) rfl
theorem q311 : (Jvm.Cond.fieldLink "ProgramReader" (22 : Nat) "ProgramReader" "paper" "LProgramReader$Bytes;") ∈ lw_all := lw_g (lw_at lw_m1 217 rfl) rfl
theorem q312 : (Jvm.Cond.fieldLink "ProgramReader" (25 : Nat) "ProgramReader" "draft" "LProgramReader$Bytes;") ∈ lw_all := lw_g (lw_at lw_m1 218 rfl) rfl
theorem q313 : (Jvm.Cond.fieldLink "ProgramReader" (31 : Nat) "ProgramReader" "names" "LProgramReader$Names;") ∈ lw_all := lw_g (lw_at lw_m1 219 rfl) rfl
theorem q314 : (Jvm.Cond.fieldLink "ProgramReader" (38 : Nat) "ProgramReader" "first" "LProgramReader$Tree;") ∈ lw_all := lw_g (lw_at lw_m1 220 rfl) rfl
theorem q315 : (Jvm.Cond.fieldLink "ProgramReader" (42 : Nat) "ProgramReader" "second" "LProgramReader$Tree;") ∈ lw_all := lw_g (lw_at lw_m1 221 rfl) rfl
theorem q316 : (Jvm.Cond.fieldLink "ProgramReader" (50 : Nat) "ProgramReader" "reader" "LProgramReader$Reader;") ∈ lw_all := lw_g (lw_at lw_m1 222 rfl) rfl
theorem q317 : (Jvm.Cond.fieldLink "ProgramReader" (57 : Nat) "ProgramReader" "writer" "LProgramReader$Writer;") ∈ lw_all := lw_g (lw_at lw_m1 223 rfl) rfl
theorem q318 : (Jvm.Cond.laysFinal "ProgramReader" "ProgramReader" "tape" "LProgramReader$Bytes;") ∈ lw_all := lw_g (lw_at lw_m1 224 rfl) rfl
theorem q319 : (Jvm.Cond.soleField "ProgramReader" "tape") ∈ lw_all := lw_g (lw_at lw_m1 225 rfl) rfl
theorem q320 : (Jvm.Cond.laysFinal "ProgramReader" "ProgramReader" "paper" "LProgramReader$Bytes;") ∈ lw_all := lw_g (lw_at lw_m1 226 rfl) rfl
theorem q321 : (Jvm.Cond.soleField "ProgramReader" "paper") ∈ lw_all := lw_g (lw_at lw_m1 227 rfl) rfl
theorem q322 : (Jvm.Cond.laysFinal "ProgramReader" "ProgramReader" "draft" "LProgramReader$Bytes;") ∈ lw_all := lw_g (lw_at lw_m1 228 rfl) rfl
theorem q323 : (Jvm.Cond.soleField "ProgramReader" "draft") ∈ lw_all := lw_g (lw_at lw_m1 229 rfl) rfl
theorem q324 : (Jvm.Cond.laysFinal "ProgramReader" "ProgramReader" "names" "LProgramReader$Names;") ∈ lw_all := lw_g (lw_at lw_m1 230 rfl) rfl
theorem q325 : (Jvm.Cond.soleField "ProgramReader" "names") ∈ lw_all := lw_g (lw_at lw_m1 231 rfl) rfl
theorem q326 : (Jvm.Cond.laysFinal "ProgramReader" "ProgramReader" "first" "LProgramReader$Tree;") ∈ lw_all := lw_g (lw_at lw_m1 232 rfl) rfl
theorem q327 : (Jvm.Cond.soleField "ProgramReader" "first") ∈ lw_all := lw_g (lw_at lw_m1 233 rfl) rfl
theorem q328 : (Jvm.Cond.laysFinal "ProgramReader" "ProgramReader" "second" "LProgramReader$Tree;") ∈ lw_all := lw_g (lw_at lw_m1 234 rfl) rfl
theorem q329 : (Jvm.Cond.soleField "ProgramReader" "second") ∈ lw_all := lw_g (lw_at lw_m1 235 rfl) rfl
theorem q330 : (Jvm.Cond.laysFinal "ProgramReader" "ProgramReader" "reader" "LProgramReader$Reader;") ∈ lw_all := lw_g (lw_at lw_m1 236 rfl) rfl
theorem q331 : (Jvm.Cond.soleField "ProgramReader" "reader") ∈ lw_all := lw_g (lw_at lw_m1 237 rfl) rfl
theorem q332 : (Jvm.Cond.laysFinal "ProgramReader" "ProgramReader" "writer" "LProgramReader$Writer;") ∈ lw_all := lw_g (lw_at lw_m1 238 rfl) rfl
theorem q333 : (Jvm.Cond.soleField "ProgramReader" "writer") ∈ lw_all := lw_g (lw_at lw_m1 239 rfl) rfl
theorem q334 : (Jvm.Cond.superclass "ProgramReader" "java/lang/Object") ∈ lw_all := lw_g (lw_at lw_m2 0 rfl) rfl
theorem q336 : (Jvm.Cond.instanceMethod ({ cls := "ProgramReader", name := "feed", desc := "(IIIII)I" } : Jvm.MethodName)) ∈ lw_all := lw_g (lw_at lw_m2 2 rfl) rfl
theorem q337 : (Jvm.Cond.selects "ProgramReader" ({ cls := "ProgramReader", name := "feed", desc := "(IIIII)I" } : Jvm.MethodName) ({ cls := "ProgramReader", name := "feed", desc := "(IIIII)I" } : Jvm.MethodName)) ∈ lw_all := lw_g (lw_at lw_m2 3 rfl) rfl
theorem q338 : (Jvm.Cond.code ({ cls := "ProgramReader", name := "feed", desc := "(IIIII)I" } : Jvm.MethodName) prog_1_method_4_code (6 : Nat) (Option.some Jvm.ClassFile.FieldType.int)) ∈ lw_all := lw_g (lw_at lw_m2 4 rfl) rfl
theorem q339 : (Jvm.Cond.methodLink "ProgramReader" (72 : Nat) ({ cls := "ProgramReader", name := "four", desc := "(I)V" } : Jvm.MethodName)) ∈ lw_all := lw_g (lw_at lw_m2 5 rfl) rfl
theorem q340 : (Jvm.Cond.privateMethod ({ cls := "ProgramReader", name := "four", desc := "(I)V" } : Jvm.MethodName)) ∈ lw_tbl := lw_at lw_m2 6 rfl
theorem q341 : (Jvm.Cond.instanceMethod ({ cls := "ProgramReader", name := "four", desc := "(I)V" } : Jvm.MethodName)) ∈ lw_all := lw_g (lw_at lw_m2 7 rfl) rfl
theorem q342 : (Jvm.Cond.code ({ cls := "ProgramReader", name := "four", desc := "(I)V" } : Jvm.MethodName) prog_1_method_3_code (3 : Nat) (Option.none : Option Jvm.ClassFile.FieldType)) ∈ lw_all := lw_g (lw_at lw_m2 8 rfl) rfl
theorem q343 : (Jvm.Cond.methodLink "ProgramReader" (65 : Nat) ({ cls := "ProgramReader$Bytes", name := "add", desc := "(I)V" } : Jvm.MethodName)) ∈ lw_all := lw_g (lw_at lw_m2 9 rfl) rfl
theorem q349 : (Jvm.Cond.instanceMethod ({ cls := "ProgramReader", name := "read", desc := "(II)I" } : Jvm.MethodName)) ∈ lw_all := lw_g (lw_at lw_m2 15 rfl) rfl
theorem q350 : (Jvm.Cond.selects "ProgramReader" ({ cls := "ProgramReader", name := "read", desc := "(II)I" } : Jvm.MethodName) ({ cls := "ProgramReader", name := "read", desc := "(II)I" } : Jvm.MethodName)) ∈ lw_all := lw_g (lw_at lw_m2 16 rfl) rfl
theorem q351 : (Jvm.Cond.code ({ cls := "ProgramReader", name := "read", desc := "(II)I" } : Jvm.MethodName) prog_1_method_7_code (4 : Nat) (Option.some Jvm.ClassFile.FieldType.int)) ∈ lw_all := lw_g (lw_at lw_m2 17 rfl) rfl
theorem q352 : (Jvm.Cond.methodLink "ProgramReader" (75 : Nat) ({ cls := "ProgramReader", name := "isTree", desc := "(I)Z" } : Jvm.MethodName)) ∈ lw_all := lw_g (lw_at lw_m2 18 rfl) rfl
theorem q353 : (Jvm.Cond.static ({ cls := "ProgramReader", name := "isTree", desc := "(I)Z" } : Jvm.MethodName)) ∈ lw_all := lw_g (lw_at lw_m2 19 rfl) rfl
theorem q354 : (Jvm.Cond.code ({ cls := "ProgramReader", name := "isTree", desc := "(I)Z" } : Jvm.MethodName) prog_1_method_6_code (1 : Nat) (Option.some Jvm.ClassFile.FieldType.boolean)) ∈ lw_all := lw_g (lw_at lw_m2 20 rfl) rfl
theorem q355 : (Jvm.Cond.methodLink "ProgramReader" (79 : Nat) ({ cls := "ProgramReader", name := "treeOf", desc := "(I)LProgramReader$Tree;" } : Jvm.MethodName)) ∈ lw_all := lw_g (lw_at lw_m2 21 rfl) rfl
theorem q356 : (Jvm.Cond.privateMethod ({ cls := "ProgramReader", name := "treeOf", desc := "(I)LProgramReader$Tree;" } : Jvm.MethodName)) ∈ lw_tbl := lw_at lw_m2 22 rfl
theorem q357 : (Jvm.Cond.instanceMethod ({ cls := "ProgramReader", name := "treeOf", desc := "(I)LProgramReader$Tree;" } : Jvm.MethodName)) ∈ lw_all := lw_g (lw_at lw_m2 23 rfl) rfl
theorem q358 : (Jvm.Cond.code ({ cls := "ProgramReader", name := "treeOf", desc := "(I)LProgramReader$Tree;" } : Jvm.MethodName) prog_1_method_5_code (2 : Nat) (Option.some (Jvm.ClassFile.FieldType.object "ProgramReader$Tree"))) ∈ lw_all := lw_g (lw_at lw_m2 24 rfl) rfl
theorem q359 : (Jvm.Cond.methodLink "ProgramReader" (83 : Nat) ({ cls := "ProgramReader$Reader", name := "read", desc := "(LProgramReader$Bytes;ILProgramReader$Tree;)I" } : Jvm.MethodName)) ∈ lw_all := lw_g (lw_at lw_m2 25 rfl) rfl
theorem q704 : (Jvm.Cond.instanceMethod ({ cls := "ProgramReader", name := "nodes", desc := "(I)I" } : Jvm.MethodName)) ∈ lw_all := lw_g (lw_at lw_m3 130 rfl) rfl
theorem q705 : (Jvm.Cond.selects "ProgramReader" ({ cls := "ProgramReader", name := "nodes", desc := "(I)I" } : Jvm.MethodName) ({ cls := "ProgramReader", name := "nodes", desc := "(I)I" } : Jvm.MethodName)) ∈ lw_all := lw_g (lw_at lw_m3 131 rfl) rfl
theorem q706 : (Jvm.Cond.code ({ cls := "ProgramReader", name := "nodes", desc := "(I)I" } : Jvm.MethodName) prog_1_method_8_code (2 : Nat) (Option.some Jvm.ClassFile.FieldType.int)) ∈ lw_all := lw_g (lw_at lw_m3 132 rfl) rfl
theorem q708 : (Jvm.Cond.instanceMethod ({ cls := "ProgramReader", name := "node", desc := "(III)I" } : Jvm.MethodName)) ∈ lw_all := lw_g (lw_at lw_m3 134 rfl) rfl
theorem q709 : (Jvm.Cond.selects "ProgramReader" ({ cls := "ProgramReader", name := "node", desc := "(III)I" } : Jvm.MethodName) ({ cls := "ProgramReader", name := "node", desc := "(III)I" } : Jvm.MethodName)) ∈ lw_all := lw_g (lw_at lw_m3 135 rfl) rfl
theorem q710 : (Jvm.Cond.code ({ cls := "ProgramReader", name := "node", desc := "(III)I" } : Jvm.MethodName) prog_1_method_10_code (5 : Nat) (Option.some Jvm.ClassFile.FieldType.int)) ∈ lw_all := lw_g (lw_at lw_m3 136 rfl) rfl
theorem q711 : (Jvm.Cond.methodLink "ProgramReader" (93 : Nat) ({ cls := "ProgramReader", name := "has", desc := "(II)Z" } : Jvm.MethodName)) ∈ lw_all := lw_g (lw_at lw_m3 137 rfl) rfl
theorem q712 : (Jvm.Cond.privateMethod ({ cls := "ProgramReader", name := "has", desc := "(II)Z" } : Jvm.MethodName)) ∈ lw_tbl := lw_at lw_m3 138 rfl
theorem q713 : (Jvm.Cond.instanceMethod ({ cls := "ProgramReader", name := "has", desc := "(II)Z" } : Jvm.MethodName)) ∈ lw_all := lw_g (lw_at lw_m3 139 rfl) rfl
theorem q714 : (Jvm.Cond.code ({ cls := "ProgramReader", name := "has", desc := "(II)Z" } : Jvm.MethodName) prog_1_method_9_code (3 : Nat) (Option.some Jvm.ClassFile.FieldType.boolean)) ∈ lw_all := lw_g (lw_at lw_m3 140 rfl) rfl
theorem q715 : (Jvm.Cond.methodLink "ProgramReader" (90 : Nat) ({ cls := "ProgramReader$Tree", name := "has", desc := "(I)Z" } : Jvm.MethodName)) ∈ lw_all := lw_g (lw_at lw_m3 141 rfl) rfl
theorem q719 : (Jvm.Cond.methodLink "ProgramReader" (110 : Nat) ({ cls := "ProgramReader$Tree", name := "parts", desc := "(I)I" } : Jvm.MethodName)) ∈ lw_all := lw_g (lw_at lw_m3 145 rfl) rfl
theorem q724 : (Jvm.Cond.instanceMethod ({ cls := "ProgramReader", name := "part", desc := "(III)I" } : Jvm.MethodName)) ∈ lw_all := lw_g (lw_at lw_m3 150 rfl) rfl
theorem q725 : (Jvm.Cond.selects "ProgramReader" ({ cls := "ProgramReader", name := "part", desc := "(III)I" } : Jvm.MethodName) ({ cls := "ProgramReader", name := "part", desc := "(III)I" } : Jvm.MethodName)) ∈ lw_all := lw_g (lw_at lw_m3 151 rfl) rfl
theorem q726 : (Jvm.Cond.code ({ cls := "ProgramReader", name := "part", desc := "(III)I" } : Jvm.MethodName) prog_1_method_11_code (4 : Nat) (Option.some Jvm.ClassFile.FieldType.int)) ∈ lw_all := lw_g (lw_at lw_m3 152 rfl) rfl
theorem q727 : (Jvm.Cond.methodLink "ProgramReader" (114 : Nat) ({ cls := "ProgramReader$Tree", name := "part", desc := "(II)I" } : Jvm.MethodName)) ∈ lw_all := lw_g (lw_at lw_m3 153 rfl) rfl
theorem q732 : (Jvm.Cond.instanceMethod ({ cls := "ProgramReader", name := "whole", desc := "(II)I" } : Jvm.MethodName)) ∈ lw_all := lw_g (lw_at lw_m3 158 rfl) rfl
theorem q733 : (Jvm.Cond.selects "ProgramReader" ({ cls := "ProgramReader", name := "whole", desc := "(II)I" } : Jvm.MethodName) ({ cls := "ProgramReader", name := "whole", desc := "(II)I" } : Jvm.MethodName)) ∈ lw_all := lw_g (lw_at lw_m3 159 rfl) rfl
theorem q734 : (Jvm.Cond.code ({ cls := "ProgramReader", name := "whole", desc := "(II)I" } : Jvm.MethodName) prog_1_method_12_code (3 : Nat) (Option.some Jvm.ClassFile.FieldType.int)) ∈ lw_all := lw_g (lw_at lw_m3 160 rfl) rfl
theorem q735 : (Jvm.Cond.methodLink "ProgramReader" (118 : Nat) ({ cls := "ProgramReader$Tree", name := "whole", desc := "(I)I" } : Jvm.MethodName)) ∈ lw_all := lw_g (lw_at lw_m3 161 rfl) rfl
theorem q740 : (Jvm.Cond.instanceMethod ({ cls := "ProgramReader", name := "names", desc := "()I" } : Jvm.MethodName)) ∈ lw_all := lw_g (lw_at lw_m3 166 rfl) rfl
theorem q741 : (Jvm.Cond.selects "ProgramReader" ({ cls := "ProgramReader", name := "names", desc := "()I" } : Jvm.MethodName) ({ cls := "ProgramReader", name := "names", desc := "()I" } : Jvm.MethodName)) ∈ lw_all := lw_g (lw_at lw_m3 167 rfl) rfl
theorem q742 : (Jvm.Cond.code ({ cls := "ProgramReader", name := "names", desc := "()I" } : Jvm.MethodName) prog_1_method_13_code (1 : Nat) (Option.some Jvm.ClassFile.FieldType.int)) ∈ lw_all := lw_g (lw_at lw_m3 168 rfl) rfl
theorem q744 : (Jvm.Cond.instanceMethod ({ cls := "ProgramReader", name := "spelt", desc := "(II)I" } : Jvm.MethodName)) ∈ lw_all := lw_g (lw_at lw_m3 170 rfl) rfl
theorem q745 : (Jvm.Cond.selects "ProgramReader" ({ cls := "ProgramReader", name := "spelt", desc := "(II)I" } : Jvm.MethodName) ({ cls := "ProgramReader", name := "spelt", desc := "(II)I" } : Jvm.MethodName)) ∈ lw_all := lw_g (lw_at lw_m3 171 rfl) rfl
theorem q746 : (Jvm.Cond.code ({ cls := "ProgramReader", name := "spelt", desc := "(II)I" } : Jvm.MethodName) prog_1_method_14_code (3 : Nat) (Option.some Jvm.ClassFile.FieldType.int)) ∈ lw_all := lw_g (lw_at lw_m3 172 rfl) rfl
theorem q747 : (Jvm.Cond.methodLink "ProgramReader" (122 : Nat) ({ cls := "ProgramReader$Names", name := "length", desc := "(I)I" } : Jvm.MethodName)) ∈ lw_all := lw_g (lw_at lw_m3 173 rfl) rfl
theorem q748 : (Jvm.Cond.methodLink "ProgramReader" (125 : Nat) ({ cls := "ProgramReader$Names", name := "letter", desc := "(II)I" } : Jvm.MethodName)) ∈ lw_all := lw_g (lw_at lw_m3 174 rfl) rfl
theorem q750 : (Jvm.Cond.instanceMethod ({ cls := "ProgramReader", name := "write", desc := "(II)I" } : Jvm.MethodName)) ∈ lw_all := lw_g (lw_at lw_m3 176 rfl) rfl
theorem q751 : (Jvm.Cond.selects "ProgramReader" ({ cls := "ProgramReader", name := "write", desc := "(II)I" } : Jvm.MethodName) ({ cls := "ProgramReader", name := "write", desc := "(II)I" } : Jvm.MethodName)) ∈ lw_all := lw_g (lw_at lw_m3 177 rfl) rfl
theorem q752 : (Jvm.Cond.code ({ cls := "ProgramReader", name := "write", desc := "(II)I" } : Jvm.MethodName) prog_1_method_15_code (3 : Nat) (Option.some Jvm.ClassFile.FieldType.int)) ∈ lw_all := lw_g (lw_at lw_m3 178 rfl) rfl
theorem q753 : (Jvm.Cond.methodLink "ProgramReader" (128 : Nat) ({ cls := "ProgramReader$Writer", name := "write", desc := "(LProgramReader$Tree;ILProgramReader$Bytes;)V" } : Jvm.MethodName)) ∈ lw_all := lw_g (lw_at lw_m3 179 rfl) rfl
theorem q868 : (Jvm.Cond.methodLink "ProgramReader" (132 : Nat) ({ cls := "ProgramReader$Bytes", name := "become", desc := "(LProgramReader$Bytes;)V" } : Jvm.MethodName)) ∈ lw_all := lw_g (lw_at lw_m4 54 rfl) rfl
theorem q873 : (Jvm.Cond.instanceMethod ({ cls := "ProgramReader", name := "written", desc := "(I)I" } : Jvm.MethodName)) ∈ lw_all := lw_g (lw_at lw_m4 59 rfl) rfl
theorem q874 : (Jvm.Cond.selects "ProgramReader" ({ cls := "ProgramReader", name := "written", desc := "(I)I" } : Jvm.MethodName) ({ cls := "ProgramReader", name := "written", desc := "(I)I" } : Jvm.MethodName)) ∈ lw_all := lw_g (lw_at lw_m4 60 rfl) rfl
theorem q875 : (Jvm.Cond.code ({ cls := "ProgramReader", name := "written", desc := "(I)I" } : Jvm.MethodName) prog_1_method_16_code (2 : Nat) (Option.some Jvm.ClassFile.FieldType.int)) ∈ lw_all := lw_g (lw_at lw_m4 61 rfl) rfl
theorem q876 : (Jvm.Cond.methodLink "ProgramReader" (136 : Nat) ({ cls := "ProgramReader$Bytes", name := "get", desc := "(I)I" } : Jvm.MethodName)) ∈ lw_all := lw_g (lw_at lw_m4 62 rfl) rfl
theorem q878 : (Jvm.Cond.instanceMethod ({ cls := "ProgramReader", name := "again", desc := "()I" } : Jvm.MethodName)) ∈ lw_all := lw_g (lw_at lw_m4 64 rfl) rfl
theorem q879 : (Jvm.Cond.selects "ProgramReader" ({ cls := "ProgramReader", name := "again", desc := "()I" } : Jvm.MethodName) ({ cls := "ProgramReader", name := "again", desc := "()I" } : Jvm.MethodName)) ∈ lw_all := lw_g (lw_at lw_m4 65 rfl) rfl
theorem q880 : (Jvm.Cond.code ({ cls := "ProgramReader", name := "again", desc := "()I" } : Jvm.MethodName) prog_1_method_17_code (1 : Nat) (Option.some Jvm.ClassFile.FieldType.int)) ∈ lw_all := lw_g (lw_at lw_m4 66 rfl) rfl
theorem q882 : (Jvm.Cond.instanceMethod ({ cls := "ProgramReader", name := "same", desc := "()Z" } : Jvm.MethodName)) ∈ lw_all := lw_g (lw_at lw_m4 68 rfl) rfl
theorem q883 : (Jvm.Cond.selects "ProgramReader" ({ cls := "ProgramReader", name := "same", desc := "()Z" } : Jvm.MethodName) ({ cls := "ProgramReader", name := "same", desc := "()Z" } : Jvm.MethodName)) ∈ lw_all := lw_g (lw_at lw_m4 69 rfl) rfl
theorem q884 : (Jvm.Cond.code ({ cls := "ProgramReader", name := "same", desc := "()Z" } : Jvm.MethodName) prog_1_method_18_code (1 : Nat) (Option.some Jvm.ClassFile.FieldType.boolean)) ∈ lw_all := lw_g (lw_at lw_m4 70 rfl) rfl
theorem q885 : (Jvm.Cond.methodLink "ProgramReader" (139 : Nat) ({ cls := "ProgramReader$Tree", name := "same", desc := "(LProgramReader$Tree;)Z" } : Jvm.MethodName)) ∈ lw_all := lw_g (lw_at lw_m4 71 rfl) rfl
theorem in_X0 : ∀ w ∈ wsX00, w ∈ lw_all := lw_in wsX00 [318, 320, 322, 324, 326, 328, 330, 332] (by decide +kernel) (by decide +kernel)

/-! ProgramReader$Bytes -/
set_option maxRecDepth 100000
def RX1 : String := "ProgramReader$Bytes"
def TX1 : u_T := fun k => match k with
  | 0 => ("ProgramReader$Bytes", "all", "[B", false)
  | _ => ("ProgramReader$Bytes", "size", "I", false)
def tyX1 : Nat → FieldType := fun k => match k with
  | 0 => .array .byte
  | _ => .int
abbrev wsX10 : List Cond := u_ws RX1 TX1 2
theorem nmX1 : ∀ a, a < 2 → ∀ b, b < 2 → a ≠ b → (TX1 a).2.1 ≠ (TX1 b).2.1 := by decide +kernel
theorem tyX1_ok : ∀ k, k < 2 → parseFieldDescriptor (TX1 k).2.2.1 = some (tyX1 k) := by decide +kernel
abbrev cX1_init : ByteArray := prog_2_method_1_code
def yX1_init : MethodName := ⟨RX1, "<init>", "()V"⟩
def dkwX1_init_0 : List UInt8 := [42, 183, 0, 1, 42, 16, 64, 188, 8, 181, 0, 7, 177]
abbrev dktX1_init_0 : List UInt8 := dkwX1_init_0 ++ []
theorem dksX1_init_0 : cX1_init.data.toList.drop 0 = dktX1_init_0 := by decide +kernel
theorem dX1_init_0 : decode cX1_init 0 = .ok (.aload_n 0, 1) := dk_42 (dk_at dksX1_init_0 0 rfl rfl)
theorem dX1_init_1 : decode cX1_init 1 = .ok (.invokespecial 1, 3) := dk_183 0 1 (dk_at dksX1_init_0 1 rfl rfl)
theorem dX1_init_4 : decode cX1_init 4 = .ok (.aload_n 0, 1) := dk_42 (dk_at dksX1_init_0 4 rfl rfl)
theorem dX1_init_5 : decode cX1_init 5 = .ok (.bipush 64, 2) := dk_16 64 (dk_at dksX1_init_0 5 rfl rfl)
theorem dX1_init_7 : decode cX1_init 7 = .ok (.newarray .byte, 2) := dk_188_8 (dk_at dksX1_init_0 7 rfl rfl)
theorem dX1_init_9 : decode cX1_init 9 = .ok (.putfield 7, 3) := dk_181 0 7 (dk_at dksX1_init_0 9 rfl rfl)
theorem dX1_init_12 : decode cX1_init 12 = .ok (.return_, 1) := dk_177 (dk_at dksX1_init_0 12 rfl rfl)
abbrev cX1_add : ByteArray := prog_2_method_3_code
def yX1_add : MethodName := ⟨RX1, "add", "(I)V"⟩
def dkwX1_add_2 : List UInt8 := [180, 0, 13, 90, 4, 96, 181, 0, 13, 27, 145, 84, 177]
abbrev dktX1_add_2 : List UInt8 := dkwX1_add_2 ++ []
def dkwX1_add_1 : List UInt8 := [180, 0, 7, 3, 44, 3, 42, 180, 0, 13, 184, 0, 17, 42, 44, 181, 0, 7, 42, 180, 0, 7, 42, 89]
abbrev dktX1_add_1 : List UInt8 := dkwX1_add_1 ++ dktX1_add_2
def dkwX1_add_0 : List UInt8 := [42, 180, 0, 13, 42, 180, 0, 7, 190, 160, 0, 31, 5, 42, 180, 0, 13, 104, 188, 8, 77, 42]
abbrev dktX1_add_0 : List UInt8 := dkwX1_add_0 ++ dktX1_add_1
theorem dksX1_add_0 : cX1_add.data.toList.drop 0 = dktX1_add_0 := by decide +kernel
theorem dksX1_add_1 : cX1_add.data.toList.drop 22 = dktX1_add_1 := dk_seg dksX1_add_0 22 rfl rfl
theorem dksX1_add_2 : cX1_add.data.toList.drop 46 = dktX1_add_2 := dk_seg dksX1_add_1 24 rfl rfl
theorem dX1_add_0 : decode cX1_add 0 = .ok (.aload_n 0, 1) := dk_42 (dk_at dksX1_add_0 0 rfl rfl)
theorem dX1_add_1 : decode cX1_add 1 = .ok (.getfield 13, 3) := dk_180 0 13 (dk_at dksX1_add_0 1 rfl rfl)
theorem dX1_add_4 : decode cX1_add 4 = .ok (.aload_n 0, 1) := dk_42 (dk_at dksX1_add_0 4 rfl rfl)
theorem dX1_add_5 : decode cX1_add 5 = .ok (.getfield 7, 3) := dk_180 0 7 (dk_at dksX1_add_0 5 rfl rfl)
theorem dX1_add_8 : decode cX1_add 8 = .ok (.arraylength, 1) := dk_190 (dk_at dksX1_add_0 8 rfl rfl)
theorem dX1_add_9 : decode cX1_add 9 = .ok (.if_icmp .ne 31, 3) := dk_160 0 31 (dk_at dksX1_add_0 9 rfl rfl)
theorem dX1_add_12 : decode cX1_add 12 = .ok (.iconst 2, 1) := dk_5 (dk_at dksX1_add_0 12 rfl rfl)
theorem dX1_add_13 : decode cX1_add 13 = .ok (.aload_n 0, 1) := dk_42 (dk_at dksX1_add_0 13 rfl rfl)
theorem dX1_add_14 : decode cX1_add 14 = .ok (.getfield 13, 3) := dk_180 0 13 (dk_at dksX1_add_0 14 rfl rfl)
theorem dX1_add_17 : decode cX1_add 17 = .ok (.imul, 1) := dk_104 (dk_at dksX1_add_0 17 rfl rfl)
theorem dX1_add_18 : decode cX1_add 18 = .ok (.newarray .byte, 2) := dk_188_8 (dk_at dksX1_add_0 18 rfl rfl)
theorem dX1_add_20 : decode cX1_add 20 = .ok (.astore_n 2, 1) := dk_77 (dk_at dksX1_add_0 20 rfl rfl)
theorem dX1_add_21 : decode cX1_add 21 = .ok (.aload_n 0, 1) := dk_42 (dk_at dksX1_add_0 21 rfl rfl)
theorem dX1_add_22 : decode cX1_add 22 = .ok (.getfield 7, 3) := dk_180 0 7 (dk_at dksX1_add_1 0 rfl rfl)
theorem dX1_add_25 : decode cX1_add 25 = .ok (.iconst 0, 1) := dk_3 (dk_at dksX1_add_1 3 rfl rfl)
theorem dX1_add_26 : decode cX1_add 26 = .ok (.aload_n 2, 1) := dk_44 (dk_at dksX1_add_1 4 rfl rfl)
theorem dX1_add_27 : decode cX1_add 27 = .ok (.iconst 0, 1) := dk_3 (dk_at dksX1_add_1 5 rfl rfl)
theorem dX1_add_28 : decode cX1_add 28 = .ok (.aload_n 0, 1) := dk_42 (dk_at dksX1_add_1 6 rfl rfl)
theorem dX1_add_29 : decode cX1_add 29 = .ok (.getfield 13, 3) := dk_180 0 13 (dk_at dksX1_add_1 7 rfl rfl)
theorem dX1_add_32 : decode cX1_add 32 = .ok (.invokestatic 17, 3) := dk_184 0 17 (dk_at dksX1_add_1 10 rfl rfl)
theorem dX1_add_35 : decode cX1_add 35 = .ok (.aload_n 0, 1) := dk_42 (dk_at dksX1_add_1 13 rfl rfl)
theorem dX1_add_36 : decode cX1_add 36 = .ok (.aload_n 2, 1) := dk_44 (dk_at dksX1_add_1 14 rfl rfl)
theorem dX1_add_37 : decode cX1_add 37 = .ok (.putfield 7, 3) := dk_181 0 7 (dk_at dksX1_add_1 15 rfl rfl)
theorem dX1_add_40 : decode cX1_add 40 = .ok (.aload_n 0, 1) := dk_42 (dk_at dksX1_add_1 18 rfl rfl)
theorem dX1_add_41 : decode cX1_add 41 = .ok (.getfield 7, 3) := dk_180 0 7 (dk_at dksX1_add_1 19 rfl rfl)
theorem dX1_add_44 : decode cX1_add 44 = .ok (.aload_n 0, 1) := dk_42 (dk_at dksX1_add_1 22 rfl rfl)
theorem dX1_add_45 : decode cX1_add 45 = .ok (.dup, 1) := dk_89 (dk_at dksX1_add_1 23 rfl rfl)
theorem dX1_add_46 : decode cX1_add 46 = .ok (.getfield 13, 3) := dk_180 0 13 (dk_at dksX1_add_2 0 rfl rfl)
theorem dX1_add_49 : decode cX1_add 49 = .ok (.dup_x1, 1) := dk_90 (dk_at dksX1_add_2 3 rfl rfl)
theorem dX1_add_50 : decode cX1_add 50 = .ok (.iconst 1, 1) := dk_4 (dk_at dksX1_add_2 4 rfl rfl)
theorem dX1_add_51 : decode cX1_add 51 = .ok (.iadd, 1) := dk_96 (dk_at dksX1_add_2 5 rfl rfl)
theorem dX1_add_52 : decode cX1_add 52 = .ok (.putfield 13, 3) := dk_181 0 13 (dk_at dksX1_add_2 6 rfl rfl)
theorem dX1_add_55 : decode cX1_add 55 = .ok (.iload_n 1, 1) := dk_27 (dk_at dksX1_add_2 9 rfl rfl)
theorem dX1_add_56 : decode cX1_add 56 = .ok (.i2b, 1) := dk_145 (dk_at dksX1_add_2 10 rfl rfl)
theorem dX1_add_57 : decode cX1_add 57 = .ok (.bastore, 1) := dk_84 (dk_at dksX1_add_2 11 rfl rfl)
theorem dX1_add_58 : decode cX1_add 58 = .ok (.return_, 1) := dk_177 (dk_at dksX1_add_2 12 rfl rfl)
abbrev cX1_get : ByteArray := prog_2_method_2_code
def yX1_get : MethodName := ⟨RX1, "get", "(I)I"⟩
def dkwX1_get_0 : List UInt8 := [42, 180, 0, 7, 27, 51, 17, 0, 255, 126, 172]
abbrev dktX1_get_0 : List UInt8 := dkwX1_get_0 ++ []
theorem dksX1_get_0 : cX1_get.data.toList.drop 0 = dktX1_get_0 := by decide +kernel
theorem dX1_get_0 : decode cX1_get 0 = .ok (.aload_n 0, 1) := dk_42 (dk_at dksX1_get_0 0 rfl rfl)
theorem dX1_get_1 : decode cX1_get 1 = .ok (.getfield 7, 3) := dk_180 0 7 (dk_at dksX1_get_0 1 rfl rfl)
theorem dX1_get_4 : decode cX1_get 4 = .ok (.iload_n 1, 1) := dk_27 (dk_at dksX1_get_0 4 rfl rfl)
theorem dX1_get_5 : decode cX1_get 5 = .ok (.baload, 1) := dk_51 (dk_at dksX1_get_0 5 rfl rfl)
theorem dX1_get_6 : decode cX1_get 6 = .ok (.sipush 255, 3) := dk_17 0 255 (dk_at dksX1_get_0 6 rfl rfl)
theorem dX1_get_9 : decode cX1_get 9 = .ok (.iand, 1) := dk_126 (dk_at dksX1_get_0 9 rfl rfl)
theorem dX1_get_10 : decode cX1_get 10 = .ok (.ireturn, 1) := dk_172 (dk_at dksX1_get_0 10 rfl rfl)
abbrev cX1_add_2 : ByteArray := prog_2_method_4_code
def yX1_add_2 : MethodName := ⟨RX1, "add", "(Ljava/lang/String;)V"⟩
def dkwX1_add_2_1 : List UInt8 := [167, 255, 236, 177]
abbrev dktX1_add_2_1 : List UInt8 := dkwX1_add_2_1 ++ []
def dkwX1_add_2_0 : List UInt8 := [3, 61, 28, 43, 182, 0, 23, 162, 0, 18, 42, 43, 28, 182, 0, 29, 182, 0, 33, 132, 2, 1]
abbrev dktX1_add_2_0 : List UInt8 := dkwX1_add_2_0 ++ dktX1_add_2_1
theorem dksX1_add_2_0 : cX1_add_2.data.toList.drop 0 = dktX1_add_2_0 := by decide +kernel
theorem dksX1_add_2_1 : cX1_add_2.data.toList.drop 22 = dktX1_add_2_1 := dk_seg dksX1_add_2_0 22 rfl rfl
theorem dX1_add_2_0 : decode cX1_add_2 0 = .ok (.iconst 0, 1) := dk_3 (dk_at dksX1_add_2_0 0 rfl rfl)
theorem dX1_add_2_1 : decode cX1_add_2 1 = .ok (.istore_n 2, 1) := dk_61 (dk_at dksX1_add_2_0 1 rfl rfl)
theorem dX1_add_2_2 : decode cX1_add_2 2 = .ok (.iload_n 2, 1) := dk_28 (dk_at dksX1_add_2_0 2 rfl rfl)
theorem dX1_add_2_3 : decode cX1_add_2 3 = .ok (.aload_n 1, 1) := dk_43 (dk_at dksX1_add_2_0 3 rfl rfl)
theorem dX1_add_2_4 : decode cX1_add_2 4 = .ok (.invokevirtual 23, 3) := dk_182 0 23 (dk_at dksX1_add_2_0 4 rfl rfl)
theorem dX1_add_2_7 : decode cX1_add_2 7 = .ok (.if_icmp .ge 18, 3) := dk_162 0 18 (dk_at dksX1_add_2_0 7 rfl rfl)
theorem dX1_add_2_10 : decode cX1_add_2 10 = .ok (.aload_n 0, 1) := dk_42 (dk_at dksX1_add_2_0 10 rfl rfl)
theorem dX1_add_2_11 : decode cX1_add_2 11 = .ok (.aload_n 1, 1) := dk_43 (dk_at dksX1_add_2_0 11 rfl rfl)
theorem dX1_add_2_12 : decode cX1_add_2 12 = .ok (.iload_n 2, 1) := dk_28 (dk_at dksX1_add_2_0 12 rfl rfl)
theorem dX1_add_2_13 : decode cX1_add_2 13 = .ok (.invokevirtual 29, 3) := dk_182 0 29 (dk_at dksX1_add_2_0 13 rfl rfl)
theorem dX1_add_2_16 : decode cX1_add_2 16 = .ok (.invokevirtual 33, 3) := dk_182 0 33 (dk_at dksX1_add_2_0 16 rfl rfl)
theorem dX1_add_2_19 : decode cX1_add_2 19 = .ok (.iinc 2 1, 3) := dk_132 2 1 (dk_at dksX1_add_2_0 19 rfl rfl)
theorem dX1_add_2_22 : decode cX1_add_2 22 = .ok (.goto (-20), 3) := dk_167 255 236 (dk_at dksX1_add_2_1 0 rfl rfl)
theorem dX1_add_2_25 : decode cX1_add_2 25 = .ok (.return_, 1) := dk_177 (dk_at dksX1_add_2_1 3 rfl rfl)
abbrev cX1_become : ByteArray := prog_2_method_5_code
def yX1_become : MethodName := ⟨RX1, "become", "(LProgramReader$Bytes;)V"⟩
def dkwX1_become_1 : List UInt8 := [182, 0, 33, 132, 2, 1, 167, 255, 235, 177]
abbrev dktX1_become_1 : List UInt8 := dkwX1_become_1 ++ []
def dkwX1_become_0 : List UInt8 := [42, 3, 181, 0, 13, 3, 61, 28, 43, 180, 0, 13, 162, 0, 19, 42, 43, 180, 0, 7, 28, 51]
abbrev dktX1_become_0 : List UInt8 := dkwX1_become_0 ++ dktX1_become_1
theorem dksX1_become_0 : cX1_become.data.toList.drop 0 = dktX1_become_0 := by decide +kernel
theorem dksX1_become_1 : cX1_become.data.toList.drop 22 = dktX1_become_1 := dk_seg dksX1_become_0 22 rfl rfl
theorem dX1_become_0 : decode cX1_become 0 = .ok (.aload_n 0, 1) := dk_42 (dk_at dksX1_become_0 0 rfl rfl)
theorem dX1_become_1 : decode cX1_become 1 = .ok (.iconst 0, 1) := dk_3 (dk_at dksX1_become_0 1 rfl rfl)
theorem dX1_become_2 : decode cX1_become 2 = .ok (.putfield 13, 3) := dk_181 0 13 (dk_at dksX1_become_0 2 rfl rfl)
theorem dX1_become_5 : decode cX1_become 5 = .ok (.iconst 0, 1) := dk_3 (dk_at dksX1_become_0 5 rfl rfl)
theorem dX1_become_6 : decode cX1_become 6 = .ok (.istore_n 2, 1) := dk_61 (dk_at dksX1_become_0 6 rfl rfl)
theorem dX1_become_7 : decode cX1_become 7 = .ok (.iload_n 2, 1) := dk_28 (dk_at dksX1_become_0 7 rfl rfl)
theorem dX1_become_8 : decode cX1_become 8 = .ok (.aload_n 1, 1) := dk_43 (dk_at dksX1_become_0 8 rfl rfl)
theorem dX1_become_9 : decode cX1_become 9 = .ok (.getfield 13, 3) := dk_180 0 13 (dk_at dksX1_become_0 9 rfl rfl)
theorem dX1_become_12 : decode cX1_become 12 = .ok (.if_icmp .ge 19, 3) := dk_162 0 19 (dk_at dksX1_become_0 12 rfl rfl)
theorem dX1_become_15 : decode cX1_become 15 = .ok (.aload_n 0, 1) := dk_42 (dk_at dksX1_become_0 15 rfl rfl)
theorem dX1_become_16 : decode cX1_become 16 = .ok (.aload_n 1, 1) := dk_43 (dk_at dksX1_become_0 16 rfl rfl)
theorem dX1_become_17 : decode cX1_become 17 = .ok (.getfield 7, 3) := dk_180 0 7 (dk_at dksX1_become_0 17 rfl rfl)
theorem dX1_become_20 : decode cX1_become 20 = .ok (.iload_n 2, 1) := dk_28 (dk_at dksX1_become_0 20 rfl rfl)
theorem dX1_become_21 : decode cX1_become 21 = .ok (.baload, 1) := dk_51 (dk_at dksX1_become_0 21 rfl rfl)
theorem dX1_become_22 : decode cX1_become 22 = .ok (.invokevirtual 33, 3) := dk_182 0 33 (dk_at dksX1_become_1 0 rfl rfl)
theorem dX1_become_25 : decode cX1_become 25 = .ok (.iinc 2 1, 3) := dk_132 2 1 (dk_at dksX1_become_1 3 rfl rfl)
theorem dX1_become_28 : decode cX1_become 28 = .ok (.goto (-21), 3) := dk_167 255 235 (dk_at dksX1_become_1 6 rfl rfl)
theorem dX1_become_31 : decode cX1_become 31 = .ok (.return_, 1) := dk_177 (dk_at dksX1_become_1 9 rfl rfl)
theorem q96 : (Jvm.Cond.initialized "ProgramReader$Bytes") ∈ lw_all := lw_g (lw_at lw_m1 2 rfl) rfl
theorem q123 : (Jvm.Cond.instantiable "ProgramReader$Bytes" (2 : Nat)) ∈ lw_all := lw_g (lw_at lw_m1 29 rfl) rfl
theorem q125 : (Jvm.Cond.instanceMethod ({ cls := "ProgramReader$Bytes", name := "<init>", desc := "()V" } : Jvm.MethodName)) ∈ lw_all := lw_g (lw_at lw_m1 31 rfl) rfl
theorem q126 : (Jvm.Cond.code ({ cls := "ProgramReader$Bytes", name := "<init>", desc := "()V" } : Jvm.MethodName) prog_2_method_1_code (1 : Nat) (Option.none : Option Jvm.ClassFile.FieldType)) ∈ lw_all := lw_g (lw_at lw_m1 32 rfl) rfl
theorem q127 : (Jvm.Cond.methodLink "ProgramReader$Bytes" (1 : Nat) ({ cls := "java/lang/Object", name := "<init>", desc := "()V" } : Jvm.MethodName)) ∈ lw_all := lw_g (lw_at lw_m1 33 rfl) rfl
theorem q128 : (Jvm.Cond.fieldLink "ProgramReader$Bytes" (7 : Nat) "ProgramReader$Bytes" "all" "[B") ∈ lw_all := lw_g (lw_at lw_m1 34 rfl) rfl
theorem q129 : (Jvm.Cond.fieldLink "ProgramReader$Bytes" (13 : Nat) "ProgramReader$Bytes" "size" "I") ∈ lw_all := lw_g (lw_at lw_m1 35 rfl) rfl
theorem q133 : (Jvm.Cond.lays "ProgramReader$Bytes" "ProgramReader$Bytes" "all" "[B") ∈ lw_all := lw_g (lw_at lw_m1 39 rfl) rfl
theorem q134 : (Jvm.Cond.soleField "ProgramReader$Bytes" "all") ∈ lw_all := lw_g (lw_at lw_m1 40 rfl) rfl
theorem q135 : (Jvm.Cond.lays "ProgramReader$Bytes" "ProgramReader$Bytes" "size" "I") ∈ lw_all := lw_g (lw_at lw_m1 41 rfl) rfl
theorem q136 : (Jvm.Cond.soleField "ProgramReader$Bytes" "size") ∈ lw_all := lw_g (lw_at lw_m1 42 rfl) rfl
theorem q137 : (Jvm.Cond.superclass "ProgramReader$Bytes" "java/lang/Object") ∈ lw_all := lw_g (lw_at lw_m1 43 rfl) rfl
theorem q344 : (Jvm.Cond.instanceMethod ({ cls := "ProgramReader$Bytes", name := "add", desc := "(I)V" } : Jvm.MethodName)) ∈ lw_all := lw_g (lw_at lw_m2 10 rfl) rfl
theorem q345 : (Jvm.Cond.selects "ProgramReader$Bytes" ({ cls := "ProgramReader$Bytes", name := "add", desc := "(I)V" } : Jvm.MethodName) ({ cls := "ProgramReader$Bytes", name := "add", desc := "(I)V" } : Jvm.MethodName)) ∈ lw_all := lw_g (lw_at lw_m2 11 rfl) rfl
theorem q346 : (Jvm.Cond.code ({ cls := "ProgramReader$Bytes", name := "add", desc := "(I)V" } : Jvm.MethodName) prog_2_method_3_code (3 : Nat) (Option.none : Option Jvm.ClassFile.FieldType)) ∈ lw_all := lw_g (lw_at lw_m2 12 rfl) rfl
theorem q347 : (Jvm.Cond.methodLink "ProgramReader$Bytes" (17 : Nat) ({ cls := "java/lang/System", name := "arraycopy", desc := "(Ljava/lang/Object;ILjava/lang/Object;II)V" } : Jvm.MethodName)) ∈ lw_all := lw_g (lw_at lw_m2 13 rfl) rfl
theorem q382 : (Jvm.Cond.instanceMethod ({ cls := "ProgramReader$Bytes", name := "get", desc := "(I)I" } : Jvm.MethodName)) ∈ lw_all := lw_g (lw_at lw_m2 48 rfl) rfl
theorem q383 : (Jvm.Cond.selects "ProgramReader$Bytes" ({ cls := "ProgramReader$Bytes", name := "get", desc := "(I)I" } : Jvm.MethodName) ({ cls := "ProgramReader$Bytes", name := "get", desc := "(I)I" } : Jvm.MethodName)) ∈ lw_all := lw_g (lw_at lw_m2 49 rfl) rfl
theorem q384 : (Jvm.Cond.code ({ cls := "ProgramReader$Bytes", name := "get", desc := "(I)I" } : Jvm.MethodName) prog_2_method_2_code (2 : Nat) (Option.some Jvm.ClassFile.FieldType.int)) ∈ lw_all := lw_g (lw_at lw_m2 50 rfl) rfl
theorem q783 : (Jvm.Cond.instanceMethod ({ cls := "ProgramReader$Bytes", name := "add", desc := "(Ljava/lang/String;)V" } : Jvm.MethodName)) ∈ lw_all := lw_g (lw_at lw_m3 209 rfl) rfl
theorem q784 : (Jvm.Cond.selects "ProgramReader$Bytes" ({ cls := "ProgramReader$Bytes", name := "add", desc := "(Ljava/lang/String;)V" } : Jvm.MethodName) ({ cls := "ProgramReader$Bytes", name := "add", desc := "(Ljava/lang/String;)V" } : Jvm.MethodName)) ∈ lw_all := lw_g (lw_at lw_m3 210 rfl) rfl
theorem q785 : (Jvm.Cond.code ({ cls := "ProgramReader$Bytes", name := "add", desc := "(Ljava/lang/String;)V" } : Jvm.MethodName) prog_2_method_4_code (3 : Nat) (Option.none : Option Jvm.ClassFile.FieldType)) ∈ lw_all := lw_g (lw_at lw_m3 211 rfl) rfl
theorem q786 : (Jvm.Cond.methodLink "ProgramReader$Bytes" (23 : Nat) ({ cls := "java/lang/String", name := "length", desc := "()I" } : Jvm.MethodName)) ∈ lw_all := lw_g (lw_at lw_m3 212 rfl) rfl
theorem q787 : (Jvm.Cond.methodLink "ProgramReader$Bytes" (29 : Nat) ({ cls := "java/lang/String", name := "charAt", desc := "(I)C" } : Jvm.MethodName)) ∈ lw_all := lw_g (lw_at lw_m3 213 rfl) rfl
theorem q788 : (Jvm.Cond.methodLink "ProgramReader$Bytes" (33 : Nat) ({ cls := "ProgramReader$Bytes", name := "add", desc := "(I)V" } : Jvm.MethodName)) ∈ lw_all := lw_g (lw_at lw_m3 214 rfl) rfl
theorem q869 : (Jvm.Cond.instanceMethod ({ cls := "ProgramReader$Bytes", name := "become", desc := "(LProgramReader$Bytes;)V" } : Jvm.MethodName)) ∈ lw_all := lw_g (lw_at lw_m4 55 rfl) rfl
theorem q870 : (Jvm.Cond.selects "ProgramReader$Bytes" ({ cls := "ProgramReader$Bytes", name := "become", desc := "(LProgramReader$Bytes;)V" } : Jvm.MethodName) ({ cls := "ProgramReader$Bytes", name := "become", desc := "(LProgramReader$Bytes;)V" } : Jvm.MethodName)) ∈ lw_all := lw_g (lw_at lw_m4 56 rfl) rfl
theorem q871 : (Jvm.Cond.code ({ cls := "ProgramReader$Bytes", name := "become", desc := "(LProgramReader$Bytes;)V" } : Jvm.MethodName) prog_2_method_5_code (3 : Nat) (Option.none : Option Jvm.ClassFile.FieldType)) ∈ lw_all := lw_g (lw_at lw_m4 57 rfl) rfl
theorem in_X1 : ∀ w ∈ wsX10, w ∈ lw_all := lw_in wsX10 [133, 135] (by decide +kernel) (by decide +kernel)

/-! ProgramReader$Names -/
set_option maxRecDepth 100000
def RX2 : String := "ProgramReader$Names"
def TX2 : u_T := fun k => match k with
  | 0 => ("ProgramReader$Names", "letters", "LProgramReader$Bytes;", true)
  | 1 => ("ProgramReader$Names", "starts", "[I", false)
  | 2 => ("ProgramReader$Names", "count", "I", false)
  | _ => ("ProgramReader$Names", "table", "[I", false)
def tyX2 : Nat → FieldType := fun k => match k with
  | 0 => .object "ProgramReader$Bytes"
  | 1 => .array .int
  | 2 => .int
  | _ => .array .int
abbrev wsX20 : List Cond := u_ws RX2 TX2 4
theorem nmX2 : ∀ a, a < 4 → ∀ b, b < 4 → a ≠ b → (TX2 a).2.1 ≠ (TX2 b).2.1 := by decide +kernel
theorem tyX2_ok : ∀ k, k < 4 → parseFieldDescriptor (TX2 k).2.2.1 = some (tyX2 k) := by decide +kernel
abbrev cX2_init : ByteArray := prog_3_method_1_code
def yX2_init : MethodName := ⟨RX2, "<init>", "()V"⟩
def dkwX2_init_1 : List UInt8 := [16, 64, 188, 10, 181, 0, 20, 177]
abbrev dktX2_init_1 : List UInt8 := dkwX2_init_1 ++ []
def dkwX2_init_0 : List UInt8 := [42, 183, 0, 1, 42, 187, 0, 7, 89, 183, 0, 9, 181, 0, 10, 42, 16, 16, 188, 10, 181, 0, 16, 42]
abbrev dktX2_init_0 : List UInt8 := dkwX2_init_0 ++ dktX2_init_1
theorem dksX2_init_0 : cX2_init.data.toList.drop 0 = dktX2_init_0 := by decide +kernel
theorem dksX2_init_1 : cX2_init.data.toList.drop 24 = dktX2_init_1 := dk_seg dksX2_init_0 24 rfl rfl
theorem dX2_init_0 : decode cX2_init 0 = .ok (.aload_n 0, 1) := dk_42 (dk_at dksX2_init_0 0 rfl rfl)
theorem dX2_init_1 : decode cX2_init 1 = .ok (.invokespecial 1, 3) := dk_183 0 1 (dk_at dksX2_init_0 1 rfl rfl)
theorem dX2_init_4 : decode cX2_init 4 = .ok (.aload_n 0, 1) := dk_42 (dk_at dksX2_init_0 4 rfl rfl)
theorem dX2_init_5 : decode cX2_init 5 = .ok (.new 7, 3) := dk_187 0 7 (dk_at dksX2_init_0 5 rfl rfl)
theorem dX2_init_8 : decode cX2_init 8 = .ok (.dup, 1) := dk_89 (dk_at dksX2_init_0 8 rfl rfl)
theorem dX2_init_9 : decode cX2_init 9 = .ok (.invokespecial 9, 3) := dk_183 0 9 (dk_at dksX2_init_0 9 rfl rfl)
theorem dX2_init_12 : decode cX2_init 12 = .ok (.putfield 10, 3) := dk_181 0 10 (dk_at dksX2_init_0 12 rfl rfl)
theorem dX2_init_15 : decode cX2_init 15 = .ok (.aload_n 0, 1) := dk_42 (dk_at dksX2_init_0 15 rfl rfl)
theorem dX2_init_16 : decode cX2_init 16 = .ok (.bipush 16, 2) := dk_16 16 (dk_at dksX2_init_0 16 rfl rfl)
theorem dX2_init_18 : decode cX2_init 18 = .ok (.newarray .int, 2) := dk_188_10 (dk_at dksX2_init_0 18 rfl rfl)
theorem dX2_init_20 : decode cX2_init 20 = .ok (.putfield 16, 3) := dk_181 0 16 (dk_at dksX2_init_0 20 rfl rfl)
theorem dX2_init_23 : decode cX2_init 23 = .ok (.aload_n 0, 1) := dk_42 (dk_at dksX2_init_0 23 rfl rfl)
theorem dX2_init_24 : decode cX2_init 24 = .ok (.bipush 64, 2) := dk_16 64 (dk_at dksX2_init_1 0 rfl rfl)
theorem dX2_init_26 : decode cX2_init 26 = .ok (.newarray .int, 2) := dk_188_10 (dk_at dksX2_init_1 2 rfl rfl)
theorem dX2_init_28 : decode cX2_init 28 = .ok (.putfield 20, 3) := dk_181 0 20 (dk_at dksX2_init_1 4 rfl rfl)
theorem dX2_init_31 : decode cX2_init 31 = .ok (.return_, 1) := dk_177 (dk_at dksX2_init_1 7 rfl rfl)
abbrev cX2_number : ByteArray := prog_3_method_8_code
def yX2_number : MethodName := ⟨RX2, "number", "(LProgramReader$Bytes;II)I"⟩
def dkwX2_number_5 : List UInt8 := [42, 182, 0, 62, 42, 180, 0, 49, 4, 100, 172, 42, 180, 0, 20, 21, 4, 46, 4, 100, 172]
abbrev dktX2_number_5 : List UInt8 := dkwX2_number_5 ++ []
def dkwX2_number_4 : List UInt8 := [180, 0, 20, 21, 4, 42, 180, 0, 49, 79, 5, 42, 180, 0, 49, 104, 42, 180, 0, 20, 190, 164, 0, 7]
abbrev dktX2_number_4 : List UInt8 := dkwX2_number_4 ++ dktX2_number_5
def dkwX2_number_3 : List UInt8 := [184, 0, 53, 181, 0, 16, 42, 180, 0, 16, 42, 180, 0, 49, 42, 180, 0, 10, 180, 0, 59, 79, 42]
abbrev dktX2_number_3 : List UInt8 := dkwX2_number_3 ++ dktX2_number_4
def dkwX2_number_2 : List UInt8 := [167, 255, 232, 42, 89, 180, 0, 49, 4, 96, 181, 0, 49, 42, 42, 180, 0, 16, 42, 180, 0, 49, 4, 96]
abbrev dktX2_number_2 : List UInt8 := dkwX2_number_2 ++ dktX2_number_3
def dkwX2_number_1 : List UInt8 := [28, 29, 96, 162, 0, 22, 42, 180, 0, 10, 43, 21, 5, 182, 0, 23, 182, 0, 45, 132, 5, 1]
abbrev dktX2_number_1 : List UInt8 := dkwX2_number_1 ++ dktX2_number_2
def dkwX2_number_0 : List UInt8 := [42, 43, 28, 29, 182, 0, 42, 54, 4, 42, 180, 0, 20, 21, 4, 46, 154, 0, 112, 28, 54, 5, 21, 5]
abbrev dktX2_number_0 : List UInt8 := dkwX2_number_0 ++ dktX2_number_1
theorem dksX2_number_0 : cX2_number.data.toList.drop 0 = dktX2_number_0 := by decide +kernel
theorem dksX2_number_1 : cX2_number.data.toList.drop 24 = dktX2_number_1 := dk_seg dksX2_number_0 24 rfl rfl
theorem dksX2_number_2 : cX2_number.data.toList.drop 46 = dktX2_number_2 := dk_seg dksX2_number_1 22 rfl rfl
theorem dksX2_number_3 : cX2_number.data.toList.drop 70 = dktX2_number_3 := dk_seg dksX2_number_2 24 rfl rfl
theorem dksX2_number_4 : cX2_number.data.toList.drop 93 = dktX2_number_4 := dk_seg dksX2_number_3 23 rfl rfl
theorem dksX2_number_5 : cX2_number.data.toList.drop 117 = dktX2_number_5 := dk_seg dksX2_number_4 24 rfl rfl
theorem dX2_number_0 : decode cX2_number 0 = .ok (.aload_n 0, 1) := dk_42 (dk_at dksX2_number_0 0 rfl rfl)
theorem dX2_number_1 : decode cX2_number 1 = .ok (.aload_n 1, 1) := dk_43 (dk_at dksX2_number_0 1 rfl rfl)
theorem dX2_number_2 : decode cX2_number 2 = .ok (.iload_n 2, 1) := dk_28 (dk_at dksX2_number_0 2 rfl rfl)
theorem dX2_number_3 : decode cX2_number 3 = .ok (.iload_n 3, 1) := dk_29 (dk_at dksX2_number_0 3 rfl rfl)
theorem dX2_number_4 : decode cX2_number 4 = .ok (.invokevirtual 42, 3) := dk_182 0 42 (dk_at dksX2_number_0 4 rfl rfl)
theorem dX2_number_7 : decode cX2_number 7 = .ok (.istore 4, 2) := dk_54 4 (dk_at dksX2_number_0 7 rfl rfl)
theorem dX2_number_9 : decode cX2_number 9 = .ok (.aload_n 0, 1) := dk_42 (dk_at dksX2_number_0 9 rfl rfl)
theorem dX2_number_10 : decode cX2_number 10 = .ok (.getfield 20, 3) := dk_180 0 20 (dk_at dksX2_number_0 10 rfl rfl)
theorem dX2_number_13 : decode cX2_number 13 = .ok (.iload 4, 2) := dk_21 4 (dk_at dksX2_number_0 13 rfl rfl)
theorem dX2_number_15 : decode cX2_number 15 = .ok (.iaload, 1) := dk_46 (dk_at dksX2_number_0 15 rfl rfl)
theorem dX2_number_16 : decode cX2_number 16 = .ok (.ifCond .ne 112, 3) := dk_154 0 112 (dk_at dksX2_number_0 16 rfl rfl)
theorem dX2_number_19 : decode cX2_number 19 = .ok (.iload_n 2, 1) := dk_28 (dk_at dksX2_number_0 19 rfl rfl)
theorem dX2_number_20 : decode cX2_number 20 = .ok (.istore 5, 2) := dk_54 5 (dk_at dksX2_number_0 20 rfl rfl)
theorem dX2_number_22 : decode cX2_number 22 = .ok (.iload 5, 2) := dk_21 5 (dk_at dksX2_number_0 22 rfl rfl)
theorem dX2_number_24 : decode cX2_number 24 = .ok (.iload_n 2, 1) := dk_28 (dk_at dksX2_number_1 0 rfl rfl)
theorem dX2_number_25 : decode cX2_number 25 = .ok (.iload_n 3, 1) := dk_29 (dk_at dksX2_number_1 1 rfl rfl)
theorem dX2_number_26 : decode cX2_number 26 = .ok (.iadd, 1) := dk_96 (dk_at dksX2_number_1 2 rfl rfl)
theorem dX2_number_27 : decode cX2_number 27 = .ok (.if_icmp .ge 22, 3) := dk_162 0 22 (dk_at dksX2_number_1 3 rfl rfl)
theorem dX2_number_30 : decode cX2_number 30 = .ok (.aload_n 0, 1) := dk_42 (dk_at dksX2_number_1 6 rfl rfl)
theorem dX2_number_31 : decode cX2_number 31 = .ok (.getfield 10, 3) := dk_180 0 10 (dk_at dksX2_number_1 7 rfl rfl)
theorem dX2_number_34 : decode cX2_number 34 = .ok (.aload_n 1, 1) := dk_43 (dk_at dksX2_number_1 10 rfl rfl)
theorem dX2_number_35 : decode cX2_number 35 = .ok (.iload 5, 2) := dk_21 5 (dk_at dksX2_number_1 11 rfl rfl)
theorem dX2_number_37 : decode cX2_number 37 = .ok (.invokevirtual 23, 3) := dk_182 0 23 (dk_at dksX2_number_1 13 rfl rfl)
theorem dX2_number_40 : decode cX2_number 40 = .ok (.invokevirtual 45, 3) := dk_182 0 45 (dk_at dksX2_number_1 16 rfl rfl)
theorem dX2_number_43 : decode cX2_number 43 = .ok (.iinc 5 1, 3) := dk_132 5 1 (dk_at dksX2_number_1 19 rfl rfl)
theorem dX2_number_46 : decode cX2_number 46 = .ok (.goto (-24), 3) := dk_167 255 232 (dk_at dksX2_number_2 0 rfl rfl)
theorem dX2_number_49 : decode cX2_number 49 = .ok (.aload_n 0, 1) := dk_42 (dk_at dksX2_number_2 3 rfl rfl)
theorem dX2_number_50 : decode cX2_number 50 = .ok (.dup, 1) := dk_89 (dk_at dksX2_number_2 4 rfl rfl)
theorem dX2_number_51 : decode cX2_number 51 = .ok (.getfield 49, 3) := dk_180 0 49 (dk_at dksX2_number_2 5 rfl rfl)
theorem dX2_number_54 : decode cX2_number 54 = .ok (.iconst 1, 1) := dk_4 (dk_at dksX2_number_2 8 rfl rfl)
theorem dX2_number_55 : decode cX2_number 55 = .ok (.iadd, 1) := dk_96 (dk_at dksX2_number_2 9 rfl rfl)
theorem dX2_number_56 : decode cX2_number 56 = .ok (.putfield 49, 3) := dk_181 0 49 (dk_at dksX2_number_2 10 rfl rfl)
theorem dX2_number_59 : decode cX2_number 59 = .ok (.aload_n 0, 1) := dk_42 (dk_at dksX2_number_2 13 rfl rfl)
theorem dX2_number_60 : decode cX2_number 60 = .ok (.aload_n 0, 1) := dk_42 (dk_at dksX2_number_2 14 rfl rfl)
theorem dX2_number_61 : decode cX2_number 61 = .ok (.getfield 16, 3) := dk_180 0 16 (dk_at dksX2_number_2 15 rfl rfl)
theorem dX2_number_64 : decode cX2_number 64 = .ok (.aload_n 0, 1) := dk_42 (dk_at dksX2_number_2 18 rfl rfl)
theorem dX2_number_65 : decode cX2_number 65 = .ok (.getfield 49, 3) := dk_180 0 49 (dk_at dksX2_number_2 19 rfl rfl)
theorem dX2_number_68 : decode cX2_number 68 = .ok (.iconst 1, 1) := dk_4 (dk_at dksX2_number_2 22 rfl rfl)
theorem dX2_number_69 : decode cX2_number 69 = .ok (.iadd, 1) := dk_96 (dk_at dksX2_number_2 23 rfl rfl)
theorem dX2_number_70 : decode cX2_number 70 = .ok (.invokestatic 53, 3) := dk_184 0 53 (dk_at dksX2_number_3 0 rfl rfl)
theorem dX2_number_73 : decode cX2_number 73 = .ok (.putfield 16, 3) := dk_181 0 16 (dk_at dksX2_number_3 3 rfl rfl)
theorem dX2_number_76 : decode cX2_number 76 = .ok (.aload_n 0, 1) := dk_42 (dk_at dksX2_number_3 6 rfl rfl)
theorem dX2_number_77 : decode cX2_number 77 = .ok (.getfield 16, 3) := dk_180 0 16 (dk_at dksX2_number_3 7 rfl rfl)
theorem dX2_number_80 : decode cX2_number 80 = .ok (.aload_n 0, 1) := dk_42 (dk_at dksX2_number_3 10 rfl rfl)
theorem dX2_number_81 : decode cX2_number 81 = .ok (.getfield 49, 3) := dk_180 0 49 (dk_at dksX2_number_3 11 rfl rfl)
theorem dX2_number_84 : decode cX2_number 84 = .ok (.aload_n 0, 1) := dk_42 (dk_at dksX2_number_3 14 rfl rfl)
theorem dX2_number_85 : decode cX2_number 85 = .ok (.getfield 10, 3) := dk_180 0 10 (dk_at dksX2_number_3 15 rfl rfl)
theorem dX2_number_88 : decode cX2_number 88 = .ok (.getfield 59, 3) := dk_180 0 59 (dk_at dksX2_number_3 18 rfl rfl)
theorem dX2_number_91 : decode cX2_number 91 = .ok (.iastore, 1) := dk_79 (dk_at dksX2_number_3 21 rfl rfl)
theorem dX2_number_92 : decode cX2_number 92 = .ok (.aload_n 0, 1) := dk_42 (dk_at dksX2_number_3 22 rfl rfl)
theorem dX2_number_93 : decode cX2_number 93 = .ok (.getfield 20, 3) := dk_180 0 20 (dk_at dksX2_number_4 0 rfl rfl)
theorem dX2_number_96 : decode cX2_number 96 = .ok (.iload 4, 2) := dk_21 4 (dk_at dksX2_number_4 3 rfl rfl)
theorem dX2_number_98 : decode cX2_number 98 = .ok (.aload_n 0, 1) := dk_42 (dk_at dksX2_number_4 5 rfl rfl)
theorem dX2_number_99 : decode cX2_number 99 = .ok (.getfield 49, 3) := dk_180 0 49 (dk_at dksX2_number_4 6 rfl rfl)
theorem dX2_number_102 : decode cX2_number 102 = .ok (.iastore, 1) := dk_79 (dk_at dksX2_number_4 9 rfl rfl)
theorem dX2_number_103 : decode cX2_number 103 = .ok (.iconst 2, 1) := dk_5 (dk_at dksX2_number_4 10 rfl rfl)
theorem dX2_number_104 : decode cX2_number 104 = .ok (.aload_n 0, 1) := dk_42 (dk_at dksX2_number_4 11 rfl rfl)
theorem dX2_number_105 : decode cX2_number 105 = .ok (.getfield 49, 3) := dk_180 0 49 (dk_at dksX2_number_4 12 rfl rfl)
theorem dX2_number_108 : decode cX2_number 108 = .ok (.imul, 1) := dk_104 (dk_at dksX2_number_4 15 rfl rfl)
theorem dX2_number_109 : decode cX2_number 109 = .ok (.aload_n 0, 1) := dk_42 (dk_at dksX2_number_4 16 rfl rfl)
theorem dX2_number_110 : decode cX2_number 110 = .ok (.getfield 20, 3) := dk_180 0 20 (dk_at dksX2_number_4 17 rfl rfl)
theorem dX2_number_113 : decode cX2_number 113 = .ok (.arraylength, 1) := dk_190 (dk_at dksX2_number_4 20 rfl rfl)
theorem dX2_number_114 : decode cX2_number 114 = .ok (.if_icmp .le 7, 3) := dk_164 0 7 (dk_at dksX2_number_4 21 rfl rfl)
theorem dX2_number_117 : decode cX2_number 117 = .ok (.aload_n 0, 1) := dk_42 (dk_at dksX2_number_5 0 rfl rfl)
theorem dX2_number_118 : decode cX2_number 118 = .ok (.invokevirtual 62, 3) := dk_182 0 62 (dk_at dksX2_number_5 1 rfl rfl)
theorem dX2_number_121 : decode cX2_number 121 = .ok (.aload_n 0, 1) := dk_42 (dk_at dksX2_number_5 4 rfl rfl)
theorem dX2_number_122 : decode cX2_number 122 = .ok (.getfield 49, 3) := dk_180 0 49 (dk_at dksX2_number_5 5 rfl rfl)
theorem dX2_number_125 : decode cX2_number 125 = .ok (.iconst 1, 1) := dk_4 (dk_at dksX2_number_5 8 rfl rfl)
theorem dX2_number_126 : decode cX2_number 126 = .ok (.isub, 1) := dk_100 (dk_at dksX2_number_5 9 rfl rfl)
theorem dX2_number_127 : decode cX2_number 127 = .ok (.ireturn, 1) := dk_172 (dk_at dksX2_number_5 10 rfl rfl)
theorem dX2_number_128 : decode cX2_number 128 = .ok (.aload_n 0, 1) := dk_42 (dk_at dksX2_number_5 11 rfl rfl)
theorem dX2_number_129 : decode cX2_number 129 = .ok (.getfield 20, 3) := dk_180 0 20 (dk_at dksX2_number_5 12 rfl rfl)
theorem dX2_number_132 : decode cX2_number 132 = .ok (.iload 4, 2) := dk_21 4 (dk_at dksX2_number_5 15 rfl rfl)
theorem dX2_number_134 : decode cX2_number 134 = .ok (.iaload, 1) := dk_46 (dk_at dksX2_number_5 17 rfl rfl)
theorem dX2_number_135 : decode cX2_number 135 = .ok (.iconst 1, 1) := dk_4 (dk_at dksX2_number_5 18 rfl rfl)
theorem dX2_number_136 : decode cX2_number 136 = .ok (.isub, 1) := dk_100 (dk_at dksX2_number_5 19 rfl rfl)
theorem dX2_number_137 : decode cX2_number 137 = .ok (.ireturn, 1) := dk_172 (dk_at dksX2_number_5 20 rfl rfl)
abbrev cX2_seek : ByteArray := prog_3_method_6_code
def yX2_seek : MethodName := ⟨RX2, "seek", "(LProgramReader$Bytes;II)I"⟩
def dkwX2_seek_2 : List UInt8 := [4, 96, 42, 180, 0, 20, 190, 4, 100, 126, 54, 4, 167, 255, 213, 21, 4, 172]
abbrev dktX2_seek_2 : List UInt8 := dkwX2_seek_2 ++ []
def dkwX2_seek_1 : List UInt8 := [153, 0, 39, 42, 42, 180, 0, 20, 21, 4, 46, 4, 100, 43, 28, 29, 182, 0, 38, 154, 0, 20, 21, 4]
abbrev dktX2_seek_1 : List UInt8 := dkwX2_seek_1 ++ dktX2_seek_2
def dkwX2_seek_0 : List UInt8 := [43, 28, 29, 184, 0, 34, 42, 180, 0, 20, 190, 4, 100, 126, 54, 4, 42, 180, 0, 20, 21, 4, 46]
abbrev dktX2_seek_0 : List UInt8 := dkwX2_seek_0 ++ dktX2_seek_1
theorem dksX2_seek_0 : cX2_seek.data.toList.drop 0 = dktX2_seek_0 := by decide +kernel
theorem dksX2_seek_1 : cX2_seek.data.toList.drop 23 = dktX2_seek_1 := dk_seg dksX2_seek_0 23 rfl rfl
theorem dksX2_seek_2 : cX2_seek.data.toList.drop 47 = dktX2_seek_2 := dk_seg dksX2_seek_1 24 rfl rfl
theorem dX2_seek_0 : decode cX2_seek 0 = .ok (.aload_n 1, 1) := dk_43 (dk_at dksX2_seek_0 0 rfl rfl)
theorem dX2_seek_1 : decode cX2_seek 1 = .ok (.iload_n 2, 1) := dk_28 (dk_at dksX2_seek_0 1 rfl rfl)
theorem dX2_seek_2 : decode cX2_seek 2 = .ok (.iload_n 3, 1) := dk_29 (dk_at dksX2_seek_0 2 rfl rfl)
theorem dX2_seek_3 : decode cX2_seek 3 = .ok (.invokestatic 34, 3) := dk_184 0 34 (dk_at dksX2_seek_0 3 rfl rfl)
theorem dX2_seek_6 : decode cX2_seek 6 = .ok (.aload_n 0, 1) := dk_42 (dk_at dksX2_seek_0 6 rfl rfl)
theorem dX2_seek_7 : decode cX2_seek 7 = .ok (.getfield 20, 3) := dk_180 0 20 (dk_at dksX2_seek_0 7 rfl rfl)
theorem dX2_seek_10 : decode cX2_seek 10 = .ok (.arraylength, 1) := dk_190 (dk_at dksX2_seek_0 10 rfl rfl)
theorem dX2_seek_11 : decode cX2_seek 11 = .ok (.iconst 1, 1) := dk_4 (dk_at dksX2_seek_0 11 rfl rfl)
theorem dX2_seek_12 : decode cX2_seek 12 = .ok (.isub, 1) := dk_100 (dk_at dksX2_seek_0 12 rfl rfl)
theorem dX2_seek_13 : decode cX2_seek 13 = .ok (.iand, 1) := dk_126 (dk_at dksX2_seek_0 13 rfl rfl)
theorem dX2_seek_14 : decode cX2_seek 14 = .ok (.istore 4, 2) := dk_54 4 (dk_at dksX2_seek_0 14 rfl rfl)
theorem dX2_seek_16 : decode cX2_seek 16 = .ok (.aload_n 0, 1) := dk_42 (dk_at dksX2_seek_0 16 rfl rfl)
theorem dX2_seek_17 : decode cX2_seek 17 = .ok (.getfield 20, 3) := dk_180 0 20 (dk_at dksX2_seek_0 17 rfl rfl)
theorem dX2_seek_20 : decode cX2_seek 20 = .ok (.iload 4, 2) := dk_21 4 (dk_at dksX2_seek_0 20 rfl rfl)
theorem dX2_seek_22 : decode cX2_seek 22 = .ok (.iaload, 1) := dk_46 (dk_at dksX2_seek_0 22 rfl rfl)
theorem dX2_seek_23 : decode cX2_seek 23 = .ok (.ifCond .eq 39, 3) := dk_153 0 39 (dk_at dksX2_seek_1 0 rfl rfl)
theorem dX2_seek_26 : decode cX2_seek 26 = .ok (.aload_n 0, 1) := dk_42 (dk_at dksX2_seek_1 3 rfl rfl)
theorem dX2_seek_27 : decode cX2_seek 27 = .ok (.aload_n 0, 1) := dk_42 (dk_at dksX2_seek_1 4 rfl rfl)
theorem dX2_seek_28 : decode cX2_seek 28 = .ok (.getfield 20, 3) := dk_180 0 20 (dk_at dksX2_seek_1 5 rfl rfl)
theorem dX2_seek_31 : decode cX2_seek 31 = .ok (.iload 4, 2) := dk_21 4 (dk_at dksX2_seek_1 8 rfl rfl)
theorem dX2_seek_33 : decode cX2_seek 33 = .ok (.iaload, 1) := dk_46 (dk_at dksX2_seek_1 10 rfl rfl)
theorem dX2_seek_34 : decode cX2_seek 34 = .ok (.iconst 1, 1) := dk_4 (dk_at dksX2_seek_1 11 rfl rfl)
theorem dX2_seek_35 : decode cX2_seek 35 = .ok (.isub, 1) := dk_100 (dk_at dksX2_seek_1 12 rfl rfl)
theorem dX2_seek_36 : decode cX2_seek 36 = .ok (.aload_n 1, 1) := dk_43 (dk_at dksX2_seek_1 13 rfl rfl)
theorem dX2_seek_37 : decode cX2_seek 37 = .ok (.iload_n 2, 1) := dk_28 (dk_at dksX2_seek_1 14 rfl rfl)
theorem dX2_seek_38 : decode cX2_seek 38 = .ok (.iload_n 3, 1) := dk_29 (dk_at dksX2_seek_1 15 rfl rfl)
theorem dX2_seek_39 : decode cX2_seek 39 = .ok (.invokevirtual 38, 3) := dk_182 0 38 (dk_at dksX2_seek_1 16 rfl rfl)
theorem dX2_seek_42 : decode cX2_seek 42 = .ok (.ifCond .ne 20, 3) := dk_154 0 20 (dk_at dksX2_seek_1 19 rfl rfl)
theorem dX2_seek_45 : decode cX2_seek 45 = .ok (.iload 4, 2) := dk_21 4 (dk_at dksX2_seek_1 22 rfl rfl)
theorem dX2_seek_47 : decode cX2_seek 47 = .ok (.iconst 1, 1) := dk_4 (dk_at dksX2_seek_2 0 rfl rfl)
theorem dX2_seek_48 : decode cX2_seek 48 = .ok (.iadd, 1) := dk_96 (dk_at dksX2_seek_2 1 rfl rfl)
theorem dX2_seek_49 : decode cX2_seek 49 = .ok (.aload_n 0, 1) := dk_42 (dk_at dksX2_seek_2 2 rfl rfl)
theorem dX2_seek_50 : decode cX2_seek 50 = .ok (.getfield 20, 3) := dk_180 0 20 (dk_at dksX2_seek_2 3 rfl rfl)
theorem dX2_seek_53 : decode cX2_seek 53 = .ok (.arraylength, 1) := dk_190 (dk_at dksX2_seek_2 6 rfl rfl)
theorem dX2_seek_54 : decode cX2_seek 54 = .ok (.iconst 1, 1) := dk_4 (dk_at dksX2_seek_2 7 rfl rfl)
theorem dX2_seek_55 : decode cX2_seek 55 = .ok (.isub, 1) := dk_100 (dk_at dksX2_seek_2 8 rfl rfl)
theorem dX2_seek_56 : decode cX2_seek 56 = .ok (.iand, 1) := dk_126 (dk_at dksX2_seek_2 9 rfl rfl)
theorem dX2_seek_57 : decode cX2_seek 57 = .ok (.istore 4, 2) := dk_54 4 (dk_at dksX2_seek_2 10 rfl rfl)
theorem dX2_seek_59 : decode cX2_seek 59 = .ok (.goto (-43), 3) := dk_167 255 213 (dk_at dksX2_seek_2 12 rfl rfl)
theorem dX2_seek_62 : decode cX2_seek 62 = .ok (.iload 4, 2) := dk_21 4 (dk_at dksX2_seek_2 15 rfl rfl)
theorem dX2_seek_64 : decode cX2_seek 64 = .ok (.ireturn, 1) := dk_172 (dk_at dksX2_seek_2 17 rfl rfl)
abbrev cX2_mix : ByteArray := prog_3_method_5_code
def yX2_mix : MethodName := ⟨RX2, "mix", "(LProgramReader$Bytes;II)I"⟩
def dkwX2_mix_1 : List UInt8 := [62, 132, 4, 1, 167, 255, 233, 29, 29, 16, 11, 124, 130, 172]
abbrev dktX2_mix_1 : List UInt8 := dkwX2_mix_1 ++ []
def dkwX2_mix_0 : List UInt8 := [28, 62, 27, 54, 4, 21, 4, 27, 28, 96, 162, 0, 21, 16, 31, 29, 104, 42, 21, 4, 182, 0, 23, 96]
abbrev dktX2_mix_0 : List UInt8 := dkwX2_mix_0 ++ dktX2_mix_1
theorem dksX2_mix_0 : cX2_mix.data.toList.drop 0 = dktX2_mix_0 := by decide +kernel
theorem dksX2_mix_1 : cX2_mix.data.toList.drop 24 = dktX2_mix_1 := dk_seg dksX2_mix_0 24 rfl rfl
theorem dX2_mix_0 : decode cX2_mix 0 = .ok (.iload_n 2, 1) := dk_28 (dk_at dksX2_mix_0 0 rfl rfl)
theorem dX2_mix_1 : decode cX2_mix 1 = .ok (.istore_n 3, 1) := dk_62 (dk_at dksX2_mix_0 1 rfl rfl)
theorem dX2_mix_2 : decode cX2_mix 2 = .ok (.iload_n 1, 1) := dk_27 (dk_at dksX2_mix_0 2 rfl rfl)
theorem dX2_mix_3 : decode cX2_mix 3 = .ok (.istore 4, 2) := dk_54 4 (dk_at dksX2_mix_0 3 rfl rfl)
theorem dX2_mix_5 : decode cX2_mix 5 = .ok (.iload 4, 2) := dk_21 4 (dk_at dksX2_mix_0 5 rfl rfl)
theorem dX2_mix_7 : decode cX2_mix 7 = .ok (.iload_n 1, 1) := dk_27 (dk_at dksX2_mix_0 7 rfl rfl)
theorem dX2_mix_8 : decode cX2_mix 8 = .ok (.iload_n 2, 1) := dk_28 (dk_at dksX2_mix_0 8 rfl rfl)
theorem dX2_mix_9 : decode cX2_mix 9 = .ok (.iadd, 1) := dk_96 (dk_at dksX2_mix_0 9 rfl rfl)
theorem dX2_mix_10 : decode cX2_mix 10 = .ok (.if_icmp .ge 21, 3) := dk_162 0 21 (dk_at dksX2_mix_0 10 rfl rfl)
theorem dX2_mix_13 : decode cX2_mix 13 = .ok (.bipush 31, 2) := dk_16 31 (dk_at dksX2_mix_0 13 rfl rfl)
theorem dX2_mix_15 : decode cX2_mix 15 = .ok (.iload_n 3, 1) := dk_29 (dk_at dksX2_mix_0 15 rfl rfl)
theorem dX2_mix_16 : decode cX2_mix 16 = .ok (.imul, 1) := dk_104 (dk_at dksX2_mix_0 16 rfl rfl)
theorem dX2_mix_17 : decode cX2_mix 17 = .ok (.aload_n 0, 1) := dk_42 (dk_at dksX2_mix_0 17 rfl rfl)
theorem dX2_mix_18 : decode cX2_mix 18 = .ok (.iload 4, 2) := dk_21 4 (dk_at dksX2_mix_0 18 rfl rfl)
theorem dX2_mix_20 : decode cX2_mix 20 = .ok (.invokevirtual 23, 3) := dk_182 0 23 (dk_at dksX2_mix_0 20 rfl rfl)
theorem dX2_mix_23 : decode cX2_mix 23 = .ok (.iadd, 1) := dk_96 (dk_at dksX2_mix_0 23 rfl rfl)
theorem dX2_mix_24 : decode cX2_mix 24 = .ok (.istore_n 3, 1) := dk_62 (dk_at dksX2_mix_1 0 rfl rfl)
theorem dX2_mix_25 : decode cX2_mix 25 = .ok (.iinc 4 1, 3) := dk_132 4 1 (dk_at dksX2_mix_1 1 rfl rfl)
theorem dX2_mix_28 : decode cX2_mix 28 = .ok (.goto (-23), 3) := dk_167 255 233 (dk_at dksX2_mix_1 4 rfl rfl)
theorem dX2_mix_31 : decode cX2_mix 31 = .ok (.iload_n 3, 1) := dk_29 (dk_at dksX2_mix_1 7 rfl rfl)
theorem dX2_mix_32 : decode cX2_mix 32 = .ok (.iload_n 3, 1) := dk_29 (dk_at dksX2_mix_1 8 rfl rfl)
theorem dX2_mix_33 : decode cX2_mix 33 = .ok (.bipush 11, 2) := dk_16 11 (dk_at dksX2_mix_1 9 rfl rfl)
theorem dX2_mix_35 : decode cX2_mix 35 = .ok (.iushr, 1) := dk_124 (dk_at dksX2_mix_1 11 rfl rfl)
theorem dX2_mix_36 : decode cX2_mix 36 = .ok (.ixor, 1) := dk_130 (dk_at dksX2_mix_1 12 rfl rfl)
theorem dX2_mix_37 : decode cX2_mix 37 = .ok (.ireturn, 1) := dk_172 (dk_at dksX2_mix_1 13 rfl rfl)
abbrev cX2_is : ByteArray := prog_3_method_4_code
def yX2_is : MethodName := ⟨RX2, "is", "(ILProgramReader$Bytes;II)Z"⟩
def dkwX2_is_2 : List UInt8 := [160, 0, 7, 4, 167, 0, 4, 3, 54, 5, 132, 6, 1, 167, 255, 216, 21, 5, 172]
abbrev dktX2_is_2 : List UInt8 := dkwX2_is_2 ++ []
def dkwX2_is_1 : List UInt8 := [162, 0, 39, 21, 5, 153, 0, 34, 42, 27, 21, 6, 182, 0, 30, 44, 29, 21, 6, 96, 182, 0, 23]
abbrev dktX2_is_1 : List UInt8 := dkwX2_is_1 ++ dktX2_is_2
def dkwX2_is_0 : List UInt8 := [42, 27, 182, 0, 27, 21, 4, 160, 0, 7, 4, 167, 0, 4, 3, 54, 5, 3, 54, 6, 21, 6, 21, 4]
abbrev dktX2_is_0 : List UInt8 := dkwX2_is_0 ++ dktX2_is_1
theorem dksX2_is_0 : cX2_is.data.toList.drop 0 = dktX2_is_0 := by decide +kernel
theorem dksX2_is_1 : cX2_is.data.toList.drop 24 = dktX2_is_1 := dk_seg dksX2_is_0 24 rfl rfl
theorem dksX2_is_2 : cX2_is.data.toList.drop 47 = dktX2_is_2 := dk_seg dksX2_is_1 23 rfl rfl
theorem dX2_is_0 : decode cX2_is 0 = .ok (.aload_n 0, 1) := dk_42 (dk_at dksX2_is_0 0 rfl rfl)
theorem dX2_is_1 : decode cX2_is 1 = .ok (.iload_n 1, 1) := dk_27 (dk_at dksX2_is_0 1 rfl rfl)
theorem dX2_is_2 : decode cX2_is 2 = .ok (.invokevirtual 27, 3) := dk_182 0 27 (dk_at dksX2_is_0 2 rfl rfl)
theorem dX2_is_5 : decode cX2_is 5 = .ok (.iload 4, 2) := dk_21 4 (dk_at dksX2_is_0 5 rfl rfl)
theorem dX2_is_7 : decode cX2_is 7 = .ok (.if_icmp .ne 7, 3) := dk_160 0 7 (dk_at dksX2_is_0 7 rfl rfl)
theorem dX2_is_10 : decode cX2_is 10 = .ok (.iconst 1, 1) := dk_4 (dk_at dksX2_is_0 10 rfl rfl)
theorem dX2_is_11 : decode cX2_is 11 = .ok (.goto 4, 3) := dk_167 0 4 (dk_at dksX2_is_0 11 rfl rfl)
theorem dX2_is_14 : decode cX2_is 14 = .ok (.iconst 0, 1) := dk_3 (dk_at dksX2_is_0 14 rfl rfl)
theorem dX2_is_15 : decode cX2_is 15 = .ok (.istore 5, 2) := dk_54 5 (dk_at dksX2_is_0 15 rfl rfl)
theorem dX2_is_17 : decode cX2_is 17 = .ok (.iconst 0, 1) := dk_3 (dk_at dksX2_is_0 17 rfl rfl)
theorem dX2_is_18 : decode cX2_is 18 = .ok (.istore 6, 2) := dk_54 6 (dk_at dksX2_is_0 18 rfl rfl)
theorem dX2_is_20 : decode cX2_is 20 = .ok (.iload 6, 2) := dk_21 6 (dk_at dksX2_is_0 20 rfl rfl)
theorem dX2_is_22 : decode cX2_is 22 = .ok (.iload 4, 2) := dk_21 4 (dk_at dksX2_is_0 22 rfl rfl)
theorem dX2_is_24 : decode cX2_is 24 = .ok (.if_icmp .ge 39, 3) := dk_162 0 39 (dk_at dksX2_is_1 0 rfl rfl)
theorem dX2_is_27 : decode cX2_is 27 = .ok (.iload 5, 2) := dk_21 5 (dk_at dksX2_is_1 3 rfl rfl)
theorem dX2_is_29 : decode cX2_is 29 = .ok (.ifCond .eq 34, 3) := dk_153 0 34 (dk_at dksX2_is_1 5 rfl rfl)
theorem dX2_is_32 : decode cX2_is 32 = .ok (.aload_n 0, 1) := dk_42 (dk_at dksX2_is_1 8 rfl rfl)
theorem dX2_is_33 : decode cX2_is 33 = .ok (.iload_n 1, 1) := dk_27 (dk_at dksX2_is_1 9 rfl rfl)
theorem dX2_is_34 : decode cX2_is 34 = .ok (.iload 6, 2) := dk_21 6 (dk_at dksX2_is_1 10 rfl rfl)
theorem dX2_is_36 : decode cX2_is 36 = .ok (.invokevirtual 30, 3) := dk_182 0 30 (dk_at dksX2_is_1 12 rfl rfl)
theorem dX2_is_39 : decode cX2_is 39 = .ok (.aload_n 2, 1) := dk_44 (dk_at dksX2_is_1 15 rfl rfl)
theorem dX2_is_40 : decode cX2_is 40 = .ok (.iload_n 3, 1) := dk_29 (dk_at dksX2_is_1 16 rfl rfl)
theorem dX2_is_41 : decode cX2_is 41 = .ok (.iload 6, 2) := dk_21 6 (dk_at dksX2_is_1 17 rfl rfl)
theorem dX2_is_43 : decode cX2_is 43 = .ok (.iadd, 1) := dk_96 (dk_at dksX2_is_1 19 rfl rfl)
theorem dX2_is_44 : decode cX2_is 44 = .ok (.invokevirtual 23, 3) := dk_182 0 23 (dk_at dksX2_is_1 20 rfl rfl)
theorem dX2_is_47 : decode cX2_is 47 = .ok (.if_icmp .ne 7, 3) := dk_160 0 7 (dk_at dksX2_is_2 0 rfl rfl)
theorem dX2_is_50 : decode cX2_is 50 = .ok (.iconst 1, 1) := dk_4 (dk_at dksX2_is_2 3 rfl rfl)
theorem dX2_is_51 : decode cX2_is 51 = .ok (.goto 4, 3) := dk_167 0 4 (dk_at dksX2_is_2 4 rfl rfl)
theorem dX2_is_54 : decode cX2_is 54 = .ok (.iconst 0, 1) := dk_3 (dk_at dksX2_is_2 7 rfl rfl)
theorem dX2_is_55 : decode cX2_is 55 = .ok (.istore 5, 2) := dk_54 5 (dk_at dksX2_is_2 8 rfl rfl)
theorem dX2_is_57 : decode cX2_is 57 = .ok (.iinc 6 1, 3) := dk_132 6 1 (dk_at dksX2_is_2 10 rfl rfl)
theorem dX2_is_60 : decode cX2_is 60 = .ok (.goto (-40), 3) := dk_167 255 216 (dk_at dksX2_is_2 13 rfl rfl)
theorem dX2_is_63 : decode cX2_is 63 = .ok (.iload 5, 2) := dk_21 5 (dk_at dksX2_is_2 16 rfl rfl)
theorem dX2_is_65 : decode cX2_is 65 = .ok (.ireturn, 1) := dk_172 (dk_at dksX2_is_2 18 rfl rfl)
abbrev cX2_length : ByteArray := prog_3_method_2_code
def yX2_length : MethodName := ⟨RX2, "length", "(I)I"⟩
def dkwX2_length_0 : List UInt8 := [42, 180, 0, 16, 27, 4, 96, 46, 42, 180, 0, 16, 27, 46, 100, 172]
abbrev dktX2_length_0 : List UInt8 := dkwX2_length_0 ++ []
theorem dksX2_length_0 : cX2_length.data.toList.drop 0 = dktX2_length_0 := by decide +kernel
theorem dX2_length_0 : decode cX2_length 0 = .ok (.aload_n 0, 1) := dk_42 (dk_at dksX2_length_0 0 rfl rfl)
theorem dX2_length_1 : decode cX2_length 1 = .ok (.getfield 16, 3) := dk_180 0 16 (dk_at dksX2_length_0 1 rfl rfl)
theorem dX2_length_4 : decode cX2_length 4 = .ok (.iload_n 1, 1) := dk_27 (dk_at dksX2_length_0 4 rfl rfl)
theorem dX2_length_5 : decode cX2_length 5 = .ok (.iconst 1, 1) := dk_4 (dk_at dksX2_length_0 5 rfl rfl)
theorem dX2_length_6 : decode cX2_length 6 = .ok (.iadd, 1) := dk_96 (dk_at dksX2_length_0 6 rfl rfl)
theorem dX2_length_7 : decode cX2_length 7 = .ok (.iaload, 1) := dk_46 (dk_at dksX2_length_0 7 rfl rfl)
theorem dX2_length_8 : decode cX2_length 8 = .ok (.aload_n 0, 1) := dk_42 (dk_at dksX2_length_0 8 rfl rfl)
theorem dX2_length_9 : decode cX2_length 9 = .ok (.getfield 16, 3) := dk_180 0 16 (dk_at dksX2_length_0 9 rfl rfl)
theorem dX2_length_12 : decode cX2_length 12 = .ok (.iload_n 1, 1) := dk_27 (dk_at dksX2_length_0 12 rfl rfl)
theorem dX2_length_13 : decode cX2_length 13 = .ok (.iaload, 1) := dk_46 (dk_at dksX2_length_0 13 rfl rfl)
theorem dX2_length_14 : decode cX2_length 14 = .ok (.isub, 1) := dk_100 (dk_at dksX2_length_0 14 rfl rfl)
theorem dX2_length_15 : decode cX2_length 15 = .ok (.ireturn, 1) := dk_172 (dk_at dksX2_length_0 15 rfl rfl)
abbrev cX2_letter : ByteArray := prog_3_method_3_code
def yX2_letter : MethodName := ⟨RX2, "letter", "(II)I"⟩
def dkwX2_letter_0 : List UInt8 := [42, 180, 0, 10, 42, 180, 0, 16, 27, 46, 28, 96, 182, 0, 23, 172]
abbrev dktX2_letter_0 : List UInt8 := dkwX2_letter_0 ++ []
theorem dksX2_letter_0 : cX2_letter.data.toList.drop 0 = dktX2_letter_0 := by decide +kernel
theorem dX2_letter_0 : decode cX2_letter 0 = .ok (.aload_n 0, 1) := dk_42 (dk_at dksX2_letter_0 0 rfl rfl)
theorem dX2_letter_1 : decode cX2_letter 1 = .ok (.getfield 10, 3) := dk_180 0 10 (dk_at dksX2_letter_0 1 rfl rfl)
theorem dX2_letter_4 : decode cX2_letter 4 = .ok (.aload_n 0, 1) := dk_42 (dk_at dksX2_letter_0 4 rfl rfl)
theorem dX2_letter_5 : decode cX2_letter 5 = .ok (.getfield 16, 3) := dk_180 0 16 (dk_at dksX2_letter_0 5 rfl rfl)
theorem dX2_letter_8 : decode cX2_letter 8 = .ok (.iload_n 1, 1) := dk_27 (dk_at dksX2_letter_0 8 rfl rfl)
theorem dX2_letter_9 : decode cX2_letter 9 = .ok (.iaload, 1) := dk_46 (dk_at dksX2_letter_0 9 rfl rfl)
theorem dX2_letter_10 : decode cX2_letter 10 = .ok (.iload_n 2, 1) := dk_28 (dk_at dksX2_letter_0 10 rfl rfl)
theorem dX2_letter_11 : decode cX2_letter 11 = .ok (.iadd, 1) := dk_96 (dk_at dksX2_letter_0 11 rfl rfl)
theorem dX2_letter_12 : decode cX2_letter 12 = .ok (.invokevirtual 23, 3) := dk_182 0 23 (dk_at dksX2_letter_0 12 rfl rfl)
theorem dX2_letter_15 : decode cX2_letter 15 = .ok (.ireturn, 1) := dk_172 (dk_at dksX2_letter_0 15 rfl rfl)
abbrev cX2_spread : ByteArray := prog_3_method_9_code
def yX2_spread : MethodName := ⟨RX2, "spread", "()V"⟩
def dkwX2_spread_2 : List UInt8 := [96, 79, 132, 1, 1, 167, 255, 218, 177]
abbrev dktX2_spread_2 : List UInt8 := dkwX2_spread_2 ++ []
def dkwX2_spread_1 : List UInt8 := [180, 0, 20, 42, 42, 180, 0, 10, 42, 180, 0, 16, 27, 46, 42, 27, 182, 0, 27, 182, 0, 42, 27, 4]
abbrev dktX2_spread_1 : List UInt8 := dkwX2_spread_1 ++ dktX2_spread_2
def dkwX2_spread_0 : List UInt8 := [42, 5, 42, 180, 0, 20, 190, 104, 188, 10, 181, 0, 20, 3, 60, 27, 42, 180, 0, 49, 162, 0, 36, 42]
abbrev dktX2_spread_0 : List UInt8 := dkwX2_spread_0 ++ dktX2_spread_1
theorem dksX2_spread_0 : cX2_spread.data.toList.drop 0 = dktX2_spread_0 := by decide +kernel
theorem dksX2_spread_1 : cX2_spread.data.toList.drop 24 = dktX2_spread_1 := dk_seg dksX2_spread_0 24 rfl rfl
theorem dksX2_spread_2 : cX2_spread.data.toList.drop 48 = dktX2_spread_2 := dk_seg dksX2_spread_1 24 rfl rfl
theorem dX2_spread_0 : decode cX2_spread 0 = .ok (.aload_n 0, 1) := dk_42 (dk_at dksX2_spread_0 0 rfl rfl)
theorem dX2_spread_1 : decode cX2_spread 1 = .ok (.iconst 2, 1) := dk_5 (dk_at dksX2_spread_0 1 rfl rfl)
theorem dX2_spread_2 : decode cX2_spread 2 = .ok (.aload_n 0, 1) := dk_42 (dk_at dksX2_spread_0 2 rfl rfl)
theorem dX2_spread_3 : decode cX2_spread 3 = .ok (.getfield 20, 3) := dk_180 0 20 (dk_at dksX2_spread_0 3 rfl rfl)
theorem dX2_spread_6 : decode cX2_spread 6 = .ok (.arraylength, 1) := dk_190 (dk_at dksX2_spread_0 6 rfl rfl)
theorem dX2_spread_7 : decode cX2_spread 7 = .ok (.imul, 1) := dk_104 (dk_at dksX2_spread_0 7 rfl rfl)
theorem dX2_spread_8 : decode cX2_spread 8 = .ok (.newarray .int, 2) := dk_188_10 (dk_at dksX2_spread_0 8 rfl rfl)
theorem dX2_spread_10 : decode cX2_spread 10 = .ok (.putfield 20, 3) := dk_181 0 20 (dk_at dksX2_spread_0 10 rfl rfl)
theorem dX2_spread_13 : decode cX2_spread 13 = .ok (.iconst 0, 1) := dk_3 (dk_at dksX2_spread_0 13 rfl rfl)
theorem dX2_spread_14 : decode cX2_spread 14 = .ok (.istore_n 1, 1) := dk_60 (dk_at dksX2_spread_0 14 rfl rfl)
theorem dX2_spread_15 : decode cX2_spread 15 = .ok (.iload_n 1, 1) := dk_27 (dk_at dksX2_spread_0 15 rfl rfl)
theorem dX2_spread_16 : decode cX2_spread 16 = .ok (.aload_n 0, 1) := dk_42 (dk_at dksX2_spread_0 16 rfl rfl)
theorem dX2_spread_17 : decode cX2_spread 17 = .ok (.getfield 49, 3) := dk_180 0 49 (dk_at dksX2_spread_0 17 rfl rfl)
theorem dX2_spread_20 : decode cX2_spread 20 = .ok (.if_icmp .ge 36, 3) := dk_162 0 36 (dk_at dksX2_spread_0 20 rfl rfl)
theorem dX2_spread_23 : decode cX2_spread 23 = .ok (.aload_n 0, 1) := dk_42 (dk_at dksX2_spread_0 23 rfl rfl)
theorem dX2_spread_24 : decode cX2_spread 24 = .ok (.getfield 20, 3) := dk_180 0 20 (dk_at dksX2_spread_1 0 rfl rfl)
theorem dX2_spread_27 : decode cX2_spread 27 = .ok (.aload_n 0, 1) := dk_42 (dk_at dksX2_spread_1 3 rfl rfl)
theorem dX2_spread_28 : decode cX2_spread 28 = .ok (.aload_n 0, 1) := dk_42 (dk_at dksX2_spread_1 4 rfl rfl)
theorem dX2_spread_29 : decode cX2_spread 29 = .ok (.getfield 10, 3) := dk_180 0 10 (dk_at dksX2_spread_1 5 rfl rfl)
theorem dX2_spread_32 : decode cX2_spread 32 = .ok (.aload_n 0, 1) := dk_42 (dk_at dksX2_spread_1 8 rfl rfl)
theorem dX2_spread_33 : decode cX2_spread 33 = .ok (.getfield 16, 3) := dk_180 0 16 (dk_at dksX2_spread_1 9 rfl rfl)
theorem dX2_spread_36 : decode cX2_spread 36 = .ok (.iload_n 1, 1) := dk_27 (dk_at dksX2_spread_1 12 rfl rfl)
theorem dX2_spread_37 : decode cX2_spread 37 = .ok (.iaload, 1) := dk_46 (dk_at dksX2_spread_1 13 rfl rfl)
theorem dX2_spread_38 : decode cX2_spread 38 = .ok (.aload_n 0, 1) := dk_42 (dk_at dksX2_spread_1 14 rfl rfl)
theorem dX2_spread_39 : decode cX2_spread 39 = .ok (.iload_n 1, 1) := dk_27 (dk_at dksX2_spread_1 15 rfl rfl)
theorem dX2_spread_40 : decode cX2_spread 40 = .ok (.invokevirtual 27, 3) := dk_182 0 27 (dk_at dksX2_spread_1 16 rfl rfl)
theorem dX2_spread_43 : decode cX2_spread 43 = .ok (.invokevirtual 42, 3) := dk_182 0 42 (dk_at dksX2_spread_1 19 rfl rfl)
theorem dX2_spread_46 : decode cX2_spread 46 = .ok (.iload_n 1, 1) := dk_27 (dk_at dksX2_spread_1 22 rfl rfl)
theorem dX2_spread_47 : decode cX2_spread 47 = .ok (.iconst 1, 1) := dk_4 (dk_at dksX2_spread_1 23 rfl rfl)
theorem dX2_spread_48 : decode cX2_spread 48 = .ok (.iadd, 1) := dk_96 (dk_at dksX2_spread_2 0 rfl rfl)
theorem dX2_spread_49 : decode cX2_spread 49 = .ok (.iastore, 1) := dk_79 (dk_at dksX2_spread_2 1 rfl rfl)
theorem dX2_spread_50 : decode cX2_spread 50 = .ok (.iinc 1 1, 3) := dk_132 1 1 (dk_at dksX2_spread_2 2 rfl rfl)
theorem dX2_spread_53 : decode cX2_spread 53 = .ok (.goto (-38), 3) := dk_167 255 218 (dk_at dksX2_spread_2 5 rfl rfl)
theorem dX2_spread_56 : decode cX2_spread 56 = .ok (.return_, 1) := dk_177 (dk_at dksX2_spread_2 8 rfl rfl)
abbrev cX2_cut : ByteArray := prog_3_method_10_code
def yX2_cut : MethodName := ⟨RX2, "cut", "(I)V"⟩
def dkwX2_cut_2 : List UInt8 := [28, 46, 181, 0, 59, 42, 89, 180, 0, 49, 4, 100, 181, 0, 49, 167, 255, 193, 177]
abbrev dktX2_cut_2 : List UInt8 := dkwX2_cut_2 ++ []
def dkwX2_cut_1 : List UInt8 := [42, 180, 0, 16, 28, 46, 42, 28, 182, 0, 27, 182, 0, 42, 3, 79, 42, 180, 0, 10, 42, 180, 0, 16]
abbrev dktX2_cut_1 : List UInt8 := dkwX2_cut_1 ++ dktX2_cut_2
def dkwX2_cut_0 : List UInt8 := [42, 180, 0, 49, 27, 164, 0, 61, 42, 180, 0, 49, 4, 100, 61, 42, 180, 0, 20, 42, 42, 180, 0, 10]
abbrev dktX2_cut_0 : List UInt8 := dkwX2_cut_0 ++ dktX2_cut_1
theorem dksX2_cut_0 : cX2_cut.data.toList.drop 0 = dktX2_cut_0 := by decide +kernel
theorem dksX2_cut_1 : cX2_cut.data.toList.drop 24 = dktX2_cut_1 := dk_seg dksX2_cut_0 24 rfl rfl
theorem dksX2_cut_2 : cX2_cut.data.toList.drop 48 = dktX2_cut_2 := dk_seg dksX2_cut_1 24 rfl rfl
theorem dX2_cut_0 : decode cX2_cut 0 = .ok (.aload_n 0, 1) := dk_42 (dk_at dksX2_cut_0 0 rfl rfl)
theorem dX2_cut_1 : decode cX2_cut 1 = .ok (.getfield 49, 3) := dk_180 0 49 (dk_at dksX2_cut_0 1 rfl rfl)
theorem dX2_cut_4 : decode cX2_cut 4 = .ok (.iload_n 1, 1) := dk_27 (dk_at dksX2_cut_0 4 rfl rfl)
theorem dX2_cut_5 : decode cX2_cut 5 = .ok (.if_icmp .le 61, 3) := dk_164 0 61 (dk_at dksX2_cut_0 5 rfl rfl)
theorem dX2_cut_8 : decode cX2_cut 8 = .ok (.aload_n 0, 1) := dk_42 (dk_at dksX2_cut_0 8 rfl rfl)
theorem dX2_cut_9 : decode cX2_cut 9 = .ok (.getfield 49, 3) := dk_180 0 49 (dk_at dksX2_cut_0 9 rfl rfl)
theorem dX2_cut_12 : decode cX2_cut 12 = .ok (.iconst 1, 1) := dk_4 (dk_at dksX2_cut_0 12 rfl rfl)
theorem dX2_cut_13 : decode cX2_cut 13 = .ok (.isub, 1) := dk_100 (dk_at dksX2_cut_0 13 rfl rfl)
theorem dX2_cut_14 : decode cX2_cut 14 = .ok (.istore_n 2, 1) := dk_61 (dk_at dksX2_cut_0 14 rfl rfl)
theorem dX2_cut_15 : decode cX2_cut 15 = .ok (.aload_n 0, 1) := dk_42 (dk_at dksX2_cut_0 15 rfl rfl)
theorem dX2_cut_16 : decode cX2_cut 16 = .ok (.getfield 20, 3) := dk_180 0 20 (dk_at dksX2_cut_0 16 rfl rfl)
theorem dX2_cut_19 : decode cX2_cut 19 = .ok (.aload_n 0, 1) := dk_42 (dk_at dksX2_cut_0 19 rfl rfl)
theorem dX2_cut_20 : decode cX2_cut 20 = .ok (.aload_n 0, 1) := dk_42 (dk_at dksX2_cut_0 20 rfl rfl)
theorem dX2_cut_21 : decode cX2_cut 21 = .ok (.getfield 10, 3) := dk_180 0 10 (dk_at dksX2_cut_0 21 rfl rfl)
theorem dX2_cut_24 : decode cX2_cut 24 = .ok (.aload_n 0, 1) := dk_42 (dk_at dksX2_cut_1 0 rfl rfl)
theorem dX2_cut_25 : decode cX2_cut 25 = .ok (.getfield 16, 3) := dk_180 0 16 (dk_at dksX2_cut_1 1 rfl rfl)
theorem dX2_cut_28 : decode cX2_cut 28 = .ok (.iload_n 2, 1) := dk_28 (dk_at dksX2_cut_1 4 rfl rfl)
theorem dX2_cut_29 : decode cX2_cut 29 = .ok (.iaload, 1) := dk_46 (dk_at dksX2_cut_1 5 rfl rfl)
theorem dX2_cut_30 : decode cX2_cut 30 = .ok (.aload_n 0, 1) := dk_42 (dk_at dksX2_cut_1 6 rfl rfl)
theorem dX2_cut_31 : decode cX2_cut 31 = .ok (.iload_n 2, 1) := dk_28 (dk_at dksX2_cut_1 7 rfl rfl)
theorem dX2_cut_32 : decode cX2_cut 32 = .ok (.invokevirtual 27, 3) := dk_182 0 27 (dk_at dksX2_cut_1 8 rfl rfl)
theorem dX2_cut_35 : decode cX2_cut 35 = .ok (.invokevirtual 42, 3) := dk_182 0 42 (dk_at dksX2_cut_1 11 rfl rfl)
theorem dX2_cut_38 : decode cX2_cut 38 = .ok (.iconst 0, 1) := dk_3 (dk_at dksX2_cut_1 14 rfl rfl)
theorem dX2_cut_39 : decode cX2_cut 39 = .ok (.iastore, 1) := dk_79 (dk_at dksX2_cut_1 15 rfl rfl)
theorem dX2_cut_40 : decode cX2_cut 40 = .ok (.aload_n 0, 1) := dk_42 (dk_at dksX2_cut_1 16 rfl rfl)
theorem dX2_cut_41 : decode cX2_cut 41 = .ok (.getfield 10, 3) := dk_180 0 10 (dk_at dksX2_cut_1 17 rfl rfl)
theorem dX2_cut_44 : decode cX2_cut 44 = .ok (.aload_n 0, 1) := dk_42 (dk_at dksX2_cut_1 20 rfl rfl)
theorem dX2_cut_45 : decode cX2_cut 45 = .ok (.getfield 16, 3) := dk_180 0 16 (dk_at dksX2_cut_1 21 rfl rfl)
theorem dX2_cut_48 : decode cX2_cut 48 = .ok (.iload_n 2, 1) := dk_28 (dk_at dksX2_cut_2 0 rfl rfl)
theorem dX2_cut_49 : decode cX2_cut 49 = .ok (.iaload, 1) := dk_46 (dk_at dksX2_cut_2 1 rfl rfl)
theorem dX2_cut_50 : decode cX2_cut 50 = .ok (.putfield 59, 3) := dk_181 0 59 (dk_at dksX2_cut_2 2 rfl rfl)
theorem dX2_cut_53 : decode cX2_cut 53 = .ok (.aload_n 0, 1) := dk_42 (dk_at dksX2_cut_2 5 rfl rfl)
theorem dX2_cut_54 : decode cX2_cut 54 = .ok (.dup, 1) := dk_89 (dk_at dksX2_cut_2 6 rfl rfl)
theorem dX2_cut_55 : decode cX2_cut 55 = .ok (.getfield 49, 3) := dk_180 0 49 (dk_at dksX2_cut_2 7 rfl rfl)
theorem dX2_cut_58 : decode cX2_cut 58 = .ok (.iconst 1, 1) := dk_4 (dk_at dksX2_cut_2 10 rfl rfl)
theorem dX2_cut_59 : decode cX2_cut 59 = .ok (.isub, 1) := dk_100 (dk_at dksX2_cut_2 11 rfl rfl)
theorem dX2_cut_60 : decode cX2_cut 60 = .ok (.putfield 49, 3) := dk_181 0 49 (dk_at dksX2_cut_2 12 rfl rfl)
theorem dX2_cut_63 : decode cX2_cut 63 = .ok (.goto (-63), 3) := dk_167 255 193 (dk_at dksX2_cut_2 15 rfl rfl)
theorem dX2_cut_66 : decode cX2_cut 66 = .ok (.return_, 1) := dk_177 (dk_at dksX2_cut_2 18 rfl rfl)
theorem q97 : (Jvm.Cond.initialized "ProgramReader$Names") ∈ lw_all := lw_g (lw_at lw_m1 3 rfl) rfl
theorem q132 : (Jvm.Cond.fieldLinkNest "ProgramReader$Names" (59 : Nat) "ProgramReader$Bytes" "size" "I" "ProgramReader") ∈ lw_tbl := lw_at lw_m1 38 rfl
theorem q140 : (Jvm.Cond.instantiable "ProgramReader$Names" (4 : Nat)) ∈ lw_all := lw_g (lw_at lw_m1 46 rfl) rfl
theorem q142 : (Jvm.Cond.instanceMethod ({ cls := "ProgramReader$Names", name := "<init>", desc := "()V" } : Jvm.MethodName)) ∈ lw_all := lw_g (lw_at lw_m1 48 rfl) rfl
theorem q143 : (Jvm.Cond.code ({ cls := "ProgramReader$Names", name := "<init>", desc := "()V" } : Jvm.MethodName) prog_3_method_1_code (1 : Nat) (Option.none : Option Jvm.ClassFile.FieldType)) ∈ lw_all := lw_g (lw_at lw_m1 49 rfl) rfl
theorem q144 : (Jvm.Cond.methodLink "ProgramReader$Names" (1 : Nat) ({ cls := "java/lang/Object", name := "<init>", desc := "()V" } : Jvm.MethodName)) ∈ lw_all := lw_g (lw_at lw_m1 50 rfl) rfl
theorem q145 : (Jvm.Cond.classLink "ProgramReader$Names" (7 : Nat) "ProgramReader$Bytes") ∈ lw_all := lw_g (lw_at lw_m1 51 rfl) rfl
theorem q146 : (Jvm.Cond.methodLinkNest "ProgramReader$Names" (9 : Nat) ({ cls := "ProgramReader$Bytes", name := "<init>", desc := "()V" } : Jvm.MethodName) "ProgramReader") ∈ lw_tbl := lw_at lw_m1 52 rfl
theorem q147 : (Jvm.Cond.fieldLink "ProgramReader$Names" (10 : Nat) "ProgramReader$Names" "letters" "LProgramReader$Bytes;") ∈ lw_all := lw_g (lw_at lw_m1 53 rfl) rfl
theorem q148 : (Jvm.Cond.fieldLink "ProgramReader$Names" (16 : Nat) "ProgramReader$Names" "starts" "[I") ∈ lw_all := lw_g (lw_at lw_m1 54 rfl) rfl
theorem q149 : (Jvm.Cond.fieldLink "ProgramReader$Names" (49 : Nat) "ProgramReader$Names" "count" "I") ∈ lw_all := lw_g (lw_at lw_m1 55 rfl) rfl
theorem q152 : (Jvm.Cond.fieldLink "ProgramReader$Names" (20 : Nat) "ProgramReader$Names" "table" "[I") ∈ lw_all := lw_g (lw_at lw_m1 58 rfl) rfl
theorem q153 : (Jvm.Cond.laysFinal "ProgramReader$Names" "ProgramReader$Names" "letters" "LProgramReader$Bytes;") ∈ lw_all := lw_g (lw_at lw_m1 59 rfl) rfl
theorem q154 : (Jvm.Cond.soleField "ProgramReader$Names" "letters") ∈ lw_all := lw_g (lw_at lw_m1 60 rfl) rfl
theorem q155 : (Jvm.Cond.lays "ProgramReader$Names" "ProgramReader$Names" "starts" "[I") ∈ lw_all := lw_g (lw_at lw_m1 61 rfl) rfl
theorem q156 : (Jvm.Cond.soleField "ProgramReader$Names" "starts") ∈ lw_all := lw_g (lw_at lw_m1 62 rfl) rfl
theorem q157 : (Jvm.Cond.lays "ProgramReader$Names" "ProgramReader$Names" "count" "I") ∈ lw_all := lw_g (lw_at lw_m1 63 rfl) rfl
theorem q158 : (Jvm.Cond.soleField "ProgramReader$Names" "count") ∈ lw_all := lw_g (lw_at lw_m1 64 rfl) rfl
theorem q159 : (Jvm.Cond.lays "ProgramReader$Names" "ProgramReader$Names" "table" "[I") ∈ lw_all := lw_g (lw_at lw_m1 65 rfl) rfl
theorem q160 : (Jvm.Cond.soleField "ProgramReader$Names" "table") ∈ lw_all := lw_g (lw_at lw_m1 66 rfl) rfl
theorem q161 : (Jvm.Cond.superclass "ProgramReader$Names" "java/lang/Object") ∈ lw_all := lw_g (lw_at lw_m1 67 rfl) rfl
theorem q553 : (Jvm.Cond.instanceMethod ({ cls := "ProgramReader$Names", name := "number", desc := "(LProgramReader$Bytes;II)I" } : Jvm.MethodName)) ∈ lw_all := lw_g (lw_at lw_m2 219 rfl) rfl
theorem q554 : (Jvm.Cond.selects "ProgramReader$Names" ({ cls := "ProgramReader$Names", name := "number", desc := "(LProgramReader$Bytes;II)I" } : Jvm.MethodName) ({ cls := "ProgramReader$Names", name := "number", desc := "(LProgramReader$Bytes;II)I" } : Jvm.MethodName)) ∈ lw_all := lw_g (lw_at lw_m2 220 rfl) rfl
theorem q555 : (Jvm.Cond.code ({ cls := "ProgramReader$Names", name := "number", desc := "(LProgramReader$Bytes;II)I" } : Jvm.MethodName) prog_3_method_8_code (6 : Nat) (Option.some Jvm.ClassFile.FieldType.int)) ∈ lw_all := lw_g (lw_at lw_m2 221 rfl) rfl
theorem q556 : (Jvm.Cond.methodLink "ProgramReader$Names" (42 : Nat) ({ cls := "ProgramReader$Names", name := "seek", desc := "(LProgramReader$Bytes;II)I" } : Jvm.MethodName)) ∈ lw_all := lw_g (lw_at lw_m2 222 rfl) rfl
theorem q557 : (Jvm.Cond.privateMethod ({ cls := "ProgramReader$Names", name := "seek", desc := "(LProgramReader$Bytes;II)I" } : Jvm.MethodName)) ∈ lw_tbl := lw_at lw_m2 223 rfl
theorem q558 : (Jvm.Cond.instanceMethod ({ cls := "ProgramReader$Names", name := "seek", desc := "(LProgramReader$Bytes;II)I" } : Jvm.MethodName)) ∈ lw_all := lw_g (lw_at lw_m2 224 rfl) rfl
theorem q559 : (Jvm.Cond.code ({ cls := "ProgramReader$Names", name := "seek", desc := "(LProgramReader$Bytes;II)I" } : Jvm.MethodName) prog_3_method_6_code (5 : Nat) (Option.some Jvm.ClassFile.FieldType.int)) ∈ lw_all := lw_g (lw_at lw_m2 225 rfl) rfl
theorem q560 : (Jvm.Cond.methodLink "ProgramReader$Names" (34 : Nat) ({ cls := "ProgramReader$Names", name := "mix", desc := "(LProgramReader$Bytes;II)I" } : Jvm.MethodName)) ∈ lw_all := lw_g (lw_at lw_m2 226 rfl) rfl
theorem q561 : (Jvm.Cond.static ({ cls := "ProgramReader$Names", name := "mix", desc := "(LProgramReader$Bytes;II)I" } : Jvm.MethodName)) ∈ lw_all := lw_g (lw_at lw_m2 227 rfl) rfl
theorem q562 : (Jvm.Cond.code ({ cls := "ProgramReader$Names", name := "mix", desc := "(LProgramReader$Bytes;II)I" } : Jvm.MethodName) prog_3_method_5_code (5 : Nat) (Option.some Jvm.ClassFile.FieldType.int)) ∈ lw_all := lw_g (lw_at lw_m2 228 rfl) rfl
theorem q563 : (Jvm.Cond.methodLink "ProgramReader$Names" (23 : Nat) ({ cls := "ProgramReader$Bytes", name := "get", desc := "(I)I" } : Jvm.MethodName)) ∈ lw_all := lw_g (lw_at lw_m2 229 rfl) rfl
theorem q564 : (Jvm.Cond.methodLink "ProgramReader$Names" (38 : Nat) ({ cls := "ProgramReader$Names", name := "is", desc := "(ILProgramReader$Bytes;II)Z" } : Jvm.MethodName)) ∈ lw_all := lw_g (lw_at lw_m2 230 rfl) rfl
theorem q565 : (Jvm.Cond.privateMethod ({ cls := "ProgramReader$Names", name := "is", desc := "(ILProgramReader$Bytes;II)Z" } : Jvm.MethodName)) ∈ lw_tbl := lw_at lw_m2 231 rfl
theorem q566 : (Jvm.Cond.instanceMethod ({ cls := "ProgramReader$Names", name := "is", desc := "(ILProgramReader$Bytes;II)Z" } : Jvm.MethodName)) ∈ lw_all := lw_g (lw_at lw_m2 232 rfl) rfl
theorem q567 : (Jvm.Cond.code ({ cls := "ProgramReader$Names", name := "is", desc := "(ILProgramReader$Bytes;II)Z" } : Jvm.MethodName) prog_3_method_4_code (7 : Nat) (Option.some Jvm.ClassFile.FieldType.boolean)) ∈ lw_all := lw_g (lw_at lw_m2 233 rfl) rfl
theorem q568 : (Jvm.Cond.methodLink "ProgramReader$Names" (27 : Nat) ({ cls := "ProgramReader$Names", name := "length", desc := "(I)I" } : Jvm.MethodName)) ∈ lw_all := lw_g (lw_at lw_m2 234 rfl) rfl
theorem q569 : (Jvm.Cond.instanceMethod ({ cls := "ProgramReader$Names", name := "length", desc := "(I)I" } : Jvm.MethodName)) ∈ lw_all := lw_g (lw_at lw_m2 235 rfl) rfl
theorem q570 : (Jvm.Cond.selects "ProgramReader$Names" ({ cls := "ProgramReader$Names", name := "length", desc := "(I)I" } : Jvm.MethodName) ({ cls := "ProgramReader$Names", name := "length", desc := "(I)I" } : Jvm.MethodName)) ∈ lw_all := lw_g (lw_at lw_m2 236 rfl) rfl
theorem q571 : (Jvm.Cond.code ({ cls := "ProgramReader$Names", name := "length", desc := "(I)I" } : Jvm.MethodName) prog_3_method_2_code (2 : Nat) (Option.some Jvm.ClassFile.FieldType.int)) ∈ lw_all := lw_g (lw_at lw_m2 237 rfl) rfl
theorem q572 : (Jvm.Cond.methodLink "ProgramReader$Names" (30 : Nat) ({ cls := "ProgramReader$Names", name := "letter", desc := "(II)I" } : Jvm.MethodName)) ∈ lw_all := lw_g (lw_at lw_m2 238 rfl) rfl
theorem q573 : (Jvm.Cond.instanceMethod ({ cls := "ProgramReader$Names", name := "letter", desc := "(II)I" } : Jvm.MethodName)) ∈ lw_all := lw_g (lw_at lw_m2 239 rfl) rfl
theorem q574 : (Jvm.Cond.selects "ProgramReader$Names" ({ cls := "ProgramReader$Names", name := "letter", desc := "(II)I" } : Jvm.MethodName) ({ cls := "ProgramReader$Names", name := "letter", desc := "(II)I" } : Jvm.MethodName)) ∈ lw_all := lw_g (lw_at lw_m3 0 rfl) rfl
theorem q575 : (Jvm.Cond.code ({ cls := "ProgramReader$Names", name := "letter", desc := "(II)I" } : Jvm.MethodName) prog_3_method_3_code (3 : Nat) (Option.some Jvm.ClassFile.FieldType.int)) ∈ lw_all := lw_g (lw_at lw_m3 1 rfl) rfl
theorem q576 : (Jvm.Cond.methodLink "ProgramReader$Names" (45 : Nat) ({ cls := "ProgramReader$Bytes", name := "add", desc := "(I)V" } : Jvm.MethodName)) ∈ lw_all := lw_g (lw_at lw_m3 2 rfl) rfl
theorem q577 : (Jvm.Cond.methodLinkNest "ProgramReader$Names" (53 : Nat) ({ cls := "ProgramReader", name := "grown", desc := "([II)[I" } : Jvm.MethodName) "ProgramReader") ∈ lw_tbl := lw_at lw_m3 3 rfl
theorem q578 : (Jvm.Cond.methodLink "ProgramReader$Names" (62 : Nat) ({ cls := "ProgramReader$Names", name := "spread", desc := "()V" } : Jvm.MethodName)) ∈ lw_all := lw_g (lw_at lw_m3 4 rfl) rfl
theorem q579 : (Jvm.Cond.privateMethod ({ cls := "ProgramReader$Names", name := "spread", desc := "()V" } : Jvm.MethodName)) ∈ lw_tbl := lw_at lw_m3 5 rfl
theorem q580 : (Jvm.Cond.instanceMethod ({ cls := "ProgramReader$Names", name := "spread", desc := "()V" } : Jvm.MethodName)) ∈ lw_all := lw_g (lw_at lw_m3 6 rfl) rfl
theorem q581 : (Jvm.Cond.code ({ cls := "ProgramReader$Names", name := "spread", desc := "()V" } : Jvm.MethodName) prog_3_method_9_code (2 : Nat) (Option.none : Option Jvm.ClassFile.FieldType)) ∈ lw_all := lw_g (lw_at lw_m3 7 rfl) rfl
theorem q700 : (Jvm.Cond.instanceMethod ({ cls := "ProgramReader$Names", name := "cut", desc := "(I)V" } : Jvm.MethodName)) ∈ lw_all := lw_g (lw_at lw_m3 126 rfl) rfl
theorem q701 : (Jvm.Cond.selects "ProgramReader$Names" ({ cls := "ProgramReader$Names", name := "cut", desc := "(I)V" } : Jvm.MethodName) ({ cls := "ProgramReader$Names", name := "cut", desc := "(I)V" } : Jvm.MethodName)) ∈ lw_all := lw_g (lw_at lw_m3 127 rfl) rfl
theorem q702 : (Jvm.Cond.code ({ cls := "ProgramReader$Names", name := "cut", desc := "(I)V" } : Jvm.MethodName) prog_3_method_10_code (3 : Nat) (Option.none : Option Jvm.ClassFile.FieldType)) ∈ lw_all := lw_g (lw_at lw_m3 128 rfl) rfl
theorem in_X2 : ∀ w ∈ wsX20, w ∈ lw_all := lw_in wsX20 [153, 155, 157, 159] (by decide +kernel) (by decide +kernel)

/-! ProgramReader$Tree -/
set_option maxRecDepth 100000
def RX3 : String := "ProgramReader$Tree"
def TX3 : u_T := fun k => match k with
  | 0 => ("ProgramReader$Tree", "kinds", "[B", false)
  | 1 => ("ProgramReader$Tree", "places", "[I", false)
  | 2 => ("ProgramReader$Tree", "values", "[I", false)
  | 3 => ("ProgramReader$Tree", "sizes", "[I", false)
  | _ => ("ProgramReader$Tree", "count", "I", false)
def tyX3 : Nat → FieldType := fun k => match k with
  | 0 => .array .byte
  | 1 => .array .int
  | 2 => .array .int
  | 3 => .array .int
  | _ => .int
abbrev wsX30 : List Cond := u_ws RX3 TX3 5
theorem nmX3 : ∀ a, a < 5 → ∀ b, b < 5 → a ≠ b → (TX3 a).2.1 ≠ (TX3 b).2.1 := by decide +kernel
theorem tyX3_ok : ∀ k, k < 5 → parseFieldDescriptor (TX3 k).2.2.1 = some (tyX3 k) := by decide +kernel
abbrev cX3_init : ByteArray := prog_7_method_1_code
def yX3_init : MethodName := ⟨RX3, "<init>", "()V"⟩
def dkwX3_init_1 : List UInt8 := [188, 10, 181, 0, 19, 42, 16, 64, 188, 10, 181, 0, 22, 42, 182, 0, 25, 177]
abbrev dktX3_init_1 : List UInt8 := dkwX3_init_1 ++ []
def dkwX3_init_0 : List UInt8 := [42, 183, 0, 3, 42, 16, 64, 188, 8, 181, 0, 9, 42, 16, 64, 188, 10, 181, 0, 15, 42, 16, 64]
abbrev dktX3_init_0 : List UInt8 := dkwX3_init_0 ++ dktX3_init_1
theorem dksX3_init_0 : cX3_init.data.toList.drop 0 = dktX3_init_0 := by decide +kernel
theorem dksX3_init_1 : cX3_init.data.toList.drop 23 = dktX3_init_1 := dk_seg dksX3_init_0 23 rfl rfl
theorem dX3_init_0 : decode cX3_init 0 = .ok (.aload_n 0, 1) := dk_42 (dk_at dksX3_init_0 0 rfl rfl)
theorem dX3_init_1 : decode cX3_init 1 = .ok (.invokespecial 3, 3) := dk_183 0 3 (dk_at dksX3_init_0 1 rfl rfl)
theorem dX3_init_4 : decode cX3_init 4 = .ok (.aload_n 0, 1) := dk_42 (dk_at dksX3_init_0 4 rfl rfl)
theorem dX3_init_5 : decode cX3_init 5 = .ok (.bipush 64, 2) := dk_16 64 (dk_at dksX3_init_0 5 rfl rfl)
theorem dX3_init_7 : decode cX3_init 7 = .ok (.newarray .byte, 2) := dk_188_8 (dk_at dksX3_init_0 7 rfl rfl)
theorem dX3_init_9 : decode cX3_init 9 = .ok (.putfield 9, 3) := dk_181 0 9 (dk_at dksX3_init_0 9 rfl rfl)
theorem dX3_init_12 : decode cX3_init 12 = .ok (.aload_n 0, 1) := dk_42 (dk_at dksX3_init_0 12 rfl rfl)
theorem dX3_init_13 : decode cX3_init 13 = .ok (.bipush 64, 2) := dk_16 64 (dk_at dksX3_init_0 13 rfl rfl)
theorem dX3_init_15 : decode cX3_init 15 = .ok (.newarray .int, 2) := dk_188_10 (dk_at dksX3_init_0 15 rfl rfl)
theorem dX3_init_17 : decode cX3_init 17 = .ok (.putfield 15, 3) := dk_181 0 15 (dk_at dksX3_init_0 17 rfl rfl)
theorem dX3_init_20 : decode cX3_init 20 = .ok (.aload_n 0, 1) := dk_42 (dk_at dksX3_init_0 20 rfl rfl)
theorem dX3_init_21 : decode cX3_init 21 = .ok (.bipush 64, 2) := dk_16 64 (dk_at dksX3_init_0 21 rfl rfl)
theorem dX3_init_23 : decode cX3_init 23 = .ok (.newarray .int, 2) := dk_188_10 (dk_at dksX3_init_1 0 rfl rfl)
theorem dX3_init_25 : decode cX3_init 25 = .ok (.putfield 19, 3) := dk_181 0 19 (dk_at dksX3_init_1 2 rfl rfl)
theorem dX3_init_28 : decode cX3_init 28 = .ok (.aload_n 0, 1) := dk_42 (dk_at dksX3_init_1 5 rfl rfl)
theorem dX3_init_29 : decode cX3_init 29 = .ok (.bipush 64, 2) := dk_16 64 (dk_at dksX3_init_1 6 rfl rfl)
theorem dX3_init_31 : decode cX3_init 31 = .ok (.newarray .int, 2) := dk_188_10 (dk_at dksX3_init_1 8 rfl rfl)
theorem dX3_init_33 : decode cX3_init 33 = .ok (.putfield 22, 3) := dk_181 0 22 (dk_at dksX3_init_1 10 rfl rfl)
theorem dX3_init_36 : decode cX3_init 36 = .ok (.aload_n 0, 1) := dk_42 (dk_at dksX3_init_1 13 rfl rfl)
theorem dX3_init_37 : decode cX3_init 37 = .ok (.invokevirtual 25, 3) := dk_182 0 25 (dk_at dksX3_init_1 14 rfl rfl)
theorem dX3_init_40 : decode cX3_init 40 = .ok (.return_, 1) := dk_177 (dk_at dksX3_init_1 17 rfl rfl)
abbrev cX3_clear : ByteArray := prog_7_method_2_code
def yX3_clear : MethodName := ⟨RX3, "clear", "()V"⟩
def dkwX3_clear_0 : List UInt8 := [42, 3, 181, 0, 28, 42, 3, 2, 3, 182, 0, 32, 87, 177]
abbrev dktX3_clear_0 : List UInt8 := dkwX3_clear_0 ++ []
theorem dksX3_clear_0 : cX3_clear.data.toList.drop 0 = dktX3_clear_0 := by decide +kernel
theorem dX3_clear_0 : decode cX3_clear 0 = .ok (.aload_n 0, 1) := dk_42 (dk_at dksX3_clear_0 0 rfl rfl)
theorem dX3_clear_1 : decode cX3_clear 1 = .ok (.iconst 0, 1) := dk_3 (dk_at dksX3_clear_0 1 rfl rfl)
theorem dX3_clear_2 : decode cX3_clear 2 = .ok (.putfield 28, 3) := dk_181 0 28 (dk_at dksX3_clear_0 2 rfl rfl)
theorem dX3_clear_5 : decode cX3_clear 5 = .ok (.aload_n 0, 1) := dk_42 (dk_at dksX3_clear_0 5 rfl rfl)
theorem dX3_clear_6 : decode cX3_clear 6 = .ok (.iconst 0, 1) := dk_3 (dk_at dksX3_clear_0 6 rfl rfl)
theorem dX3_clear_7 : decode cX3_clear 7 = .ok (.iconst (-1), 1) := dk_2 (dk_at dksX3_clear_0 7 rfl rfl)
theorem dX3_clear_8 : decode cX3_clear 8 = .ok (.iconst 0, 1) := dk_3 (dk_at dksX3_clear_0 8 rfl rfl)
theorem dX3_clear_9 : decode cX3_clear 9 = .ok (.invokevirtual 32, 3) := dk_182 0 32 (dk_at dksX3_clear_0 9 rfl rfl)
theorem dX3_clear_12 : decode cX3_clear 12 = .ok (.pop, 1) := dk_87 (dk_at dksX3_clear_0 12 rfl rfl)
theorem dX3_clear_13 : decode cX3_clear 13 = .ok (.return_, 1) := dk_177 (dk_at dksX3_clear_0 13 rfl rfl)
abbrev cX3_add : ByteArray := prog_7_method_4_code
def yX3_add : MethodName := ⟨RX3, "add", "(III)I"⟩
def dkwX3_add_1 : List UInt8 := [181, 0, 28, 172]
abbrev dktX3_add_1 : List UInt8 := dkwX3_add_1 ++ []
def dkwX3_add_0 : List UInt8 := [42, 4, 182, 0, 46, 42, 42, 180, 0, 28, 27, 28, 29, 182, 0, 50, 42, 89, 180, 0, 28, 90, 4, 96]
abbrev dktX3_add_0 : List UInt8 := dkwX3_add_0 ++ dktX3_add_1
theorem dksX3_add_0 : cX3_add.data.toList.drop 0 = dktX3_add_0 := by decide +kernel
theorem dksX3_add_1 : cX3_add.data.toList.drop 24 = dktX3_add_1 := dk_seg dksX3_add_0 24 rfl rfl
theorem dX3_add_0 : decode cX3_add 0 = .ok (.aload_n 0, 1) := dk_42 (dk_at dksX3_add_0 0 rfl rfl)
theorem dX3_add_1 : decode cX3_add 1 = .ok (.iconst 1, 1) := dk_4 (dk_at dksX3_add_0 1 rfl rfl)
theorem dX3_add_2 : decode cX3_add 2 = .ok (.invokevirtual 46, 3) := dk_182 0 46 (dk_at dksX3_add_0 2 rfl rfl)
theorem dX3_add_5 : decode cX3_add 5 = .ok (.aload_n 0, 1) := dk_42 (dk_at dksX3_add_0 5 rfl rfl)
theorem dX3_add_6 : decode cX3_add 6 = .ok (.aload_n 0, 1) := dk_42 (dk_at dksX3_add_0 6 rfl rfl)
theorem dX3_add_7 : decode cX3_add 7 = .ok (.getfield 28, 3) := dk_180 0 28 (dk_at dksX3_add_0 7 rfl rfl)
theorem dX3_add_10 : decode cX3_add 10 = .ok (.iload_n 1, 1) := dk_27 (dk_at dksX3_add_0 10 rfl rfl)
theorem dX3_add_11 : decode cX3_add 11 = .ok (.iload_n 2, 1) := dk_28 (dk_at dksX3_add_0 11 rfl rfl)
theorem dX3_add_12 : decode cX3_add 12 = .ok (.iload_n 3, 1) := dk_29 (dk_at dksX3_add_0 12 rfl rfl)
theorem dX3_add_13 : decode cX3_add 13 = .ok (.invokevirtual 50, 3) := dk_182 0 50 (dk_at dksX3_add_0 13 rfl rfl)
theorem dX3_add_16 : decode cX3_add 16 = .ok (.aload_n 0, 1) := dk_42 (dk_at dksX3_add_0 16 rfl rfl)
theorem dX3_add_17 : decode cX3_add 17 = .ok (.dup, 1) := dk_89 (dk_at dksX3_add_0 17 rfl rfl)
theorem dX3_add_18 : decode cX3_add 18 = .ok (.getfield 28, 3) := dk_180 0 28 (dk_at dksX3_add_0 18 rfl rfl)
theorem dX3_add_21 : decode cX3_add 21 = .ok (.dup_x1, 1) := dk_90 (dk_at dksX3_add_0 21 rfl rfl)
theorem dX3_add_22 : decode cX3_add 22 = .ok (.iconst 1, 1) := dk_4 (dk_at dksX3_add_0 22 rfl rfl)
theorem dX3_add_23 : decode cX3_add 23 = .ok (.iadd, 1) := dk_96 (dk_at dksX3_add_0 23 rfl rfl)
theorem dX3_add_24 : decode cX3_add 24 = .ok (.putfield 28, 3) := dk_181 0 28 (dk_at dksX3_add_1 0 rfl rfl)
theorem dX3_add_27 : decode cX3_add 27 = .ok (.ireturn, 1) := dk_172 (dk_at dksX3_add_1 3 rfl rfl)
abbrev cX3_room : ByteArray := prog_7_method_3_code
def yX3_room : MethodName := ⟨RX3, "room", "(I)V"⟩
def dkwX3_room_4 : List UInt8 := [181, 0, 22, 177]
abbrev dktX3_room_4 : List UInt8 := dkwX3_room_4 ++ []
def dkwX3_room_3 : List UInt8 := [27, 96, 184, 0, 42, 181, 0, 19, 42, 42, 180, 0, 22, 42, 180, 0, 28, 27, 96, 184, 0, 42]
abbrev dktX3_room_3 : List UInt8 := dkwX3_room_3 ++ dktX3_room_4
def dkwX3_room_2 : List UInt8 := [180, 0, 15, 42, 180, 0, 28, 27, 96, 184, 0, 42, 181, 0, 15, 42, 42, 180, 0, 19, 42, 180, 0, 28]
abbrev dktX3_room_2 : List UInt8 := dkwX3_room_2 ++ dktX3_room_3
def dkwX3_room_1 : List UInt8 := [77, 42, 180, 0, 9, 3, 44, 3, 42, 180, 0, 28, 184, 0, 36, 42, 44, 181, 0, 9, 42, 42]
abbrev dktX3_room_1 : List UInt8 := dkwX3_room_1 ++ dktX3_room_2
def dkwX3_room_0 : List UInt8 := [42, 180, 0, 28, 27, 96, 42, 180, 0, 9, 190, 164, 0, 33, 5, 42, 180, 0, 28, 27, 96, 104, 188, 8]
abbrev dktX3_room_0 : List UInt8 := dkwX3_room_0 ++ dktX3_room_1
theorem dksX3_room_0 : cX3_room.data.toList.drop 0 = dktX3_room_0 := by decide +kernel
theorem dksX3_room_1 : cX3_room.data.toList.drop 24 = dktX3_room_1 := dk_seg dksX3_room_0 24 rfl rfl
theorem dksX3_room_2 : cX3_room.data.toList.drop 46 = dktX3_room_2 := dk_seg dksX3_room_1 22 rfl rfl
theorem dksX3_room_3 : cX3_room.data.toList.drop 70 = dktX3_room_3 := dk_seg dksX3_room_2 24 rfl rfl
theorem dksX3_room_4 : cX3_room.data.toList.drop 92 = dktX3_room_4 := dk_seg dksX3_room_3 22 rfl rfl
theorem dX3_room_0 : decode cX3_room 0 = .ok (.aload_n 0, 1) := dk_42 (dk_at dksX3_room_0 0 rfl rfl)
theorem dX3_room_1 : decode cX3_room 1 = .ok (.getfield 28, 3) := dk_180 0 28 (dk_at dksX3_room_0 1 rfl rfl)
theorem dX3_room_4 : decode cX3_room 4 = .ok (.iload_n 1, 1) := dk_27 (dk_at dksX3_room_0 4 rfl rfl)
theorem dX3_room_5 : decode cX3_room 5 = .ok (.iadd, 1) := dk_96 (dk_at dksX3_room_0 5 rfl rfl)
theorem dX3_room_6 : decode cX3_room 6 = .ok (.aload_n 0, 1) := dk_42 (dk_at dksX3_room_0 6 rfl rfl)
theorem dX3_room_7 : decode cX3_room 7 = .ok (.getfield 9, 3) := dk_180 0 9 (dk_at dksX3_room_0 7 rfl rfl)
theorem dX3_room_10 : decode cX3_room 10 = .ok (.arraylength, 1) := dk_190 (dk_at dksX3_room_0 10 rfl rfl)
theorem dX3_room_11 : decode cX3_room 11 = .ok (.if_icmp .le 33, 3) := dk_164 0 33 (dk_at dksX3_room_0 11 rfl rfl)
theorem dX3_room_14 : decode cX3_room 14 = .ok (.iconst 2, 1) := dk_5 (dk_at dksX3_room_0 14 rfl rfl)
theorem dX3_room_15 : decode cX3_room 15 = .ok (.aload_n 0, 1) := dk_42 (dk_at dksX3_room_0 15 rfl rfl)
theorem dX3_room_16 : decode cX3_room 16 = .ok (.getfield 28, 3) := dk_180 0 28 (dk_at dksX3_room_0 16 rfl rfl)
theorem dX3_room_19 : decode cX3_room 19 = .ok (.iload_n 1, 1) := dk_27 (dk_at dksX3_room_0 19 rfl rfl)
theorem dX3_room_20 : decode cX3_room 20 = .ok (.iadd, 1) := dk_96 (dk_at dksX3_room_0 20 rfl rfl)
theorem dX3_room_21 : decode cX3_room 21 = .ok (.imul, 1) := dk_104 (dk_at dksX3_room_0 21 rfl rfl)
theorem dX3_room_22 : decode cX3_room 22 = .ok (.newarray .byte, 2) := dk_188_8 (dk_at dksX3_room_0 22 rfl rfl)
theorem dX3_room_24 : decode cX3_room 24 = .ok (.astore_n 2, 1) := dk_77 (dk_at dksX3_room_1 0 rfl rfl)
theorem dX3_room_25 : decode cX3_room 25 = .ok (.aload_n 0, 1) := dk_42 (dk_at dksX3_room_1 1 rfl rfl)
theorem dX3_room_26 : decode cX3_room 26 = .ok (.getfield 9, 3) := dk_180 0 9 (dk_at dksX3_room_1 2 rfl rfl)
theorem dX3_room_29 : decode cX3_room 29 = .ok (.iconst 0, 1) := dk_3 (dk_at dksX3_room_1 5 rfl rfl)
theorem dX3_room_30 : decode cX3_room 30 = .ok (.aload_n 2, 1) := dk_44 (dk_at dksX3_room_1 6 rfl rfl)
theorem dX3_room_31 : decode cX3_room 31 = .ok (.iconst 0, 1) := dk_3 (dk_at dksX3_room_1 7 rfl rfl)
theorem dX3_room_32 : decode cX3_room 32 = .ok (.aload_n 0, 1) := dk_42 (dk_at dksX3_room_1 8 rfl rfl)
theorem dX3_room_33 : decode cX3_room 33 = .ok (.getfield 28, 3) := dk_180 0 28 (dk_at dksX3_room_1 9 rfl rfl)
theorem dX3_room_36 : decode cX3_room 36 = .ok (.invokestatic 36, 3) := dk_184 0 36 (dk_at dksX3_room_1 12 rfl rfl)
theorem dX3_room_39 : decode cX3_room 39 = .ok (.aload_n 0, 1) := dk_42 (dk_at dksX3_room_1 15 rfl rfl)
theorem dX3_room_40 : decode cX3_room 40 = .ok (.aload_n 2, 1) := dk_44 (dk_at dksX3_room_1 16 rfl rfl)
theorem dX3_room_41 : decode cX3_room 41 = .ok (.putfield 9, 3) := dk_181 0 9 (dk_at dksX3_room_1 17 rfl rfl)
theorem dX3_room_44 : decode cX3_room 44 = .ok (.aload_n 0, 1) := dk_42 (dk_at dksX3_room_1 20 rfl rfl)
theorem dX3_room_45 : decode cX3_room 45 = .ok (.aload_n 0, 1) := dk_42 (dk_at dksX3_room_1 21 rfl rfl)
theorem dX3_room_46 : decode cX3_room 46 = .ok (.getfield 15, 3) := dk_180 0 15 (dk_at dksX3_room_2 0 rfl rfl)
theorem dX3_room_49 : decode cX3_room 49 = .ok (.aload_n 0, 1) := dk_42 (dk_at dksX3_room_2 3 rfl rfl)
theorem dX3_room_50 : decode cX3_room 50 = .ok (.getfield 28, 3) := dk_180 0 28 (dk_at dksX3_room_2 4 rfl rfl)
theorem dX3_room_53 : decode cX3_room 53 = .ok (.iload_n 1, 1) := dk_27 (dk_at dksX3_room_2 7 rfl rfl)
theorem dX3_room_54 : decode cX3_room 54 = .ok (.iadd, 1) := dk_96 (dk_at dksX3_room_2 8 rfl rfl)
theorem dX3_room_55 : decode cX3_room 55 = .ok (.invokestatic 42, 3) := dk_184 0 42 (dk_at dksX3_room_2 9 rfl rfl)
theorem dX3_room_58 : decode cX3_room 58 = .ok (.putfield 15, 3) := dk_181 0 15 (dk_at dksX3_room_2 12 rfl rfl)
theorem dX3_room_61 : decode cX3_room 61 = .ok (.aload_n 0, 1) := dk_42 (dk_at dksX3_room_2 15 rfl rfl)
theorem dX3_room_62 : decode cX3_room 62 = .ok (.aload_n 0, 1) := dk_42 (dk_at dksX3_room_2 16 rfl rfl)
theorem dX3_room_63 : decode cX3_room 63 = .ok (.getfield 19, 3) := dk_180 0 19 (dk_at dksX3_room_2 17 rfl rfl)
theorem dX3_room_66 : decode cX3_room 66 = .ok (.aload_n 0, 1) := dk_42 (dk_at dksX3_room_2 20 rfl rfl)
theorem dX3_room_67 : decode cX3_room 67 = .ok (.getfield 28, 3) := dk_180 0 28 (dk_at dksX3_room_2 21 rfl rfl)
theorem dX3_room_70 : decode cX3_room 70 = .ok (.iload_n 1, 1) := dk_27 (dk_at dksX3_room_3 0 rfl rfl)
theorem dX3_room_71 : decode cX3_room 71 = .ok (.iadd, 1) := dk_96 (dk_at dksX3_room_3 1 rfl rfl)
theorem dX3_room_72 : decode cX3_room 72 = .ok (.invokestatic 42, 3) := dk_184 0 42 (dk_at dksX3_room_3 2 rfl rfl)
theorem dX3_room_75 : decode cX3_room 75 = .ok (.putfield 19, 3) := dk_181 0 19 (dk_at dksX3_room_3 5 rfl rfl)
theorem dX3_room_78 : decode cX3_room 78 = .ok (.aload_n 0, 1) := dk_42 (dk_at dksX3_room_3 8 rfl rfl)
theorem dX3_room_79 : decode cX3_room 79 = .ok (.aload_n 0, 1) := dk_42 (dk_at dksX3_room_3 9 rfl rfl)
theorem dX3_room_80 : decode cX3_room 80 = .ok (.getfield 22, 3) := dk_180 0 22 (dk_at dksX3_room_3 10 rfl rfl)
theorem dX3_room_83 : decode cX3_room 83 = .ok (.aload_n 0, 1) := dk_42 (dk_at dksX3_room_3 13 rfl rfl)
theorem dX3_room_84 : decode cX3_room 84 = .ok (.getfield 28, 3) := dk_180 0 28 (dk_at dksX3_room_3 14 rfl rfl)
theorem dX3_room_87 : decode cX3_room 87 = .ok (.iload_n 1, 1) := dk_27 (dk_at dksX3_room_3 17 rfl rfl)
theorem dX3_room_88 : decode cX3_room 88 = .ok (.iadd, 1) := dk_96 (dk_at dksX3_room_3 18 rfl rfl)
theorem dX3_room_89 : decode cX3_room 89 = .ok (.invokestatic 42, 3) := dk_184 0 42 (dk_at dksX3_room_3 19 rfl rfl)
theorem dX3_room_92 : decode cX3_room 92 = .ok (.putfield 22, 3) := dk_181 0 22 (dk_at dksX3_room_4 0 rfl rfl)
theorem dX3_room_95 : decode cX3_room 95 = .ok (.return_, 1) := dk_177 (dk_at dksX3_room_4 3 rfl rfl)
abbrev cX3_set : ByteArray := prog_7_method_5_code
def yX3_set : MethodName := ⟨RX3, "set", "(IIII)V"⟩
def dkwX3_set_1 : List UInt8 := [180, 0, 22, 27, 4, 79, 177]
abbrev dktX3_set_1 : List UInt8 := dkwX3_set_1 ++ []
def dkwX3_set_0 : List UInt8 := [42, 180, 0, 9, 27, 28, 145, 84, 42, 180, 0, 15, 27, 29, 79, 42, 180, 0, 19, 27, 21, 4, 79, 42]
abbrev dktX3_set_0 : List UInt8 := dkwX3_set_0 ++ dktX3_set_1
theorem dksX3_set_0 : cX3_set.data.toList.drop 0 = dktX3_set_0 := by decide +kernel
theorem dksX3_set_1 : cX3_set.data.toList.drop 24 = dktX3_set_1 := dk_seg dksX3_set_0 24 rfl rfl
theorem dX3_set_0 : decode cX3_set 0 = .ok (.aload_n 0, 1) := dk_42 (dk_at dksX3_set_0 0 rfl rfl)
theorem dX3_set_1 : decode cX3_set 1 = .ok (.getfield 9, 3) := dk_180 0 9 (dk_at dksX3_set_0 1 rfl rfl)
theorem dX3_set_4 : decode cX3_set 4 = .ok (.iload_n 1, 1) := dk_27 (dk_at dksX3_set_0 4 rfl rfl)
theorem dX3_set_5 : decode cX3_set 5 = .ok (.iload_n 2, 1) := dk_28 (dk_at dksX3_set_0 5 rfl rfl)
theorem dX3_set_6 : decode cX3_set 6 = .ok (.i2b, 1) := dk_145 (dk_at dksX3_set_0 6 rfl rfl)
theorem dX3_set_7 : decode cX3_set 7 = .ok (.bastore, 1) := dk_84 (dk_at dksX3_set_0 7 rfl rfl)
theorem dX3_set_8 : decode cX3_set 8 = .ok (.aload_n 0, 1) := dk_42 (dk_at dksX3_set_0 8 rfl rfl)
theorem dX3_set_9 : decode cX3_set 9 = .ok (.getfield 15, 3) := dk_180 0 15 (dk_at dksX3_set_0 9 rfl rfl)
theorem dX3_set_12 : decode cX3_set 12 = .ok (.iload_n 1, 1) := dk_27 (dk_at dksX3_set_0 12 rfl rfl)
theorem dX3_set_13 : decode cX3_set 13 = .ok (.iload_n 3, 1) := dk_29 (dk_at dksX3_set_0 13 rfl rfl)
theorem dX3_set_14 : decode cX3_set 14 = .ok (.iastore, 1) := dk_79 (dk_at dksX3_set_0 14 rfl rfl)
theorem dX3_set_15 : decode cX3_set 15 = .ok (.aload_n 0, 1) := dk_42 (dk_at dksX3_set_0 15 rfl rfl)
theorem dX3_set_16 : decode cX3_set 16 = .ok (.getfield 19, 3) := dk_180 0 19 (dk_at dksX3_set_0 16 rfl rfl)
theorem dX3_set_19 : decode cX3_set 19 = .ok (.iload_n 1, 1) := dk_27 (dk_at dksX3_set_0 19 rfl rfl)
theorem dX3_set_20 : decode cX3_set 20 = .ok (.iload 4, 2) := dk_21 4 (dk_at dksX3_set_0 20 rfl rfl)
theorem dX3_set_22 : decode cX3_set 22 = .ok (.iastore, 1) := dk_79 (dk_at dksX3_set_0 22 rfl rfl)
theorem dX3_set_23 : decode cX3_set 23 = .ok (.aload_n 0, 1) := dk_42 (dk_at dksX3_set_0 23 rfl rfl)
theorem dX3_set_24 : decode cX3_set 24 = .ok (.getfield 22, 3) := dk_180 0 22 (dk_at dksX3_set_1 0 rfl rfl)
theorem dX3_set_27 : decode cX3_set 27 = .ok (.iload_n 1, 1) := dk_27 (dk_at dksX3_set_1 3 rfl rfl)
theorem dX3_set_28 : decode cX3_set 28 = .ok (.iconst 1, 1) := dk_4 (dk_at dksX3_set_1 4 rfl rfl)
theorem dX3_set_29 : decode cX3_set 29 = .ok (.iastore, 1) := dk_79 (dk_at dksX3_set_1 5 rfl rfl)
theorem dX3_set_30 : decode cX3_set 30 = .ok (.return_, 1) := dk_177 (dk_at dksX3_set_1 6 rfl rfl)
abbrev cX3_end : ByteArray := prog_7_method_7_code
def yX3_end : MethodName := ⟨RX3, "end", "(I)V"⟩
def dkwX3_end_0 : List UInt8 := [42, 180, 0, 22, 27, 42, 180, 0, 28, 27, 100, 79, 177]
abbrev dktX3_end_0 : List UInt8 := dkwX3_end_0 ++ []
theorem dksX3_end_0 : cX3_end.data.toList.drop 0 = dktX3_end_0 := by decide +kernel
theorem dX3_end_0 : decode cX3_end 0 = .ok (.aload_n 0, 1) := dk_42 (dk_at dksX3_end_0 0 rfl rfl)
theorem dX3_end_1 : decode cX3_end 1 = .ok (.getfield 22, 3) := dk_180 0 22 (dk_at dksX3_end_0 1 rfl rfl)
theorem dX3_end_4 : decode cX3_end 4 = .ok (.iload_n 1, 1) := dk_27 (dk_at dksX3_end_0 4 rfl rfl)
theorem dX3_end_5 : decode cX3_end 5 = .ok (.aload_n 0, 1) := dk_42 (dk_at dksX3_end_0 5 rfl rfl)
theorem dX3_end_6 : decode cX3_end 6 = .ok (.getfield 28, 3) := dk_180 0 28 (dk_at dksX3_end_0 6 rfl rfl)
theorem dX3_end_9 : decode cX3_end 9 = .ok (.iload_n 1, 1) := dk_27 (dk_at dksX3_end_0 9 rfl rfl)
theorem dX3_end_10 : decode cX3_end 10 = .ok (.isub, 1) := dk_100 (dk_at dksX3_end_0 10 rfl rfl)
theorem dX3_end_11 : decode cX3_end 11 = .ok (.iastore, 1) := dk_79 (dk_at dksX3_end_0 11 rfl rfl)
theorem dX3_end_12 : decode cX3_end 12 = .ok (.return_, 1) := dk_177 (dk_at dksX3_end_0 12 rfl rfl)
abbrev cX3_insert : ByteArray := prog_7_method_6_code
def yX3_insert : MethodName := ⟨RX3, "insert", "(IIII)V"⟩
def dkwX3_insert_5 : List UInt8 := [181, 0, 28, 177]
abbrev dktX3_insert_5 : List UInt8 := dkwX3_insert_5 ++ []
def dkwX3_insert_4 : List UInt8 := [21, 6, 29, 21, 4, 3, 182, 0, 50, 132, 6, 1, 167, 255, 235, 42, 89, 180, 0, 28, 28, 96]
abbrev dktX3_insert_4 : List UInt8 := dkwX3_insert_4 ++ dktX3_insert_5
def dkwX3_insert_3 : List UInt8 := [180, 0, 22, 27, 28, 96, 21, 5, 184, 0, 36, 27, 54, 6, 21, 6, 27, 28, 96, 162, 0, 19, 42]
abbrev dktX3_insert_3 : List UInt8 := dkwX3_insert_3 ++ dktX3_insert_4
def dkwX3_insert_2 : List UInt8 := [180, 0, 19, 27, 42, 180, 0, 19, 27, 28, 96, 21, 5, 184, 0, 36, 42, 180, 0, 22, 27, 42]
abbrev dktX3_insert_2 : List UInt8 := dkwX3_insert_2 ++ dktX3_insert_3
def dkwX3_insert_1 : List UInt8 := [96, 21, 5, 184, 0, 36, 42, 180, 0, 15, 27, 42, 180, 0, 15, 27, 28, 96, 21, 5, 184, 0, 36, 42]
abbrev dktX3_insert_1 : List UInt8 := dkwX3_insert_1 ++ dktX3_insert_2
def dkwX3_insert_0 : List UInt8 := [42, 28, 182, 0, 46, 42, 180, 0, 28, 27, 100, 54, 5, 42, 180, 0, 9, 27, 42, 180, 0, 9, 27, 28]
abbrev dktX3_insert_0 : List UInt8 := dkwX3_insert_0 ++ dktX3_insert_1
theorem dksX3_insert_0 : cX3_insert.data.toList.drop 0 = dktX3_insert_0 := by decide +kernel
theorem dksX3_insert_1 : cX3_insert.data.toList.drop 24 = dktX3_insert_1 := dk_seg dksX3_insert_0 24 rfl rfl
theorem dksX3_insert_2 : cX3_insert.data.toList.drop 48 = dktX3_insert_2 := dk_seg dksX3_insert_1 24 rfl rfl
theorem dksX3_insert_3 : cX3_insert.data.toList.drop 70 = dktX3_insert_3 := dk_seg dksX3_insert_2 22 rfl rfl
theorem dksX3_insert_4 : cX3_insert.data.toList.drop 93 = dktX3_insert_4 := dk_seg dksX3_insert_3 23 rfl rfl
theorem dksX3_insert_5 : cX3_insert.data.toList.drop 115 = dktX3_insert_5 := dk_seg dksX3_insert_4 22 rfl rfl
theorem dX3_insert_0 : decode cX3_insert 0 = .ok (.aload_n 0, 1) := dk_42 (dk_at dksX3_insert_0 0 rfl rfl)
theorem dX3_insert_1 : decode cX3_insert 1 = .ok (.iload_n 2, 1) := dk_28 (dk_at dksX3_insert_0 1 rfl rfl)
theorem dX3_insert_2 : decode cX3_insert 2 = .ok (.invokevirtual 46, 3) := dk_182 0 46 (dk_at dksX3_insert_0 2 rfl rfl)
theorem dX3_insert_5 : decode cX3_insert 5 = .ok (.aload_n 0, 1) := dk_42 (dk_at dksX3_insert_0 5 rfl rfl)
theorem dX3_insert_6 : decode cX3_insert 6 = .ok (.getfield 28, 3) := dk_180 0 28 (dk_at dksX3_insert_0 6 rfl rfl)
theorem dX3_insert_9 : decode cX3_insert 9 = .ok (.iload_n 1, 1) := dk_27 (dk_at dksX3_insert_0 9 rfl rfl)
theorem dX3_insert_10 : decode cX3_insert 10 = .ok (.isub, 1) := dk_100 (dk_at dksX3_insert_0 10 rfl rfl)
theorem dX3_insert_11 : decode cX3_insert 11 = .ok (.istore 5, 2) := dk_54 5 (dk_at dksX3_insert_0 11 rfl rfl)
theorem dX3_insert_13 : decode cX3_insert 13 = .ok (.aload_n 0, 1) := dk_42 (dk_at dksX3_insert_0 13 rfl rfl)
theorem dX3_insert_14 : decode cX3_insert 14 = .ok (.getfield 9, 3) := dk_180 0 9 (dk_at dksX3_insert_0 14 rfl rfl)
theorem dX3_insert_17 : decode cX3_insert 17 = .ok (.iload_n 1, 1) := dk_27 (dk_at dksX3_insert_0 17 rfl rfl)
theorem dX3_insert_18 : decode cX3_insert 18 = .ok (.aload_n 0, 1) := dk_42 (dk_at dksX3_insert_0 18 rfl rfl)
theorem dX3_insert_19 : decode cX3_insert 19 = .ok (.getfield 9, 3) := dk_180 0 9 (dk_at dksX3_insert_0 19 rfl rfl)
theorem dX3_insert_22 : decode cX3_insert 22 = .ok (.iload_n 1, 1) := dk_27 (dk_at dksX3_insert_0 22 rfl rfl)
theorem dX3_insert_23 : decode cX3_insert 23 = .ok (.iload_n 2, 1) := dk_28 (dk_at dksX3_insert_0 23 rfl rfl)
theorem dX3_insert_24 : decode cX3_insert 24 = .ok (.iadd, 1) := dk_96 (dk_at dksX3_insert_1 0 rfl rfl)
theorem dX3_insert_25 : decode cX3_insert 25 = .ok (.iload 5, 2) := dk_21 5 (dk_at dksX3_insert_1 1 rfl rfl)
theorem dX3_insert_27 : decode cX3_insert 27 = .ok (.invokestatic 36, 3) := dk_184 0 36 (dk_at dksX3_insert_1 3 rfl rfl)
theorem dX3_insert_30 : decode cX3_insert 30 = .ok (.aload_n 0, 1) := dk_42 (dk_at dksX3_insert_1 6 rfl rfl)
theorem dX3_insert_31 : decode cX3_insert 31 = .ok (.getfield 15, 3) := dk_180 0 15 (dk_at dksX3_insert_1 7 rfl rfl)
theorem dX3_insert_34 : decode cX3_insert 34 = .ok (.iload_n 1, 1) := dk_27 (dk_at dksX3_insert_1 10 rfl rfl)
theorem dX3_insert_35 : decode cX3_insert 35 = .ok (.aload_n 0, 1) := dk_42 (dk_at dksX3_insert_1 11 rfl rfl)
theorem dX3_insert_36 : decode cX3_insert 36 = .ok (.getfield 15, 3) := dk_180 0 15 (dk_at dksX3_insert_1 12 rfl rfl)
theorem dX3_insert_39 : decode cX3_insert 39 = .ok (.iload_n 1, 1) := dk_27 (dk_at dksX3_insert_1 15 rfl rfl)
theorem dX3_insert_40 : decode cX3_insert 40 = .ok (.iload_n 2, 1) := dk_28 (dk_at dksX3_insert_1 16 rfl rfl)
theorem dX3_insert_41 : decode cX3_insert 41 = .ok (.iadd, 1) := dk_96 (dk_at dksX3_insert_1 17 rfl rfl)
theorem dX3_insert_42 : decode cX3_insert 42 = .ok (.iload 5, 2) := dk_21 5 (dk_at dksX3_insert_1 18 rfl rfl)
theorem dX3_insert_44 : decode cX3_insert 44 = .ok (.invokestatic 36, 3) := dk_184 0 36 (dk_at dksX3_insert_1 20 rfl rfl)
theorem dX3_insert_47 : decode cX3_insert 47 = .ok (.aload_n 0, 1) := dk_42 (dk_at dksX3_insert_1 23 rfl rfl)
theorem dX3_insert_48 : decode cX3_insert 48 = .ok (.getfield 19, 3) := dk_180 0 19 (dk_at dksX3_insert_2 0 rfl rfl)
theorem dX3_insert_51 : decode cX3_insert 51 = .ok (.iload_n 1, 1) := dk_27 (dk_at dksX3_insert_2 3 rfl rfl)
theorem dX3_insert_52 : decode cX3_insert 52 = .ok (.aload_n 0, 1) := dk_42 (dk_at dksX3_insert_2 4 rfl rfl)
theorem dX3_insert_53 : decode cX3_insert 53 = .ok (.getfield 19, 3) := dk_180 0 19 (dk_at dksX3_insert_2 5 rfl rfl)
theorem dX3_insert_56 : decode cX3_insert 56 = .ok (.iload_n 1, 1) := dk_27 (dk_at dksX3_insert_2 8 rfl rfl)
theorem dX3_insert_57 : decode cX3_insert 57 = .ok (.iload_n 2, 1) := dk_28 (dk_at dksX3_insert_2 9 rfl rfl)
theorem dX3_insert_58 : decode cX3_insert 58 = .ok (.iadd, 1) := dk_96 (dk_at dksX3_insert_2 10 rfl rfl)
theorem dX3_insert_59 : decode cX3_insert 59 = .ok (.iload 5, 2) := dk_21 5 (dk_at dksX3_insert_2 11 rfl rfl)
theorem dX3_insert_61 : decode cX3_insert 61 = .ok (.invokestatic 36, 3) := dk_184 0 36 (dk_at dksX3_insert_2 13 rfl rfl)
theorem dX3_insert_64 : decode cX3_insert 64 = .ok (.aload_n 0, 1) := dk_42 (dk_at dksX3_insert_2 16 rfl rfl)
theorem dX3_insert_65 : decode cX3_insert 65 = .ok (.getfield 22, 3) := dk_180 0 22 (dk_at dksX3_insert_2 17 rfl rfl)
theorem dX3_insert_68 : decode cX3_insert 68 = .ok (.iload_n 1, 1) := dk_27 (dk_at dksX3_insert_2 20 rfl rfl)
theorem dX3_insert_69 : decode cX3_insert 69 = .ok (.aload_n 0, 1) := dk_42 (dk_at dksX3_insert_2 21 rfl rfl)
theorem dX3_insert_70 : decode cX3_insert 70 = .ok (.getfield 22, 3) := dk_180 0 22 (dk_at dksX3_insert_3 0 rfl rfl)
theorem dX3_insert_73 : decode cX3_insert 73 = .ok (.iload_n 1, 1) := dk_27 (dk_at dksX3_insert_3 3 rfl rfl)
theorem dX3_insert_74 : decode cX3_insert 74 = .ok (.iload_n 2, 1) := dk_28 (dk_at dksX3_insert_3 4 rfl rfl)
theorem dX3_insert_75 : decode cX3_insert 75 = .ok (.iadd, 1) := dk_96 (dk_at dksX3_insert_3 5 rfl rfl)
theorem dX3_insert_76 : decode cX3_insert 76 = .ok (.iload 5, 2) := dk_21 5 (dk_at dksX3_insert_3 6 rfl rfl)
theorem dX3_insert_78 : decode cX3_insert 78 = .ok (.invokestatic 36, 3) := dk_184 0 36 (dk_at dksX3_insert_3 8 rfl rfl)
theorem dX3_insert_81 : decode cX3_insert 81 = .ok (.iload_n 1, 1) := dk_27 (dk_at dksX3_insert_3 11 rfl rfl)
theorem dX3_insert_82 : decode cX3_insert 82 = .ok (.istore 6, 2) := dk_54 6 (dk_at dksX3_insert_3 12 rfl rfl)
theorem dX3_insert_84 : decode cX3_insert 84 = .ok (.iload 6, 2) := dk_21 6 (dk_at dksX3_insert_3 14 rfl rfl)
theorem dX3_insert_86 : decode cX3_insert 86 = .ok (.iload_n 1, 1) := dk_27 (dk_at dksX3_insert_3 16 rfl rfl)
theorem dX3_insert_87 : decode cX3_insert 87 = .ok (.iload_n 2, 1) := dk_28 (dk_at dksX3_insert_3 17 rfl rfl)
theorem dX3_insert_88 : decode cX3_insert 88 = .ok (.iadd, 1) := dk_96 (dk_at dksX3_insert_3 18 rfl rfl)
theorem dX3_insert_89 : decode cX3_insert 89 = .ok (.if_icmp .ge 19, 3) := dk_162 0 19 (dk_at dksX3_insert_3 19 rfl rfl)
theorem dX3_insert_92 : decode cX3_insert 92 = .ok (.aload_n 0, 1) := dk_42 (dk_at dksX3_insert_3 22 rfl rfl)
theorem dX3_insert_93 : decode cX3_insert 93 = .ok (.iload 6, 2) := dk_21 6 (dk_at dksX3_insert_4 0 rfl rfl)
theorem dX3_insert_95 : decode cX3_insert 95 = .ok (.iload_n 3, 1) := dk_29 (dk_at dksX3_insert_4 2 rfl rfl)
theorem dX3_insert_96 : decode cX3_insert 96 = .ok (.iload 4, 2) := dk_21 4 (dk_at dksX3_insert_4 3 rfl rfl)
theorem dX3_insert_98 : decode cX3_insert 98 = .ok (.iconst 0, 1) := dk_3 (dk_at dksX3_insert_4 5 rfl rfl)
theorem dX3_insert_99 : decode cX3_insert 99 = .ok (.invokevirtual 50, 3) := dk_182 0 50 (dk_at dksX3_insert_4 6 rfl rfl)
theorem dX3_insert_102 : decode cX3_insert 102 = .ok (.iinc 6 1, 3) := dk_132 6 1 (dk_at dksX3_insert_4 9 rfl rfl)
theorem dX3_insert_105 : decode cX3_insert 105 = .ok (.goto (-21), 3) := dk_167 255 235 (dk_at dksX3_insert_4 12 rfl rfl)
theorem dX3_insert_108 : decode cX3_insert 108 = .ok (.aload_n 0, 1) := dk_42 (dk_at dksX3_insert_4 15 rfl rfl)
theorem dX3_insert_109 : decode cX3_insert 109 = .ok (.dup, 1) := dk_89 (dk_at dksX3_insert_4 16 rfl rfl)
theorem dX3_insert_110 : decode cX3_insert 110 = .ok (.getfield 28, 3) := dk_180 0 28 (dk_at dksX3_insert_4 17 rfl rfl)
theorem dX3_insert_113 : decode cX3_insert 113 = .ok (.iload_n 2, 1) := dk_28 (dk_at dksX3_insert_4 20 rfl rfl)
theorem dX3_insert_114 : decode cX3_insert 114 = .ok (.iadd, 1) := dk_96 (dk_at dksX3_insert_4 21 rfl rfl)
theorem dX3_insert_115 : decode cX3_insert 115 = .ok (.putfield 28, 3) := dk_181 0 28 (dk_at dksX3_insert_5 0 rfl rfl)
theorem dX3_insert_118 : decode cX3_insert 118 = .ok (.return_, 1) := dk_177 (dk_at dksX3_insert_5 3 rfl rfl)
abbrev cX3_has : ByteArray := prog_7_method_8_code
def yX3_has : MethodName := ⟨RX3, "has", "(I)Z"⟩
def dkwX3_has_0 : List UInt8 := [27, 155, 0, 15, 27, 42, 180, 0, 28, 162, 0, 7, 4, 167, 0, 4, 3, 172]
abbrev dktX3_has_0 : List UInt8 := dkwX3_has_0 ++ []
theorem dksX3_has_0 : cX3_has.data.toList.drop 0 = dktX3_has_0 := by decide +kernel
theorem dX3_has_0 : decode cX3_has 0 = .ok (.iload_n 1, 1) := dk_27 (dk_at dksX3_has_0 0 rfl rfl)
theorem dX3_has_1 : decode cX3_has 1 = .ok (.ifCond .lt 15, 3) := dk_155 0 15 (dk_at dksX3_has_0 1 rfl rfl)
theorem dX3_has_4 : decode cX3_has 4 = .ok (.iload_n 1, 1) := dk_27 (dk_at dksX3_has_0 4 rfl rfl)
theorem dX3_has_5 : decode cX3_has 5 = .ok (.aload_n 0, 1) := dk_42 (dk_at dksX3_has_0 5 rfl rfl)
theorem dX3_has_6 : decode cX3_has 6 = .ok (.getfield 28, 3) := dk_180 0 28 (dk_at dksX3_has_0 6 rfl rfl)
theorem dX3_has_9 : decode cX3_has 9 = .ok (.if_icmp .ge 7, 3) := dk_162 0 7 (dk_at dksX3_has_0 9 rfl rfl)
theorem dX3_has_12 : decode cX3_has 12 = .ok (.iconst 1, 1) := dk_4 (dk_at dksX3_has_0 12 rfl rfl)
theorem dX3_has_13 : decode cX3_has 13 = .ok (.goto 4, 3) := dk_167 0 4 (dk_at dksX3_has_0 13 rfl rfl)
theorem dX3_has_16 : decode cX3_has 16 = .ok (.iconst 0, 1) := dk_3 (dk_at dksX3_has_0 16 rfl rfl)
theorem dX3_has_17 : decode cX3_has 17 = .ok (.ireturn, 1) := dk_172 (dk_at dksX3_has_0 17 rfl rfl)
abbrev cX3_parts : ByteArray := prog_7_method_9_code
def yX3_parts : MethodName := ⟨RX3, "parts", "(I)I"⟩
def dkwX3_parts_1 : List UInt8 := [180, 0, 22, 29, 46, 96, 62, 167, 255, 232, 28, 172]
abbrev dktX3_parts_1 : List UInt8 := dkwX3_parts_1 ++ []
def dkwX3_parts_0 : List UInt8 := [3, 61, 27, 4, 96, 62, 29, 27, 42, 180, 0, 22, 27, 46, 96, 162, 0, 18, 132, 2, 1, 29, 42]
abbrev dktX3_parts_0 : List UInt8 := dkwX3_parts_0 ++ dktX3_parts_1
theorem dksX3_parts_0 : cX3_parts.data.toList.drop 0 = dktX3_parts_0 := by decide +kernel
theorem dksX3_parts_1 : cX3_parts.data.toList.drop 23 = dktX3_parts_1 := dk_seg dksX3_parts_0 23 rfl rfl
theorem dX3_parts_0 : decode cX3_parts 0 = .ok (.iconst 0, 1) := dk_3 (dk_at dksX3_parts_0 0 rfl rfl)
theorem dX3_parts_1 : decode cX3_parts 1 = .ok (.istore_n 2, 1) := dk_61 (dk_at dksX3_parts_0 1 rfl rfl)
theorem dX3_parts_2 : decode cX3_parts 2 = .ok (.iload_n 1, 1) := dk_27 (dk_at dksX3_parts_0 2 rfl rfl)
theorem dX3_parts_3 : decode cX3_parts 3 = .ok (.iconst 1, 1) := dk_4 (dk_at dksX3_parts_0 3 rfl rfl)
theorem dX3_parts_4 : decode cX3_parts 4 = .ok (.iadd, 1) := dk_96 (dk_at dksX3_parts_0 4 rfl rfl)
theorem dX3_parts_5 : decode cX3_parts 5 = .ok (.istore_n 3, 1) := dk_62 (dk_at dksX3_parts_0 5 rfl rfl)
theorem dX3_parts_6 : decode cX3_parts 6 = .ok (.iload_n 3, 1) := dk_29 (dk_at dksX3_parts_0 6 rfl rfl)
theorem dX3_parts_7 : decode cX3_parts 7 = .ok (.iload_n 1, 1) := dk_27 (dk_at dksX3_parts_0 7 rfl rfl)
theorem dX3_parts_8 : decode cX3_parts 8 = .ok (.aload_n 0, 1) := dk_42 (dk_at dksX3_parts_0 8 rfl rfl)
theorem dX3_parts_9 : decode cX3_parts 9 = .ok (.getfield 22, 3) := dk_180 0 22 (dk_at dksX3_parts_0 9 rfl rfl)
theorem dX3_parts_12 : decode cX3_parts 12 = .ok (.iload_n 1, 1) := dk_27 (dk_at dksX3_parts_0 12 rfl rfl)
theorem dX3_parts_13 : decode cX3_parts 13 = .ok (.iaload, 1) := dk_46 (dk_at dksX3_parts_0 13 rfl rfl)
theorem dX3_parts_14 : decode cX3_parts 14 = .ok (.iadd, 1) := dk_96 (dk_at dksX3_parts_0 14 rfl rfl)
theorem dX3_parts_15 : decode cX3_parts 15 = .ok (.if_icmp .ge 18, 3) := dk_162 0 18 (dk_at dksX3_parts_0 15 rfl rfl)
theorem dX3_parts_18 : decode cX3_parts 18 = .ok (.iinc 2 1, 3) := dk_132 2 1 (dk_at dksX3_parts_0 18 rfl rfl)
theorem dX3_parts_21 : decode cX3_parts 21 = .ok (.iload_n 3, 1) := dk_29 (dk_at dksX3_parts_0 21 rfl rfl)
theorem dX3_parts_22 : decode cX3_parts 22 = .ok (.aload_n 0, 1) := dk_42 (dk_at dksX3_parts_0 22 rfl rfl)
theorem dX3_parts_23 : decode cX3_parts 23 = .ok (.getfield 22, 3) := dk_180 0 22 (dk_at dksX3_parts_1 0 rfl rfl)
theorem dX3_parts_26 : decode cX3_parts 26 = .ok (.iload_n 3, 1) := dk_29 (dk_at dksX3_parts_1 3 rfl rfl)
theorem dX3_parts_27 : decode cX3_parts 27 = .ok (.iaload, 1) := dk_46 (dk_at dksX3_parts_1 4 rfl rfl)
theorem dX3_parts_28 : decode cX3_parts 28 = .ok (.iadd, 1) := dk_96 (dk_at dksX3_parts_1 5 rfl rfl)
theorem dX3_parts_29 : decode cX3_parts 29 = .ok (.istore_n 3, 1) := dk_62 (dk_at dksX3_parts_1 6 rfl rfl)
theorem dX3_parts_30 : decode cX3_parts 30 = .ok (.goto (-24), 3) := dk_167 255 232 (dk_at dksX3_parts_1 7 rfl rfl)
theorem dX3_parts_33 : decode cX3_parts 33 = .ok (.iload_n 2, 1) := dk_28 (dk_at dksX3_parts_1 10 rfl rfl)
theorem dX3_parts_34 : decode cX3_parts 34 = .ok (.ireturn, 1) := dk_172 (dk_at dksX3_parts_1 11 rfl rfl)
abbrev cX3_part : ByteArray := prog_7_method_10_code
def yX3_part : MethodName := ⟨RX3, "part", "(II)I"⟩
def dkwX3_part_2 : List UInt8 := [42, 180, 0, 22, 27, 46, 96, 162, 0, 7, 29, 167, 0, 4, 2, 172]
abbrev dktX3_part_2 : List UInt8 := dkwX3_part_2 ++ []
def dkwX3_part_1 : List UInt8 := [162, 0, 18, 29, 42, 180, 0, 22, 29, 46, 96, 62, 132, 4, 1, 167, 255, 226, 28, 155, 0, 19, 29, 27]
abbrev dktX3_part_1 : List UInt8 := dkwX3_part_1 ++ dktX3_part_2
def dkwX3_part_0 : List UInt8 := [27, 4, 96, 62, 3, 54, 4, 21, 4, 28, 162, 0, 30, 29, 27, 42, 180, 0, 22, 27, 46, 96]
abbrev dktX3_part_0 : List UInt8 := dkwX3_part_0 ++ dktX3_part_1
theorem dksX3_part_0 : cX3_part.data.toList.drop 0 = dktX3_part_0 := by decide +kernel
theorem dksX3_part_1 : cX3_part.data.toList.drop 22 = dktX3_part_1 := dk_seg dksX3_part_0 22 rfl rfl
theorem dksX3_part_2 : cX3_part.data.toList.drop 46 = dktX3_part_2 := dk_seg dksX3_part_1 24 rfl rfl
theorem dX3_part_0 : decode cX3_part 0 = .ok (.iload_n 1, 1) := dk_27 (dk_at dksX3_part_0 0 rfl rfl)
theorem dX3_part_1 : decode cX3_part 1 = .ok (.iconst 1, 1) := dk_4 (dk_at dksX3_part_0 1 rfl rfl)
theorem dX3_part_2 : decode cX3_part 2 = .ok (.iadd, 1) := dk_96 (dk_at dksX3_part_0 2 rfl rfl)
theorem dX3_part_3 : decode cX3_part 3 = .ok (.istore_n 3, 1) := dk_62 (dk_at dksX3_part_0 3 rfl rfl)
theorem dX3_part_4 : decode cX3_part 4 = .ok (.iconst 0, 1) := dk_3 (dk_at dksX3_part_0 4 rfl rfl)
theorem dX3_part_5 : decode cX3_part 5 = .ok (.istore 4, 2) := dk_54 4 (dk_at dksX3_part_0 5 rfl rfl)
theorem dX3_part_7 : decode cX3_part 7 = .ok (.iload 4, 2) := dk_21 4 (dk_at dksX3_part_0 7 rfl rfl)
theorem dX3_part_9 : decode cX3_part 9 = .ok (.iload_n 2, 1) := dk_28 (dk_at dksX3_part_0 9 rfl rfl)
theorem dX3_part_10 : decode cX3_part 10 = .ok (.if_icmp .ge 30, 3) := dk_162 0 30 (dk_at dksX3_part_0 10 rfl rfl)
theorem dX3_part_13 : decode cX3_part 13 = .ok (.iload_n 3, 1) := dk_29 (dk_at dksX3_part_0 13 rfl rfl)
theorem dX3_part_14 : decode cX3_part 14 = .ok (.iload_n 1, 1) := dk_27 (dk_at dksX3_part_0 14 rfl rfl)
theorem dX3_part_15 : decode cX3_part 15 = .ok (.aload_n 0, 1) := dk_42 (dk_at dksX3_part_0 15 rfl rfl)
theorem dX3_part_16 : decode cX3_part 16 = .ok (.getfield 22, 3) := dk_180 0 22 (dk_at dksX3_part_0 16 rfl rfl)
theorem dX3_part_19 : decode cX3_part 19 = .ok (.iload_n 1, 1) := dk_27 (dk_at dksX3_part_0 19 rfl rfl)
theorem dX3_part_20 : decode cX3_part 20 = .ok (.iaload, 1) := dk_46 (dk_at dksX3_part_0 20 rfl rfl)
theorem dX3_part_21 : decode cX3_part 21 = .ok (.iadd, 1) := dk_96 (dk_at dksX3_part_0 21 rfl rfl)
theorem dX3_part_22 : decode cX3_part 22 = .ok (.if_icmp .ge 18, 3) := dk_162 0 18 (dk_at dksX3_part_1 0 rfl rfl)
theorem dX3_part_25 : decode cX3_part 25 = .ok (.iload_n 3, 1) := dk_29 (dk_at dksX3_part_1 3 rfl rfl)
theorem dX3_part_26 : decode cX3_part 26 = .ok (.aload_n 0, 1) := dk_42 (dk_at dksX3_part_1 4 rfl rfl)
theorem dX3_part_27 : decode cX3_part 27 = .ok (.getfield 22, 3) := dk_180 0 22 (dk_at dksX3_part_1 5 rfl rfl)
theorem dX3_part_30 : decode cX3_part 30 = .ok (.iload_n 3, 1) := dk_29 (dk_at dksX3_part_1 8 rfl rfl)
theorem dX3_part_31 : decode cX3_part 31 = .ok (.iaload, 1) := dk_46 (dk_at dksX3_part_1 9 rfl rfl)
theorem dX3_part_32 : decode cX3_part 32 = .ok (.iadd, 1) := dk_96 (dk_at dksX3_part_1 10 rfl rfl)
theorem dX3_part_33 : decode cX3_part 33 = .ok (.istore_n 3, 1) := dk_62 (dk_at dksX3_part_1 11 rfl rfl)
theorem dX3_part_34 : decode cX3_part 34 = .ok (.iinc 4 1, 3) := dk_132 4 1 (dk_at dksX3_part_1 12 rfl rfl)
theorem dX3_part_37 : decode cX3_part 37 = .ok (.goto (-30), 3) := dk_167 255 226 (dk_at dksX3_part_1 15 rfl rfl)
theorem dX3_part_40 : decode cX3_part 40 = .ok (.iload_n 2, 1) := dk_28 (dk_at dksX3_part_1 18 rfl rfl)
theorem dX3_part_41 : decode cX3_part 41 = .ok (.ifCond .lt 19, 3) := dk_155 0 19 (dk_at dksX3_part_1 19 rfl rfl)
theorem dX3_part_44 : decode cX3_part 44 = .ok (.iload_n 3, 1) := dk_29 (dk_at dksX3_part_1 22 rfl rfl)
theorem dX3_part_45 : decode cX3_part 45 = .ok (.iload_n 1, 1) := dk_27 (dk_at dksX3_part_1 23 rfl rfl)
theorem dX3_part_46 : decode cX3_part 46 = .ok (.aload_n 0, 1) := dk_42 (dk_at dksX3_part_2 0 rfl rfl)
theorem dX3_part_47 : decode cX3_part 47 = .ok (.getfield 22, 3) := dk_180 0 22 (dk_at dksX3_part_2 1 rfl rfl)
theorem dX3_part_50 : decode cX3_part 50 = .ok (.iload_n 1, 1) := dk_27 (dk_at dksX3_part_2 4 rfl rfl)
theorem dX3_part_51 : decode cX3_part 51 = .ok (.iaload, 1) := dk_46 (dk_at dksX3_part_2 5 rfl rfl)
theorem dX3_part_52 : decode cX3_part 52 = .ok (.iadd, 1) := dk_96 (dk_at dksX3_part_2 6 rfl rfl)
theorem dX3_part_53 : decode cX3_part 53 = .ok (.if_icmp .ge 7, 3) := dk_162 0 7 (dk_at dksX3_part_2 7 rfl rfl)
theorem dX3_part_56 : decode cX3_part 56 = .ok (.iload_n 3, 1) := dk_29 (dk_at dksX3_part_2 10 rfl rfl)
theorem dX3_part_57 : decode cX3_part 57 = .ok (.goto 4, 3) := dk_167 0 4 (dk_at dksX3_part_2 11 rfl rfl)
theorem dX3_part_60 : decode cX3_part 60 = .ok (.iconst (-1), 1) := dk_2 (dk_at dksX3_part_2 14 rfl rfl)
theorem dX3_part_61 : decode cX3_part 61 = .ok (.ireturn, 1) := dk_172 (dk_at dksX3_part_2 15 rfl rfl)
abbrev cX3_whole : ByteArray := prog_7_method_11_code
def yX3_whole : MethodName := ⟨RX3, "whole", "(I)I"⟩
def dkwX3_whole_1 : List UInt8 := [167, 255, 237, 28, 172]
abbrev dktX3_whole_1 : List UInt8 := dkwX3_whole_1 ++ []
def dkwX3_whole_0 : List UInt8 := [27, 4, 100, 61, 28, 155, 0, 21, 28, 42, 180, 0, 22, 28, 46, 96, 27, 163, 0, 9, 132, 2, 255]
abbrev dktX3_whole_0 : List UInt8 := dkwX3_whole_0 ++ dktX3_whole_1
theorem dksX3_whole_0 : cX3_whole.data.toList.drop 0 = dktX3_whole_0 := by decide +kernel
theorem dksX3_whole_1 : cX3_whole.data.toList.drop 23 = dktX3_whole_1 := dk_seg dksX3_whole_0 23 rfl rfl
theorem dX3_whole_0 : decode cX3_whole 0 = .ok (.iload_n 1, 1) := dk_27 (dk_at dksX3_whole_0 0 rfl rfl)
theorem dX3_whole_1 : decode cX3_whole 1 = .ok (.iconst 1, 1) := dk_4 (dk_at dksX3_whole_0 1 rfl rfl)
theorem dX3_whole_2 : decode cX3_whole 2 = .ok (.isub, 1) := dk_100 (dk_at dksX3_whole_0 2 rfl rfl)
theorem dX3_whole_3 : decode cX3_whole 3 = .ok (.istore_n 2, 1) := dk_61 (dk_at dksX3_whole_0 3 rfl rfl)
theorem dX3_whole_4 : decode cX3_whole 4 = .ok (.iload_n 2, 1) := dk_28 (dk_at dksX3_whole_0 4 rfl rfl)
theorem dX3_whole_5 : decode cX3_whole 5 = .ok (.ifCond .lt 21, 3) := dk_155 0 21 (dk_at dksX3_whole_0 5 rfl rfl)
theorem dX3_whole_8 : decode cX3_whole 8 = .ok (.iload_n 2, 1) := dk_28 (dk_at dksX3_whole_0 8 rfl rfl)
theorem dX3_whole_9 : decode cX3_whole 9 = .ok (.aload_n 0, 1) := dk_42 (dk_at dksX3_whole_0 9 rfl rfl)
theorem dX3_whole_10 : decode cX3_whole 10 = .ok (.getfield 22, 3) := dk_180 0 22 (dk_at dksX3_whole_0 10 rfl rfl)
theorem dX3_whole_13 : decode cX3_whole 13 = .ok (.iload_n 2, 1) := dk_28 (dk_at dksX3_whole_0 13 rfl rfl)
theorem dX3_whole_14 : decode cX3_whole 14 = .ok (.iaload, 1) := dk_46 (dk_at dksX3_whole_0 14 rfl rfl)
theorem dX3_whole_15 : decode cX3_whole 15 = .ok (.iadd, 1) := dk_96 (dk_at dksX3_whole_0 15 rfl rfl)
theorem dX3_whole_16 : decode cX3_whole 16 = .ok (.iload_n 1, 1) := dk_27 (dk_at dksX3_whole_0 16 rfl rfl)
theorem dX3_whole_17 : decode cX3_whole 17 = .ok (.if_icmp .gt 9, 3) := dk_163 0 9 (dk_at dksX3_whole_0 17 rfl rfl)
theorem dX3_whole_20 : decode cX3_whole 20 = .ok (.iinc 2 (-1), 3) := dk_132 2 255 (dk_at dksX3_whole_0 20 rfl rfl)
theorem dX3_whole_23 : decode cX3_whole 23 = .ok (.goto (-19), 3) := dk_167 255 237 (dk_at dksX3_whole_1 0 rfl rfl)
theorem dX3_whole_26 : decode cX3_whole 26 = .ok (.iload_n 2, 1) := dk_28 (dk_at dksX3_whole_1 3 rfl rfl)
theorem dX3_whole_27 : decode cX3_whole 27 = .ok (.ireturn, 1) := dk_172 (dk_at dksX3_whole_1 4 rfl rfl)
abbrev cX3_same : ByteArray := prog_7_method_12_code
def yX3_same : MethodName := ⟨RX3, "same", "(LProgramReader$Tree;)Z"⟩
def dkwX3_same_3 : List UInt8 := [29, 46, 160, 0, 7, 4, 167, 0, 4, 3, 61, 132, 3, 1, 167, 255, 190, 28, 172]
abbrev dktX3_same_3 : List UInt8 := dkwX3_same_3 ++ []
def dkwX3_same_2 : List UInt8 := [180, 0, 19, 29, 46, 43, 180, 0, 19, 29, 46, 160, 0, 22, 42, 180, 0, 22, 29, 46, 43, 180, 0, 22]
abbrev dktX3_same_2 : List UInt8 := dkwX3_same_2 ++ dktX3_same_3
def dkwX3_same_1 : List UInt8 := [162, 0, 64, 28, 153, 0, 60, 42, 180, 0, 9, 29, 51, 43, 180, 0, 9, 29, 51, 160, 0, 37, 42]
abbrev dktX3_same_1 : List UInt8 := dkwX3_same_1 ++ dktX3_same_2
def dkwX3_same_0 : List UInt8 := [42, 180, 0, 28, 43, 180, 0, 28, 160, 0, 7, 4, 167, 0, 4, 3, 61, 3, 62, 29, 42, 180, 0, 28]
abbrev dktX3_same_0 : List UInt8 := dkwX3_same_0 ++ dktX3_same_1
theorem dksX3_same_0 : cX3_same.data.toList.drop 0 = dktX3_same_0 := by decide +kernel
theorem dksX3_same_1 : cX3_same.data.toList.drop 24 = dktX3_same_1 := dk_seg dksX3_same_0 24 rfl rfl
theorem dksX3_same_2 : cX3_same.data.toList.drop 47 = dktX3_same_2 := dk_seg dksX3_same_1 23 rfl rfl
theorem dksX3_same_3 : cX3_same.data.toList.drop 71 = dktX3_same_3 := dk_seg dksX3_same_2 24 rfl rfl
theorem dX3_same_0 : decode cX3_same 0 = .ok (.aload_n 0, 1) := dk_42 (dk_at dksX3_same_0 0 rfl rfl)
theorem dX3_same_1 : decode cX3_same 1 = .ok (.getfield 28, 3) := dk_180 0 28 (dk_at dksX3_same_0 1 rfl rfl)
theorem dX3_same_4 : decode cX3_same 4 = .ok (.aload_n 1, 1) := dk_43 (dk_at dksX3_same_0 4 rfl rfl)
theorem dX3_same_5 : decode cX3_same 5 = .ok (.getfield 28, 3) := dk_180 0 28 (dk_at dksX3_same_0 5 rfl rfl)
theorem dX3_same_8 : decode cX3_same 8 = .ok (.if_icmp .ne 7, 3) := dk_160 0 7 (dk_at dksX3_same_0 8 rfl rfl)
theorem dX3_same_11 : decode cX3_same 11 = .ok (.iconst 1, 1) := dk_4 (dk_at dksX3_same_0 11 rfl rfl)
theorem dX3_same_12 : decode cX3_same 12 = .ok (.goto 4, 3) := dk_167 0 4 (dk_at dksX3_same_0 12 rfl rfl)
theorem dX3_same_15 : decode cX3_same 15 = .ok (.iconst 0, 1) := dk_3 (dk_at dksX3_same_0 15 rfl rfl)
theorem dX3_same_16 : decode cX3_same 16 = .ok (.istore_n 2, 1) := dk_61 (dk_at dksX3_same_0 16 rfl rfl)
theorem dX3_same_17 : decode cX3_same 17 = .ok (.iconst 0, 1) := dk_3 (dk_at dksX3_same_0 17 rfl rfl)
theorem dX3_same_18 : decode cX3_same 18 = .ok (.istore_n 3, 1) := dk_62 (dk_at dksX3_same_0 18 rfl rfl)
theorem dX3_same_19 : decode cX3_same 19 = .ok (.iload_n 3, 1) := dk_29 (dk_at dksX3_same_0 19 rfl rfl)
theorem dX3_same_20 : decode cX3_same 20 = .ok (.aload_n 0, 1) := dk_42 (dk_at dksX3_same_0 20 rfl rfl)
theorem dX3_same_21 : decode cX3_same 21 = .ok (.getfield 28, 3) := dk_180 0 28 (dk_at dksX3_same_0 21 rfl rfl)
theorem dX3_same_24 : decode cX3_same 24 = .ok (.if_icmp .ge 64, 3) := dk_162 0 64 (dk_at dksX3_same_1 0 rfl rfl)
theorem dX3_same_27 : decode cX3_same 27 = .ok (.iload_n 2, 1) := dk_28 (dk_at dksX3_same_1 3 rfl rfl)
theorem dX3_same_28 : decode cX3_same 28 = .ok (.ifCond .eq 60, 3) := dk_153 0 60 (dk_at dksX3_same_1 4 rfl rfl)
theorem dX3_same_31 : decode cX3_same 31 = .ok (.aload_n 0, 1) := dk_42 (dk_at dksX3_same_1 7 rfl rfl)
theorem dX3_same_32 : decode cX3_same 32 = .ok (.getfield 9, 3) := dk_180 0 9 (dk_at dksX3_same_1 8 rfl rfl)
theorem dX3_same_35 : decode cX3_same 35 = .ok (.iload_n 3, 1) := dk_29 (dk_at dksX3_same_1 11 rfl rfl)
theorem dX3_same_36 : decode cX3_same 36 = .ok (.baload, 1) := dk_51 (dk_at dksX3_same_1 12 rfl rfl)
theorem dX3_same_37 : decode cX3_same 37 = .ok (.aload_n 1, 1) := dk_43 (dk_at dksX3_same_1 13 rfl rfl)
theorem dX3_same_38 : decode cX3_same 38 = .ok (.getfield 9, 3) := dk_180 0 9 (dk_at dksX3_same_1 14 rfl rfl)
theorem dX3_same_41 : decode cX3_same 41 = .ok (.iload_n 3, 1) := dk_29 (dk_at dksX3_same_1 17 rfl rfl)
theorem dX3_same_42 : decode cX3_same 42 = .ok (.baload, 1) := dk_51 (dk_at dksX3_same_1 18 rfl rfl)
theorem dX3_same_43 : decode cX3_same 43 = .ok (.if_icmp .ne 37, 3) := dk_160 0 37 (dk_at dksX3_same_1 19 rfl rfl)
theorem dX3_same_46 : decode cX3_same 46 = .ok (.aload_n 0, 1) := dk_42 (dk_at dksX3_same_1 22 rfl rfl)
theorem dX3_same_47 : decode cX3_same 47 = .ok (.getfield 19, 3) := dk_180 0 19 (dk_at dksX3_same_2 0 rfl rfl)
theorem dX3_same_50 : decode cX3_same 50 = .ok (.iload_n 3, 1) := dk_29 (dk_at dksX3_same_2 3 rfl rfl)
theorem dX3_same_51 : decode cX3_same 51 = .ok (.iaload, 1) := dk_46 (dk_at dksX3_same_2 4 rfl rfl)
theorem dX3_same_52 : decode cX3_same 52 = .ok (.aload_n 1, 1) := dk_43 (dk_at dksX3_same_2 5 rfl rfl)
theorem dX3_same_53 : decode cX3_same 53 = .ok (.getfield 19, 3) := dk_180 0 19 (dk_at dksX3_same_2 6 rfl rfl)
theorem dX3_same_56 : decode cX3_same 56 = .ok (.iload_n 3, 1) := dk_29 (dk_at dksX3_same_2 9 rfl rfl)
theorem dX3_same_57 : decode cX3_same 57 = .ok (.iaload, 1) := dk_46 (dk_at dksX3_same_2 10 rfl rfl)
theorem dX3_same_58 : decode cX3_same 58 = .ok (.if_icmp .ne 22, 3) := dk_160 0 22 (dk_at dksX3_same_2 11 rfl rfl)
theorem dX3_same_61 : decode cX3_same 61 = .ok (.aload_n 0, 1) := dk_42 (dk_at dksX3_same_2 14 rfl rfl)
theorem dX3_same_62 : decode cX3_same 62 = .ok (.getfield 22, 3) := dk_180 0 22 (dk_at dksX3_same_2 15 rfl rfl)
theorem dX3_same_65 : decode cX3_same 65 = .ok (.iload_n 3, 1) := dk_29 (dk_at dksX3_same_2 18 rfl rfl)
theorem dX3_same_66 : decode cX3_same 66 = .ok (.iaload, 1) := dk_46 (dk_at dksX3_same_2 19 rfl rfl)
theorem dX3_same_67 : decode cX3_same 67 = .ok (.aload_n 1, 1) := dk_43 (dk_at dksX3_same_2 20 rfl rfl)
theorem dX3_same_68 : decode cX3_same 68 = .ok (.getfield 22, 3) := dk_180 0 22 (dk_at dksX3_same_2 21 rfl rfl)
theorem dX3_same_71 : decode cX3_same 71 = .ok (.iload_n 3, 1) := dk_29 (dk_at dksX3_same_3 0 rfl rfl)
theorem dX3_same_72 : decode cX3_same 72 = .ok (.iaload, 1) := dk_46 (dk_at dksX3_same_3 1 rfl rfl)
theorem dX3_same_73 : decode cX3_same 73 = .ok (.if_icmp .ne 7, 3) := dk_160 0 7 (dk_at dksX3_same_3 2 rfl rfl)
theorem dX3_same_76 : decode cX3_same 76 = .ok (.iconst 1, 1) := dk_4 (dk_at dksX3_same_3 5 rfl rfl)
theorem dX3_same_77 : decode cX3_same 77 = .ok (.goto 4, 3) := dk_167 0 4 (dk_at dksX3_same_3 6 rfl rfl)
theorem dX3_same_80 : decode cX3_same 80 = .ok (.iconst 0, 1) := dk_3 (dk_at dksX3_same_3 9 rfl rfl)
theorem dX3_same_81 : decode cX3_same 81 = .ok (.istore_n 2, 1) := dk_61 (dk_at dksX3_same_3 10 rfl rfl)
theorem dX3_same_82 : decode cX3_same 82 = .ok (.iinc 3 1, 3) := dk_132 3 1 (dk_at dksX3_same_3 11 rfl rfl)
theorem dX3_same_85 : decode cX3_same 85 = .ok (.goto (-66), 3) := dk_167 255 190 (dk_at dksX3_same_3 14 rfl rfl)
theorem dX3_same_88 : decode cX3_same 88 = .ok (.iload_n 2, 1) := dk_28 (dk_at dksX3_same_3 17 rfl rfl)
theorem dX3_same_89 : decode cX3_same 89 = .ok (.ireturn, 1) := dk_172 (dk_at dksX3_same_3 18 rfl rfl)
theorem q98 : (Jvm.Cond.initialized "ProgramReader$Tree") ∈ lw_all := lw_g (lw_at lw_m1 4 rfl) rfl
theorem q164 : (Jvm.Cond.instantiable "ProgramReader$Tree" (5 : Nat)) ∈ lw_all := lw_g (lw_at lw_m1 70 rfl) rfl
theorem q166 : (Jvm.Cond.instanceMethod ({ cls := "ProgramReader$Tree", name := "<init>", desc := "()V" } : Jvm.MethodName)) ∈ lw_all := lw_g (lw_at lw_m1 72 rfl) rfl
theorem q167 : (Jvm.Cond.code ({ cls := "ProgramReader$Tree", name := "<init>", desc := "()V" } : Jvm.MethodName) prog_7_method_1_code (1 : Nat) (Option.none : Option Jvm.ClassFile.FieldType)) ∈ lw_all := lw_g (lw_at lw_m1 73 rfl) rfl
theorem q168 : (Jvm.Cond.methodLink "ProgramReader$Tree" (3 : Nat) ({ cls := "java/lang/Object", name := "<init>", desc := "()V" } : Jvm.MethodName)) ∈ lw_all := lw_g (lw_at lw_m1 74 rfl) rfl
theorem q169 : (Jvm.Cond.methodLink "ProgramReader$Tree" (25 : Nat) ({ cls := "ProgramReader$Tree", name := "clear", desc := "()V" } : Jvm.MethodName)) ∈ lw_all := lw_g (lw_at lw_m1 75 rfl) rfl
theorem q170 : (Jvm.Cond.instanceMethod ({ cls := "ProgramReader$Tree", name := "clear", desc := "()V" } : Jvm.MethodName)) ∈ lw_all := lw_g (lw_at lw_m1 76 rfl) rfl
theorem q171 : (Jvm.Cond.selects "ProgramReader$Tree" ({ cls := "ProgramReader$Tree", name := "clear", desc := "()V" } : Jvm.MethodName) ({ cls := "ProgramReader$Tree", name := "clear", desc := "()V" } : Jvm.MethodName)) ∈ lw_all := lw_g (lw_at lw_m1 77 rfl) rfl
theorem q172 : (Jvm.Cond.code ({ cls := "ProgramReader$Tree", name := "clear", desc := "()V" } : Jvm.MethodName) prog_7_method_2_code (1 : Nat) (Option.none : Option Jvm.ClassFile.FieldType)) ∈ lw_all := lw_g (lw_at lw_m1 78 rfl) rfl
theorem q173 : (Jvm.Cond.methodLink "ProgramReader$Tree" (32 : Nat) ({ cls := "ProgramReader$Tree", name := "add", desc := "(III)I" } : Jvm.MethodName)) ∈ lw_all := lw_g (lw_at lw_m1 79 rfl) rfl
theorem q174 : (Jvm.Cond.instanceMethod ({ cls := "ProgramReader$Tree", name := "add", desc := "(III)I" } : Jvm.MethodName)) ∈ lw_all := lw_g (lw_at lw_m1 80 rfl) rfl
theorem q175 : (Jvm.Cond.selects "ProgramReader$Tree" ({ cls := "ProgramReader$Tree", name := "add", desc := "(III)I" } : Jvm.MethodName) ({ cls := "ProgramReader$Tree", name := "add", desc := "(III)I" } : Jvm.MethodName)) ∈ lw_all := lw_g (lw_at lw_m1 81 rfl) rfl
theorem q176 : (Jvm.Cond.code ({ cls := "ProgramReader$Tree", name := "add", desc := "(III)I" } : Jvm.MethodName) prog_7_method_4_code (4 : Nat) (Option.some Jvm.ClassFile.FieldType.int)) ∈ lw_all := lw_g (lw_at lw_m1 82 rfl) rfl
theorem q177 : (Jvm.Cond.methodLink "ProgramReader$Tree" (46 : Nat) ({ cls := "ProgramReader$Tree", name := "room", desc := "(I)V" } : Jvm.MethodName)) ∈ lw_all := lw_g (lw_at lw_m1 83 rfl) rfl
theorem q178 : (Jvm.Cond.privateMethod ({ cls := "ProgramReader$Tree", name := "room", desc := "(I)V" } : Jvm.MethodName)) ∈ lw_tbl := lw_at lw_m1 84 rfl
theorem q179 : (Jvm.Cond.instanceMethod ({ cls := "ProgramReader$Tree", name := "room", desc := "(I)V" } : Jvm.MethodName)) ∈ lw_all := lw_g (lw_at lw_m1 85 rfl) rfl
theorem q180 : (Jvm.Cond.code ({ cls := "ProgramReader$Tree", name := "room", desc := "(I)V" } : Jvm.MethodName) prog_7_method_3_code (3 : Nat) (Option.none : Option Jvm.ClassFile.FieldType)) ∈ lw_all := lw_g (lw_at lw_m1 86 rfl) rfl
theorem q181 : (Jvm.Cond.methodLink "ProgramReader$Tree" (36 : Nat) ({ cls := "java/lang/System", name := "arraycopy", desc := "(Ljava/lang/Object;ILjava/lang/Object;II)V" } : Jvm.MethodName)) ∈ lw_all := lw_g (lw_at lw_m1 87 rfl) rfl
theorem q184 : (Jvm.Cond.methodLinkNest "ProgramReader$Tree" (42 : Nat) ({ cls := "ProgramReader", name := "grown", desc := "([II)[I" } : Jvm.MethodName) "ProgramReader") ∈ lw_tbl := lw_at lw_m1 90 rfl
theorem q188 : (Jvm.Cond.methodLink "ProgramReader$Tree" (50 : Nat) ({ cls := "ProgramReader$Tree", name := "set", desc := "(IIII)V" } : Jvm.MethodName)) ∈ lw_all := lw_g (lw_at lw_m1 94 rfl) rfl
theorem q189 : (Jvm.Cond.privateMethod ({ cls := "ProgramReader$Tree", name := "set", desc := "(IIII)V" } : Jvm.MethodName)) ∈ lw_tbl := lw_at lw_m1 95 rfl
theorem q190 : (Jvm.Cond.instanceMethod ({ cls := "ProgramReader$Tree", name := "set", desc := "(IIII)V" } : Jvm.MethodName)) ∈ lw_all := lw_g (lw_at lw_m1 96 rfl) rfl
theorem q191 : (Jvm.Cond.code ({ cls := "ProgramReader$Tree", name := "set", desc := "(IIII)V" } : Jvm.MethodName) prog_7_method_5_code (5 : Nat) (Option.none : Option Jvm.ClassFile.FieldType)) ∈ lw_all := lw_g (lw_at lw_m1 97 rfl) rfl
theorem q192 : (Jvm.Cond.fieldLink "ProgramReader$Tree" (9 : Nat) "ProgramReader$Tree" "kinds" "[B") ∈ lw_all := lw_g (lw_at lw_m1 98 rfl) rfl
theorem q196 : (Jvm.Cond.fieldLink "ProgramReader$Tree" (15 : Nat) "ProgramReader$Tree" "places" "[I") ∈ lw_all := lw_g (lw_at lw_m1 102 rfl) rfl
theorem q199 : (Jvm.Cond.fieldLink "ProgramReader$Tree" (19 : Nat) "ProgramReader$Tree" "values" "[I") ∈ lw_all := lw_g (lw_at lw_m1 105 rfl) rfl
theorem q202 : (Jvm.Cond.fieldLink "ProgramReader$Tree" (22 : Nat) "ProgramReader$Tree" "sizes" "[I") ∈ lw_all := lw_g (lw_at lw_m1 108 rfl) rfl
theorem q205 : (Jvm.Cond.fieldLink "ProgramReader$Tree" (28 : Nat) "ProgramReader$Tree" "count" "I") ∈ lw_all := lw_g (lw_at lw_m1 111 rfl) rfl
theorem q208 : (Jvm.Cond.lays "ProgramReader$Tree" "ProgramReader$Tree" "kinds" "[B") ∈ lw_all := lw_g (lw_at lw_m1 114 rfl) rfl
theorem q209 : (Jvm.Cond.soleField "ProgramReader$Tree" "kinds") ∈ lw_all := lw_g (lw_at lw_m1 115 rfl) rfl
theorem q210 : (Jvm.Cond.lays "ProgramReader$Tree" "ProgramReader$Tree" "places" "[I") ∈ lw_all := lw_g (lw_at lw_m1 116 rfl) rfl
theorem q211 : (Jvm.Cond.soleField "ProgramReader$Tree" "places") ∈ lw_all := lw_g (lw_at lw_m1 117 rfl) rfl
theorem q212 : (Jvm.Cond.lays "ProgramReader$Tree" "ProgramReader$Tree" "values" "[I") ∈ lw_all := lw_g (lw_at lw_m1 118 rfl) rfl
theorem q213 : (Jvm.Cond.soleField "ProgramReader$Tree" "values") ∈ lw_all := lw_g (lw_at lw_m1 119 rfl) rfl
theorem q214 : (Jvm.Cond.lays "ProgramReader$Tree" "ProgramReader$Tree" "sizes" "[I") ∈ lw_all := lw_g (lw_at lw_m1 120 rfl) rfl
theorem q215 : (Jvm.Cond.soleField "ProgramReader$Tree" "sizes") ∈ lw_all := lw_g (lw_at lw_m1 121 rfl) rfl
theorem q216 : (Jvm.Cond.lays "ProgramReader$Tree" "ProgramReader$Tree" "count" "I") ∈ lw_all := lw_g (lw_at lw_m1 122 rfl) rfl
theorem q217 : (Jvm.Cond.soleField "ProgramReader$Tree" "count") ∈ lw_all := lw_g (lw_at lw_m1 123 rfl) rfl
theorem q218 : (Jvm.Cond.superclass "ProgramReader$Tree" "java/lang/Object") ∈ lw_all := lw_g (lw_at lw_m1 124 rfl) rfl
theorem q307 : (Jvm.Cond.instanceMethod ({ cls := "ProgramReader$Tree", name := "end", desc := "(I)V" } : Jvm.MethodName)) ∈ lw_all := lw_g (lw_at lw_m1 213 rfl) rfl
theorem q308 : (Jvm.Cond.selects "ProgramReader$Tree" ({ cls := "ProgramReader$Tree", name := "end", desc := "(I)V" } : Jvm.MethodName) ({ cls := "ProgramReader$Tree", name := "end", desc := "(I)V" } : Jvm.MethodName)) ∈ lw_all := lw_g (lw_at lw_m1 214 rfl) rfl
theorem q309 : (Jvm.Cond.code ({ cls := "ProgramReader$Tree", name := "end", desc := "(I)V" } : Jvm.MethodName) prog_7_method_7_code (2 : Nat) (Option.none : Option Jvm.ClassFile.FieldType)) ∈ lw_all := lw_g (lw_at lw_m1 215 rfl) rfl
theorem q637 : (Jvm.Cond.instanceMethod ({ cls := "ProgramReader$Tree", name := "insert", desc := "(IIII)V" } : Jvm.MethodName)) ∈ lw_all := lw_g (lw_at lw_m3 63 rfl) rfl
theorem q638 : (Jvm.Cond.selects "ProgramReader$Tree" ({ cls := "ProgramReader$Tree", name := "insert", desc := "(IIII)V" } : Jvm.MethodName) ({ cls := "ProgramReader$Tree", name := "insert", desc := "(IIII)V" } : Jvm.MethodName)) ∈ lw_all := lw_g (lw_at lw_m3 64 rfl) rfl
theorem q639 : (Jvm.Cond.code ({ cls := "ProgramReader$Tree", name := "insert", desc := "(IIII)V" } : Jvm.MethodName) prog_7_method_6_code (7 : Nat) (Option.none : Option Jvm.ClassFile.FieldType)) ∈ lw_all := lw_g (lw_at lw_m3 65 rfl) rfl
theorem q716 : (Jvm.Cond.instanceMethod ({ cls := "ProgramReader$Tree", name := "has", desc := "(I)Z" } : Jvm.MethodName)) ∈ lw_all := lw_g (lw_at lw_m3 142 rfl) rfl
theorem q717 : (Jvm.Cond.selects "ProgramReader$Tree" ({ cls := "ProgramReader$Tree", name := "has", desc := "(I)Z" } : Jvm.MethodName) ({ cls := "ProgramReader$Tree", name := "has", desc := "(I)Z" } : Jvm.MethodName)) ∈ lw_all := lw_g (lw_at lw_m3 143 rfl) rfl
theorem q718 : (Jvm.Cond.code ({ cls := "ProgramReader$Tree", name := "has", desc := "(I)Z" } : Jvm.MethodName) prog_7_method_8_code (2 : Nat) (Option.some Jvm.ClassFile.FieldType.boolean)) ∈ lw_all := lw_g (lw_at lw_m3 144 rfl) rfl
theorem q720 : (Jvm.Cond.instanceMethod ({ cls := "ProgramReader$Tree", name := "parts", desc := "(I)I" } : Jvm.MethodName)) ∈ lw_all := lw_g (lw_at lw_m3 146 rfl) rfl
theorem q721 : (Jvm.Cond.selects "ProgramReader$Tree" ({ cls := "ProgramReader$Tree", name := "parts", desc := "(I)I" } : Jvm.MethodName) ({ cls := "ProgramReader$Tree", name := "parts", desc := "(I)I" } : Jvm.MethodName)) ∈ lw_all := lw_g (lw_at lw_m3 147 rfl) rfl
theorem q722 : (Jvm.Cond.code ({ cls := "ProgramReader$Tree", name := "parts", desc := "(I)I" } : Jvm.MethodName) prog_7_method_9_code (4 : Nat) (Option.some Jvm.ClassFile.FieldType.int)) ∈ lw_all := lw_g (lw_at lw_m3 148 rfl) rfl
theorem q728 : (Jvm.Cond.instanceMethod ({ cls := "ProgramReader$Tree", name := "part", desc := "(II)I" } : Jvm.MethodName)) ∈ lw_all := lw_g (lw_at lw_m3 154 rfl) rfl
theorem q729 : (Jvm.Cond.selects "ProgramReader$Tree" ({ cls := "ProgramReader$Tree", name := "part", desc := "(II)I" } : Jvm.MethodName) ({ cls := "ProgramReader$Tree", name := "part", desc := "(II)I" } : Jvm.MethodName)) ∈ lw_all := lw_g (lw_at lw_m3 155 rfl) rfl
theorem q730 : (Jvm.Cond.code ({ cls := "ProgramReader$Tree", name := "part", desc := "(II)I" } : Jvm.MethodName) prog_7_method_10_code (5 : Nat) (Option.some Jvm.ClassFile.FieldType.int)) ∈ lw_all := lw_g (lw_at lw_m3 156 rfl) rfl
theorem q736 : (Jvm.Cond.instanceMethod ({ cls := "ProgramReader$Tree", name := "whole", desc := "(I)I" } : Jvm.MethodName)) ∈ lw_all := lw_g (lw_at lw_m3 162 rfl) rfl
theorem q737 : (Jvm.Cond.selects "ProgramReader$Tree" ({ cls := "ProgramReader$Tree", name := "whole", desc := "(I)I" } : Jvm.MethodName) ({ cls := "ProgramReader$Tree", name := "whole", desc := "(I)I" } : Jvm.MethodName)) ∈ lw_all := lw_g (lw_at lw_m3 163 rfl) rfl
theorem q738 : (Jvm.Cond.code ({ cls := "ProgramReader$Tree", name := "whole", desc := "(I)I" } : Jvm.MethodName) prog_7_method_11_code (3 : Nat) (Option.some Jvm.ClassFile.FieldType.int)) ∈ lw_all := lw_g (lw_at lw_m3 164 rfl) rfl
theorem q886 : (Jvm.Cond.instanceMethod ({ cls := "ProgramReader$Tree", name := "same", desc := "(LProgramReader$Tree;)Z" } : Jvm.MethodName)) ∈ lw_all := lw_g (lw_at lw_m4 72 rfl) rfl
theorem q887 : (Jvm.Cond.selects "ProgramReader$Tree" ({ cls := "ProgramReader$Tree", name := "same", desc := "(LProgramReader$Tree;)Z" } : Jvm.MethodName) ({ cls := "ProgramReader$Tree", name := "same", desc := "(LProgramReader$Tree;)Z" } : Jvm.MethodName)) ∈ lw_all := lw_g (lw_at lw_m4 73 rfl) rfl
theorem q888 : (Jvm.Cond.code ({ cls := "ProgramReader$Tree", name := "same", desc := "(LProgramReader$Tree;)Z" } : Jvm.MethodName) prog_7_method_12_code (4 : Nat) (Option.some Jvm.ClassFile.FieldType.boolean)) ∈ lw_all := lw_g (lw_at lw_m4 74 rfl) rfl
theorem in_X3 : ∀ w ∈ wsX30, w ∈ lw_all := lw_in wsX30 [208, 210, 212, 214, 216] (by decide +kernel) (by decide +kernel)

/-! ProgramReader$Token -/
set_option maxRecDepth 100000
def RX6 : String := "ProgramReader$Token"
abbrev cX6_values : ByteArray := prog_5_method_1_code
def yX6_values : MethodName := ⟨RX6, "values", "()[LProgramReader$Token;"⟩
def dkwX6_values_0 : List UInt8 := [178, 0, 109, 182, 0, 113, 192, 0, 114, 176]
abbrev dktX6_values_0 : List UInt8 := dkwX6_values_0 ++ []
theorem dksX6_values_0 : cX6_values.data.toList.drop 0 = dktX6_values_0 := by decide +kernel
theorem dX6_values_0 : decode cX6_values 0 = .ok (.getstatic 109, 3) := dk_178 0 109 (dk_at dksX6_values_0 0 rfl rfl)
theorem dX6_values_3 : decode cX6_values 3 = .ok (.invokevirtual 113, 3) := dk_182 0 113 (dk_at dksX6_values_0 3 rfl rfl)
theorem dX6_values_6 : decode cX6_values 6 = .ok (.checkcast 114, 3) := dk_192 0 114 (dk_at dksX6_values_0 6 rfl rfl)
theorem dX6_values_9 : decode cX6_values 9 = .ok (.areturn, 1) := dk_176 (dk_at dksX6_values_0 9 rfl rfl)
theorem q103 : (Jvm.Cond.initialized "ProgramReader$Token") ∈ lw_all := lw_g (lw_at lw_m1 9 rfl) rfl
theorem q232 : (Jvm.Cond.static ({ cls := "ProgramReader$Token", name := "values", desc := "()[LProgramReader$Token;" } : Jvm.MethodName)) ∈ lw_all := lw_g (lw_at lw_m1 138 rfl) rfl
theorem q233 : (Jvm.Cond.code ({ cls := "ProgramReader$Token", name := "values", desc := "()[LProgramReader$Token;" } : Jvm.MethodName) prog_5_method_1_code (0 : Nat) (Option.some (Jvm.ClassFile.FieldType.array (Jvm.ClassFile.FieldType.object "ProgramReader$Token")))) ∈ lw_all := lw_g (lw_at lw_m1 139 rfl) rfl
theorem q234 : (Jvm.Cond.fieldLink "ProgramReader$Token" (109 : Nat) "ProgramReader$Token" "$VALUES" "[LProgramReader$Token;") ∈ lw_all := lw_g (lw_at lw_m1 140 rfl) rfl
theorem q235 : (Jvm.Cond.laysStatic "ProgramReader$Token" "$VALUES" "[LProgramReader$Token;") ∈ lw_tbl := lw_at lw_m1 141 rfl
theorem q236 : (Jvm.Cond.methodLink "ProgramReader$Token" (113 : Nat) ({ cls := "[LProgramReader$Token;", name := "clone", desc := "()Ljava/lang/Object;" } : Jvm.MethodName)) ∈ lw_all := lw_g (lw_at lw_m1 142 rfl) rfl
theorem q243 : (Jvm.Cond.classLink "ProgramReader$Token" (114 : Nat) "[LProgramReader$Token;") ∈ lw_all := lw_g (lw_at lw_m1 149 rfl) rfl
theorem q386 : (Jvm.Cond.laysStatic "ProgramReader$Token" "END" "LProgramReader$Token;") ∈ lw_tbl := lw_at lw_m2 52 rfl
theorem q394 : (Jvm.Cond.laysStatic "ProgramReader$Token" "FUN" "LProgramReader$Token;") ∈ lw_tbl := lw_at lw_m2 60 rfl
theorem q400 : (Jvm.Cond.sameMethod "ProgramReader$Token" "java/lang/Enum" "ordinal" "()I") ∈ lw_all := lw_g (lw_at lw_m2 66 rfl) rfl
theorem q402 : (Jvm.Cond.selects "ProgramReader$Token" ({ cls := "ProgramReader$Token", name := "ordinal", desc := "()I" } : Jvm.MethodName) ({ cls := "java/lang/Enum", name := "ordinal", desc := "()I" } : Jvm.MethodName)) ∈ lw_all := lw_g (lw_at lw_m2 68 rfl) rfl
theorem q454 : (Jvm.Cond.laysStatic "ProgramReader$Token" "WRONG" "LProgramReader$Token;") ∈ lw_tbl := lw_at lw_m2 120 rfl
theorem q456 : (Jvm.Cond.laysStatic "ProgramReader$Token" "NAME" "LProgramReader$Token;") ∈ lw_tbl := lw_at lw_m2 122 rfl
theorem q466 : (Jvm.Cond.laysStatic "ProgramReader$Token" "NUMBER" "LProgramReader$Token;") ∈ lw_tbl := lw_at lw_m2 132 rfl
theorem q468 : (Jvm.Cond.laysStatic "ProgramReader$Token" "OPEN" "LProgramReader$Token;") ∈ lw_tbl := lw_at lw_m2 134 rfl
theorem q585 : (Jvm.Cond.laysStatic "ProgramReader$Token" "CLOSE" "LProgramReader$Token;") ∈ lw_tbl := lw_at lw_m3 11 rfl
theorem q587 : (Jvm.Cond.laysStatic "ProgramReader$Token" "COMMA" "LProgramReader$Token;") ∈ lw_tbl := lw_at lw_m3 13 rfl
theorem q601 : (Jvm.Cond.laysStatic "ProgramReader$Token" "BEGIN" "LProgramReader$Token;") ∈ lw_tbl := lw_at lw_m3 27 rfl
theorem q603 : (Jvm.Cond.laysStatic "ProgramReader$Token" "FINISH" "LProgramReader$Token;") ∈ lw_tbl := lw_at lw_m3 29 rfl
theorem q614 : (Jvm.Cond.laysStatic "ProgramReader$Token" "FROM" "LProgramReader$Token;") ∈ lw_tbl := lw_at lw_m3 40 rfl
theorem q621 : (Jvm.Cond.laysStatic "ProgramReader$Token" "TO" "LProgramReader$Token;") ∈ lw_tbl := lw_at lw_m3 47 rfl
theorem q623 : (Jvm.Cond.laysStatic "ProgramReader$Token" "BECOMES" "LProgramReader$Token;") ∈ lw_tbl := lw_at lw_m3 49 rfl
theorem q645 : (Jvm.Cond.laysStatic "ProgramReader$Token" "MINUS" "LProgramReader$Token;") ∈ lw_tbl := lw_at lw_m3 71 rfl
theorem q651 : (Jvm.Cond.laysStatic "ProgramReader$Token" "TIMES" "LProgramReader$Token;") ∈ lw_tbl := lw_at lw_m3 77 rfl
theorem q653 : (Jvm.Cond.laysStatic "ProgramReader$Token" "OVER" "LProgramReader$Token;") ∈ lw_tbl := lw_at lw_m3 79 rfl
theorem q655 : (Jvm.Cond.laysStatic "ProgramReader$Token" "REST" "LProgramReader$Token;") ∈ lw_tbl := lw_at lw_m3 81 rfl
theorem q657 : (Jvm.Cond.laysStatic "ProgramReader$Token" "PLUS" "LProgramReader$Token;") ∈ lw_tbl := lw_at lw_m3 83 rfl
theorem q659 : (Jvm.Cond.laysStatic "ProgramReader$Token" "STOP" "LProgramReader$Token;") ∈ lw_tbl := lw_at lw_m3 85 rfl
theorem q681 : (Jvm.Cond.laysStatic "ProgramReader$Token" "EITHER" "LProgramReader$Token;") ∈ lw_tbl := lw_at lw_m3 107 rfl
theorem q687 : (Jvm.Cond.laysStatic "ProgramReader$Token" "BOTH" "LProgramReader$Token;") ∈ lw_tbl := lw_at lw_m3 113 rfl
theorem q693 : (Jvm.Cond.laysStatic "ProgramReader$Token" "NOT" "LProgramReader$Token;") ∈ lw_tbl := lw_at lw_m3 119 rfl
theorem q695 : (Jvm.Cond.laysStatic "ProgramReader$Token" "LESS" "LProgramReader$Token;") ∈ lw_tbl := lw_at lw_m3 121 rfl
theorem q697 : (Jvm.Cond.laysStatic "ProgramReader$Token" "ELSE" "LProgramReader$Token;") ∈ lw_tbl := lw_at lw_m3 123 rfl
theorem q1264 : (Jvm.Cond.laysStatic "ProgramReader$Token" "MOST" "LProgramReader$Token;") ∈ lw_tbl := lw_at lw_m5 210 rfl
theorem q1265 : (Jvm.Cond.laysStatic "ProgramReader$Token" "MORE" "LProgramReader$Token;") ∈ lw_tbl := lw_at lw_m5 211 rfl
theorem q1266 : (Jvm.Cond.laysStatic "ProgramReader$Token" "LEAST" "LProgramReader$Token;") ∈ lw_tbl := lw_at lw_m5 212 rfl
theorem q1267 : (Jvm.Cond.laysStatic "ProgramReader$Token" "SAME" "LProgramReader$Token;") ∈ lw_tbl := lw_at lw_m5 213 rfl
theorem q1268 : (Jvm.Cond.laysStatic "ProgramReader$Token" "OTHER" "LProgramReader$Token;") ∈ lw_tbl := lw_at lw_m5 214 rfl
theorem q1269 : (Jvm.Cond.laysStatic "ProgramReader$Token" "VAR" "LProgramReader$Token;") ∈ lw_tbl := lw_at lw_m5 215 rfl
theorem q1270 : (Jvm.Cond.laysStatic "ProgramReader$Token" "IF" "LProgramReader$Token;") ∈ lw_tbl := lw_at lw_m5 216 rfl
theorem q1271 : (Jvm.Cond.laysStatic "ProgramReader$Token" "WHILE" "LProgramReader$Token;") ∈ lw_tbl := lw_at lw_m5 217 rfl
theorem q1272 : (Jvm.Cond.laysStatic "ProgramReader$Token" "ASSERT" "LProgramReader$Token;") ∈ lw_tbl := lw_at lw_m5 218 rfl
theorem q1273 : (Jvm.Cond.laysStatic "ProgramReader$Token" "RETURN" "LProgramReader$Token;") ∈ lw_tbl := lw_at lw_m5 219 rfl
theorem q1274 : (Jvm.Cond.laysStatic "ProgramReader$Token" "ANY" "LProgramReader$Token;") ∈ lw_tbl := lw_at lw_m5 220 rfl
theorem q1275 : (Jvm.Cond.stringRef "ProgramReader$Token" (128 : Nat) "") ∈ lw_tbl := lw_at lw_m5 221 rfl
theorem q1276 : (Jvm.Cond.stringRef "ProgramReader$Token" (212 : Nat) "fun") ∈ lw_tbl := lw_at lw_m5 222 rfl
theorem q1277 : (Jvm.Cond.stringRef "ProgramReader$Token" (140 : Nat) "(") ∈ lw_tbl := lw_at lw_m5 223 rfl
theorem q1278 : (Jvm.Cond.stringRef "ProgramReader$Token" (146 : Nat) ")") ∈ lw_tbl := lw_at lw_m5 224 rfl
theorem q1279 : (Jvm.Cond.stringRef "ProgramReader$Token" (161 : Nat) ",") ∈ lw_tbl := lw_at lw_m5 225 rfl
theorem q1280 : (Jvm.Cond.stringRef "ProgramReader$Token" (149 : Nat) "{") ∈ lw_tbl := lw_at lw_m5 226 rfl
theorem q1281 : (Jvm.Cond.stringRef "ProgramReader$Token" (152 : Nat) "}") ∈ lw_tbl := lw_at lw_m5 227 rfl
theorem q1282 : (Jvm.Cond.stringRef "ProgramReader$Token" (155 : Nat) "[") ∈ lw_tbl := lw_at lw_m5 228 rfl
theorem q1283 : (Jvm.Cond.stringRef "ProgramReader$Token" (158 : Nat) "]") ∈ lw_tbl := lw_at lw_m5 229 rfl
theorem q1284 : (Jvm.Cond.stringRef "ProgramReader$Token" (167 : Nat) "=") ∈ lw_tbl := lw_at lw_m5 230 rfl
theorem q1285 : (Jvm.Cond.stringRef "ProgramReader$Token" (173 : Nat) "-") ∈ lw_tbl := lw_at lw_m5 231 rfl
theorem q1286 : (Jvm.Cond.stringRef "ProgramReader$Token" (176 : Nat) "*") ∈ lw_tbl := lw_at lw_m5 232 rfl
theorem q1287 : (Jvm.Cond.stringRef "ProgramReader$Token" (179 : Nat) "/") ∈ lw_tbl := lw_at lw_m5 233 rfl
theorem q1288 : (Jvm.Cond.stringRef "ProgramReader$Token" (182 : Nat) "%") ∈ lw_tbl := lw_at lw_m5 234 rfl
theorem q1289 : (Jvm.Cond.stringRef "ProgramReader$Token" (170 : Nat) "+") ∈ lw_tbl := lw_at lw_m5 235 rfl
theorem q1290 : (Jvm.Cond.stringRef "ProgramReader$Token" (164 : Nat) ";") ∈ lw_tbl := lw_at lw_m5 236 rfl
theorem q1291 : (Jvm.Cond.stringRef "ProgramReader$Token" (206 : Nat) "||") ∈ lw_tbl := lw_at lw_m5 237 rfl
theorem q1292 : (Jvm.Cond.stringRef "ProgramReader$Token" (203 : Nat) "&&") ∈ lw_tbl := lw_at lw_m5 238 rfl
theorem q1293 : (Jvm.Cond.stringRef "ProgramReader$Token" (209 : Nat) "!") ∈ lw_tbl := lw_at lw_m5 239 rfl
theorem q1294 : (Jvm.Cond.stringRef "ProgramReader$Token" (185 : Nat) "<") ∈ lw_tbl := lw_at lw_m6 0 rfl
theorem q1295 : (Jvm.Cond.stringRef "ProgramReader$Token" (221 : Nat) "else") ∈ lw_tbl := lw_at lw_m6 1 rfl
theorem q1296 : (Jvm.Cond.stringRef "ProgramReader$Token" (188 : Nat) "<=") ∈ lw_tbl := lw_at lw_m6 2 rfl
theorem q1297 : (Jvm.Cond.stringRef "ProgramReader$Token" (191 : Nat) ">") ∈ lw_tbl := lw_at lw_m6 3 rfl
theorem q1298 : (Jvm.Cond.stringRef "ProgramReader$Token" (194 : Nat) ">=") ∈ lw_tbl := lw_at lw_m6 4 rfl
theorem q1299 : (Jvm.Cond.stringRef "ProgramReader$Token" (197 : Nat) "==") ∈ lw_tbl := lw_at lw_m6 5 rfl
theorem q1300 : (Jvm.Cond.stringRef "ProgramReader$Token" (200 : Nat) "!=") ∈ lw_tbl := lw_at lw_m6 6 rfl
theorem q1301 : (Jvm.Cond.stringRef "ProgramReader$Token" (215 : Nat) "var") ∈ lw_tbl := lw_at lw_m6 7 rfl
theorem q1302 : (Jvm.Cond.stringRef "ProgramReader$Token" (218 : Nat) "if") ∈ lw_tbl := lw_at lw_m6 8 rfl
theorem q1303 : (Jvm.Cond.stringRef "ProgramReader$Token" (224 : Nat) "while") ∈ lw_tbl := lw_at lw_m6 9 rfl
theorem q1304 : (Jvm.Cond.stringRef "ProgramReader$Token" (227 : Nat) "assert") ∈ lw_tbl := lw_at lw_m6 10 rfl
theorem q1305 : (Jvm.Cond.stringRef "ProgramReader$Token" (230 : Nat) "return") ∈ lw_tbl := lw_at lw_m6 11 rfl
theorem q1306 : (Jvm.Cond.stringRef "ProgramReader$Token" (233 : Nat) "any") ∈ lw_tbl := lw_at lw_m6 12 rfl
