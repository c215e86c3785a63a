/-! ProgramReaderModel -/
set_option maxRecDepth 100000
def RX8 : String := "ProgramReaderModel"
def TX8 : u_T := fun k => match k with
  | 0 => ("ProgramReaderModel", "words", "[Ljava/lang/String;", true)
  | 1 => ("ProgramReaderModel", "bytes", "[I", true)
  | 2 => ("ProgramReaderModel", "size", "I", false)
  | 3 => ("ProgramReaderModel", "end", "I", false)
  | 4 => ("ProgramReaderModel", "written", "[I", true)
  | 5 => ("ProgramReaderModel", "writtenSize", "I", false)
  | 6 => ("ProgramReaderModel", "out", "[I", true)
  | 7 => ("ProgramReaderModel", "outSize", "I", false)
  | 8 => ("ProgramReaderModel", "token", "[I", true)
  | 9 => ("ProgramReaderModel", "place", "[I", true)
  | 10 => ("ProgramReaderModel", "length", "[I", true)
  | 11 => ("ProgramReaderModel", "tokens", "I", false)
  | 12 => ("ProgramReaderModel", "at", "I", false)
  | 13 => ("ProgramReaderModel", "bad", "Z", false)
  | 14 => ("ProgramReaderModel", "fault", "I", false)
  | 15 => ("ProgramReaderModel", "kindOf", "[I", true)
  | 16 => ("ProgramReaderModel", "placeOf", "[I", true)
  | 17 => ("ProgramReaderModel", "valueOf", "[I", true)
  | 18 => ("ProgramReaderModel", "firstOf", "[I", true)
  | 19 => ("ProgramReaderModel", "lastOf", "[I", true)
  | 20 => ("ProgramReaderModel", "nextOf", "[I", true)
  | 21 => ("ProgramReaderModel", "drafts", "I", false)
  | 22 => ("ProgramReaderModel", "pile", "[I", true)
  | 23 => ("ProgramReaderModel", "kind", "[I", true)
  | 24 => ("ProgramReaderModel", "where", "[I", true)
  | 25 => ("ProgramReaderModel", "value", "[I", true)
  | 26 => ("ProgramReaderModel", "whole", "[I", true)
  | 27 => ("ProgramReaderModel", "sizes", "[I", true)
  | 28 => ("ProgramReaderModel", "count", "[I", true)
  | 29 => ("ProgramReaderModel", "letters", "[I", true)
  | 30 => ("ProgramReaderModel", "starts", "[I", true)
  | _ => ("ProgramReaderModel", "names", "I", false)
def tyX8 : Nat → FieldType := fun k => match k with
  | 0 => .array (.object "java/lang/String")
  | 1 => .array .int
  | 2 => .int
  | 3 => .int
  | 4 => .array .int
  | 5 => .int
  | 6 => .array .int
  | 7 => .int
  | 8 => .array .int
  | 9 => .array .int
  | 10 => .array .int
  | 11 => .int
  | 12 => .int
  | 13 => .boolean
  | 14 => .int
  | 15 => .array .int
  | 16 => .array .int
  | 17 => .array .int
  | 18 => .array .int
  | 19 => .array .int
  | 20 => .array .int
  | 21 => .int
  | 22 => .array .int
  | 23 => .array .int
  | 24 => .array .int
  | 25 => .array .int
  | 26 => .array .int
  | 27 => .array .int
  | 28 => .array .int
  | 29 => .array .int
  | 30 => .array .int
  | _ => .int
abbrev wsX80 : List Cond := u_ws RX8 TX8 32
set_option maxRecDepth 100000 in
theorem nmX8 : ∀ a, a < 32 → ∀ b, b < 32 → a ≠ b → (TX8 a).2.1 ≠ (TX8 b).2.1 := by decide +kernel
set_option maxRecDepth 100000 in
theorem tyX8_ok : ∀ k, k < 32 → parseFieldDescriptor (TX8 k).2.2.1 = some (tyX8 k) := by decide +kernel
abbrev cX8_init : ByteArray := prog_10_method_1_code
def yX8_init : MethodName := ⟨RX8, "<init>", "()V"⟩
def dkwX8_init_11 : List UInt8 := [4, 182, 0, 99, 177]
abbrev dktX8_init_11 : List UInt8 := dkwX8_init_11 ++ []
def dkwX8_init_10 : List UInt8 := [18, 89, 83, 89, 16, 6, 18, 91, 83, 89, 16, 7, 18, 93, 83, 181, 0, 95, 42, 3, 182, 0, 99, 42]
abbrev dktX8_init_10 : List UInt8 := dkwX8_init_10 ++ dktX8_init_11
def dkwX8_init_9 : List UInt8 := [83, 89, 4, 18, 81, 83, 89, 5, 18, 83, 83, 89, 6, 18, 85, 83, 89, 7, 18, 87, 83, 89, 8]
abbrev dktX8_init_9 : List UInt8 := dkwX8_init_9 ++ dktX8_init_10
def dkwX8_init_8 : List UInt8 := [188, 10, 181, 0, 71, 42, 17, 23, 113, 188, 10, 181, 0, 74, 42, 16, 8, 189, 0, 77, 89, 3, 18, 79]
abbrev dktX8_init_8 : List UInt8 := dkwX8_init_8 ++ dktX8_init_9
def dkwX8_init_7 : List UInt8 := [181, 0, 62, 42, 17, 101, 144, 188, 10, 181, 0, 65, 42, 5, 188, 10, 181, 0, 68, 42, 17, 46, 224]
abbrev dktX8_init_7 : List UInt8 := dkwX8_init_7 ++ dktX8_init_8
def dkwX8_init_6 : List UInt8 := [17, 101, 144, 188, 10, 181, 0, 56, 42, 17, 101, 144, 188, 10, 181, 0, 59, 42, 17, 101, 144, 188, 10]
abbrev dktX8_init_6 : List UInt8 := dkwX8_init_6 ++ dktX8_init_7
def dkwX8_init_5 : List UInt8 := [181, 0, 47, 42, 17, 101, 144, 188, 10, 181, 0, 50, 42, 17, 101, 144, 188, 10, 181, 0, 53, 42]
abbrev dktX8_init_5 : List UInt8 := dkwX8_init_5 ++ dktX8_init_6
def dkwX8_init_4 : List UInt8 := [17, 101, 144, 188, 10, 181, 0, 41, 42, 17, 101, 144, 188, 10, 181, 0, 44, 42, 17, 101, 144, 188, 10]
abbrev dktX8_init_4 : List UInt8 := dkwX8_init_4 ++ dktX8_init_5
def dkwX8_init_3 : List UInt8 := [181, 0, 32, 42, 17, 101, 144, 188, 10, 181, 0, 35, 42, 17, 101, 144, 188, 10, 181, 0, 38, 42]
abbrev dktX8_init_3 : List UInt8 := dkwX8_init_3 ++ dktX8_init_4
def dkwX8_init_2 : List UInt8 := [181, 0, 22, 42, 17, 31, 66, 188, 10, 181, 0, 25, 42, 2, 181, 0, 28, 42, 17, 101, 144, 188, 10]
abbrev dktX8_init_2 : List UInt8 := dkwX8_init_2 ++ dktX8_init_3
def dkwX8_init_1 : List UInt8 := [17, 31, 65, 188, 10, 181, 0, 16, 42, 17, 31, 66, 188, 10, 181, 0, 19, 42, 17, 31, 66, 188, 10]
abbrev dktX8_init_1 : List UInt8 := dkwX8_init_1 ++ dktX8_init_2
def dkwX8_init_0 : List UInt8 := [42, 183, 0, 1, 42, 17, 31, 64, 188, 10, 181, 0, 9, 42, 17, 31, 64, 188, 10, 181, 0, 13, 42]
abbrev dktX8_init_0 : List UInt8 := dkwX8_init_0 ++ dktX8_init_1
theorem dksX8_init_0 : cX8_init.data.toList.drop 0 = dktX8_init_0 := by decide +kernel
theorem dksX8_init_1 : cX8_init.data.toList.drop 23 = dktX8_init_1 := dk_seg dksX8_init_0 23 rfl rfl
theorem dksX8_init_2 : cX8_init.data.toList.drop 46 = dktX8_init_2 := dk_seg dksX8_init_1 23 rfl rfl
theorem dksX8_init_3 : cX8_init.data.toList.drop 69 = dktX8_init_3 := dk_seg dksX8_init_2 23 rfl rfl
theorem dksX8_init_4 : cX8_init.data.toList.drop 91 = dktX8_init_4 := dk_seg dksX8_init_3 22 rfl rfl
theorem dksX8_init_5 : cX8_init.data.toList.drop 114 = dktX8_init_5 := dk_seg dksX8_init_4 23 rfl rfl
theorem dksX8_init_6 : cX8_init.data.toList.drop 136 = dktX8_init_6 := dk_seg dksX8_init_5 22 rfl rfl
theorem dksX8_init_7 : cX8_init.data.toList.drop 159 = dktX8_init_7 := dk_seg dksX8_init_6 23 rfl rfl
theorem dksX8_init_8 : cX8_init.data.toList.drop 182 = dktX8_init_8 := dk_seg dksX8_init_7 23 rfl rfl
theorem dksX8_init_9 : cX8_init.data.toList.drop 206 = dktX8_init_9 := dk_seg dksX8_init_8 24 rfl rfl
theorem dksX8_init_10 : cX8_init.data.toList.drop 229 = dktX8_init_10 := dk_seg dksX8_init_9 23 rfl rfl
theorem dksX8_init_11 : cX8_init.data.toList.drop 253 = dktX8_init_11 := dk_seg dksX8_init_10 24 rfl rfl
theorem dX8_init_0 : decode cX8_init 0 = .ok (.aload_n 0, 1) := dk_42 (dk_at dksX8_init_0 0 rfl rfl)
theorem dX8_init_1 : decode cX8_init 1 = .ok (.invokespecial 1, 3) := dk_183 0 1 (dk_at dksX8_init_0 1 rfl rfl)
theorem dX8_init_4 : decode cX8_init 4 = .ok (.aload_n 0, 1) := dk_42 (dk_at dksX8_init_0 4 rfl rfl)
theorem dX8_init_5 : decode cX8_init 5 = .ok (.sipush 8000, 3) := dk_17 31 64 (dk_at dksX8_init_0 5 rfl rfl)
theorem dX8_init_8 : decode cX8_init 8 = .ok (.newarray .int, 2) := dk_188_10 (dk_at dksX8_init_0 8 rfl rfl)
theorem dX8_init_10 : decode cX8_init 10 = .ok (.putfield 9, 3) := dk_181 0 9 (dk_at dksX8_init_0 10 rfl rfl)
theorem dX8_init_13 : decode cX8_init 13 = .ok (.aload_n 0, 1) := dk_42 (dk_at dksX8_init_0 13 rfl rfl)
theorem dX8_init_14 : decode cX8_init 14 = .ok (.sipush 8000, 3) := dk_17 31 64 (dk_at dksX8_init_0 14 rfl rfl)
theorem dX8_init_17 : decode cX8_init 17 = .ok (.newarray .int, 2) := dk_188_10 (dk_at dksX8_init_0 17 rfl rfl)
theorem dX8_init_19 : decode cX8_init 19 = .ok (.putfield 13, 3) := dk_181 0 13 (dk_at dksX8_init_0 19 rfl rfl)
theorem dX8_init_22 : decode cX8_init 22 = .ok (.aload_n 0, 1) := dk_42 (dk_at dksX8_init_0 22 rfl rfl)
theorem dX8_init_23 : decode cX8_init 23 = .ok (.sipush 8001, 3) := dk_17 31 65 (dk_at dksX8_init_1 0 rfl rfl)
theorem dX8_init_26 : decode cX8_init 26 = .ok (.newarray .int, 2) := dk_188_10 (dk_at dksX8_init_1 3 rfl rfl)
theorem dX8_init_28 : decode cX8_init 28 = .ok (.putfield 16, 3) := dk_181 0 16 (dk_at dksX8_init_1 5 rfl rfl)
theorem dX8_init_31 : decode cX8_init 31 = .ok (.aload_n 0, 1) := dk_42 (dk_at dksX8_init_1 8 rfl rfl)
theorem dX8_init_32 : decode cX8_init 32 = .ok (.sipush 8002, 3) := dk_17 31 66 (dk_at dksX8_init_1 9 rfl rfl)
theorem dX8_init_35 : decode cX8_init 35 = .ok (.newarray .int, 2) := dk_188_10 (dk_at dksX8_init_1 12 rfl rfl)
theorem dX8_init_37 : decode cX8_init 37 = .ok (.putfield 19, 3) := dk_181 0 19 (dk_at dksX8_init_1 14 rfl rfl)
theorem dX8_init_40 : decode cX8_init 40 = .ok (.aload_n 0, 1) := dk_42 (dk_at dksX8_init_1 17 rfl rfl)
theorem dX8_init_41 : decode cX8_init 41 = .ok (.sipush 8002, 3) := dk_17 31 66 (dk_at dksX8_init_1 18 rfl rfl)
theorem dX8_init_44 : decode cX8_init 44 = .ok (.newarray .int, 2) := dk_188_10 (dk_at dksX8_init_1 21 rfl rfl)
theorem dX8_init_46 : decode cX8_init 46 = .ok (.putfield 22, 3) := dk_181 0 22 (dk_at dksX8_init_2 0 rfl rfl)
theorem dX8_init_49 : decode cX8_init 49 = .ok (.aload_n 0, 1) := dk_42 (dk_at dksX8_init_2 3 rfl rfl)
theorem dX8_init_50 : decode cX8_init 50 = .ok (.sipush 8002, 3) := dk_17 31 66 (dk_at dksX8_init_2 4 rfl rfl)
theorem dX8_init_53 : decode cX8_init 53 = .ok (.newarray .int, 2) := dk_188_10 (dk_at dksX8_init_2 7 rfl rfl)
theorem dX8_init_55 : decode cX8_init 55 = .ok (.putfield 25, 3) := dk_181 0 25 (dk_at dksX8_init_2 9 rfl rfl)
theorem dX8_init_58 : decode cX8_init 58 = .ok (.aload_n 0, 1) := dk_42 (dk_at dksX8_init_2 12 rfl rfl)
theorem dX8_init_59 : decode cX8_init 59 = .ok (.iconst (-1), 1) := dk_2 (dk_at dksX8_init_2 13 rfl rfl)
theorem dX8_init_60 : decode cX8_init 60 = .ok (.putfield 28, 3) := dk_181 0 28 (dk_at dksX8_init_2 14 rfl rfl)
theorem dX8_init_63 : decode cX8_init 63 = .ok (.aload_n 0, 1) := dk_42 (dk_at dksX8_init_2 17 rfl rfl)
theorem dX8_init_64 : decode cX8_init 64 = .ok (.sipush 26000, 3) := dk_17 101 144 (dk_at dksX8_init_2 18 rfl rfl)
theorem dX8_init_67 : decode cX8_init 67 = .ok (.newarray .int, 2) := dk_188_10 (dk_at dksX8_init_2 21 rfl rfl)
theorem dX8_init_69 : decode cX8_init 69 = .ok (.putfield 32, 3) := dk_181 0 32 (dk_at dksX8_init_3 0 rfl rfl)
theorem dX8_init_72 : decode cX8_init 72 = .ok (.aload_n 0, 1) := dk_42 (dk_at dksX8_init_3 3 rfl rfl)
theorem dX8_init_73 : decode cX8_init 73 = .ok (.sipush 26000, 3) := dk_17 101 144 (dk_at dksX8_init_3 4 rfl rfl)
theorem dX8_init_76 : decode cX8_init 76 = .ok (.newarray .int, 2) := dk_188_10 (dk_at dksX8_init_3 7 rfl rfl)
theorem dX8_init_78 : decode cX8_init 78 = .ok (.putfield 35, 3) := dk_181 0 35 (dk_at dksX8_init_3 9 rfl rfl)
theorem dX8_init_81 : decode cX8_init 81 = .ok (.aload_n 0, 1) := dk_42 (dk_at dksX8_init_3 12 rfl rfl)
theorem dX8_init_82 : decode cX8_init 82 = .ok (.sipush 26000, 3) := dk_17 101 144 (dk_at dksX8_init_3 13 rfl rfl)
theorem dX8_init_85 : decode cX8_init 85 = .ok (.newarray .int, 2) := dk_188_10 (dk_at dksX8_init_3 16 rfl rfl)
theorem dX8_init_87 : decode cX8_init 87 = .ok (.putfield 38, 3) := dk_181 0 38 (dk_at dksX8_init_3 18 rfl rfl)
theorem dX8_init_90 : decode cX8_init 90 = .ok (.aload_n 0, 1) := dk_42 (dk_at dksX8_init_3 21 rfl rfl)
theorem dX8_init_91 : decode cX8_init 91 = .ok (.sipush 26000, 3) := dk_17 101 144 (dk_at dksX8_init_4 0 rfl rfl)
theorem dX8_init_94 : decode cX8_init 94 = .ok (.newarray .int, 2) := dk_188_10 (dk_at dksX8_init_4 3 rfl rfl)
theorem dX8_init_96 : decode cX8_init 96 = .ok (.putfield 41, 3) := dk_181 0 41 (dk_at dksX8_init_4 5 rfl rfl)
theorem dX8_init_99 : decode cX8_init 99 = .ok (.aload_n 0, 1) := dk_42 (dk_at dksX8_init_4 8 rfl rfl)
theorem dX8_init_100 : decode cX8_init 100 = .ok (.sipush 26000, 3) := dk_17 101 144 (dk_at dksX8_init_4 9 rfl rfl)
theorem dX8_init_103 : decode cX8_init 103 = .ok (.newarray .int, 2) := dk_188_10 (dk_at dksX8_init_4 12 rfl rfl)
theorem dX8_init_105 : decode cX8_init 105 = .ok (.putfield 44, 3) := dk_181 0 44 (dk_at dksX8_init_4 14 rfl rfl)
theorem dX8_init_108 : decode cX8_init 108 = .ok (.aload_n 0, 1) := dk_42 (dk_at dksX8_init_4 17 rfl rfl)
theorem dX8_init_109 : decode cX8_init 109 = .ok (.sipush 26000, 3) := dk_17 101 144 (dk_at dksX8_init_4 18 rfl rfl)
theorem dX8_init_112 : decode cX8_init 112 = .ok (.newarray .int, 2) := dk_188_10 (dk_at dksX8_init_4 21 rfl rfl)
theorem dX8_init_114 : decode cX8_init 114 = .ok (.putfield 47, 3) := dk_181 0 47 (dk_at dksX8_init_5 0 rfl rfl)
theorem dX8_init_117 : decode cX8_init 117 = .ok (.aload_n 0, 1) := dk_42 (dk_at dksX8_init_5 3 rfl rfl)
theorem dX8_init_118 : decode cX8_init 118 = .ok (.sipush 26000, 3) := dk_17 101 144 (dk_at dksX8_init_5 4 rfl rfl)
theorem dX8_init_121 : decode cX8_init 121 = .ok (.newarray .int, 2) := dk_188_10 (dk_at dksX8_init_5 7 rfl rfl)
theorem dX8_init_123 : decode cX8_init 123 = .ok (.putfield 50, 3) := dk_181 0 50 (dk_at dksX8_init_5 9 rfl rfl)
theorem dX8_init_126 : decode cX8_init 126 = .ok (.aload_n 0, 1) := dk_42 (dk_at dksX8_init_5 12 rfl rfl)
theorem dX8_init_127 : decode cX8_init 127 = .ok (.sipush 26000, 3) := dk_17 101 144 (dk_at dksX8_init_5 13 rfl rfl)
theorem dX8_init_130 : decode cX8_init 130 = .ok (.newarray .int, 2) := dk_188_10 (dk_at dksX8_init_5 16 rfl rfl)
theorem dX8_init_132 : decode cX8_init 132 = .ok (.putfield 53, 3) := dk_181 0 53 (dk_at dksX8_init_5 18 rfl rfl)
theorem dX8_init_135 : decode cX8_init 135 = .ok (.aload_n 0, 1) := dk_42 (dk_at dksX8_init_5 21 rfl rfl)
theorem dX8_init_136 : decode cX8_init 136 = .ok (.sipush 26000, 3) := dk_17 101 144 (dk_at dksX8_init_6 0 rfl rfl)
theorem dX8_init_139 : decode cX8_init 139 = .ok (.newarray .int, 2) := dk_188_10 (dk_at dksX8_init_6 3 rfl rfl)
theorem dX8_init_141 : decode cX8_init 141 = .ok (.putfield 56, 3) := dk_181 0 56 (dk_at dksX8_init_6 5 rfl rfl)
theorem dX8_init_144 : decode cX8_init 144 = .ok (.aload_n 0, 1) := dk_42 (dk_at dksX8_init_6 8 rfl rfl)
theorem dX8_init_145 : decode cX8_init 145 = .ok (.sipush 26000, 3) := dk_17 101 144 (dk_at dksX8_init_6 9 rfl rfl)
theorem dX8_init_148 : decode cX8_init 148 = .ok (.newarray .int, 2) := dk_188_10 (dk_at dksX8_init_6 12 rfl rfl)
theorem dX8_init_150 : decode cX8_init 150 = .ok (.putfield 59, 3) := dk_181 0 59 (dk_at dksX8_init_6 14 rfl rfl)
theorem dX8_init_153 : decode cX8_init 153 = .ok (.aload_n 0, 1) := dk_42 (dk_at dksX8_init_6 17 rfl rfl)
theorem dX8_init_154 : decode cX8_init 154 = .ok (.sipush 26000, 3) := dk_17 101 144 (dk_at dksX8_init_6 18 rfl rfl)
theorem dX8_init_157 : decode cX8_init 157 = .ok (.newarray .int, 2) := dk_188_10 (dk_at dksX8_init_6 21 rfl rfl)
theorem dX8_init_159 : decode cX8_init 159 = .ok (.putfield 62, 3) := dk_181 0 62 (dk_at dksX8_init_7 0 rfl rfl)
theorem dX8_init_162 : decode cX8_init 162 = .ok (.aload_n 0, 1) := dk_42 (dk_at dksX8_init_7 3 rfl rfl)
theorem dX8_init_163 : decode cX8_init 163 = .ok (.sipush 26000, 3) := dk_17 101 144 (dk_at dksX8_init_7 4 rfl rfl)
theorem dX8_init_166 : decode cX8_init 166 = .ok (.newarray .int, 2) := dk_188_10 (dk_at dksX8_init_7 7 rfl rfl)
theorem dX8_init_168 : decode cX8_init 168 = .ok (.putfield 65, 3) := dk_181 0 65 (dk_at dksX8_init_7 9 rfl rfl)
theorem dX8_init_171 : decode cX8_init 171 = .ok (.aload_n 0, 1) := dk_42 (dk_at dksX8_init_7 12 rfl rfl)
theorem dX8_init_172 : decode cX8_init 172 = .ok (.iconst 2, 1) := dk_5 (dk_at dksX8_init_7 13 rfl rfl)
theorem dX8_init_173 : decode cX8_init 173 = .ok (.newarray .int, 2) := dk_188_10 (dk_at dksX8_init_7 14 rfl rfl)
theorem dX8_init_175 : decode cX8_init 175 = .ok (.putfield 68, 3) := dk_181 0 68 (dk_at dksX8_init_7 16 rfl rfl)
theorem dX8_init_178 : decode cX8_init 178 = .ok (.aload_n 0, 1) := dk_42 (dk_at dksX8_init_7 19 rfl rfl)
theorem dX8_init_179 : decode cX8_init 179 = .ok (.sipush 12000, 3) := dk_17 46 224 (dk_at dksX8_init_7 20 rfl rfl)
theorem dX8_init_182 : decode cX8_init 182 = .ok (.newarray .int, 2) := dk_188_10 (dk_at dksX8_init_8 0 rfl rfl)
theorem dX8_init_184 : decode cX8_init 184 = .ok (.putfield 71, 3) := dk_181 0 71 (dk_at dksX8_init_8 2 rfl rfl)
theorem dX8_init_187 : decode cX8_init 187 = .ok (.aload_n 0, 1) := dk_42 (dk_at dksX8_init_8 5 rfl rfl)
theorem dX8_init_188 : decode cX8_init 188 = .ok (.sipush 6001, 3) := dk_17 23 113 (dk_at dksX8_init_8 6 rfl rfl)
theorem dX8_init_191 : decode cX8_init 191 = .ok (.newarray .int, 2) := dk_188_10 (dk_at dksX8_init_8 9 rfl rfl)
theorem dX8_init_193 : decode cX8_init 193 = .ok (.putfield 74, 3) := dk_181 0 74 (dk_at dksX8_init_8 11 rfl rfl)
theorem dX8_init_196 : decode cX8_init 196 = .ok (.aload_n 0, 1) := dk_42 (dk_at dksX8_init_8 14 rfl rfl)
theorem dX8_init_197 : decode cX8_init 197 = .ok (.bipush 8, 2) := dk_16 8 (dk_at dksX8_init_8 15 rfl rfl)
theorem dX8_init_199 : decode cX8_init 199 = .ok (.anewarray 77, 3) := dk_189 0 77 (dk_at dksX8_init_8 17 rfl rfl)
theorem dX8_init_202 : decode cX8_init 202 = .ok (.dup, 1) := dk_89 (dk_at dksX8_init_8 20 rfl rfl)
theorem dX8_init_203 : decode cX8_init 203 = .ok (.iconst 0, 1) := dk_3 (dk_at dksX8_init_8 21 rfl rfl)
theorem dX8_init_204 : decode cX8_init 204 = .ok (.ldc 79, 2) := dk_18 79 (dk_at dksX8_init_8 22 rfl rfl)
theorem dX8_init_206 : decode cX8_init 206 = .ok (.aastore, 1) := dk_83 (dk_at dksX8_init_9 0 rfl rfl)
theorem dX8_init_207 : decode cX8_init 207 = .ok (.dup, 1) := dk_89 (dk_at dksX8_init_9 1 rfl rfl)
theorem dX8_init_208 : decode cX8_init 208 = .ok (.iconst 1, 1) := dk_4 (dk_at dksX8_init_9 2 rfl rfl)
theorem dX8_init_209 : decode cX8_init 209 = .ok (.ldc 81, 2) := dk_18 81 (dk_at dksX8_init_9 3 rfl rfl)
theorem dX8_init_211 : decode cX8_init 211 = .ok (.aastore, 1) := dk_83 (dk_at dksX8_init_9 5 rfl rfl)
theorem dX8_init_212 : decode cX8_init 212 = .ok (.dup, 1) := dk_89 (dk_at dksX8_init_9 6 rfl rfl)
theorem dX8_init_213 : decode cX8_init 213 = .ok (.iconst 2, 1) := dk_5 (dk_at dksX8_init_9 7 rfl rfl)
theorem dX8_init_214 : decode cX8_init 214 = .ok (.ldc 83, 2) := dk_18 83 (dk_at dksX8_init_9 8 rfl rfl)
theorem dX8_init_216 : decode cX8_init 216 = .ok (.aastore, 1) := dk_83 (dk_at dksX8_init_9 10 rfl rfl)
theorem dX8_init_217 : decode cX8_init 217 = .ok (.dup, 1) := dk_89 (dk_at dksX8_init_9 11 rfl rfl)
theorem dX8_init_218 : decode cX8_init 218 = .ok (.iconst 3, 1) := dk_6 (dk_at dksX8_init_9 12 rfl rfl)
theorem dX8_init_219 : decode cX8_init 219 = .ok (.ldc 85, 2) := dk_18 85 (dk_at dksX8_init_9 13 rfl rfl)
theorem dX8_init_221 : decode cX8_init 221 = .ok (.aastore, 1) := dk_83 (dk_at dksX8_init_9 15 rfl rfl)
theorem dX8_init_222 : decode cX8_init 222 = .ok (.dup, 1) := dk_89 (dk_at dksX8_init_9 16 rfl rfl)
theorem dX8_init_223 : decode cX8_init 223 = .ok (.iconst 4, 1) := dk_7 (dk_at dksX8_init_9 17 rfl rfl)
theorem dX8_init_224 : decode cX8_init 224 = .ok (.ldc 87, 2) := dk_18 87 (dk_at dksX8_init_9 18 rfl rfl)
theorem dX8_init_226 : decode cX8_init 226 = .ok (.aastore, 1) := dk_83 (dk_at dksX8_init_9 20 rfl rfl)
theorem dX8_init_227 : decode cX8_init 227 = .ok (.dup, 1) := dk_89 (dk_at dksX8_init_9 21 rfl rfl)
theorem dX8_init_228 : decode cX8_init 228 = .ok (.iconst 5, 1) := dk_8 (dk_at dksX8_init_9 22 rfl rfl)
theorem dX8_init_229 : decode cX8_init 229 = .ok (.ldc 89, 2) := dk_18 89 (dk_at dksX8_init_10 0 rfl rfl)
theorem dX8_init_231 : decode cX8_init 231 = .ok (.aastore, 1) := dk_83 (dk_at dksX8_init_10 2 rfl rfl)
theorem dX8_init_232 : decode cX8_init 232 = .ok (.dup, 1) := dk_89 (dk_at dksX8_init_10 3 rfl rfl)
theorem dX8_init_233 : decode cX8_init 233 = .ok (.bipush 6, 2) := dk_16 6 (dk_at dksX8_init_10 4 rfl rfl)
theorem dX8_init_235 : decode cX8_init 235 = .ok (.ldc 91, 2) := dk_18 91 (dk_at dksX8_init_10 6 rfl rfl)
theorem dX8_init_237 : decode cX8_init 237 = .ok (.aastore, 1) := dk_83 (dk_at dksX8_init_10 8 rfl rfl)
theorem dX8_init_238 : decode cX8_init 238 = .ok (.dup, 1) := dk_89 (dk_at dksX8_init_10 9 rfl rfl)
theorem dX8_init_239 : decode cX8_init 239 = .ok (.bipush 7, 2) := dk_16 7 (dk_at dksX8_init_10 10 rfl rfl)
theorem dX8_init_241 : decode cX8_init 241 = .ok (.ldc 93, 2) := dk_18 93 (dk_at dksX8_init_10 12 rfl rfl)
theorem dX8_init_243 : decode cX8_init 243 = .ok (.aastore, 1) := dk_83 (dk_at dksX8_init_10 14 rfl rfl)
theorem dX8_init_244 : decode cX8_init 244 = .ok (.putfield 95, 3) := dk_181 0 95 (dk_at dksX8_init_10 15 rfl rfl)
theorem dX8_init_247 : decode cX8_init 247 = .ok (.aload_n 0, 1) := dk_42 (dk_at dksX8_init_10 18 rfl rfl)
theorem dX8_init_248 : decode cX8_init 248 = .ok (.iconst 0, 1) := dk_3 (dk_at dksX8_init_10 19 rfl rfl)
theorem dX8_init_249 : decode cX8_init 249 = .ok (.invokevirtual 99, 3) := dk_182 0 99 (dk_at dksX8_init_10 20 rfl rfl)
theorem dX8_init_252 : decode cX8_init 252 = .ok (.aload_n 0, 1) := dk_42 (dk_at dksX8_init_10 23 rfl rfl)
theorem dX8_init_253 : decode cX8_init 253 = .ok (.iconst 1, 1) := dk_4 (dk_at dksX8_init_11 0 rfl rfl)
theorem dX8_init_254 : decode cX8_init 254 = .ok (.invokevirtual 99, 3) := dk_182 0 99 (dk_at dksX8_init_11 1 rfl rfl)
theorem dX8_init_257 : decode cX8_init 257 = .ok (.return_, 1) := dk_177 (dk_at dksX8_init_11 4 rfl rfl)
abbrev cX8_clear : ByteArray := prog_10_method_2_code
def yX8_clear : MethodName := ⟨RX8, "clear", "(I)V"⟩
def dkwX8_clear_1 : List UInt8 := [27, 104, 2, 79, 177]
abbrev dktX8_clear_1 : List UInt8 := dkwX8_clear_1 ++ []
def dkwX8_clear_0 : List UInt8 := [42, 180, 0, 68, 27, 3, 79, 42, 27, 3, 3, 3, 2, 182, 0, 103, 87, 42, 180, 0, 56, 17, 50, 200]
abbrev dktX8_clear_0 : List UInt8 := dkwX8_clear_0 ++ dktX8_clear_1
theorem dksX8_clear_0 : cX8_clear.data.toList.drop 0 = dktX8_clear_0 := by decide +kernel
theorem dksX8_clear_1 : cX8_clear.data.toList.drop 24 = dktX8_clear_1 := dk_seg dksX8_clear_0 24 rfl rfl
theorem dX8_clear_0 : decode cX8_clear 0 = .ok (.aload_n 0, 1) := dk_42 (dk_at dksX8_clear_0 0 rfl rfl)
theorem dX8_clear_1 : decode cX8_clear 1 = .ok (.getfield 68, 3) := dk_180 0 68 (dk_at dksX8_clear_0 1 rfl rfl)
theorem dX8_clear_4 : decode cX8_clear 4 = .ok (.iload_n 1, 1) := dk_27 (dk_at dksX8_clear_0 4 rfl rfl)
theorem dX8_clear_5 : decode cX8_clear 5 = .ok (.iconst 0, 1) := dk_3 (dk_at dksX8_clear_0 5 rfl rfl)
theorem dX8_clear_6 : decode cX8_clear 6 = .ok (.iastore, 1) := dk_79 (dk_at dksX8_clear_0 6 rfl rfl)
theorem dX8_clear_7 : decode cX8_clear 7 = .ok (.aload_n 0, 1) := dk_42 (dk_at dksX8_clear_0 7 rfl rfl)
theorem dX8_clear_8 : decode cX8_clear 8 = .ok (.iload_n 1, 1) := dk_27 (dk_at dksX8_clear_0 8 rfl rfl)
theorem dX8_clear_9 : decode cX8_clear 9 = .ok (.iconst 0, 1) := dk_3 (dk_at dksX8_clear_0 9 rfl rfl)
theorem dX8_clear_10 : decode cX8_clear 10 = .ok (.iconst 0, 1) := dk_3 (dk_at dksX8_clear_0 10 rfl rfl)
theorem dX8_clear_11 : decode cX8_clear 11 = .ok (.iconst 0, 1) := dk_3 (dk_at dksX8_clear_0 11 rfl rfl)
theorem dX8_clear_12 : decode cX8_clear 12 = .ok (.iconst (-1), 1) := dk_2 (dk_at dksX8_clear_0 12 rfl rfl)
theorem dX8_clear_13 : decode cX8_clear 13 = .ok (.invokevirtual 103, 3) := dk_182 0 103 (dk_at dksX8_clear_0 13 rfl rfl)
theorem dX8_clear_16 : decode cX8_clear 16 = .ok (.pop, 1) := dk_87 (dk_at dksX8_clear_0 16 rfl rfl)
theorem dX8_clear_17 : decode cX8_clear 17 = .ok (.aload_n 0, 1) := dk_42 (dk_at dksX8_clear_0 17 rfl rfl)
theorem dX8_clear_18 : decode cX8_clear 18 = .ok (.getfield 56, 3) := dk_180 0 56 (dk_at dksX8_clear_0 18 rfl rfl)
theorem dX8_clear_21 : decode cX8_clear 21 = .ok (.sipush 13000, 3) := dk_17 50 200 (dk_at dksX8_clear_0 21 rfl rfl)
theorem dX8_clear_24 : decode cX8_clear 24 = .ok (.iload_n 1, 1) := dk_27 (dk_at dksX8_clear_1 0 rfl rfl)
theorem dX8_clear_25 : decode cX8_clear 25 = .ok (.imul, 1) := dk_104 (dk_at dksX8_clear_1 1 rfl rfl)
theorem dX8_clear_26 : decode cX8_clear 26 = .ok (.iconst (-1), 1) := dk_2 (dk_at dksX8_clear_1 2 rfl rfl)
theorem dX8_clear_27 : decode cX8_clear 27 = .ok (.iastore, 1) := dk_79 (dk_at dksX8_clear_1 3 rfl rfl)
theorem dX8_clear_28 : decode cX8_clear 28 = .ok (.return_, 1) := dk_177 (dk_at dksX8_clear_1 4 rfl rfl)
abbrev cX8_add : ByteArray := prog_10_method_3_code
def yX8_add : MethodName := ⟨RX8, "add", "(IIIII)I"⟩
def dkwX8_add_5 : List UInt8 := [100, 172]
abbrev dktX8_add_5 : List UInt8 := dkwX8_add_5 ++ []
def dkwX8_add_4 : List UInt8 := [96, 46, 54, 7, 167, 255, 218, 42, 180, 0, 68, 27, 92, 46, 4, 96, 79, 42, 180, 0, 68, 27, 46, 4]
abbrev dktX8_add_4 : List UInt8 := dkwX8_add_4 ++ dktX8_add_5
def dkwX8_add_3 : List UInt8 := [17, 50, 200, 27, 104, 21, 7, 96, 92, 46, 4, 96, 79, 42, 180, 0, 62, 17, 50, 200, 27, 104, 21, 7]
abbrev dktX8_add_3 : List UInt8 := dkwX8_add_3 ++ dktX8_add_4
def dkwX8_add_2 : List UInt8 := [79, 42, 180, 0, 65, 21, 6, 4, 79, 21, 5, 54, 7, 21, 7, 2, 159, 0, 38, 42, 180, 0, 65]
abbrev dktX8_add_2 : List UInt8 := dkwX8_add_2 ++ dktX8_add_3
def dkwX8_add_1 : List UInt8 := [180, 0, 56, 21, 6, 29, 79, 42, 180, 0, 59, 21, 6, 21, 4, 79, 42, 180, 0, 62, 21, 6, 21, 5]
abbrev dktX8_add_1 : List UInt8 := dkwX8_add_1 ++ dktX8_add_2
def dkwX8_add_0 : List UInt8 := [17, 50, 200, 27, 104, 42, 180, 0, 68, 27, 46, 96, 54, 6, 42, 180, 0, 53, 21, 6, 28, 79, 42]
abbrev dktX8_add_0 : List UInt8 := dkwX8_add_0 ++ dktX8_add_1
theorem dksX8_add_0 : cX8_add.data.toList.drop 0 = dktX8_add_0 := by decide +kernel
theorem dksX8_add_1 : cX8_add.data.toList.drop 23 = dktX8_add_1 := dk_seg dksX8_add_0 23 rfl rfl
theorem dksX8_add_2 : cX8_add.data.toList.drop 47 = dktX8_add_2 := dk_seg dksX8_add_1 24 rfl rfl
theorem dksX8_add_3 : cX8_add.data.toList.drop 70 = dktX8_add_3 := dk_seg dksX8_add_2 23 rfl rfl
theorem dksX8_add_4 : cX8_add.data.toList.drop 94 = dktX8_add_4 := dk_seg dksX8_add_3 24 rfl rfl
theorem dksX8_add_5 : cX8_add.data.toList.drop 118 = dktX8_add_5 := dk_seg dksX8_add_4 24 rfl rfl
theorem dX8_add_0 : decode cX8_add 0 = .ok (.sipush 13000, 3) := dk_17 50 200 (dk_at dksX8_add_0 0 rfl rfl)
theorem dX8_add_3 : decode cX8_add 3 = .ok (.iload_n 1, 1) := dk_27 (dk_at dksX8_add_0 3 rfl rfl)
theorem dX8_add_4 : decode cX8_add 4 = .ok (.imul, 1) := dk_104 (dk_at dksX8_add_0 4 rfl rfl)
theorem dX8_add_5 : decode cX8_add 5 = .ok (.aload_n 0, 1) := dk_42 (dk_at dksX8_add_0 5 rfl rfl)
theorem dX8_add_6 : decode cX8_add 6 = .ok (.getfield 68, 3) := dk_180 0 68 (dk_at dksX8_add_0 6 rfl rfl)
theorem dX8_add_9 : decode cX8_add 9 = .ok (.iload_n 1, 1) := dk_27 (dk_at dksX8_add_0 9 rfl rfl)
theorem dX8_add_10 : decode cX8_add 10 = .ok (.iaload, 1) := dk_46 (dk_at dksX8_add_0 10 rfl rfl)
theorem dX8_add_11 : decode cX8_add 11 = .ok (.iadd, 1) := dk_96 (dk_at dksX8_add_0 11 rfl rfl)
theorem dX8_add_12 : decode cX8_add 12 = .ok (.istore 6, 2) := dk_54 6 (dk_at dksX8_add_0 12 rfl rfl)
theorem dX8_add_14 : decode cX8_add 14 = .ok (.aload_n 0, 1) := dk_42 (dk_at dksX8_add_0 14 rfl rfl)
theorem dX8_add_15 : decode cX8_add 15 = .ok (.getfield 53, 3) := dk_180 0 53 (dk_at dksX8_add_0 15 rfl rfl)
theorem dX8_add_18 : decode cX8_add 18 = .ok (.iload 6, 2) := dk_21 6 (dk_at dksX8_add_0 18 rfl rfl)
theorem dX8_add_20 : decode cX8_add 20 = .ok (.iload_n 2, 1) := dk_28 (dk_at dksX8_add_0 20 rfl rfl)
theorem dX8_add_21 : decode cX8_add 21 = .ok (.iastore, 1) := dk_79 (dk_at dksX8_add_0 21 rfl rfl)
theorem dX8_add_22 : decode cX8_add 22 = .ok (.aload_n 0, 1) := dk_42 (dk_at dksX8_add_0 22 rfl rfl)
theorem dX8_add_23 : decode cX8_add 23 = .ok (.getfield 56, 3) := dk_180 0 56 (dk_at dksX8_add_1 0 rfl rfl)
theorem dX8_add_26 : decode cX8_add 26 = .ok (.iload 6, 2) := dk_21 6 (dk_at dksX8_add_1 3 rfl rfl)
theorem dX8_add_28 : decode cX8_add 28 = .ok (.iload_n 3, 1) := dk_29 (dk_at dksX8_add_1 5 rfl rfl)
theorem dX8_add_29 : decode cX8_add 29 = .ok (.iastore, 1) := dk_79 (dk_at dksX8_add_1 6 rfl rfl)
theorem dX8_add_30 : decode cX8_add 30 = .ok (.aload_n 0, 1) := dk_42 (dk_at dksX8_add_1 7 rfl rfl)
theorem dX8_add_31 : decode cX8_add 31 = .ok (.getfield 59, 3) := dk_180 0 59 (dk_at dksX8_add_1 8 rfl rfl)
theorem dX8_add_34 : decode cX8_add 34 = .ok (.iload 6, 2) := dk_21 6 (dk_at dksX8_add_1 11 rfl rfl)
theorem dX8_add_36 : decode cX8_add 36 = .ok (.iload 4, 2) := dk_21 4 (dk_at dksX8_add_1 13 rfl rfl)
theorem dX8_add_38 : decode cX8_add 38 = .ok (.iastore, 1) := dk_79 (dk_at dksX8_add_1 15 rfl rfl)
theorem dX8_add_39 : decode cX8_add 39 = .ok (.aload_n 0, 1) := dk_42 (dk_at dksX8_add_1 16 rfl rfl)
theorem dX8_add_40 : decode cX8_add 40 = .ok (.getfield 62, 3) := dk_180 0 62 (dk_at dksX8_add_1 17 rfl rfl)
theorem dX8_add_43 : decode cX8_add 43 = .ok (.iload 6, 2) := dk_21 6 (dk_at dksX8_add_1 20 rfl rfl)
theorem dX8_add_45 : decode cX8_add 45 = .ok (.iload 5, 2) := dk_21 5 (dk_at dksX8_add_1 22 rfl rfl)
theorem dX8_add_47 : decode cX8_add 47 = .ok (.iastore, 1) := dk_79 (dk_at dksX8_add_2 0 rfl rfl)
theorem dX8_add_48 : decode cX8_add 48 = .ok (.aload_n 0, 1) := dk_42 (dk_at dksX8_add_2 1 rfl rfl)
theorem dX8_add_49 : decode cX8_add 49 = .ok (.getfield 65, 3) := dk_180 0 65 (dk_at dksX8_add_2 2 rfl rfl)
theorem dX8_add_52 : decode cX8_add 52 = .ok (.iload 6, 2) := dk_21 6 (dk_at dksX8_add_2 5 rfl rfl)
theorem dX8_add_54 : decode cX8_add 54 = .ok (.iconst 1, 1) := dk_4 (dk_at dksX8_add_2 7 rfl rfl)
theorem dX8_add_55 : decode cX8_add 55 = .ok (.iastore, 1) := dk_79 (dk_at dksX8_add_2 8 rfl rfl)
theorem dX8_add_56 : decode cX8_add 56 = .ok (.iload 5, 2) := dk_21 5 (dk_at dksX8_add_2 9 rfl rfl)
theorem dX8_add_58 : decode cX8_add 58 = .ok (.istore 7, 2) := dk_54 7 (dk_at dksX8_add_2 11 rfl rfl)
theorem dX8_add_60 : decode cX8_add 60 = .ok (.iload 7, 2) := dk_21 7 (dk_at dksX8_add_2 13 rfl rfl)
theorem dX8_add_62 : decode cX8_add 62 = .ok (.iconst (-1), 1) := dk_2 (dk_at dksX8_add_2 15 rfl rfl)
theorem dX8_add_63 : decode cX8_add 63 = .ok (.if_icmp .eq 38, 3) := dk_159 0 38 (dk_at dksX8_add_2 16 rfl rfl)
theorem dX8_add_66 : decode cX8_add 66 = .ok (.aload_n 0, 1) := dk_42 (dk_at dksX8_add_2 19 rfl rfl)
theorem dX8_add_67 : decode cX8_add 67 = .ok (.getfield 65, 3) := dk_180 0 65 (dk_at dksX8_add_2 20 rfl rfl)
theorem dX8_add_70 : decode cX8_add 70 = .ok (.sipush 13000, 3) := dk_17 50 200 (dk_at dksX8_add_3 0 rfl rfl)
theorem dX8_add_73 : decode cX8_add 73 = .ok (.iload_n 1, 1) := dk_27 (dk_at dksX8_add_3 3 rfl rfl)
theorem dX8_add_74 : decode cX8_add 74 = .ok (.imul, 1) := dk_104 (dk_at dksX8_add_3 4 rfl rfl)
theorem dX8_add_75 : decode cX8_add 75 = .ok (.iload 7, 2) := dk_21 7 (dk_at dksX8_add_3 5 rfl rfl)
theorem dX8_add_77 : decode cX8_add 77 = .ok (.iadd, 1) := dk_96 (dk_at dksX8_add_3 7 rfl rfl)
theorem dX8_add_78 : decode cX8_add 78 = .ok (.dup2, 1) := dk_92 (dk_at dksX8_add_3 8 rfl rfl)
theorem dX8_add_79 : decode cX8_add 79 = .ok (.iaload, 1) := dk_46 (dk_at dksX8_add_3 9 rfl rfl)
theorem dX8_add_80 : decode cX8_add 80 = .ok (.iconst 1, 1) := dk_4 (dk_at dksX8_add_3 10 rfl rfl)
theorem dX8_add_81 : decode cX8_add 81 = .ok (.iadd, 1) := dk_96 (dk_at dksX8_add_3 11 rfl rfl)
theorem dX8_add_82 : decode cX8_add 82 = .ok (.iastore, 1) := dk_79 (dk_at dksX8_add_3 12 rfl rfl)
theorem dX8_add_83 : decode cX8_add 83 = .ok (.aload_n 0, 1) := dk_42 (dk_at dksX8_add_3 13 rfl rfl)
theorem dX8_add_84 : decode cX8_add 84 = .ok (.getfield 62, 3) := dk_180 0 62 (dk_at dksX8_add_3 14 rfl rfl)
theorem dX8_add_87 : decode cX8_add 87 = .ok (.sipush 13000, 3) := dk_17 50 200 (dk_at dksX8_add_3 17 rfl rfl)
theorem dX8_add_90 : decode cX8_add 90 = .ok (.iload_n 1, 1) := dk_27 (dk_at dksX8_add_3 20 rfl rfl)
theorem dX8_add_91 : decode cX8_add 91 = .ok (.imul, 1) := dk_104 (dk_at dksX8_add_3 21 rfl rfl)
theorem dX8_add_92 : decode cX8_add 92 = .ok (.iload 7, 2) := dk_21 7 (dk_at dksX8_add_3 22 rfl rfl)
theorem dX8_add_94 : decode cX8_add 94 = .ok (.iadd, 1) := dk_96 (dk_at dksX8_add_4 0 rfl rfl)
theorem dX8_add_95 : decode cX8_add 95 = .ok (.iaload, 1) := dk_46 (dk_at dksX8_add_4 1 rfl rfl)
theorem dX8_add_96 : decode cX8_add 96 = .ok (.istore 7, 2) := dk_54 7 (dk_at dksX8_add_4 2 rfl rfl)
theorem dX8_add_98 : decode cX8_add 98 = .ok (.goto (-38), 3) := dk_167 255 218 (dk_at dksX8_add_4 4 rfl rfl)
theorem dX8_add_101 : decode cX8_add 101 = .ok (.aload_n 0, 1) := dk_42 (dk_at dksX8_add_4 7 rfl rfl)
theorem dX8_add_102 : decode cX8_add 102 = .ok (.getfield 68, 3) := dk_180 0 68 (dk_at dksX8_add_4 8 rfl rfl)
theorem dX8_add_105 : decode cX8_add 105 = .ok (.iload_n 1, 1) := dk_27 (dk_at dksX8_add_4 11 rfl rfl)
theorem dX8_add_106 : decode cX8_add 106 = .ok (.dup2, 1) := dk_92 (dk_at dksX8_add_4 12 rfl rfl)
theorem dX8_add_107 : decode cX8_add 107 = .ok (.iaload, 1) := dk_46 (dk_at dksX8_add_4 13 rfl rfl)
theorem dX8_add_108 : decode cX8_add 108 = .ok (.iconst 1, 1) := dk_4 (dk_at dksX8_add_4 14 rfl rfl)
theorem dX8_add_109 : decode cX8_add 109 = .ok (.iadd, 1) := dk_96 (dk_at dksX8_add_4 15 rfl rfl)
theorem dX8_add_110 : decode cX8_add 110 = .ok (.iastore, 1) := dk_79 (dk_at dksX8_add_4 16 rfl rfl)
theorem dX8_add_111 : decode cX8_add 111 = .ok (.aload_n 0, 1) := dk_42 (dk_at dksX8_add_4 17 rfl rfl)
theorem dX8_add_112 : decode cX8_add 112 = .ok (.getfield 68, 3) := dk_180 0 68 (dk_at dksX8_add_4 18 rfl rfl)
theorem dX8_add_115 : decode cX8_add 115 = .ok (.iload_n 1, 1) := dk_27 (dk_at dksX8_add_4 21 rfl rfl)
theorem dX8_add_116 : decode cX8_add 116 = .ok (.iaload, 1) := dk_46 (dk_at dksX8_add_4 22 rfl rfl)
theorem dX8_add_117 : decode cX8_add 117 = .ok (.iconst 1, 1) := dk_4 (dk_at dksX8_add_4 23 rfl rfl)
theorem dX8_add_118 : decode cX8_add 118 = .ok (.isub, 1) := dk_100 (dk_at dksX8_add_5 0 rfl rfl)
theorem dX8_add_119 : decode cX8_add 119 = .ok (.ireturn, 1) := dk_172 (dk_at dksX8_add_5 1 rfl rfl)
abbrev cX8_feed : ByteArray := prog_10_method_4_code
def yX8_feed : MethodName := ⟨RX8, "feed", "(IIIII)I"⟩
def dkwX8_feed_5 : List UInt8 := [180, 0, 107, 172]
abbrev dktX8_feed_5 : List UInt8 := dkwX8_feed_5 ++ []
def dkwX8_feed_4 : List UInt8 := [122, 17, 0, 255, 126, 79, 42, 89, 180, 0, 107, 4, 96, 181, 0, 107, 132, 6, 1, 167, 255, 162, 42]
abbrev dktX8_feed_4 : List UInt8 := dkwX8_feed_4 ++ dktX8_feed_5
def dkwX8_feed_3 : List UInt8 := [21, 5, 54, 7, 42, 180, 0, 9, 42, 180, 0, 107, 21, 7, 16, 24, 16, 8, 21, 6, 7, 112, 104, 100]
abbrev dktX8_feed_3 : List UInt8 := dkwX8_feed_3 ++ dktX8_feed_4
def dkwX8_feed_2 : List UInt8 := [21, 6, 16, 12, 162, 0, 7, 29, 167, 0, 17, 21, 6, 16, 16, 162, 0, 8, 21, 4, 167, 0, 5]
abbrev dktX8_feed_2 : List UInt8 := dkwX8_feed_2 ++ dktX8_feed_3
def dkwX8_feed_1 : List UInt8 := [162, 0, 93, 21, 6, 7, 162, 0, 7, 27, 167, 0, 39, 21, 6, 16, 8, 162, 0, 7, 28, 167, 0, 28]
abbrev dktX8_feed_1 : List UInt8 := dkwX8_feed_1 ++ dktX8_feed_2
def dkwX8_feed_0 : List UInt8 := [42, 180, 0, 107, 16, 20, 96, 17, 31, 64, 164, 0, 5, 2, 172, 3, 54, 6, 21, 6, 16, 20]
abbrev dktX8_feed_0 : List UInt8 := dkwX8_feed_0 ++ dktX8_feed_1
theorem dksX8_feed_0 : cX8_feed.data.toList.drop 0 = dktX8_feed_0 := by decide +kernel
theorem dksX8_feed_1 : cX8_feed.data.toList.drop 22 = dktX8_feed_1 := dk_seg dksX8_feed_0 22 rfl rfl
theorem dksX8_feed_2 : cX8_feed.data.toList.drop 46 = dktX8_feed_2 := dk_seg dksX8_feed_1 24 rfl rfl
theorem dksX8_feed_3 : cX8_feed.data.toList.drop 69 = dktX8_feed_3 := dk_seg dksX8_feed_2 23 rfl rfl
theorem dksX8_feed_4 : cX8_feed.data.toList.drop 93 = dktX8_feed_4 := dk_seg dksX8_feed_3 24 rfl rfl
theorem dksX8_feed_5 : cX8_feed.data.toList.drop 116 = dktX8_feed_5 := dk_seg dksX8_feed_4 23 rfl rfl
theorem dX8_feed_0 : decode cX8_feed 0 = .ok (.aload_n 0, 1) := dk_42 (dk_at dksX8_feed_0 0 rfl rfl)
theorem dX8_feed_1 : decode cX8_feed 1 = .ok (.getfield 107, 3) := dk_180 0 107 (dk_at dksX8_feed_0 1 rfl rfl)
theorem dX8_feed_4 : decode cX8_feed 4 = .ok (.bipush 20, 2) := dk_16 20 (dk_at dksX8_feed_0 4 rfl rfl)
theorem dX8_feed_6 : decode cX8_feed 6 = .ok (.iadd, 1) := dk_96 (dk_at dksX8_feed_0 6 rfl rfl)
theorem dX8_feed_7 : decode cX8_feed 7 = .ok (.sipush 8000, 3) := dk_17 31 64 (dk_at dksX8_feed_0 7 rfl rfl)
theorem dX8_feed_10 : decode cX8_feed 10 = .ok (.if_icmp .le 5, 3) := dk_164 0 5 (dk_at dksX8_feed_0 10 rfl rfl)
theorem dX8_feed_13 : decode cX8_feed 13 = .ok (.iconst (-1), 1) := dk_2 (dk_at dksX8_feed_0 13 rfl rfl)
theorem dX8_feed_14 : decode cX8_feed 14 = .ok (.ireturn, 1) := dk_172 (dk_at dksX8_feed_0 14 rfl rfl)
theorem dX8_feed_15 : decode cX8_feed 15 = .ok (.iconst 0, 1) := dk_3 (dk_at dksX8_feed_0 15 rfl rfl)
theorem dX8_feed_16 : decode cX8_feed 16 = .ok (.istore 6, 2) := dk_54 6 (dk_at dksX8_feed_0 16 rfl rfl)
theorem dX8_feed_18 : decode cX8_feed 18 = .ok (.iload 6, 2) := dk_21 6 (dk_at dksX8_feed_0 18 rfl rfl)
theorem dX8_feed_20 : decode cX8_feed 20 = .ok (.bipush 20, 2) := dk_16 20 (dk_at dksX8_feed_0 20 rfl rfl)
theorem dX8_feed_22 : decode cX8_feed 22 = .ok (.if_icmp .ge 93, 3) := dk_162 0 93 (dk_at dksX8_feed_1 0 rfl rfl)
theorem dX8_feed_25 : decode cX8_feed 25 = .ok (.iload 6, 2) := dk_21 6 (dk_at dksX8_feed_1 3 rfl rfl)
theorem dX8_feed_27 : decode cX8_feed 27 = .ok (.iconst 4, 1) := dk_7 (dk_at dksX8_feed_1 5 rfl rfl)
theorem dX8_feed_28 : decode cX8_feed 28 = .ok (.if_icmp .ge 7, 3) := dk_162 0 7 (dk_at dksX8_feed_1 6 rfl rfl)
theorem dX8_feed_31 : decode cX8_feed 31 = .ok (.iload_n 1, 1) := dk_27 (dk_at dksX8_feed_1 9 rfl rfl)
theorem dX8_feed_32 : decode cX8_feed 32 = .ok (.goto 39, 3) := dk_167 0 39 (dk_at dksX8_feed_1 10 rfl rfl)
theorem dX8_feed_35 : decode cX8_feed 35 = .ok (.iload 6, 2) := dk_21 6 (dk_at dksX8_feed_1 13 rfl rfl)
theorem dX8_feed_37 : decode cX8_feed 37 = .ok (.bipush 8, 2) := dk_16 8 (dk_at dksX8_feed_1 15 rfl rfl)
theorem dX8_feed_39 : decode cX8_feed 39 = .ok (.if_icmp .ge 7, 3) := dk_162 0 7 (dk_at dksX8_feed_1 17 rfl rfl)
theorem dX8_feed_42 : decode cX8_feed 42 = .ok (.iload_n 2, 1) := dk_28 (dk_at dksX8_feed_1 20 rfl rfl)
theorem dX8_feed_43 : decode cX8_feed 43 = .ok (.goto 28, 3) := dk_167 0 28 (dk_at dksX8_feed_1 21 rfl rfl)
theorem dX8_feed_46 : decode cX8_feed 46 = .ok (.iload 6, 2) := dk_21 6 (dk_at dksX8_feed_2 0 rfl rfl)
theorem dX8_feed_48 : decode cX8_feed 48 = .ok (.bipush 12, 2) := dk_16 12 (dk_at dksX8_feed_2 2 rfl rfl)
theorem dX8_feed_50 : decode cX8_feed 50 = .ok (.if_icmp .ge 7, 3) := dk_162 0 7 (dk_at dksX8_feed_2 4 rfl rfl)
theorem dX8_feed_53 : decode cX8_feed 53 = .ok (.iload_n 3, 1) := dk_29 (dk_at dksX8_feed_2 7 rfl rfl)
theorem dX8_feed_54 : decode cX8_feed 54 = .ok (.goto 17, 3) := dk_167 0 17 (dk_at dksX8_feed_2 8 rfl rfl)
theorem dX8_feed_57 : decode cX8_feed 57 = .ok (.iload 6, 2) := dk_21 6 (dk_at dksX8_feed_2 11 rfl rfl)
theorem dX8_feed_59 : decode cX8_feed 59 = .ok (.bipush 16, 2) := dk_16 16 (dk_at dksX8_feed_2 13 rfl rfl)
theorem dX8_feed_61 : decode cX8_feed 61 = .ok (.if_icmp .ge 8, 3) := dk_162 0 8 (dk_at dksX8_feed_2 15 rfl rfl)
theorem dX8_feed_64 : decode cX8_feed 64 = .ok (.iload 4, 2) := dk_21 4 (dk_at dksX8_feed_2 18 rfl rfl)
theorem dX8_feed_66 : decode cX8_feed 66 = .ok (.goto 5, 3) := dk_167 0 5 (dk_at dksX8_feed_2 20 rfl rfl)
theorem dX8_feed_69 : decode cX8_feed 69 = .ok (.iload 5, 2) := dk_21 5 (dk_at dksX8_feed_3 0 rfl rfl)
theorem dX8_feed_71 : decode cX8_feed 71 = .ok (.istore 7, 2) := dk_54 7 (dk_at dksX8_feed_3 2 rfl rfl)
theorem dX8_feed_73 : decode cX8_feed 73 = .ok (.aload_n 0, 1) := dk_42 (dk_at dksX8_feed_3 4 rfl rfl)
theorem dX8_feed_74 : decode cX8_feed 74 = .ok (.getfield 9, 3) := dk_180 0 9 (dk_at dksX8_feed_3 5 rfl rfl)
theorem dX8_feed_77 : decode cX8_feed 77 = .ok (.aload_n 0, 1) := dk_42 (dk_at dksX8_feed_3 8 rfl rfl)
theorem dX8_feed_78 : decode cX8_feed 78 = .ok (.getfield 107, 3) := dk_180 0 107 (dk_at dksX8_feed_3 9 rfl rfl)
theorem dX8_feed_81 : decode cX8_feed 81 = .ok (.iload 7, 2) := dk_21 7 (dk_at dksX8_feed_3 12 rfl rfl)
theorem dX8_feed_83 : decode cX8_feed 83 = .ok (.bipush 24, 2) := dk_16 24 (dk_at dksX8_feed_3 14 rfl rfl)
theorem dX8_feed_85 : decode cX8_feed 85 = .ok (.bipush 8, 2) := dk_16 8 (dk_at dksX8_feed_3 16 rfl rfl)
theorem dX8_feed_87 : decode cX8_feed 87 = .ok (.iload 6, 2) := dk_21 6 (dk_at dksX8_feed_3 18 rfl rfl)
theorem dX8_feed_89 : decode cX8_feed 89 = .ok (.iconst 4, 1) := dk_7 (dk_at dksX8_feed_3 20 rfl rfl)
theorem dX8_feed_90 : decode cX8_feed 90 = .ok (.irem, 1) := dk_112 (dk_at dksX8_feed_3 21 rfl rfl)
theorem dX8_feed_91 : decode cX8_feed 91 = .ok (.imul, 1) := dk_104 (dk_at dksX8_feed_3 22 rfl rfl)
theorem dX8_feed_92 : decode cX8_feed 92 = .ok (.isub, 1) := dk_100 (dk_at dksX8_feed_3 23 rfl rfl)
theorem dX8_feed_93 : decode cX8_feed 93 = .ok (.ishr, 1) := dk_122 (dk_at dksX8_feed_4 0 rfl rfl)
theorem dX8_feed_94 : decode cX8_feed 94 = .ok (.sipush 255, 3) := dk_17 0 255 (dk_at dksX8_feed_4 1 rfl rfl)
theorem dX8_feed_97 : decode cX8_feed 97 = .ok (.iand, 1) := dk_126 (dk_at dksX8_feed_4 4 rfl rfl)
theorem dX8_feed_98 : decode cX8_feed 98 = .ok (.iastore, 1) := dk_79 (dk_at dksX8_feed_4 5 rfl rfl)
theorem dX8_feed_99 : decode cX8_feed 99 = .ok (.aload_n 0, 1) := dk_42 (dk_at dksX8_feed_4 6 rfl rfl)
theorem dX8_feed_100 : decode cX8_feed 100 = .ok (.dup, 1) := dk_89 (dk_at dksX8_feed_4 7 rfl rfl)
theorem dX8_feed_101 : decode cX8_feed 101 = .ok (.getfield 107, 3) := dk_180 0 107 (dk_at dksX8_feed_4 8 rfl rfl)
theorem dX8_feed_104 : decode cX8_feed 104 = .ok (.iconst 1, 1) := dk_4 (dk_at dksX8_feed_4 11 rfl rfl)
theorem dX8_feed_105 : decode cX8_feed 105 = .ok (.iadd, 1) := dk_96 (dk_at dksX8_feed_4 12 rfl rfl)
theorem dX8_feed_106 : decode cX8_feed 106 = .ok (.putfield 107, 3) := dk_181 0 107 (dk_at dksX8_feed_4 13 rfl rfl)
theorem dX8_feed_109 : decode cX8_feed 109 = .ok (.iinc 6 1, 3) := dk_132 6 1 (dk_at dksX8_feed_4 16 rfl rfl)
theorem dX8_feed_112 : decode cX8_feed 112 = .ok (.goto (-94), 3) := dk_167 255 162 (dk_at dksX8_feed_4 19 rfl rfl)
theorem dX8_feed_115 : decode cX8_feed 115 = .ok (.aload_n 0, 1) := dk_42 (dk_at dksX8_feed_4 22 rfl rfl)
theorem dX8_feed_116 : decode cX8_feed 116 = .ok (.getfield 107, 3) := dk_180 0 107 (dk_at dksX8_feed_5 0 rfl rfl)
theorem dX8_feed_119 : decode cX8_feed 119 = .ok (.ireturn, 1) := dk_172 (dk_at dksX8_feed_5 3 rfl rfl)
abbrev cX8_read : ByteArray := prog_10_method_34_code
def yX8_read : MethodName := ⟨RX8, "read", "(II)I"⟩
def dkwX8_read_4 : List UInt8 := [42, 180, 0, 155, 153, 255, 222, 42, 3, 181, 0, 107, 42, 180, 0, 28, 172]
abbrev dktX8_read_4 : List UInt8 := dkwX8_read_4 ++ []
def dkwX8_read_3 : List UInt8 := [182, 0, 232, 62, 42, 180, 0, 155, 154, 0, 9, 42, 27, 29, 182, 0, 235, 42, 182, 0, 162, 153, 0, 10]
abbrev dktX8_read_3 : List UInt8 := dkwX8_read_3 ++ dktX8_read_4
def dkwX8_read_2 : List UInt8 := [182, 0, 229, 42, 3, 181, 0, 159, 42, 3, 181, 0, 155, 42, 2, 181, 0, 28, 42, 3, 181, 0, 169, 42]
abbrev dktX8_read_2 : List UInt8 := dkwX8_read_2 ++ dktX8_read_3
def dkwX8_read_1 : List UInt8 := [172, 42, 28, 2, 160, 0, 10, 42, 180, 0, 107, 167, 0, 4, 28, 181, 0, 110, 42, 27, 182, 0, 99, 42]
abbrev dktX8_read_1 : List UInt8 := dkwX8_read_1 ++ dktX8_read_2
def dkwX8_read_0 : List UInt8 := [27, 155, 0, 21, 27, 4, 163, 0, 16, 28, 2, 161, 0, 11, 28, 42, 180, 0, 107, 164, 0, 6, 16, 254]
abbrev dktX8_read_0 : List UInt8 := dkwX8_read_0 ++ dktX8_read_1
theorem dksX8_read_0 : cX8_read.data.toList.drop 0 = dktX8_read_0 := by decide +kernel
theorem dksX8_read_1 : cX8_read.data.toList.drop 24 = dktX8_read_1 := dk_seg dksX8_read_0 24 rfl rfl
theorem dksX8_read_2 : cX8_read.data.toList.drop 48 = dktX8_read_2 := dk_seg dksX8_read_1 24 rfl rfl
theorem dksX8_read_3 : cX8_read.data.toList.drop 72 = dktX8_read_3 := dk_seg dksX8_read_2 24 rfl rfl
theorem dksX8_read_4 : cX8_read.data.toList.drop 96 = dktX8_read_4 := dk_seg dksX8_read_3 24 rfl rfl
theorem dX8_read_0 : decode cX8_read 0 = .ok (.iload_n 1, 1) := dk_27 (dk_at dksX8_read_0 0 rfl rfl)
theorem dX8_read_1 : decode cX8_read 1 = .ok (.ifCond .lt 21, 3) := dk_155 0 21 (dk_at dksX8_read_0 1 rfl rfl)
theorem dX8_read_4 : decode cX8_read 4 = .ok (.iload_n 1, 1) := dk_27 (dk_at dksX8_read_0 4 rfl rfl)
theorem dX8_read_5 : decode cX8_read 5 = .ok (.iconst 1, 1) := dk_4 (dk_at dksX8_read_0 5 rfl rfl)
theorem dX8_read_6 : decode cX8_read 6 = .ok (.if_icmp .gt 16, 3) := dk_163 0 16 (dk_at dksX8_read_0 6 rfl rfl)
theorem dX8_read_9 : decode cX8_read 9 = .ok (.iload_n 2, 1) := dk_28 (dk_at dksX8_read_0 9 rfl rfl)
theorem dX8_read_10 : decode cX8_read 10 = .ok (.iconst (-1), 1) := dk_2 (dk_at dksX8_read_0 10 rfl rfl)
theorem dX8_read_11 : decode cX8_read 11 = .ok (.if_icmp .lt 11, 3) := dk_161 0 11 (dk_at dksX8_read_0 11 rfl rfl)
theorem dX8_read_14 : decode cX8_read 14 = .ok (.iload_n 2, 1) := dk_28 (dk_at dksX8_read_0 14 rfl rfl)
theorem dX8_read_15 : decode cX8_read 15 = .ok (.aload_n 0, 1) := dk_42 (dk_at dksX8_read_0 15 rfl rfl)
theorem dX8_read_16 : decode cX8_read 16 = .ok (.getfield 107, 3) := dk_180 0 107 (dk_at dksX8_read_0 16 rfl rfl)
theorem dX8_read_19 : decode cX8_read 19 = .ok (.if_icmp .le 6, 3) := dk_164 0 6 (dk_at dksX8_read_0 19 rfl rfl)
theorem dX8_read_22 : decode cX8_read 22 = .ok (.bipush (-2), 2) := dk_16 254 (dk_at dksX8_read_0 22 rfl rfl)
theorem dX8_read_24 : decode cX8_read 24 = .ok (.ireturn, 1) := dk_172 (dk_at dksX8_read_1 0 rfl rfl)
theorem dX8_read_25 : decode cX8_read 25 = .ok (.aload_n 0, 1) := dk_42 (dk_at dksX8_read_1 1 rfl rfl)
theorem dX8_read_26 : decode cX8_read 26 = .ok (.iload_n 2, 1) := dk_28 (dk_at dksX8_read_1 2 rfl rfl)
theorem dX8_read_27 : decode cX8_read 27 = .ok (.iconst (-1), 1) := dk_2 (dk_at dksX8_read_1 3 rfl rfl)
theorem dX8_read_28 : decode cX8_read 28 = .ok (.if_icmp .ne 10, 3) := dk_160 0 10 (dk_at dksX8_read_1 4 rfl rfl)
theorem dX8_read_31 : decode cX8_read 31 = .ok (.aload_n 0, 1) := dk_42 (dk_at dksX8_read_1 7 rfl rfl)
theorem dX8_read_32 : decode cX8_read 32 = .ok (.getfield 107, 3) := dk_180 0 107 (dk_at dksX8_read_1 8 rfl rfl)
theorem dX8_read_35 : decode cX8_read 35 = .ok (.goto 4, 3) := dk_167 0 4 (dk_at dksX8_read_1 11 rfl rfl)
theorem dX8_read_38 : decode cX8_read 38 = .ok (.iload_n 2, 1) := dk_28 (dk_at dksX8_read_1 14 rfl rfl)
theorem dX8_read_39 : decode cX8_read 39 = .ok (.putfield 110, 3) := dk_181 0 110 (dk_at dksX8_read_1 15 rfl rfl)
theorem dX8_read_42 : decode cX8_read 42 = .ok (.aload_n 0, 1) := dk_42 (dk_at dksX8_read_1 18 rfl rfl)
theorem dX8_read_43 : decode cX8_read 43 = .ok (.iload_n 1, 1) := dk_27 (dk_at dksX8_read_1 19 rfl rfl)
theorem dX8_read_44 : decode cX8_read 44 = .ok (.invokevirtual 99, 3) := dk_182 0 99 (dk_at dksX8_read_1 20 rfl rfl)
theorem dX8_read_47 : decode cX8_read 47 = .ok (.aload_n 0, 1) := dk_42 (dk_at dksX8_read_1 23 rfl rfl)
theorem dX8_read_48 : decode cX8_read 48 = .ok (.invokevirtual 229, 3) := dk_182 0 229 (dk_at dksX8_read_2 0 rfl rfl)
theorem dX8_read_51 : decode cX8_read 51 = .ok (.aload_n 0, 1) := dk_42 (dk_at dksX8_read_2 3 rfl rfl)
theorem dX8_read_52 : decode cX8_read 52 = .ok (.iconst 0, 1) := dk_3 (dk_at dksX8_read_2 4 rfl rfl)
theorem dX8_read_53 : decode cX8_read 53 = .ok (.putfield 159, 3) := dk_181 0 159 (dk_at dksX8_read_2 5 rfl rfl)
theorem dX8_read_56 : decode cX8_read 56 = .ok (.aload_n 0, 1) := dk_42 (dk_at dksX8_read_2 8 rfl rfl)
theorem dX8_read_57 : decode cX8_read 57 = .ok (.iconst 0, 1) := dk_3 (dk_at dksX8_read_2 9 rfl rfl)
theorem dX8_read_58 : decode cX8_read 58 = .ok (.putfield 155, 3) := dk_181 0 155 (dk_at dksX8_read_2 10 rfl rfl)
theorem dX8_read_61 : decode cX8_read 61 = .ok (.aload_n 0, 1) := dk_42 (dk_at dksX8_read_2 13 rfl rfl)
theorem dX8_read_62 : decode cX8_read 62 = .ok (.iconst (-1), 1) := dk_2 (dk_at dksX8_read_2 14 rfl rfl)
theorem dX8_read_63 : decode cX8_read 63 = .ok (.putfield 28, 3) := dk_181 0 28 (dk_at dksX8_read_2 15 rfl rfl)
theorem dX8_read_66 : decode cX8_read 66 = .ok (.aload_n 0, 1) := dk_42 (dk_at dksX8_read_2 18 rfl rfl)
theorem dX8_read_67 : decode cX8_read 67 = .ok (.iconst 0, 1) := dk_3 (dk_at dksX8_read_2 19 rfl rfl)
theorem dX8_read_68 : decode cX8_read 68 = .ok (.putfield 169, 3) := dk_181 0 169 (dk_at dksX8_read_2 20 rfl rfl)
theorem dX8_read_71 : decode cX8_read 71 = .ok (.aload_n 0, 1) := dk_42 (dk_at dksX8_read_2 23 rfl rfl)
theorem dX8_read_72 : decode cX8_read 72 = .ok (.invokevirtual 232, 3) := dk_182 0 232 (dk_at dksX8_read_3 0 rfl rfl)
theorem dX8_read_75 : decode cX8_read 75 = .ok (.istore_n 3, 1) := dk_62 (dk_at dksX8_read_3 3 rfl rfl)
theorem dX8_read_76 : decode cX8_read 76 = .ok (.aload_n 0, 1) := dk_42 (dk_at dksX8_read_3 4 rfl rfl)
theorem dX8_read_77 : decode cX8_read 77 = .ok (.getfield 155, 3) := dk_180 0 155 (dk_at dksX8_read_3 5 rfl rfl)
theorem dX8_read_80 : decode cX8_read 80 = .ok (.ifCond .ne 9, 3) := dk_154 0 9 (dk_at dksX8_read_3 8 rfl rfl)
theorem dX8_read_83 : decode cX8_read 83 = .ok (.aload_n 0, 1) := dk_42 (dk_at dksX8_read_3 11 rfl rfl)
theorem dX8_read_84 : decode cX8_read 84 = .ok (.iload_n 1, 1) := dk_27 (dk_at dksX8_read_3 12 rfl rfl)
theorem dX8_read_85 : decode cX8_read 85 = .ok (.iload_n 3, 1) := dk_29 (dk_at dksX8_read_3 13 rfl rfl)
theorem dX8_read_86 : decode cX8_read 86 = .ok (.invokevirtual 235, 3) := dk_182 0 235 (dk_at dksX8_read_3 14 rfl rfl)
theorem dX8_read_89 : decode cX8_read 89 = .ok (.aload_n 0, 1) := dk_42 (dk_at dksX8_read_3 17 rfl rfl)
theorem dX8_read_90 : decode cX8_read 90 = .ok (.invokevirtual 162, 3) := dk_182 0 162 (dk_at dksX8_read_3 18 rfl rfl)
theorem dX8_read_93 : decode cX8_read 93 = .ok (.ifCond .eq 10, 3) := dk_153 0 10 (dk_at dksX8_read_3 21 rfl rfl)
theorem dX8_read_96 : decode cX8_read 96 = .ok (.aload_n 0, 1) := dk_42 (dk_at dksX8_read_4 0 rfl rfl)
theorem dX8_read_97 : decode cX8_read 97 = .ok (.getfield 155, 3) := dk_180 0 155 (dk_at dksX8_read_4 1 rfl rfl)
theorem dX8_read_100 : decode cX8_read 100 = .ok (.ifCond .eq (-34), 3) := dk_153 255 222 (dk_at dksX8_read_4 4 rfl rfl)
theorem dX8_read_103 : decode cX8_read 103 = .ok (.aload_n 0, 1) := dk_42 (dk_at dksX8_read_4 7 rfl rfl)
theorem dX8_read_104 : decode cX8_read 104 = .ok (.iconst 0, 1) := dk_3 (dk_at dksX8_read_4 8 rfl rfl)
theorem dX8_read_105 : decode cX8_read 105 = .ok (.putfield 107, 3) := dk_181 0 107 (dk_at dksX8_read_4 9 rfl rfl)
theorem dX8_read_108 : decode cX8_read 108 = .ok (.aload_n 0, 1) := dk_42 (dk_at dksX8_read_4 12 rfl rfl)
theorem dX8_read_109 : decode cX8_read 109 = .ok (.getfield 28, 3) := dk_180 0 28 (dk_at dksX8_read_4 13 rfl rfl)
theorem dX8_read_112 : decode cX8_read 112 = .ok (.ireturn, 1) := dk_172 (dk_at dksX8_read_4 16 rfl rfl)
abbrev cX8_scan : ByteArray := prog_10_method_12_code
def yX8_scan : MethodName := ⟨RX8, "scan", "()V"⟩
def dkwX8_scan_20 : List UInt8 := [153, 0, 7, 4, 167, 0, 4, 3, 61, 42, 27, 29, 96, 182, 0, 143, 60, 167, 254, 39, 177]
abbrev dktX8_scan_20 : List UInt8 := dkwX8_scan_20 ++ []
def dkwX8_scan_19 : List UInt8 := [42, 180, 0, 140, 29, 79, 42, 89, 180, 0, 140, 4, 96, 181, 0, 140, 21, 4, 4, 159, 0, 12, 21, 4]
abbrev dktX8_scan_19 : List UInt8 := dkwX8_scan_19 ++ dktX8_scan_20
def dkwX8_scan_18 : List UInt8 := [180, 0, 19, 42, 180, 0, 140, 21, 4, 79, 42, 180, 0, 22, 42, 180, 0, 140, 27, 79, 42, 180, 0, 25]
abbrev dktX8_scan_18 : List UInt8 := dkwX8_scan_18 ++ dktX8_scan_19
def dkwX8_scan_17 : List UInt8 := [16, 60, 159, 0, 17, 21, 5, 16, 62, 159, 0, 10, 21, 5, 16, 33, 160, 0, 7, 21, 5, 54, 4, 42]
abbrev dktX8_scan_17 : List UInt8 := dkwX8_scan_17 ++ dktX8_scan_18
def dkwX8_scan_16 : List UInt8 := [21, 5, 16, 42, 159, 0, 38, 21, 5, 16, 47, 159, 0, 31, 21, 5, 16, 37, 159, 0, 24, 21, 5]
abbrev dktX8_scan_16 : List UInt8 := dkwX8_scan_16 ++ dktX8_scan_17
def dkwX8_scan_15 : List UInt8 := [159, 0, 66, 21, 5, 16, 61, 159, 0, 59, 21, 5, 16, 43, 159, 0, 52, 21, 5, 16, 45, 159, 0, 45]
abbrev dktX8_scan_15 : List UInt8 := dkwX8_scan_15 ++ dktX8_scan_16
def dkwX8_scan_14 : List UInt8 := [16, 91, 159, 0, 87, 21, 5, 16, 93, 159, 0, 80, 21, 5, 16, 44, 159, 0, 73, 21, 5, 16, 59]
abbrev dktX8_scan_14 : List UInt8 := dkwX8_scan_14 ++ dktX8_scan_15
def dkwX8_scan_13 : List UInt8 := [21, 5, 16, 41, 159, 0, 108, 21, 5, 16, 123, 159, 0, 101, 21, 5, 16, 125, 159, 0, 94, 21, 5]
abbrev dktX8_scan_13 : List UInt8 := dkwX8_scan_13 ++ dktX8_scan_14
def dkwX8_scan_12 : List UInt8 := [160, 0, 9, 17, 1, 4, 167, 0, 6, 17, 1, 5, 54, 4, 167, 0, 126, 21, 5, 16, 40, 159, 0, 115]
abbrev dktX8_scan_12 : List UInt8 := dkwX8_scan_12 ++ dktX8_scan_13
def dkwX8_scan_11 : List UInt8 := [17, 1, 2, 167, 0, 32, 21, 5, 16, 33, 160, 0, 9, 17, 1, 3, 167, 0, 19, 21, 5, 16, 38]
abbrev dktX8_scan_11 : List UInt8 := dkwX8_scan_11 ++ dktX8_scan_12
def dkwX8_scan_10 : List UInt8 := [167, 0, 58, 21, 5, 16, 62, 160, 0, 9, 17, 1, 1, 167, 0, 45, 21, 5, 16, 61, 160, 0, 9]
abbrev dktX8_scan_10 : List UInt8 := dkwX8_scan_10 ++ dktX8_scan_11
def dkwX8_scan_9 : List UInt8 := [16, 124, 16, 124, 182, 0, 120, 153, 0, 78, 5, 62, 21, 5, 16, 60, 160, 0, 9, 17, 1, 0]
abbrev dktX8_scan_9 : List UInt8 := dkwX8_scan_9 ++ dktX8_scan_10
def dkwX8_scan_8 : List UInt8 := [16, 33, 16, 61, 182, 0, 120, 154, 0, 27, 42, 27, 16, 38, 16, 38, 182, 0, 120, 154, 0, 15, 42, 27]
abbrev dktX8_scan_8 : List UInt8 := dkwX8_scan_8 ++ dktX8_scan_9
def dkwX8_scan_7 : List UInt8 := [16, 62, 16, 61, 182, 0, 120, 154, 0, 51, 42, 27, 16, 61, 16, 61, 182, 0, 120, 154, 0, 39, 42, 27]
abbrev dktX8_scan_7 : List UInt8 := dkwX8_scan_7 ++ dktX8_scan_8
def dkwX8_scan_6 : List UInt8 := [167, 0, 4, 4, 54, 4, 167, 1, 17, 42, 27, 16, 60, 16, 61, 182, 0, 120, 154, 0, 63, 42, 27]
abbrev dktX8_scan_6 : List UInt8 := dkwX8_scan_6 ++ dktX8_scan_7
def dkwX8_scan_5 : List UInt8 := [96, 46, 184, 0, 117, 153, 0, 9, 132, 3, 1, 167, 255, 229, 42, 27, 29, 182, 0, 151, 153, 0, 7, 6]
abbrev dktX8_scan_5 : List UInt8 := dkwX8_scan_5 ++ dktX8_scan_6
def dkwX8_scan_4 : List UInt8 := [21, 5, 184, 0, 117, 153, 0, 52, 27, 29, 96, 42, 180, 0, 110, 162, 0, 23, 42, 180, 0, 9, 27, 29]
abbrev dktX8_scan_4 : List UInt8 := dkwX8_scan_4 ++ dktX8_scan_5
def dkwX8_scan_3 : List UInt8 := [182, 0, 137, 153, 0, 9, 132, 3, 1, 167, 255, 243, 42, 27, 29, 182, 0, 147, 54, 4, 167, 1, 74]
abbrev dktX8_scan_3 : List UInt8 := dkwX8_scan_3 ++ dktX8_scan_4
def dkwX8_scan_2 : List UInt8 := [161, 0, 11, 3, 54, 4, 3, 62, 167, 1, 109, 21, 5, 184, 0, 113, 153, 0, 30, 42, 27, 29, 96]
abbrev dktX8_scan_2 : List UInt8 := dkwX8_scan_2 ++ dktX8_scan_3
def dkwX8_scan_1 : List UInt8 := [180, 0, 110, 162, 0, 12, 42, 180, 0, 9, 27, 46, 167, 0, 4, 3, 54, 5, 27, 42, 180, 0, 110]
abbrev dktX8_scan_1 : List UInt8 := dkwX8_scan_1 ++ dktX8_scan_2
def dkwX8_scan_0 : List UInt8 := [42, 3, 181, 0, 140, 42, 3, 182, 0, 143, 60, 4, 61, 28, 153, 1, 219, 4, 62, 4, 54, 4, 27, 42]
abbrev dktX8_scan_0 : List UInt8 := dkwX8_scan_0 ++ dktX8_scan_1
theorem dksX8_scan_0 : cX8_scan.data.toList.drop 0 = dktX8_scan_0 := by decide +kernel
theorem dksX8_scan_1 : cX8_scan.data.toList.drop 24 = dktX8_scan_1 := dk_seg dksX8_scan_0 24 rfl rfl
theorem dksX8_scan_2 : cX8_scan.data.toList.drop 47 = dktX8_scan_2 := dk_seg dksX8_scan_1 23 rfl rfl
theorem dksX8_scan_3 : cX8_scan.data.toList.drop 70 = dktX8_scan_3 := dk_seg dksX8_scan_2 23 rfl rfl
theorem dksX8_scan_4 : cX8_scan.data.toList.drop 93 = dktX8_scan_4 := dk_seg dksX8_scan_3 23 rfl rfl
theorem dksX8_scan_5 : cX8_scan.data.toList.drop 117 = dktX8_scan_5 := dk_seg dksX8_scan_4 24 rfl rfl
theorem dksX8_scan_6 : cX8_scan.data.toList.drop 141 = dktX8_scan_6 := dk_seg dksX8_scan_5 24 rfl rfl
theorem dksX8_scan_7 : cX8_scan.data.toList.drop 164 = dktX8_scan_7 := dk_seg dksX8_scan_6 23 rfl rfl
theorem dksX8_scan_8 : cX8_scan.data.toList.drop 188 = dktX8_scan_8 := dk_seg dksX8_scan_7 24 rfl rfl
theorem dksX8_scan_9 : cX8_scan.data.toList.drop 212 = dktX8_scan_9 := dk_seg dksX8_scan_8 24 rfl rfl
theorem dksX8_scan_10 : cX8_scan.data.toList.drop 234 = dktX8_scan_10 := dk_seg dksX8_scan_9 22 rfl rfl
theorem dksX8_scan_11 : cX8_scan.data.toList.drop 257 = dktX8_scan_11 := dk_seg dksX8_scan_10 23 rfl rfl
theorem dksX8_scan_12 : cX8_scan.data.toList.drop 280 = dktX8_scan_12 := dk_seg dksX8_scan_11 23 rfl rfl
theorem dksX8_scan_13 : cX8_scan.data.toList.drop 304 = dktX8_scan_13 := dk_seg dksX8_scan_12 24 rfl rfl
theorem dksX8_scan_14 : cX8_scan.data.toList.drop 327 = dktX8_scan_14 := dk_seg dksX8_scan_13 23 rfl rfl
theorem dksX8_scan_15 : cX8_scan.data.toList.drop 350 = dktX8_scan_15 := dk_seg dksX8_scan_14 23 rfl rfl
theorem dksX8_scan_16 : cX8_scan.data.toList.drop 374 = dktX8_scan_16 := dk_seg dksX8_scan_15 24 rfl rfl
theorem dksX8_scan_17 : cX8_scan.data.toList.drop 397 = dktX8_scan_17 := dk_seg dksX8_scan_16 23 rfl rfl
theorem dksX8_scan_18 : cX8_scan.data.toList.drop 421 = dktX8_scan_18 := dk_seg dksX8_scan_17 24 rfl rfl
theorem dksX8_scan_19 : cX8_scan.data.toList.drop 445 = dktX8_scan_19 := dk_seg dksX8_scan_18 24 rfl rfl
theorem dksX8_scan_20 : cX8_scan.data.toList.drop 469 = dktX8_scan_20 := dk_seg dksX8_scan_19 24 rfl rfl
theorem dX8_scan_0 : decode cX8_scan 0 = .ok (.aload_n 0, 1) := dk_42 (dk_at dksX8_scan_0 0 rfl rfl)
theorem dX8_scan_1 : decode cX8_scan 1 = .ok (.iconst 0, 1) := dk_3 (dk_at dksX8_scan_0 1 rfl rfl)
theorem dX8_scan_2 : decode cX8_scan 2 = .ok (.putfield 140, 3) := dk_181 0 140 (dk_at dksX8_scan_0 2 rfl rfl)
theorem dX8_scan_5 : decode cX8_scan 5 = .ok (.aload_n 0, 1) := dk_42 (dk_at dksX8_scan_0 5 rfl rfl)
theorem dX8_scan_6 : decode cX8_scan 6 = .ok (.iconst 0, 1) := dk_3 (dk_at dksX8_scan_0 6 rfl rfl)
theorem dX8_scan_7 : decode cX8_scan 7 = .ok (.invokevirtual 143, 3) := dk_182 0 143 (dk_at dksX8_scan_0 7 rfl rfl)
theorem dX8_scan_10 : decode cX8_scan 10 = .ok (.istore_n 1, 1) := dk_60 (dk_at dksX8_scan_0 10 rfl rfl)
theorem dX8_scan_11 : decode cX8_scan 11 = .ok (.iconst 1, 1) := dk_4 (dk_at dksX8_scan_0 11 rfl rfl)
theorem dX8_scan_12 : decode cX8_scan 12 = .ok (.istore_n 2, 1) := dk_61 (dk_at dksX8_scan_0 12 rfl rfl)
theorem dX8_scan_13 : decode cX8_scan 13 = .ok (.iload_n 2, 1) := dk_28 (dk_at dksX8_scan_0 13 rfl rfl)
theorem dX8_scan_14 : decode cX8_scan 14 = .ok (.ifCond .eq 475, 3) := dk_153 1 219 (dk_at dksX8_scan_0 14 rfl rfl)
theorem dX8_scan_17 : decode cX8_scan 17 = .ok (.iconst 1, 1) := dk_4 (dk_at dksX8_scan_0 17 rfl rfl)
theorem dX8_scan_18 : decode cX8_scan 18 = .ok (.istore_n 3, 1) := dk_62 (dk_at dksX8_scan_0 18 rfl rfl)
theorem dX8_scan_19 : decode cX8_scan 19 = .ok (.iconst 1, 1) := dk_4 (dk_at dksX8_scan_0 19 rfl rfl)
theorem dX8_scan_20 : decode cX8_scan 20 = .ok (.istore 4, 2) := dk_54 4 (dk_at dksX8_scan_0 20 rfl rfl)
theorem dX8_scan_22 : decode cX8_scan 22 = .ok (.iload_n 1, 1) := dk_27 (dk_at dksX8_scan_0 22 rfl rfl)
theorem dX8_scan_23 : decode cX8_scan 23 = .ok (.aload_n 0, 1) := dk_42 (dk_at dksX8_scan_0 23 rfl rfl)
theorem dX8_scan_24 : decode cX8_scan 24 = .ok (.getfield 110, 3) := dk_180 0 110 (dk_at dksX8_scan_1 0 rfl rfl)
theorem dX8_scan_27 : decode cX8_scan 27 = .ok (.if_icmp .ge 12, 3) := dk_162 0 12 (dk_at dksX8_scan_1 3 rfl rfl)
theorem dX8_scan_30 : decode cX8_scan 30 = .ok (.aload_n 0, 1) := dk_42 (dk_at dksX8_scan_1 6 rfl rfl)
theorem dX8_scan_31 : decode cX8_scan 31 = .ok (.getfield 9, 3) := dk_180 0 9 (dk_at dksX8_scan_1 7 rfl rfl)
theorem dX8_scan_34 : decode cX8_scan 34 = .ok (.iload_n 1, 1) := dk_27 (dk_at dksX8_scan_1 10 rfl rfl)
theorem dX8_scan_35 : decode cX8_scan 35 = .ok (.iaload, 1) := dk_46 (dk_at dksX8_scan_1 11 rfl rfl)
theorem dX8_scan_36 : decode cX8_scan 36 = .ok (.goto 4, 3) := dk_167 0 4 (dk_at dksX8_scan_1 12 rfl rfl)
theorem dX8_scan_39 : decode cX8_scan 39 = .ok (.iconst 0, 1) := dk_3 (dk_at dksX8_scan_1 15 rfl rfl)
theorem dX8_scan_40 : decode cX8_scan 40 = .ok (.istore 5, 2) := dk_54 5 (dk_at dksX8_scan_1 16 rfl rfl)
theorem dX8_scan_42 : decode cX8_scan 42 = .ok (.iload_n 1, 1) := dk_27 (dk_at dksX8_scan_1 18 rfl rfl)
theorem dX8_scan_43 : decode cX8_scan 43 = .ok (.aload_n 0, 1) := dk_42 (dk_at dksX8_scan_1 19 rfl rfl)
theorem dX8_scan_44 : decode cX8_scan 44 = .ok (.getfield 110, 3) := dk_180 0 110 (dk_at dksX8_scan_1 20 rfl rfl)
theorem dX8_scan_47 : decode cX8_scan 47 = .ok (.if_icmp .lt 11, 3) := dk_161 0 11 (dk_at dksX8_scan_2 0 rfl rfl)
theorem dX8_scan_50 : decode cX8_scan 50 = .ok (.iconst 0, 1) := dk_3 (dk_at dksX8_scan_2 3 rfl rfl)
theorem dX8_scan_51 : decode cX8_scan 51 = .ok (.istore 4, 2) := dk_54 4 (dk_at dksX8_scan_2 4 rfl rfl)
theorem dX8_scan_53 : decode cX8_scan 53 = .ok (.iconst 0, 1) := dk_3 (dk_at dksX8_scan_2 6 rfl rfl)
theorem dX8_scan_54 : decode cX8_scan 54 = .ok (.istore_n 3, 1) := dk_62 (dk_at dksX8_scan_2 7 rfl rfl)
theorem dX8_scan_55 : decode cX8_scan 55 = .ok (.goto 365, 3) := dk_167 1 109 (dk_at dksX8_scan_2 8 rfl rfl)
theorem dX8_scan_58 : decode cX8_scan 58 = .ok (.iload 5, 2) := dk_21 5 (dk_at dksX8_scan_2 11 rfl rfl)
theorem dX8_scan_60 : decode cX8_scan 60 = .ok (.invokestatic 113, 3) := dk_184 0 113 (dk_at dksX8_scan_2 13 rfl rfl)
theorem dX8_scan_63 : decode cX8_scan 63 = .ok (.ifCond .eq 30, 3) := dk_153 0 30 (dk_at dksX8_scan_2 16 rfl rfl)
theorem dX8_scan_66 : decode cX8_scan 66 = .ok (.aload_n 0, 1) := dk_42 (dk_at dksX8_scan_2 19 rfl rfl)
theorem dX8_scan_67 : decode cX8_scan 67 = .ok (.iload_n 1, 1) := dk_27 (dk_at dksX8_scan_2 20 rfl rfl)
theorem dX8_scan_68 : decode cX8_scan 68 = .ok (.iload_n 3, 1) := dk_29 (dk_at dksX8_scan_2 21 rfl rfl)
theorem dX8_scan_69 : decode cX8_scan 69 = .ok (.iadd, 1) := dk_96 (dk_at dksX8_scan_2 22 rfl rfl)
theorem dX8_scan_70 : decode cX8_scan 70 = .ok (.invokevirtual 137, 3) := dk_182 0 137 (dk_at dksX8_scan_3 0 rfl rfl)
theorem dX8_scan_73 : decode cX8_scan 73 = .ok (.ifCond .eq 9, 3) := dk_153 0 9 (dk_at dksX8_scan_3 3 rfl rfl)
theorem dX8_scan_76 : decode cX8_scan 76 = .ok (.iinc 3 1, 3) := dk_132 3 1 (dk_at dksX8_scan_3 6 rfl rfl)
theorem dX8_scan_79 : decode cX8_scan 79 = .ok (.goto (-13), 3) := dk_167 255 243 (dk_at dksX8_scan_3 9 rfl rfl)
theorem dX8_scan_82 : decode cX8_scan 82 = .ok (.aload_n 0, 1) := dk_42 (dk_at dksX8_scan_3 12 rfl rfl)
theorem dX8_scan_83 : decode cX8_scan 83 = .ok (.iload_n 1, 1) := dk_27 (dk_at dksX8_scan_3 13 rfl rfl)
theorem dX8_scan_84 : decode cX8_scan 84 = .ok (.iload_n 3, 1) := dk_29 (dk_at dksX8_scan_3 14 rfl rfl)
theorem dX8_scan_85 : decode cX8_scan 85 = .ok (.invokevirtual 147, 3) := dk_182 0 147 (dk_at dksX8_scan_3 15 rfl rfl)
theorem dX8_scan_88 : decode cX8_scan 88 = .ok (.istore 4, 2) := dk_54 4 (dk_at dksX8_scan_3 18 rfl rfl)
theorem dX8_scan_90 : decode cX8_scan 90 = .ok (.goto 330, 3) := dk_167 1 74 (dk_at dksX8_scan_3 20 rfl rfl)
theorem dX8_scan_93 : decode cX8_scan 93 = .ok (.iload 5, 2) := dk_21 5 (dk_at dksX8_scan_4 0 rfl rfl)
theorem dX8_scan_95 : decode cX8_scan 95 = .ok (.invokestatic 117, 3) := dk_184 0 117 (dk_at dksX8_scan_4 2 rfl rfl)
theorem dX8_scan_98 : decode cX8_scan 98 = .ok (.ifCond .eq 52, 3) := dk_153 0 52 (dk_at dksX8_scan_4 5 rfl rfl)
theorem dX8_scan_101 : decode cX8_scan 101 = .ok (.iload_n 1, 1) := dk_27 (dk_at dksX8_scan_4 8 rfl rfl)
theorem dX8_scan_102 : decode cX8_scan 102 = .ok (.iload_n 3, 1) := dk_29 (dk_at dksX8_scan_4 9 rfl rfl)
theorem dX8_scan_103 : decode cX8_scan 103 = .ok (.iadd, 1) := dk_96 (dk_at dksX8_scan_4 10 rfl rfl)
theorem dX8_scan_104 : decode cX8_scan 104 = .ok (.aload_n 0, 1) := dk_42 (dk_at dksX8_scan_4 11 rfl rfl)
theorem dX8_scan_105 : decode cX8_scan 105 = .ok (.getfield 110, 3) := dk_180 0 110 (dk_at dksX8_scan_4 12 rfl rfl)
theorem dX8_scan_108 : decode cX8_scan 108 = .ok (.if_icmp .ge 23, 3) := dk_162 0 23 (dk_at dksX8_scan_4 15 rfl rfl)
theorem dX8_scan_111 : decode cX8_scan 111 = .ok (.aload_n 0, 1) := dk_42 (dk_at dksX8_scan_4 18 rfl rfl)
theorem dX8_scan_112 : decode cX8_scan 112 = .ok (.getfield 9, 3) := dk_180 0 9 (dk_at dksX8_scan_4 19 rfl rfl)
theorem dX8_scan_115 : decode cX8_scan 115 = .ok (.iload_n 1, 1) := dk_27 (dk_at dksX8_scan_4 22 rfl rfl)
theorem dX8_scan_116 : decode cX8_scan 116 = .ok (.iload_n 3, 1) := dk_29 (dk_at dksX8_scan_4 23 rfl rfl)
theorem dX8_scan_117 : decode cX8_scan 117 = .ok (.iadd, 1) := dk_96 (dk_at dksX8_scan_5 0 rfl rfl)
theorem dX8_scan_118 : decode cX8_scan 118 = .ok (.iaload, 1) := dk_46 (dk_at dksX8_scan_5 1 rfl rfl)
theorem dX8_scan_119 : decode cX8_scan 119 = .ok (.invokestatic 117, 3) := dk_184 0 117 (dk_at dksX8_scan_5 2 rfl rfl)
theorem dX8_scan_122 : decode cX8_scan 122 = .ok (.ifCond .eq 9, 3) := dk_153 0 9 (dk_at dksX8_scan_5 5 rfl rfl)
theorem dX8_scan_125 : decode cX8_scan 125 = .ok (.iinc 3 1, 3) := dk_132 3 1 (dk_at dksX8_scan_5 8 rfl rfl)
theorem dX8_scan_128 : decode cX8_scan 128 = .ok (.goto (-27), 3) := dk_167 255 229 (dk_at dksX8_scan_5 11 rfl rfl)
theorem dX8_scan_131 : decode cX8_scan 131 = .ok (.aload_n 0, 1) := dk_42 (dk_at dksX8_scan_5 14 rfl rfl)
theorem dX8_scan_132 : decode cX8_scan 132 = .ok (.iload_n 1, 1) := dk_27 (dk_at dksX8_scan_5 15 rfl rfl)
theorem dX8_scan_133 : decode cX8_scan 133 = .ok (.iload_n 3, 1) := dk_29 (dk_at dksX8_scan_5 16 rfl rfl)
theorem dX8_scan_134 : decode cX8_scan 134 = .ok (.invokevirtual 151, 3) := dk_182 0 151 (dk_at dksX8_scan_5 17 rfl rfl)
theorem dX8_scan_137 : decode cX8_scan 137 = .ok (.ifCond .eq 7, 3) := dk_153 0 7 (dk_at dksX8_scan_5 20 rfl rfl)
theorem dX8_scan_140 : decode cX8_scan 140 = .ok (.iconst 3, 1) := dk_6 (dk_at dksX8_scan_5 23 rfl rfl)
theorem dX8_scan_141 : decode cX8_scan 141 = .ok (.goto 4, 3) := dk_167 0 4 (dk_at dksX8_scan_6 0 rfl rfl)
theorem dX8_scan_144 : decode cX8_scan 144 = .ok (.iconst 1, 1) := dk_4 (dk_at dksX8_scan_6 3 rfl rfl)
theorem dX8_scan_145 : decode cX8_scan 145 = .ok (.istore 4, 2) := dk_54 4 (dk_at dksX8_scan_6 4 rfl rfl)
theorem dX8_scan_147 : decode cX8_scan 147 = .ok (.goto 273, 3) := dk_167 1 17 (dk_at dksX8_scan_6 6 rfl rfl)
theorem dX8_scan_150 : decode cX8_scan 150 = .ok (.aload_n 0, 1) := dk_42 (dk_at dksX8_scan_6 9 rfl rfl)
theorem dX8_scan_151 : decode cX8_scan 151 = .ok (.iload_n 1, 1) := dk_27 (dk_at dksX8_scan_6 10 rfl rfl)
theorem dX8_scan_152 : decode cX8_scan 152 = .ok (.bipush 60, 2) := dk_16 60 (dk_at dksX8_scan_6 11 rfl rfl)
theorem dX8_scan_154 : decode cX8_scan 154 = .ok (.bipush 61, 2) := dk_16 61 (dk_at dksX8_scan_6 13 rfl rfl)
theorem dX8_scan_156 : decode cX8_scan 156 = .ok (.invokevirtual 120, 3) := dk_182 0 120 (dk_at dksX8_scan_6 15 rfl rfl)
theorem dX8_scan_159 : decode cX8_scan 159 = .ok (.ifCond .ne 63, 3) := dk_154 0 63 (dk_at dksX8_scan_6 18 rfl rfl)
theorem dX8_scan_162 : decode cX8_scan 162 = .ok (.aload_n 0, 1) := dk_42 (dk_at dksX8_scan_6 21 rfl rfl)
theorem dX8_scan_163 : decode cX8_scan 163 = .ok (.iload_n 1, 1) := dk_27 (dk_at dksX8_scan_6 22 rfl rfl)
theorem dX8_scan_164 : decode cX8_scan 164 = .ok (.bipush 62, 2) := dk_16 62 (dk_at dksX8_scan_7 0 rfl rfl)
theorem dX8_scan_166 : decode cX8_scan 166 = .ok (.bipush 61, 2) := dk_16 61 (dk_at dksX8_scan_7 2 rfl rfl)
theorem dX8_scan_168 : decode cX8_scan 168 = .ok (.invokevirtual 120, 3) := dk_182 0 120 (dk_at dksX8_scan_7 4 rfl rfl)
theorem dX8_scan_171 : decode cX8_scan 171 = .ok (.ifCond .ne 51, 3) := dk_154 0 51 (dk_at dksX8_scan_7 7 rfl rfl)
theorem dX8_scan_174 : decode cX8_scan 174 = .ok (.aload_n 0, 1) := dk_42 (dk_at dksX8_scan_7 10 rfl rfl)
theorem dX8_scan_175 : decode cX8_scan 175 = .ok (.iload_n 1, 1) := dk_27 (dk_at dksX8_scan_7 11 rfl rfl)
theorem dX8_scan_176 : decode cX8_scan 176 = .ok (.bipush 61, 2) := dk_16 61 (dk_at dksX8_scan_7 12 rfl rfl)
theorem dX8_scan_178 : decode cX8_scan 178 = .ok (.bipush 61, 2) := dk_16 61 (dk_at dksX8_scan_7 14 rfl rfl)
theorem dX8_scan_180 : decode cX8_scan 180 = .ok (.invokevirtual 120, 3) := dk_182 0 120 (dk_at dksX8_scan_7 16 rfl rfl)
theorem dX8_scan_183 : decode cX8_scan 183 = .ok (.ifCond .ne 39, 3) := dk_154 0 39 (dk_at dksX8_scan_7 19 rfl rfl)
theorem dX8_scan_186 : decode cX8_scan 186 = .ok (.aload_n 0, 1) := dk_42 (dk_at dksX8_scan_7 22 rfl rfl)
theorem dX8_scan_187 : decode cX8_scan 187 = .ok (.iload_n 1, 1) := dk_27 (dk_at dksX8_scan_7 23 rfl rfl)
theorem dX8_scan_188 : decode cX8_scan 188 = .ok (.bipush 33, 2) := dk_16 33 (dk_at dksX8_scan_8 0 rfl rfl)
theorem dX8_scan_190 : decode cX8_scan 190 = .ok (.bipush 61, 2) := dk_16 61 (dk_at dksX8_scan_8 2 rfl rfl)
theorem dX8_scan_192 : decode cX8_scan 192 = .ok (.invokevirtual 120, 3) := dk_182 0 120 (dk_at dksX8_scan_8 4 rfl rfl)
theorem dX8_scan_195 : decode cX8_scan 195 = .ok (.ifCond .ne 27, 3) := dk_154 0 27 (dk_at dksX8_scan_8 7 rfl rfl)
theorem dX8_scan_198 : decode cX8_scan 198 = .ok (.aload_n 0, 1) := dk_42 (dk_at dksX8_scan_8 10 rfl rfl)
theorem dX8_scan_199 : decode cX8_scan 199 = .ok (.iload_n 1, 1) := dk_27 (dk_at dksX8_scan_8 11 rfl rfl)
theorem dX8_scan_200 : decode cX8_scan 200 = .ok (.bipush 38, 2) := dk_16 38 (dk_at dksX8_scan_8 12 rfl rfl)
theorem dX8_scan_202 : decode cX8_scan 202 = .ok (.bipush 38, 2) := dk_16 38 (dk_at dksX8_scan_8 14 rfl rfl)
theorem dX8_scan_204 : decode cX8_scan 204 = .ok (.invokevirtual 120, 3) := dk_182 0 120 (dk_at dksX8_scan_8 16 rfl rfl)
theorem dX8_scan_207 : decode cX8_scan 207 = .ok (.ifCond .ne 15, 3) := dk_154 0 15 (dk_at dksX8_scan_8 19 rfl rfl)
theorem dX8_scan_210 : decode cX8_scan 210 = .ok (.aload_n 0, 1) := dk_42 (dk_at dksX8_scan_8 22 rfl rfl)
theorem dX8_scan_211 : decode cX8_scan 211 = .ok (.iload_n 1, 1) := dk_27 (dk_at dksX8_scan_8 23 rfl rfl)
theorem dX8_scan_212 : decode cX8_scan 212 = .ok (.bipush 124, 2) := dk_16 124 (dk_at dksX8_scan_9 0 rfl rfl)
theorem dX8_scan_214 : decode cX8_scan 214 = .ok (.bipush 124, 2) := dk_16 124 (dk_at dksX8_scan_9 2 rfl rfl)
theorem dX8_scan_216 : decode cX8_scan 216 = .ok (.invokevirtual 120, 3) := dk_182 0 120 (dk_at dksX8_scan_9 4 rfl rfl)
theorem dX8_scan_219 : decode cX8_scan 219 = .ok (.ifCond .eq 78, 3) := dk_153 0 78 (dk_at dksX8_scan_9 7 rfl rfl)
theorem dX8_scan_222 : decode cX8_scan 222 = .ok (.iconst 2, 1) := dk_5 (dk_at dksX8_scan_9 10 rfl rfl)
theorem dX8_scan_223 : decode cX8_scan 223 = .ok (.istore_n 3, 1) := dk_62 (dk_at dksX8_scan_9 11 rfl rfl)
theorem dX8_scan_224 : decode cX8_scan 224 = .ok (.iload 5, 2) := dk_21 5 (dk_at dksX8_scan_9 12 rfl rfl)
theorem dX8_scan_226 : decode cX8_scan 226 = .ok (.bipush 60, 2) := dk_16 60 (dk_at dksX8_scan_9 14 rfl rfl)
theorem dX8_scan_228 : decode cX8_scan 228 = .ok (.if_icmp .ne 9, 3) := dk_160 0 9 (dk_at dksX8_scan_9 16 rfl rfl)
theorem dX8_scan_231 : decode cX8_scan 231 = .ok (.sipush 256, 3) := dk_17 1 0 (dk_at dksX8_scan_9 19 rfl rfl)
theorem dX8_scan_234 : decode cX8_scan 234 = .ok (.goto 58, 3) := dk_167 0 58 (dk_at dksX8_scan_10 0 rfl rfl)
theorem dX8_scan_237 : decode cX8_scan 237 = .ok (.iload 5, 2) := dk_21 5 (dk_at dksX8_scan_10 3 rfl rfl)
theorem dX8_scan_239 : decode cX8_scan 239 = .ok (.bipush 62, 2) := dk_16 62 (dk_at dksX8_scan_10 5 rfl rfl)
theorem dX8_scan_241 : decode cX8_scan 241 = .ok (.if_icmp .ne 9, 3) := dk_160 0 9 (dk_at dksX8_scan_10 7 rfl rfl)
theorem dX8_scan_244 : decode cX8_scan 244 = .ok (.sipush 257, 3) := dk_17 1 1 (dk_at dksX8_scan_10 10 rfl rfl)
theorem dX8_scan_247 : decode cX8_scan 247 = .ok (.goto 45, 3) := dk_167 0 45 (dk_at dksX8_scan_10 13 rfl rfl)
theorem dX8_scan_250 : decode cX8_scan 250 = .ok (.iload 5, 2) := dk_21 5 (dk_at dksX8_scan_10 16 rfl rfl)
theorem dX8_scan_252 : decode cX8_scan 252 = .ok (.bipush 61, 2) := dk_16 61 (dk_at dksX8_scan_10 18 rfl rfl)
theorem dX8_scan_254 : decode cX8_scan 254 = .ok (.if_icmp .ne 9, 3) := dk_160 0 9 (dk_at dksX8_scan_10 20 rfl rfl)
theorem dX8_scan_257 : decode cX8_scan 257 = .ok (.sipush 258, 3) := dk_17 1 2 (dk_at dksX8_scan_11 0 rfl rfl)
theorem dX8_scan_260 : decode cX8_scan 260 = .ok (.goto 32, 3) := dk_167 0 32 (dk_at dksX8_scan_11 3 rfl rfl)
theorem dX8_scan_263 : decode cX8_scan 263 = .ok (.iload 5, 2) := dk_21 5 (dk_at dksX8_scan_11 6 rfl rfl)
theorem dX8_scan_265 : decode cX8_scan 265 = .ok (.bipush 33, 2) := dk_16 33 (dk_at dksX8_scan_11 8 rfl rfl)
theorem dX8_scan_267 : decode cX8_scan 267 = .ok (.if_icmp .ne 9, 3) := dk_160 0 9 (dk_at dksX8_scan_11 10 rfl rfl)
theorem dX8_scan_270 : decode cX8_scan 270 = .ok (.sipush 259, 3) := dk_17 1 3 (dk_at dksX8_scan_11 13 rfl rfl)
theorem dX8_scan_273 : decode cX8_scan 273 = .ok (.goto 19, 3) := dk_167 0 19 (dk_at dksX8_scan_11 16 rfl rfl)
theorem dX8_scan_276 : decode cX8_scan 276 = .ok (.iload 5, 2) := dk_21 5 (dk_at dksX8_scan_11 19 rfl rfl)
theorem dX8_scan_278 : decode cX8_scan 278 = .ok (.bipush 38, 2) := dk_16 38 (dk_at dksX8_scan_11 21 rfl rfl)
theorem dX8_scan_280 : decode cX8_scan 280 = .ok (.if_icmp .ne 9, 3) := dk_160 0 9 (dk_at dksX8_scan_12 0 rfl rfl)
theorem dX8_scan_283 : decode cX8_scan 283 = .ok (.sipush 260, 3) := dk_17 1 4 (dk_at dksX8_scan_12 3 rfl rfl)
theorem dX8_scan_286 : decode cX8_scan 286 = .ok (.goto 6, 3) := dk_167 0 6 (dk_at dksX8_scan_12 6 rfl rfl)
theorem dX8_scan_289 : decode cX8_scan 289 = .ok (.sipush 261, 3) := dk_17 1 5 (dk_at dksX8_scan_12 9 rfl rfl)
theorem dX8_scan_292 : decode cX8_scan 292 = .ok (.istore 4, 2) := dk_54 4 (dk_at dksX8_scan_12 12 rfl rfl)
theorem dX8_scan_294 : decode cX8_scan 294 = .ok (.goto 126, 3) := dk_167 0 126 (dk_at dksX8_scan_12 14 rfl rfl)
theorem dX8_scan_297 : decode cX8_scan 297 = .ok (.iload 5, 2) := dk_21 5 (dk_at dksX8_scan_12 17 rfl rfl)
theorem dX8_scan_299 : decode cX8_scan 299 = .ok (.bipush 40, 2) := dk_16 40 (dk_at dksX8_scan_12 19 rfl rfl)
theorem dX8_scan_301 : decode cX8_scan 301 = .ok (.if_icmp .eq 115, 3) := dk_159 0 115 (dk_at dksX8_scan_12 21 rfl rfl)
theorem dX8_scan_304 : decode cX8_scan 304 = .ok (.iload 5, 2) := dk_21 5 (dk_at dksX8_scan_13 0 rfl rfl)
theorem dX8_scan_306 : decode cX8_scan 306 = .ok (.bipush 41, 2) := dk_16 41 (dk_at dksX8_scan_13 2 rfl rfl)
theorem dX8_scan_308 : decode cX8_scan 308 = .ok (.if_icmp .eq 108, 3) := dk_159 0 108 (dk_at dksX8_scan_13 4 rfl rfl)
theorem dX8_scan_311 : decode cX8_scan 311 = .ok (.iload 5, 2) := dk_21 5 (dk_at dksX8_scan_13 7 rfl rfl)
theorem dX8_scan_313 : decode cX8_scan 313 = .ok (.bipush 123, 2) := dk_16 123 (dk_at dksX8_scan_13 9 rfl rfl)
theorem dX8_scan_315 : decode cX8_scan 315 = .ok (.if_icmp .eq 101, 3) := dk_159 0 101 (dk_at dksX8_scan_13 11 rfl rfl)
theorem dX8_scan_318 : decode cX8_scan 318 = .ok (.iload 5, 2) := dk_21 5 (dk_at dksX8_scan_13 14 rfl rfl)
theorem dX8_scan_320 : decode cX8_scan 320 = .ok (.bipush 125, 2) := dk_16 125 (dk_at dksX8_scan_13 16 rfl rfl)
theorem dX8_scan_322 : decode cX8_scan 322 = .ok (.if_icmp .eq 94, 3) := dk_159 0 94 (dk_at dksX8_scan_13 18 rfl rfl)
theorem dX8_scan_325 : decode cX8_scan 325 = .ok (.iload 5, 2) := dk_21 5 (dk_at dksX8_scan_13 21 rfl rfl)
theorem dX8_scan_327 : decode cX8_scan 327 = .ok (.bipush 91, 2) := dk_16 91 (dk_at dksX8_scan_14 0 rfl rfl)
theorem dX8_scan_329 : decode cX8_scan 329 = .ok (.if_icmp .eq 87, 3) := dk_159 0 87 (dk_at dksX8_scan_14 2 rfl rfl)
theorem dX8_scan_332 : decode cX8_scan 332 = .ok (.iload 5, 2) := dk_21 5 (dk_at dksX8_scan_14 5 rfl rfl)
theorem dX8_scan_334 : decode cX8_scan 334 = .ok (.bipush 93, 2) := dk_16 93 (dk_at dksX8_scan_14 7 rfl rfl)
theorem dX8_scan_336 : decode cX8_scan 336 = .ok (.if_icmp .eq 80, 3) := dk_159 0 80 (dk_at dksX8_scan_14 9 rfl rfl)
theorem dX8_scan_339 : decode cX8_scan 339 = .ok (.iload 5, 2) := dk_21 5 (dk_at dksX8_scan_14 12 rfl rfl)
theorem dX8_scan_341 : decode cX8_scan 341 = .ok (.bipush 44, 2) := dk_16 44 (dk_at dksX8_scan_14 14 rfl rfl)
theorem dX8_scan_343 : decode cX8_scan 343 = .ok (.if_icmp .eq 73, 3) := dk_159 0 73 (dk_at dksX8_scan_14 16 rfl rfl)
theorem dX8_scan_346 : decode cX8_scan 346 = .ok (.iload 5, 2) := dk_21 5 (dk_at dksX8_scan_14 19 rfl rfl)
theorem dX8_scan_348 : decode cX8_scan 348 = .ok (.bipush 59, 2) := dk_16 59 (dk_at dksX8_scan_14 21 rfl rfl)
theorem dX8_scan_350 : decode cX8_scan 350 = .ok (.if_icmp .eq 66, 3) := dk_159 0 66 (dk_at dksX8_scan_15 0 rfl rfl)
theorem dX8_scan_353 : decode cX8_scan 353 = .ok (.iload 5, 2) := dk_21 5 (dk_at dksX8_scan_15 3 rfl rfl)
theorem dX8_scan_355 : decode cX8_scan 355 = .ok (.bipush 61, 2) := dk_16 61 (dk_at dksX8_scan_15 5 rfl rfl)
theorem dX8_scan_357 : decode cX8_scan 357 = .ok (.if_icmp .eq 59, 3) := dk_159 0 59 (dk_at dksX8_scan_15 7 rfl rfl)
theorem dX8_scan_360 : decode cX8_scan 360 = .ok (.iload 5, 2) := dk_21 5 (dk_at dksX8_scan_15 10 rfl rfl)
theorem dX8_scan_362 : decode cX8_scan 362 = .ok (.bipush 43, 2) := dk_16 43 (dk_at dksX8_scan_15 12 rfl rfl)
theorem dX8_scan_364 : decode cX8_scan 364 = .ok (.if_icmp .eq 52, 3) := dk_159 0 52 (dk_at dksX8_scan_15 14 rfl rfl)
theorem dX8_scan_367 : decode cX8_scan 367 = .ok (.iload 5, 2) := dk_21 5 (dk_at dksX8_scan_15 17 rfl rfl)
theorem dX8_scan_369 : decode cX8_scan 369 = .ok (.bipush 45, 2) := dk_16 45 (dk_at dksX8_scan_15 19 rfl rfl)
theorem dX8_scan_371 : decode cX8_scan 371 = .ok (.if_icmp .eq 45, 3) := dk_159 0 45 (dk_at dksX8_scan_15 21 rfl rfl)
theorem dX8_scan_374 : decode cX8_scan 374 = .ok (.iload 5, 2) := dk_21 5 (dk_at dksX8_scan_16 0 rfl rfl)
theorem dX8_scan_376 : decode cX8_scan 376 = .ok (.bipush 42, 2) := dk_16 42 (dk_at dksX8_scan_16 2 rfl rfl)
theorem dX8_scan_378 : decode cX8_scan 378 = .ok (.if_icmp .eq 38, 3) := dk_159 0 38 (dk_at dksX8_scan_16 4 rfl rfl)
theorem dX8_scan_381 : decode cX8_scan 381 = .ok (.iload 5, 2) := dk_21 5 (dk_at dksX8_scan_16 7 rfl rfl)
theorem dX8_scan_383 : decode cX8_scan 383 = .ok (.bipush 47, 2) := dk_16 47 (dk_at dksX8_scan_16 9 rfl rfl)
theorem dX8_scan_385 : decode cX8_scan 385 = .ok (.if_icmp .eq 31, 3) := dk_159 0 31 (dk_at dksX8_scan_16 11 rfl rfl)
theorem dX8_scan_388 : decode cX8_scan 388 = .ok (.iload 5, 2) := dk_21 5 (dk_at dksX8_scan_16 14 rfl rfl)
theorem dX8_scan_390 : decode cX8_scan 390 = .ok (.bipush 37, 2) := dk_16 37 (dk_at dksX8_scan_16 16 rfl rfl)
theorem dX8_scan_392 : decode cX8_scan 392 = .ok (.if_icmp .eq 24, 3) := dk_159 0 24 (dk_at dksX8_scan_16 18 rfl rfl)
theorem dX8_scan_395 : decode cX8_scan 395 = .ok (.iload 5, 2) := dk_21 5 (dk_at dksX8_scan_16 21 rfl rfl)
theorem dX8_scan_397 : decode cX8_scan 397 = .ok (.bipush 60, 2) := dk_16 60 (dk_at dksX8_scan_17 0 rfl rfl)
theorem dX8_scan_399 : decode cX8_scan 399 = .ok (.if_icmp .eq 17, 3) := dk_159 0 17 (dk_at dksX8_scan_17 2 rfl rfl)
theorem dX8_scan_402 : decode cX8_scan 402 = .ok (.iload 5, 2) := dk_21 5 (dk_at dksX8_scan_17 5 rfl rfl)
theorem dX8_scan_404 : decode cX8_scan 404 = .ok (.bipush 62, 2) := dk_16 62 (dk_at dksX8_scan_17 7 rfl rfl)
theorem dX8_scan_406 : decode cX8_scan 406 = .ok (.if_icmp .eq 10, 3) := dk_159 0 10 (dk_at dksX8_scan_17 9 rfl rfl)
theorem dX8_scan_409 : decode cX8_scan 409 = .ok (.iload 5, 2) := dk_21 5 (dk_at dksX8_scan_17 12 rfl rfl)
theorem dX8_scan_411 : decode cX8_scan 411 = .ok (.bipush 33, 2) := dk_16 33 (dk_at dksX8_scan_17 14 rfl rfl)
theorem dX8_scan_413 : decode cX8_scan 413 = .ok (.if_icmp .ne 7, 3) := dk_160 0 7 (dk_at dksX8_scan_17 16 rfl rfl)
theorem dX8_scan_416 : decode cX8_scan 416 = .ok (.iload 5, 2) := dk_21 5 (dk_at dksX8_scan_17 19 rfl rfl)
theorem dX8_scan_418 : decode cX8_scan 418 = .ok (.istore 4, 2) := dk_54 4 (dk_at dksX8_scan_17 21 rfl rfl)
theorem dX8_scan_420 : decode cX8_scan 420 = .ok (.aload_n 0, 1) := dk_42 (dk_at dksX8_scan_17 23 rfl rfl)
theorem dX8_scan_421 : decode cX8_scan 421 = .ok (.getfield 19, 3) := dk_180 0 19 (dk_at dksX8_scan_18 0 rfl rfl)
theorem dX8_scan_424 : decode cX8_scan 424 = .ok (.aload_n 0, 1) := dk_42 (dk_at dksX8_scan_18 3 rfl rfl)
theorem dX8_scan_425 : decode cX8_scan 425 = .ok (.getfield 140, 3) := dk_180 0 140 (dk_at dksX8_scan_18 4 rfl rfl)
theorem dX8_scan_428 : decode cX8_scan 428 = .ok (.iload 4, 2) := dk_21 4 (dk_at dksX8_scan_18 7 rfl rfl)
theorem dX8_scan_430 : decode cX8_scan 430 = .ok (.iastore, 1) := dk_79 (dk_at dksX8_scan_18 9 rfl rfl)
theorem dX8_scan_431 : decode cX8_scan 431 = .ok (.aload_n 0, 1) := dk_42 (dk_at dksX8_scan_18 10 rfl rfl)
theorem dX8_scan_432 : decode cX8_scan 432 = .ok (.getfield 22, 3) := dk_180 0 22 (dk_at dksX8_scan_18 11 rfl rfl)
theorem dX8_scan_435 : decode cX8_scan 435 = .ok (.aload_n 0, 1) := dk_42 (dk_at dksX8_scan_18 14 rfl rfl)
theorem dX8_scan_436 : decode cX8_scan 436 = .ok (.getfield 140, 3) := dk_180 0 140 (dk_at dksX8_scan_18 15 rfl rfl)
theorem dX8_scan_439 : decode cX8_scan 439 = .ok (.iload_n 1, 1) := dk_27 (dk_at dksX8_scan_18 18 rfl rfl)
theorem dX8_scan_440 : decode cX8_scan 440 = .ok (.iastore, 1) := dk_79 (dk_at dksX8_scan_18 19 rfl rfl)
theorem dX8_scan_441 : decode cX8_scan 441 = .ok (.aload_n 0, 1) := dk_42 (dk_at dksX8_scan_18 20 rfl rfl)
theorem dX8_scan_442 : decode cX8_scan 442 = .ok (.getfield 25, 3) := dk_180 0 25 (dk_at dksX8_scan_18 21 rfl rfl)
theorem dX8_scan_445 : decode cX8_scan 445 = .ok (.aload_n 0, 1) := dk_42 (dk_at dksX8_scan_19 0 rfl rfl)
theorem dX8_scan_446 : decode cX8_scan 446 = .ok (.getfield 140, 3) := dk_180 0 140 (dk_at dksX8_scan_19 1 rfl rfl)
theorem dX8_scan_449 : decode cX8_scan 449 = .ok (.iload_n 3, 1) := dk_29 (dk_at dksX8_scan_19 4 rfl rfl)
theorem dX8_scan_450 : decode cX8_scan 450 = .ok (.iastore, 1) := dk_79 (dk_at dksX8_scan_19 5 rfl rfl)
theorem dX8_scan_451 : decode cX8_scan 451 = .ok (.aload_n 0, 1) := dk_42 (dk_at dksX8_scan_19 6 rfl rfl)
theorem dX8_scan_452 : decode cX8_scan 452 = .ok (.dup, 1) := dk_89 (dk_at dksX8_scan_19 7 rfl rfl)
theorem dX8_scan_453 : decode cX8_scan 453 = .ok (.getfield 140, 3) := dk_180 0 140 (dk_at dksX8_scan_19 8 rfl rfl)
theorem dX8_scan_456 : decode cX8_scan 456 = .ok (.iconst 1, 1) := dk_4 (dk_at dksX8_scan_19 11 rfl rfl)
theorem dX8_scan_457 : decode cX8_scan 457 = .ok (.iadd, 1) := dk_96 (dk_at dksX8_scan_19 12 rfl rfl)
theorem dX8_scan_458 : decode cX8_scan 458 = .ok (.putfield 140, 3) := dk_181 0 140 (dk_at dksX8_scan_19 13 rfl rfl)
theorem dX8_scan_461 : decode cX8_scan 461 = .ok (.iload 4, 2) := dk_21 4 (dk_at dksX8_scan_19 16 rfl rfl)
theorem dX8_scan_463 : decode cX8_scan 463 = .ok (.iconst 1, 1) := dk_4 (dk_at dksX8_scan_19 18 rfl rfl)
theorem dX8_scan_464 : decode cX8_scan 464 = .ok (.if_icmp .eq 12, 3) := dk_159 0 12 (dk_at dksX8_scan_19 19 rfl rfl)
theorem dX8_scan_467 : decode cX8_scan 467 = .ok (.iload 4, 2) := dk_21 4 (dk_at dksX8_scan_19 22 rfl rfl)
theorem dX8_scan_469 : decode cX8_scan 469 = .ok (.ifCond .eq 7, 3) := dk_153 0 7 (dk_at dksX8_scan_20 0 rfl rfl)
theorem dX8_scan_472 : decode cX8_scan 472 = .ok (.iconst 1, 1) := dk_4 (dk_at dksX8_scan_20 3 rfl rfl)
theorem dX8_scan_473 : decode cX8_scan 473 = .ok (.goto 4, 3) := dk_167 0 4 (dk_at dksX8_scan_20 4 rfl rfl)
theorem dX8_scan_476 : decode cX8_scan 476 = .ok (.iconst 0, 1) := dk_3 (dk_at dksX8_scan_20 7 rfl rfl)
theorem dX8_scan_477 : decode cX8_scan 477 = .ok (.istore_n 2, 1) := dk_61 (dk_at dksX8_scan_20 8 rfl rfl)
theorem dX8_scan_478 : decode cX8_scan 478 = .ok (.aload_n 0, 1) := dk_42 (dk_at dksX8_scan_20 9 rfl rfl)
theorem dX8_scan_479 : decode cX8_scan 479 = .ok (.iload_n 1, 1) := dk_27 (dk_at dksX8_scan_20 10 rfl rfl)
theorem dX8_scan_480 : decode cX8_scan 480 = .ok (.iload_n 3, 1) := dk_29 (dk_at dksX8_scan_20 11 rfl rfl)
theorem dX8_scan_481 : decode cX8_scan 481 = .ok (.iadd, 1) := dk_96 (dk_at dksX8_scan_20 12 rfl rfl)
theorem dX8_scan_482 : decode cX8_scan 482 = .ok (.invokevirtual 143, 3) := dk_182 0 143 (dk_at dksX8_scan_20 13 rfl rfl)
theorem dX8_scan_485 : decode cX8_scan 485 = .ok (.istore_n 1, 1) := dk_60 (dk_at dksX8_scan_20 16 rfl rfl)
theorem dX8_scan_486 : decode cX8_scan 486 = .ok (.goto (-473), 3) := dk_167 254 39 (dk_at dksX8_scan_20 17 rfl rfl)
theorem dX8_scan_489 : decode cX8_scan 489 = .ok (.return_, 1) := dk_177 (dk_at dksX8_scan_20 20 rfl rfl)
abbrev cX8_behindBlanks : ByteArray := prog_10_method_9_code
def yX8_behindBlanks : MethodName := ⟨RX8, "behindBlanks", "(I)I"⟩
def dkwX8_behindBlanks_4 : List UInt8 := [3, 62, 167, 255, 163, 28, 172]
abbrev dktX8_behindBlanks_4 : List UInt8 := dkwX8_behindBlanks_4 ++ []
def dkwX8_behindBlanks_3 : List UInt8 := [42, 180, 0, 110, 162, 0, 22, 42, 180, 0, 9, 28, 46, 16, 10, 159, 0, 11, 132, 2, 1, 167, 255, 234]
abbrev dktX8_behindBlanks_3 : List UInt8 := dkwX8_behindBlanks_3 ++ dktX8_behindBlanks_4
def dkwX8_behindBlanks_2 : List UInt8 := [16, 32, 160, 0, 9, 132, 2, 1, 167, 0, 42, 42, 28, 16, 47, 16, 47, 182, 0, 120, 153, 0, 28, 28]
abbrev dktX8_behindBlanks_2 : List UInt8 := dkwX8_behindBlanks_2 ++ dktX8_behindBlanks_3
def dkwX8_behindBlanks_1 : List UInt8 := [21, 4, 16, 9, 159, 0, 24, 21, 4, 16, 10, 159, 0, 17, 21, 4, 16, 13, 159, 0, 10, 21, 4]
abbrev dktX8_behindBlanks_1 : List UInt8 := dkwX8_behindBlanks_1 ++ dktX8_behindBlanks_2
def dkwX8_behindBlanks_0 : List UInt8 := [27, 61, 4, 62, 29, 153, 0, 95, 28, 42, 180, 0, 110, 162, 0, 87, 42, 180, 0, 9, 28, 46, 54, 4]
abbrev dktX8_behindBlanks_0 : List UInt8 := dkwX8_behindBlanks_0 ++ dktX8_behindBlanks_1
theorem dksX8_behindBlanks_0 : cX8_behindBlanks.data.toList.drop 0 = dktX8_behindBlanks_0 := by decide +kernel
theorem dksX8_behindBlanks_1 : cX8_behindBlanks.data.toList.drop 24 = dktX8_behindBlanks_1 := dk_seg dksX8_behindBlanks_0 24 rfl rfl
theorem dksX8_behindBlanks_2 : cX8_behindBlanks.data.toList.drop 47 = dktX8_behindBlanks_2 := dk_seg dksX8_behindBlanks_1 23 rfl rfl
theorem dksX8_behindBlanks_3 : cX8_behindBlanks.data.toList.drop 71 = dktX8_behindBlanks_3 := dk_seg dksX8_behindBlanks_2 24 rfl rfl
theorem dksX8_behindBlanks_4 : cX8_behindBlanks.data.toList.drop 95 = dktX8_behindBlanks_4 := dk_seg dksX8_behindBlanks_3 24 rfl rfl
theorem dX8_behindBlanks_0 : decode cX8_behindBlanks 0 = .ok (.iload_n 1, 1) := dk_27 (dk_at dksX8_behindBlanks_0 0 rfl rfl)
theorem dX8_behindBlanks_1 : decode cX8_behindBlanks 1 = .ok (.istore_n 2, 1) := dk_61 (dk_at dksX8_behindBlanks_0 1 rfl rfl)
theorem dX8_behindBlanks_2 : decode cX8_behindBlanks 2 = .ok (.iconst 1, 1) := dk_4 (dk_at dksX8_behindBlanks_0 2 rfl rfl)
theorem dX8_behindBlanks_3 : decode cX8_behindBlanks 3 = .ok (.istore_n 3, 1) := dk_62 (dk_at dksX8_behindBlanks_0 3 rfl rfl)
theorem dX8_behindBlanks_4 : decode cX8_behindBlanks 4 = .ok (.iload_n 3, 1) := dk_29 (dk_at dksX8_behindBlanks_0 4 rfl rfl)
theorem dX8_behindBlanks_5 : decode cX8_behindBlanks 5 = .ok (.ifCond .eq 95, 3) := dk_153 0 95 (dk_at dksX8_behindBlanks_0 5 rfl rfl)
theorem dX8_behindBlanks_8 : decode cX8_behindBlanks 8 = .ok (.iload_n 2, 1) := dk_28 (dk_at dksX8_behindBlanks_0 8 rfl rfl)
theorem dX8_behindBlanks_9 : decode cX8_behindBlanks 9 = .ok (.aload_n 0, 1) := dk_42 (dk_at dksX8_behindBlanks_0 9 rfl rfl)
theorem dX8_behindBlanks_10 : decode cX8_behindBlanks 10 = .ok (.getfield 110, 3) := dk_180 0 110 (dk_at dksX8_behindBlanks_0 10 rfl rfl)
theorem dX8_behindBlanks_13 : decode cX8_behindBlanks 13 = .ok (.if_icmp .ge 87, 3) := dk_162 0 87 (dk_at dksX8_behindBlanks_0 13 rfl rfl)
theorem dX8_behindBlanks_16 : decode cX8_behindBlanks 16 = .ok (.aload_n 0, 1) := dk_42 (dk_at dksX8_behindBlanks_0 16 rfl rfl)
theorem dX8_behindBlanks_17 : decode cX8_behindBlanks 17 = .ok (.getfield 9, 3) := dk_180 0 9 (dk_at dksX8_behindBlanks_0 17 rfl rfl)
theorem dX8_behindBlanks_20 : decode cX8_behindBlanks 20 = .ok (.iload_n 2, 1) := dk_28 (dk_at dksX8_behindBlanks_0 20 rfl rfl)
theorem dX8_behindBlanks_21 : decode cX8_behindBlanks 21 = .ok (.iaload, 1) := dk_46 (dk_at dksX8_behindBlanks_0 21 rfl rfl)
theorem dX8_behindBlanks_22 : decode cX8_behindBlanks 22 = .ok (.istore 4, 2) := dk_54 4 (dk_at dksX8_behindBlanks_0 22 rfl rfl)
theorem dX8_behindBlanks_24 : decode cX8_behindBlanks 24 = .ok (.iload 4, 2) := dk_21 4 (dk_at dksX8_behindBlanks_1 0 rfl rfl)
theorem dX8_behindBlanks_26 : decode cX8_behindBlanks 26 = .ok (.bipush 9, 2) := dk_16 9 (dk_at dksX8_behindBlanks_1 2 rfl rfl)
theorem dX8_behindBlanks_28 : decode cX8_behindBlanks 28 = .ok (.if_icmp .eq 24, 3) := dk_159 0 24 (dk_at dksX8_behindBlanks_1 4 rfl rfl)
theorem dX8_behindBlanks_31 : decode cX8_behindBlanks 31 = .ok (.iload 4, 2) := dk_21 4 (dk_at dksX8_behindBlanks_1 7 rfl rfl)
theorem dX8_behindBlanks_33 : decode cX8_behindBlanks 33 = .ok (.bipush 10, 2) := dk_16 10 (dk_at dksX8_behindBlanks_1 9 rfl rfl)
theorem dX8_behindBlanks_35 : decode cX8_behindBlanks 35 = .ok (.if_icmp .eq 17, 3) := dk_159 0 17 (dk_at dksX8_behindBlanks_1 11 rfl rfl)
theorem dX8_behindBlanks_38 : decode cX8_behindBlanks 38 = .ok (.iload 4, 2) := dk_21 4 (dk_at dksX8_behindBlanks_1 14 rfl rfl)
theorem dX8_behindBlanks_40 : decode cX8_behindBlanks 40 = .ok (.bipush 13, 2) := dk_16 13 (dk_at dksX8_behindBlanks_1 16 rfl rfl)
theorem dX8_behindBlanks_42 : decode cX8_behindBlanks 42 = .ok (.if_icmp .eq 10, 3) := dk_159 0 10 (dk_at dksX8_behindBlanks_1 18 rfl rfl)
theorem dX8_behindBlanks_45 : decode cX8_behindBlanks 45 = .ok (.iload 4, 2) := dk_21 4 (dk_at dksX8_behindBlanks_1 21 rfl rfl)
theorem dX8_behindBlanks_47 : decode cX8_behindBlanks 47 = .ok (.bipush 32, 2) := dk_16 32 (dk_at dksX8_behindBlanks_2 0 rfl rfl)
theorem dX8_behindBlanks_49 : decode cX8_behindBlanks 49 = .ok (.if_icmp .ne 9, 3) := dk_160 0 9 (dk_at dksX8_behindBlanks_2 2 rfl rfl)
theorem dX8_behindBlanks_52 : decode cX8_behindBlanks 52 = .ok (.iinc 2 1, 3) := dk_132 2 1 (dk_at dksX8_behindBlanks_2 5 rfl rfl)
theorem dX8_behindBlanks_55 : decode cX8_behindBlanks 55 = .ok (.goto 42, 3) := dk_167 0 42 (dk_at dksX8_behindBlanks_2 8 rfl rfl)
theorem dX8_behindBlanks_58 : decode cX8_behindBlanks 58 = .ok (.aload_n 0, 1) := dk_42 (dk_at dksX8_behindBlanks_2 11 rfl rfl)
theorem dX8_behindBlanks_59 : decode cX8_behindBlanks 59 = .ok (.iload_n 2, 1) := dk_28 (dk_at dksX8_behindBlanks_2 12 rfl rfl)
theorem dX8_behindBlanks_60 : decode cX8_behindBlanks 60 = .ok (.bipush 47, 2) := dk_16 47 (dk_at dksX8_behindBlanks_2 13 rfl rfl)
theorem dX8_behindBlanks_62 : decode cX8_behindBlanks 62 = .ok (.bipush 47, 2) := dk_16 47 (dk_at dksX8_behindBlanks_2 15 rfl rfl)
theorem dX8_behindBlanks_64 : decode cX8_behindBlanks 64 = .ok (.invokevirtual 120, 3) := dk_182 0 120 (dk_at dksX8_behindBlanks_2 17 rfl rfl)
theorem dX8_behindBlanks_67 : decode cX8_behindBlanks 67 = .ok (.ifCond .eq 28, 3) := dk_153 0 28 (dk_at dksX8_behindBlanks_2 20 rfl rfl)
theorem dX8_behindBlanks_70 : decode cX8_behindBlanks 70 = .ok (.iload_n 2, 1) := dk_28 (dk_at dksX8_behindBlanks_2 23 rfl rfl)
theorem dX8_behindBlanks_71 : decode cX8_behindBlanks 71 = .ok (.aload_n 0, 1) := dk_42 (dk_at dksX8_behindBlanks_3 0 rfl rfl)
theorem dX8_behindBlanks_72 : decode cX8_behindBlanks 72 = .ok (.getfield 110, 3) := dk_180 0 110 (dk_at dksX8_behindBlanks_3 1 rfl rfl)
theorem dX8_behindBlanks_75 : decode cX8_behindBlanks 75 = .ok (.if_icmp .ge 22, 3) := dk_162 0 22 (dk_at dksX8_behindBlanks_3 4 rfl rfl)
theorem dX8_behindBlanks_78 : decode cX8_behindBlanks 78 = .ok (.aload_n 0, 1) := dk_42 (dk_at dksX8_behindBlanks_3 7 rfl rfl)
theorem dX8_behindBlanks_79 : decode cX8_behindBlanks 79 = .ok (.getfield 9, 3) := dk_180 0 9 (dk_at dksX8_behindBlanks_3 8 rfl rfl)
theorem dX8_behindBlanks_82 : decode cX8_behindBlanks 82 = .ok (.iload_n 2, 1) := dk_28 (dk_at dksX8_behindBlanks_3 11 rfl rfl)
theorem dX8_behindBlanks_83 : decode cX8_behindBlanks 83 = .ok (.iaload, 1) := dk_46 (dk_at dksX8_behindBlanks_3 12 rfl rfl)
theorem dX8_behindBlanks_84 : decode cX8_behindBlanks 84 = .ok (.bipush 10, 2) := dk_16 10 (dk_at dksX8_behindBlanks_3 13 rfl rfl)
theorem dX8_behindBlanks_86 : decode cX8_behindBlanks 86 = .ok (.if_icmp .eq 11, 3) := dk_159 0 11 (dk_at dksX8_behindBlanks_3 15 rfl rfl)
theorem dX8_behindBlanks_89 : decode cX8_behindBlanks 89 = .ok (.iinc 2 1, 3) := dk_132 2 1 (dk_at dksX8_behindBlanks_3 18 rfl rfl)
theorem dX8_behindBlanks_92 : decode cX8_behindBlanks 92 = .ok (.goto (-22), 3) := dk_167 255 234 (dk_at dksX8_behindBlanks_3 21 rfl rfl)
theorem dX8_behindBlanks_95 : decode cX8_behindBlanks 95 = .ok (.iconst 0, 1) := dk_3 (dk_at dksX8_behindBlanks_4 0 rfl rfl)
theorem dX8_behindBlanks_96 : decode cX8_behindBlanks 96 = .ok (.istore_n 3, 1) := dk_62 (dk_at dksX8_behindBlanks_4 1 rfl rfl)
theorem dX8_behindBlanks_97 : decode cX8_behindBlanks 97 = .ok (.goto (-93), 3) := dk_167 255 163 (dk_at dksX8_behindBlanks_4 2 rfl rfl)
theorem dX8_behindBlanks_100 : decode cX8_behindBlanks 100 = .ok (.iload_n 2, 1) := dk_28 (dk_at dksX8_behindBlanks_4 5 rfl rfl)
theorem dX8_behindBlanks_101 : decode cX8_behindBlanks 101 = .ok (.ireturn, 1) := dk_172 (dk_at dksX8_behindBlanks_4 6 rfl rfl)
abbrev cX8_isAt : ByteArray := prog_10_method_5_code
def yX8_isAt : MethodName := ⟨RX8, "isAt", "(III)Z"⟩
def dkwX8_isAt_1 : List UInt8 := [27, 4, 96, 46, 29, 160, 0, 7, 4, 167, 0, 4, 3, 172]
abbrev dktX8_isAt_1 : List UInt8 := dkwX8_isAt_1 ++ []
def dkwX8_isAt_0 : List UInt8 := [27, 4, 96, 42, 180, 0, 110, 162, 0, 29, 42, 180, 0, 9, 27, 46, 28, 160, 0, 19, 42, 180, 0, 9]
abbrev dktX8_isAt_0 : List UInt8 := dkwX8_isAt_0 ++ dktX8_isAt_1
theorem dksX8_isAt_0 : cX8_isAt.data.toList.drop 0 = dktX8_isAt_0 := by decide +kernel
theorem dksX8_isAt_1 : cX8_isAt.data.toList.drop 24 = dktX8_isAt_1 := dk_seg dksX8_isAt_0 24 rfl rfl
theorem dX8_isAt_0 : decode cX8_isAt 0 = .ok (.iload_n 1, 1) := dk_27 (dk_at dksX8_isAt_0 0 rfl rfl)
theorem dX8_isAt_1 : decode cX8_isAt 1 = .ok (.iconst 1, 1) := dk_4 (dk_at dksX8_isAt_0 1 rfl rfl)
theorem dX8_isAt_2 : decode cX8_isAt 2 = .ok (.iadd, 1) := dk_96 (dk_at dksX8_isAt_0 2 rfl rfl)
theorem dX8_isAt_3 : decode cX8_isAt 3 = .ok (.aload_n 0, 1) := dk_42 (dk_at dksX8_isAt_0 3 rfl rfl)
theorem dX8_isAt_4 : decode cX8_isAt 4 = .ok (.getfield 110, 3) := dk_180 0 110 (dk_at dksX8_isAt_0 4 rfl rfl)
theorem dX8_isAt_7 : decode cX8_isAt 7 = .ok (.if_icmp .ge 29, 3) := dk_162 0 29 (dk_at dksX8_isAt_0 7 rfl rfl)
theorem dX8_isAt_10 : decode cX8_isAt 10 = .ok (.aload_n 0, 1) := dk_42 (dk_at dksX8_isAt_0 10 rfl rfl)
theorem dX8_isAt_11 : decode cX8_isAt 11 = .ok (.getfield 9, 3) := dk_180 0 9 (dk_at dksX8_isAt_0 11 rfl rfl)
theorem dX8_isAt_14 : decode cX8_isAt 14 = .ok (.iload_n 1, 1) := dk_27 (dk_at dksX8_isAt_0 14 rfl rfl)
theorem dX8_isAt_15 : decode cX8_isAt 15 = .ok (.iaload, 1) := dk_46 (dk_at dksX8_isAt_0 15 rfl rfl)
theorem dX8_isAt_16 : decode cX8_isAt 16 = .ok (.iload_n 2, 1) := dk_28 (dk_at dksX8_isAt_0 16 rfl rfl)
theorem dX8_isAt_17 : decode cX8_isAt 17 = .ok (.if_icmp .ne 19, 3) := dk_160 0 19 (dk_at dksX8_isAt_0 17 rfl rfl)
theorem dX8_isAt_20 : decode cX8_isAt 20 = .ok (.aload_n 0, 1) := dk_42 (dk_at dksX8_isAt_0 20 rfl rfl)
theorem dX8_isAt_21 : decode cX8_isAt 21 = .ok (.getfield 9, 3) := dk_180 0 9 (dk_at dksX8_isAt_0 21 rfl rfl)
theorem dX8_isAt_24 : decode cX8_isAt 24 = .ok (.iload_n 1, 1) := dk_27 (dk_at dksX8_isAt_1 0 rfl rfl)
theorem dX8_isAt_25 : decode cX8_isAt 25 = .ok (.iconst 1, 1) := dk_4 (dk_at dksX8_isAt_1 1 rfl rfl)
theorem dX8_isAt_26 : decode cX8_isAt 26 = .ok (.iadd, 1) := dk_96 (dk_at dksX8_isAt_1 2 rfl rfl)
theorem dX8_isAt_27 : decode cX8_isAt 27 = .ok (.iaload, 1) := dk_46 (dk_at dksX8_isAt_1 3 rfl rfl)
theorem dX8_isAt_28 : decode cX8_isAt 28 = .ok (.iload_n 3, 1) := dk_29 (dk_at dksX8_isAt_1 4 rfl rfl)
theorem dX8_isAt_29 : decode cX8_isAt 29 = .ok (.if_icmp .ne 7, 3) := dk_160 0 7 (dk_at dksX8_isAt_1 5 rfl rfl)
theorem dX8_isAt_32 : decode cX8_isAt 32 = .ok (.iconst 1, 1) := dk_4 (dk_at dksX8_isAt_1 8 rfl rfl)
theorem dX8_isAt_33 : decode cX8_isAt 33 = .ok (.goto 4, 3) := dk_167 0 4 (dk_at dksX8_isAt_1 9 rfl rfl)
theorem dX8_isAt_36 : decode cX8_isAt 36 = .ok (.iconst 0, 1) := dk_3 (dk_at dksX8_isAt_1 12 rfl rfl)
theorem dX8_isAt_37 : decode cX8_isAt 37 = .ok (.ireturn, 1) := dk_172 (dk_at dksX8_isAt_1 13 rfl rfl)
abbrev cX8_isLetter : ByteArray := prog_10_method_6_code
def yX8_isLetter : MethodName := ⟨RX8, "isLetter", "(I)Z"⟩
def dkwX8_isLetter_1 : List UInt8 := [26, 16, 95, 160, 0, 7, 4, 167, 0, 4, 3, 172]
abbrev dktX8_isLetter_1 : List UInt8 := dkwX8_isLetter_1 ++ []
def dkwX8_isLetter_0 : List UInt8 := [26, 16, 97, 161, 0, 9, 26, 16, 122, 164, 0, 21, 26, 16, 65, 161, 0, 9, 26, 16, 90, 164, 0, 9]
abbrev dktX8_isLetter_0 : List UInt8 := dkwX8_isLetter_0 ++ dktX8_isLetter_1
theorem dksX8_isLetter_0 : cX8_isLetter.data.toList.drop 0 = dktX8_isLetter_0 := by decide +kernel
theorem dksX8_isLetter_1 : cX8_isLetter.data.toList.drop 24 = dktX8_isLetter_1 := dk_seg dksX8_isLetter_0 24 rfl rfl
theorem dX8_isLetter_0 : decode cX8_isLetter 0 = .ok (.iload_n 0, 1) := dk_26 (dk_at dksX8_isLetter_0 0 rfl rfl)
theorem dX8_isLetter_1 : decode cX8_isLetter 1 = .ok (.bipush 97, 2) := dk_16 97 (dk_at dksX8_isLetter_0 1 rfl rfl)
theorem dX8_isLetter_3 : decode cX8_isLetter 3 = .ok (.if_icmp .lt 9, 3) := dk_161 0 9 (dk_at dksX8_isLetter_0 3 rfl rfl)
theorem dX8_isLetter_6 : decode cX8_isLetter 6 = .ok (.iload_n 0, 1) := dk_26 (dk_at dksX8_isLetter_0 6 rfl rfl)
theorem dX8_isLetter_7 : decode cX8_isLetter 7 = .ok (.bipush 122, 2) := dk_16 122 (dk_at dksX8_isLetter_0 7 rfl rfl)
theorem dX8_isLetter_9 : decode cX8_isLetter 9 = .ok (.if_icmp .le 21, 3) := dk_164 0 21 (dk_at dksX8_isLetter_0 9 rfl rfl)
theorem dX8_isLetter_12 : decode cX8_isLetter 12 = .ok (.iload_n 0, 1) := dk_26 (dk_at dksX8_isLetter_0 12 rfl rfl)
theorem dX8_isLetter_13 : decode cX8_isLetter 13 = .ok (.bipush 65, 2) := dk_16 65 (dk_at dksX8_isLetter_0 13 rfl rfl)
theorem dX8_isLetter_15 : decode cX8_isLetter 15 = .ok (.if_icmp .lt 9, 3) := dk_161 0 9 (dk_at dksX8_isLetter_0 15 rfl rfl)
theorem dX8_isLetter_18 : decode cX8_isLetter 18 = .ok (.iload_n 0, 1) := dk_26 (dk_at dksX8_isLetter_0 18 rfl rfl)
theorem dX8_isLetter_19 : decode cX8_isLetter 19 = .ok (.bipush 90, 2) := dk_16 90 (dk_at dksX8_isLetter_0 19 rfl rfl)
theorem dX8_isLetter_21 : decode cX8_isLetter 21 = .ok (.if_icmp .le 9, 3) := dk_164 0 9 (dk_at dksX8_isLetter_0 21 rfl rfl)
theorem dX8_isLetter_24 : decode cX8_isLetter 24 = .ok (.iload_n 0, 1) := dk_26 (dk_at dksX8_isLetter_1 0 rfl rfl)
theorem dX8_isLetter_25 : decode cX8_isLetter 25 = .ok (.bipush 95, 2) := dk_16 95 (dk_at dksX8_isLetter_1 1 rfl rfl)
theorem dX8_isLetter_27 : decode cX8_isLetter 27 = .ok (.if_icmp .ne 7, 3) := dk_160 0 7 (dk_at dksX8_isLetter_1 3 rfl rfl)
theorem dX8_isLetter_30 : decode cX8_isLetter 30 = .ok (.iconst 1, 1) := dk_4 (dk_at dksX8_isLetter_1 6 rfl rfl)
theorem dX8_isLetter_31 : decode cX8_isLetter 31 = .ok (.goto 4, 3) := dk_167 0 4 (dk_at dksX8_isLetter_1 7 rfl rfl)
theorem dX8_isLetter_34 : decode cX8_isLetter 34 = .ok (.iconst 0, 1) := dk_3 (dk_at dksX8_isLetter_1 10 rfl rfl)
theorem dX8_isLetter_35 : decode cX8_isLetter 35 = .ok (.ireturn, 1) := dk_172 (dk_at dksX8_isLetter_1 11 rfl rfl)
abbrev cX8_isWord : ByteArray := prog_10_method_8_code
def yX8_isWord : MethodName := ⟨RX8, "isWord", "(I)Z"⟩
def dkwX8_isWord_1 : List UInt8 := [27, 46, 184, 0, 117, 153, 0, 7, 4, 167, 0, 4, 3, 172]
abbrev dktX8_isWord_1 : List UInt8 := dkwX8_isWord_1 ++ []
def dkwX8_isWord_0 : List UInt8 := [27, 42, 180, 0, 110, 162, 0, 31, 42, 180, 0, 9, 27, 46, 184, 0, 113, 154, 0, 15, 42, 180, 0, 9]
abbrev dktX8_isWord_0 : List UInt8 := dkwX8_isWord_0 ++ dktX8_isWord_1
theorem dksX8_isWord_0 : cX8_isWord.data.toList.drop 0 = dktX8_isWord_0 := by decide +kernel
theorem dksX8_isWord_1 : cX8_isWord.data.toList.drop 24 = dktX8_isWord_1 := dk_seg dksX8_isWord_0 24 rfl rfl
theorem dX8_isWord_0 : decode cX8_isWord 0 = .ok (.iload_n 1, 1) := dk_27 (dk_at dksX8_isWord_0 0 rfl rfl)
theorem dX8_isWord_1 : decode cX8_isWord 1 = .ok (.aload_n 0, 1) := dk_42 (dk_at dksX8_isWord_0 1 rfl rfl)
theorem dX8_isWord_2 : decode cX8_isWord 2 = .ok (.getfield 110, 3) := dk_180 0 110 (dk_at dksX8_isWord_0 2 rfl rfl)
theorem dX8_isWord_5 : decode cX8_isWord 5 = .ok (.if_icmp .ge 31, 3) := dk_162 0 31 (dk_at dksX8_isWord_0 5 rfl rfl)
theorem dX8_isWord_8 : decode cX8_isWord 8 = .ok (.aload_n 0, 1) := dk_42 (dk_at dksX8_isWord_0 8 rfl rfl)
theorem dX8_isWord_9 : decode cX8_isWord 9 = .ok (.getfield 9, 3) := dk_180 0 9 (dk_at dksX8_isWord_0 9 rfl rfl)
theorem dX8_isWord_12 : decode cX8_isWord 12 = .ok (.iload_n 1, 1) := dk_27 (dk_at dksX8_isWord_0 12 rfl rfl)
theorem dX8_isWord_13 : decode cX8_isWord 13 = .ok (.iaload, 1) := dk_46 (dk_at dksX8_isWord_0 13 rfl rfl)
theorem dX8_isWord_14 : decode cX8_isWord 14 = .ok (.invokestatic 113, 3) := dk_184 0 113 (dk_at dksX8_isWord_0 14 rfl rfl)
theorem dX8_isWord_17 : decode cX8_isWord 17 = .ok (.ifCond .ne 15, 3) := dk_154 0 15 (dk_at dksX8_isWord_0 17 rfl rfl)
theorem dX8_isWord_20 : decode cX8_isWord 20 = .ok (.aload_n 0, 1) := dk_42 (dk_at dksX8_isWord_0 20 rfl rfl)
theorem dX8_isWord_21 : decode cX8_isWord 21 = .ok (.getfield 9, 3) := dk_180 0 9 (dk_at dksX8_isWord_0 21 rfl rfl)
theorem dX8_isWord_24 : decode cX8_isWord 24 = .ok (.iload_n 1, 1) := dk_27 (dk_at dksX8_isWord_1 0 rfl rfl)
theorem dX8_isWord_25 : decode cX8_isWord 25 = .ok (.iaload, 1) := dk_46 (dk_at dksX8_isWord_1 1 rfl rfl)
theorem dX8_isWord_26 : decode cX8_isWord 26 = .ok (.invokestatic 117, 3) := dk_184 0 117 (dk_at dksX8_isWord_1 2 rfl rfl)
theorem dX8_isWord_29 : decode cX8_isWord 29 = .ok (.ifCond .eq 7, 3) := dk_153 0 7 (dk_at dksX8_isWord_1 5 rfl rfl)
theorem dX8_isWord_32 : decode cX8_isWord 32 = .ok (.iconst 1, 1) := dk_4 (dk_at dksX8_isWord_1 8 rfl rfl)
theorem dX8_isWord_33 : decode cX8_isWord 33 = .ok (.goto 4, 3) := dk_167 0 4 (dk_at dksX8_isWord_1 9 rfl rfl)
theorem dX8_isWord_36 : decode cX8_isWord 36 = .ok (.iconst 0, 1) := dk_3 (dk_at dksX8_isWord_1 12 rfl rfl)
theorem dX8_isWord_37 : decode cX8_isWord 37 = .ok (.ireturn, 1) := dk_172 (dk_at dksX8_isWord_1 13 rfl rfl)
abbrev cX8_isDigit : ByteArray := prog_10_method_7_code
def yX8_isDigit : MethodName := ⟨RX8, "isDigit", "(I)Z"⟩
def dkwX8_isDigit_0 : List UInt8 := [26, 16, 48, 161, 0, 13, 26, 16, 57, 163, 0, 7, 4, 167, 0, 4, 3, 172]
abbrev dktX8_isDigit_0 : List UInt8 := dkwX8_isDigit_0 ++ []
theorem dksX8_isDigit_0 : cX8_isDigit.data.toList.drop 0 = dktX8_isDigit_0 := by decide +kernel
theorem dX8_isDigit_0 : decode cX8_isDigit 0 = .ok (.iload_n 0, 1) := dk_26 (dk_at dksX8_isDigit_0 0 rfl rfl)
theorem dX8_isDigit_1 : decode cX8_isDigit 1 = .ok (.bipush 48, 2) := dk_16 48 (dk_at dksX8_isDigit_0 1 rfl rfl)
theorem dX8_isDigit_3 : decode cX8_isDigit 3 = .ok (.if_icmp .lt 13, 3) := dk_161 0 13 (dk_at dksX8_isDigit_0 3 rfl rfl)
theorem dX8_isDigit_6 : decode cX8_isDigit 6 = .ok (.iload_n 0, 1) := dk_26 (dk_at dksX8_isDigit_0 6 rfl rfl)
theorem dX8_isDigit_7 : decode cX8_isDigit 7 = .ok (.bipush 57, 2) := dk_16 57 (dk_at dksX8_isDigit_0 7 rfl rfl)
theorem dX8_isDigit_9 : decode cX8_isDigit 9 = .ok (.if_icmp .gt 7, 3) := dk_163 0 7 (dk_at dksX8_isDigit_0 9 rfl rfl)
theorem dX8_isDigit_12 : decode cX8_isDigit 12 = .ok (.iconst 1, 1) := dk_4 (dk_at dksX8_isDigit_0 12 rfl rfl)
theorem dX8_isDigit_13 : decode cX8_isDigit 13 = .ok (.goto 4, 3) := dk_167 0 4 (dk_at dksX8_isDigit_0 13 rfl rfl)
theorem dX8_isDigit_16 : decode cX8_isDigit 16 = .ok (.iconst 0, 1) := dk_3 (dk_at dksX8_isDigit_0 16 rfl rfl)
theorem dX8_isDigit_17 : decode cX8_isDigit 17 = .ok (.ireturn, 1) := dk_172 (dk_at dksX8_isDigit_0 17 rfl rfl)
abbrev cX8_wordOf : ByteArray := prog_10_method_10_code
def yX8_wordOf : MethodName := ⟨RX8, "wordOf", "(II)I"⟩
def dkwX8_wordOf_4 : List UInt8 := [132, 3, 1, 167, 255, 163, 28, 16, 30, 164, 0, 7, 4, 167, 0, 4, 5, 172]
abbrev dktX8_wordOf_4 : List UInt8 := dkwX8_wordOf_4 ++ []
def dkwX8_wordOf_3 : List UInt8 := [167, 0, 4, 3, 54, 4, 132, 5, 1, 167, 255, 212, 21, 4, 153, 0, 9, 17, 1, 44, 29, 96, 172]
abbrev dktX8_wordOf_3 : List UInt8 := dkwX8_wordOf_3 ++ dktX8_wordOf_4
def dkwX8_wordOf_2 : List UInt8 := [180, 0, 9, 27, 21, 5, 96, 46, 42, 180, 0, 95, 29, 50, 21, 5, 182, 0, 127, 160, 0, 7, 4]
abbrev dktX8_wordOf_2 : List UInt8 := dkwX8_wordOf_2 ++ dktX8_wordOf_3
def dkwX8_wordOf_1 : List UInt8 := [4, 167, 0, 4, 3, 54, 4, 3, 54, 5, 21, 5, 28, 162, 0, 44, 21, 4, 153, 0, 39, 42]
abbrev dktX8_wordOf_1 : List UInt8 := dkwX8_wordOf_1 ++ dktX8_wordOf_2
def dkwX8_wordOf_0 : List UInt8 := [3, 62, 29, 42, 180, 0, 95, 190, 162, 0, 90, 28, 42, 180, 0, 95, 29, 50, 182, 0, 124, 160, 0, 7]
abbrev dktX8_wordOf_0 : List UInt8 := dkwX8_wordOf_0 ++ dktX8_wordOf_1
theorem dksX8_wordOf_0 : cX8_wordOf.data.toList.drop 0 = dktX8_wordOf_0 := by decide +kernel
theorem dksX8_wordOf_1 : cX8_wordOf.data.toList.drop 24 = dktX8_wordOf_1 := dk_seg dksX8_wordOf_0 24 rfl rfl
theorem dksX8_wordOf_2 : cX8_wordOf.data.toList.drop 46 = dktX8_wordOf_2 := dk_seg dksX8_wordOf_1 22 rfl rfl
theorem dksX8_wordOf_3 : cX8_wordOf.data.toList.drop 69 = dktX8_wordOf_3 := dk_seg dksX8_wordOf_2 23 rfl rfl
theorem dksX8_wordOf_4 : cX8_wordOf.data.toList.drop 92 = dktX8_wordOf_4 := dk_seg dksX8_wordOf_3 23 rfl rfl
theorem dX8_wordOf_0 : decode cX8_wordOf 0 = .ok (.iconst 0, 1) := dk_3 (dk_at dksX8_wordOf_0 0 rfl rfl)
theorem dX8_wordOf_1 : decode cX8_wordOf 1 = .ok (.istore_n 3, 1) := dk_62 (dk_at dksX8_wordOf_0 1 rfl rfl)
theorem dX8_wordOf_2 : decode cX8_wordOf 2 = .ok (.iload_n 3, 1) := dk_29 (dk_at dksX8_wordOf_0 2 rfl rfl)
theorem dX8_wordOf_3 : decode cX8_wordOf 3 = .ok (.aload_n 0, 1) := dk_42 (dk_at dksX8_wordOf_0 3 rfl rfl)
theorem dX8_wordOf_4 : decode cX8_wordOf 4 = .ok (.getfield 95, 3) := dk_180 0 95 (dk_at dksX8_wordOf_0 4 rfl rfl)
theorem dX8_wordOf_7 : decode cX8_wordOf 7 = .ok (.arraylength, 1) := dk_190 (dk_at dksX8_wordOf_0 7 rfl rfl)
theorem dX8_wordOf_8 : decode cX8_wordOf 8 = .ok (.if_icmp .ge 90, 3) := dk_162 0 90 (dk_at dksX8_wordOf_0 8 rfl rfl)
theorem dX8_wordOf_11 : decode cX8_wordOf 11 = .ok (.iload_n 2, 1) := dk_28 (dk_at dksX8_wordOf_0 11 rfl rfl)
theorem dX8_wordOf_12 : decode cX8_wordOf 12 = .ok (.aload_n 0, 1) := dk_42 (dk_at dksX8_wordOf_0 12 rfl rfl)
theorem dX8_wordOf_13 : decode cX8_wordOf 13 = .ok (.getfield 95, 3) := dk_180 0 95 (dk_at dksX8_wordOf_0 13 rfl rfl)
theorem dX8_wordOf_16 : decode cX8_wordOf 16 = .ok (.iload_n 3, 1) := dk_29 (dk_at dksX8_wordOf_0 16 rfl rfl)
theorem dX8_wordOf_17 : decode cX8_wordOf 17 = .ok (.aaload, 1) := dk_50 (dk_at dksX8_wordOf_0 17 rfl rfl)
theorem dX8_wordOf_18 : decode cX8_wordOf 18 = .ok (.invokevirtual 124, 3) := dk_182 0 124 (dk_at dksX8_wordOf_0 18 rfl rfl)
theorem dX8_wordOf_21 : decode cX8_wordOf 21 = .ok (.if_icmp .ne 7, 3) := dk_160 0 7 (dk_at dksX8_wordOf_0 21 rfl rfl)
theorem dX8_wordOf_24 : decode cX8_wordOf 24 = .ok (.iconst 1, 1) := dk_4 (dk_at dksX8_wordOf_1 0 rfl rfl)
theorem dX8_wordOf_25 : decode cX8_wordOf 25 = .ok (.goto 4, 3) := dk_167 0 4 (dk_at dksX8_wordOf_1 1 rfl rfl)
theorem dX8_wordOf_28 : decode cX8_wordOf 28 = .ok (.iconst 0, 1) := dk_3 (dk_at dksX8_wordOf_1 4 rfl rfl)
theorem dX8_wordOf_29 : decode cX8_wordOf 29 = .ok (.istore 4, 2) := dk_54 4 (dk_at dksX8_wordOf_1 5 rfl rfl)
theorem dX8_wordOf_31 : decode cX8_wordOf 31 = .ok (.iconst 0, 1) := dk_3 (dk_at dksX8_wordOf_1 7 rfl rfl)
theorem dX8_wordOf_32 : decode cX8_wordOf 32 = .ok (.istore 5, 2) := dk_54 5 (dk_at dksX8_wordOf_1 8 rfl rfl)
theorem dX8_wordOf_34 : decode cX8_wordOf 34 = .ok (.iload 5, 2) := dk_21 5 (dk_at dksX8_wordOf_1 10 rfl rfl)
theorem dX8_wordOf_36 : decode cX8_wordOf 36 = .ok (.iload_n 2, 1) := dk_28 (dk_at dksX8_wordOf_1 12 rfl rfl)
theorem dX8_wordOf_37 : decode cX8_wordOf 37 = .ok (.if_icmp .ge 44, 3) := dk_162 0 44 (dk_at dksX8_wordOf_1 13 rfl rfl)
theorem dX8_wordOf_40 : decode cX8_wordOf 40 = .ok (.iload 4, 2) := dk_21 4 (dk_at dksX8_wordOf_1 16 rfl rfl)
theorem dX8_wordOf_42 : decode cX8_wordOf 42 = .ok (.ifCond .eq 39, 3) := dk_153 0 39 (dk_at dksX8_wordOf_1 18 rfl rfl)
theorem dX8_wordOf_45 : decode cX8_wordOf 45 = .ok (.aload_n 0, 1) := dk_42 (dk_at dksX8_wordOf_1 21 rfl rfl)
theorem dX8_wordOf_46 : decode cX8_wordOf 46 = .ok (.getfield 9, 3) := dk_180 0 9 (dk_at dksX8_wordOf_2 0 rfl rfl)
theorem dX8_wordOf_49 : decode cX8_wordOf 49 = .ok (.iload_n 1, 1) := dk_27 (dk_at dksX8_wordOf_2 3 rfl rfl)
theorem dX8_wordOf_50 : decode cX8_wordOf 50 = .ok (.iload 5, 2) := dk_21 5 (dk_at dksX8_wordOf_2 4 rfl rfl)
theorem dX8_wordOf_52 : decode cX8_wordOf 52 = .ok (.iadd, 1) := dk_96 (dk_at dksX8_wordOf_2 6 rfl rfl)
theorem dX8_wordOf_53 : decode cX8_wordOf 53 = .ok (.iaload, 1) := dk_46 (dk_at dksX8_wordOf_2 7 rfl rfl)
theorem dX8_wordOf_54 : decode cX8_wordOf 54 = .ok (.aload_n 0, 1) := dk_42 (dk_at dksX8_wordOf_2 8 rfl rfl)
theorem dX8_wordOf_55 : decode cX8_wordOf 55 = .ok (.getfield 95, 3) := dk_180 0 95 (dk_at dksX8_wordOf_2 9 rfl rfl)
theorem dX8_wordOf_58 : decode cX8_wordOf 58 = .ok (.iload_n 3, 1) := dk_29 (dk_at dksX8_wordOf_2 12 rfl rfl)
theorem dX8_wordOf_59 : decode cX8_wordOf 59 = .ok (.aaload, 1) := dk_50 (dk_at dksX8_wordOf_2 13 rfl rfl)
theorem dX8_wordOf_60 : decode cX8_wordOf 60 = .ok (.iload 5, 2) := dk_21 5 (dk_at dksX8_wordOf_2 14 rfl rfl)
theorem dX8_wordOf_62 : decode cX8_wordOf 62 = .ok (.invokevirtual 127, 3) := dk_182 0 127 (dk_at dksX8_wordOf_2 16 rfl rfl)
theorem dX8_wordOf_65 : decode cX8_wordOf 65 = .ok (.if_icmp .ne 7, 3) := dk_160 0 7 (dk_at dksX8_wordOf_2 19 rfl rfl)
theorem dX8_wordOf_68 : decode cX8_wordOf 68 = .ok (.iconst 1, 1) := dk_4 (dk_at dksX8_wordOf_2 22 rfl rfl)
theorem dX8_wordOf_69 : decode cX8_wordOf 69 = .ok (.goto 4, 3) := dk_167 0 4 (dk_at dksX8_wordOf_3 0 rfl rfl)
theorem dX8_wordOf_72 : decode cX8_wordOf 72 = .ok (.iconst 0, 1) := dk_3 (dk_at dksX8_wordOf_3 3 rfl rfl)
theorem dX8_wordOf_73 : decode cX8_wordOf 73 = .ok (.istore 4, 2) := dk_54 4 (dk_at dksX8_wordOf_3 4 rfl rfl)
theorem dX8_wordOf_75 : decode cX8_wordOf 75 = .ok (.iinc 5 1, 3) := dk_132 5 1 (dk_at dksX8_wordOf_3 6 rfl rfl)
theorem dX8_wordOf_78 : decode cX8_wordOf 78 = .ok (.goto (-44), 3) := dk_167 255 212 (dk_at dksX8_wordOf_3 9 rfl rfl)
theorem dX8_wordOf_81 : decode cX8_wordOf 81 = .ok (.iload 4, 2) := dk_21 4 (dk_at dksX8_wordOf_3 12 rfl rfl)
theorem dX8_wordOf_83 : decode cX8_wordOf 83 = .ok (.ifCond .eq 9, 3) := dk_153 0 9 (dk_at dksX8_wordOf_3 14 rfl rfl)
theorem dX8_wordOf_86 : decode cX8_wordOf 86 = .ok (.sipush 300, 3) := dk_17 1 44 (dk_at dksX8_wordOf_3 17 rfl rfl)
theorem dX8_wordOf_89 : decode cX8_wordOf 89 = .ok (.iload_n 3, 1) := dk_29 (dk_at dksX8_wordOf_3 20 rfl rfl)
theorem dX8_wordOf_90 : decode cX8_wordOf 90 = .ok (.iadd, 1) := dk_96 (dk_at dksX8_wordOf_3 21 rfl rfl)
theorem dX8_wordOf_91 : decode cX8_wordOf 91 = .ok (.ireturn, 1) := dk_172 (dk_at dksX8_wordOf_3 22 rfl rfl)
theorem dX8_wordOf_92 : decode cX8_wordOf 92 = .ok (.iinc 3 1, 3) := dk_132 3 1 (dk_at dksX8_wordOf_4 0 rfl rfl)
theorem dX8_wordOf_95 : decode cX8_wordOf 95 = .ok (.goto (-93), 3) := dk_167 255 163 (dk_at dksX8_wordOf_4 3 rfl rfl)
theorem dX8_wordOf_98 : decode cX8_wordOf 98 = .ok (.iload_n 2, 1) := dk_28 (dk_at dksX8_wordOf_4 6 rfl rfl)
theorem dX8_wordOf_99 : decode cX8_wordOf 99 = .ok (.bipush 30, 2) := dk_16 30 (dk_at dksX8_wordOf_4 7 rfl rfl)
theorem dX8_wordOf_101 : decode cX8_wordOf 101 = .ok (.if_icmp .le 7, 3) := dk_164 0 7 (dk_at dksX8_wordOf_4 9 rfl rfl)
theorem dX8_wordOf_104 : decode cX8_wordOf 104 = .ok (.iconst 1, 1) := dk_4 (dk_at dksX8_wordOf_4 12 rfl rfl)
theorem dX8_wordOf_105 : decode cX8_wordOf 105 = .ok (.goto 4, 3) := dk_167 0 4 (dk_at dksX8_wordOf_4 13 rfl rfl)
theorem dX8_wordOf_108 : decode cX8_wordOf 108 = .ok (.iconst 2, 1) := dk_5 (dk_at dksX8_wordOf_4 16 rfl rfl)
theorem dX8_wordOf_109 : decode cX8_wordOf 109 = .ok (.ireturn, 1) := dk_172 (dk_at dksX8_wordOf_4 17 rfl rfl)
abbrev cX8_isNumber : ByteArray := prog_10_method_11_code
def yX8_isNumber : MethodName := ⟨RX8, "isNumber", "(II)Z"⟩
def dkwX8_isNumber_3 : List UInt8 := [27, 28, 96, 182, 0, 137, 154, 0, 7, 4, 167, 0, 4, 3, 172]
abbrev dktX8_isNumber_3 : List UInt8 := dkwX8_isNumber_3 ++ []
def dkwX8_isNumber_2 : List UInt8 := [20, 0, 131, 148, 157, 0, 33, 28, 4, 159, 0, 14, 42, 180, 0, 9, 27, 46, 16, 48, 159, 0, 17, 42]
abbrev dktX8_isNumber_2 : List UInt8 := dkwX8_isNumber_2 ++ dktX8_isNumber_3
def dkwX8_isNumber_1 : List UInt8 := [42, 180, 0, 9, 27, 21, 5, 96, 46, 133, 97, 20, 0, 135, 101, 66, 132, 5, 1, 167, 255, 218, 33]
abbrev dktX8_isNumber_1 : List UInt8 := dkwX8_isNumber_1 ++ dktX8_isNumber_2
def dkwX8_isNumber_0 : List UInt8 := [9, 66, 3, 54, 5, 21, 5, 28, 162, 0, 38, 33, 20, 0, 131, 148, 157, 0, 30, 20, 0, 133, 33, 105]
abbrev dktX8_isNumber_0 : List UInt8 := dkwX8_isNumber_0 ++ dktX8_isNumber_1
theorem dksX8_isNumber_0 : cX8_isNumber.data.toList.drop 0 = dktX8_isNumber_0 := by decide +kernel
theorem dksX8_isNumber_1 : cX8_isNumber.data.toList.drop 24 = dktX8_isNumber_1 := dk_seg dksX8_isNumber_0 24 rfl rfl
theorem dksX8_isNumber_2 : cX8_isNumber.data.toList.drop 47 = dktX8_isNumber_2 := dk_seg dksX8_isNumber_1 23 rfl rfl
theorem dksX8_isNumber_3 : cX8_isNumber.data.toList.drop 71 = dktX8_isNumber_3 := dk_seg dksX8_isNumber_2 24 rfl rfl
theorem dX8_isNumber_0 : decode cX8_isNumber 0 = .ok (.lconst 0, 1) := dk_9 (dk_at dksX8_isNumber_0 0 rfl rfl)
theorem dX8_isNumber_1 : decode cX8_isNumber 1 = .ok (.lstore_n 3, 1) := dk_66 (dk_at dksX8_isNumber_0 1 rfl rfl)
theorem dX8_isNumber_2 : decode cX8_isNumber 2 = .ok (.iconst 0, 1) := dk_3 (dk_at dksX8_isNumber_0 2 rfl rfl)
theorem dX8_isNumber_3 : decode cX8_isNumber 3 = .ok (.istore 5, 2) := dk_54 5 (dk_at dksX8_isNumber_0 3 rfl rfl)
theorem dX8_isNumber_5 : decode cX8_isNumber 5 = .ok (.iload 5, 2) := dk_21 5 (dk_at dksX8_isNumber_0 5 rfl rfl)
theorem dX8_isNumber_7 : decode cX8_isNumber 7 = .ok (.iload_n 2, 1) := dk_28 (dk_at dksX8_isNumber_0 7 rfl rfl)
theorem dX8_isNumber_8 : decode cX8_isNumber 8 = .ok (.if_icmp .ge 38, 3) := dk_162 0 38 (dk_at dksX8_isNumber_0 8 rfl rfl)
theorem dX8_isNumber_11 : decode cX8_isNumber 11 = .ok (.lload_n 3, 1) := dk_33 (dk_at dksX8_isNumber_0 11 rfl rfl)
theorem dX8_isNumber_12 : decode cX8_isNumber 12 = .ok (.ldc2_w 131, 3) := dk_20 0 131 (dk_at dksX8_isNumber_0 12 rfl rfl)
theorem dX8_isNumber_15 : decode cX8_isNumber 15 = .ok (.lcmp, 1) := dk_148 (dk_at dksX8_isNumber_0 15 rfl rfl)
theorem dX8_isNumber_16 : decode cX8_isNumber 16 = .ok (.ifCond .gt 30, 3) := dk_157 0 30 (dk_at dksX8_isNumber_0 16 rfl rfl)
theorem dX8_isNumber_19 : decode cX8_isNumber 19 = .ok (.ldc2_w 133, 3) := dk_20 0 133 (dk_at dksX8_isNumber_0 19 rfl rfl)
theorem dX8_isNumber_22 : decode cX8_isNumber 22 = .ok (.lload_n 3, 1) := dk_33 (dk_at dksX8_isNumber_0 22 rfl rfl)
theorem dX8_isNumber_23 : decode cX8_isNumber 23 = .ok (.lmul, 1) := dk_105 (dk_at dksX8_isNumber_0 23 rfl rfl)
theorem dX8_isNumber_24 : decode cX8_isNumber 24 = .ok (.aload_n 0, 1) := dk_42 (dk_at dksX8_isNumber_1 0 rfl rfl)
theorem dX8_isNumber_25 : decode cX8_isNumber 25 = .ok (.getfield 9, 3) := dk_180 0 9 (dk_at dksX8_isNumber_1 1 rfl rfl)
theorem dX8_isNumber_28 : decode cX8_isNumber 28 = .ok (.iload_n 1, 1) := dk_27 (dk_at dksX8_isNumber_1 4 rfl rfl)
theorem dX8_isNumber_29 : decode cX8_isNumber 29 = .ok (.iload 5, 2) := dk_21 5 (dk_at dksX8_isNumber_1 5 rfl rfl)
theorem dX8_isNumber_31 : decode cX8_isNumber 31 = .ok (.iadd, 1) := dk_96 (dk_at dksX8_isNumber_1 7 rfl rfl)
theorem dX8_isNumber_32 : decode cX8_isNumber 32 = .ok (.iaload, 1) := dk_46 (dk_at dksX8_isNumber_1 8 rfl rfl)
theorem dX8_isNumber_33 : decode cX8_isNumber 33 = .ok (.i2l, 1) := dk_133 (dk_at dksX8_isNumber_1 9 rfl rfl)
theorem dX8_isNumber_34 : decode cX8_isNumber 34 = .ok (.ladd, 1) := dk_97 (dk_at dksX8_isNumber_1 10 rfl rfl)
theorem dX8_isNumber_35 : decode cX8_isNumber 35 = .ok (.ldc2_w 135, 3) := dk_20 0 135 (dk_at dksX8_isNumber_1 11 rfl rfl)
theorem dX8_isNumber_38 : decode cX8_isNumber 38 = .ok (.lsub, 1) := dk_101 (dk_at dksX8_isNumber_1 14 rfl rfl)
theorem dX8_isNumber_39 : decode cX8_isNumber 39 = .ok (.lstore_n 3, 1) := dk_66 (dk_at dksX8_isNumber_1 15 rfl rfl)
theorem dX8_isNumber_40 : decode cX8_isNumber 40 = .ok (.iinc 5 1, 3) := dk_132 5 1 (dk_at dksX8_isNumber_1 16 rfl rfl)
theorem dX8_isNumber_43 : decode cX8_isNumber 43 = .ok (.goto (-38), 3) := dk_167 255 218 (dk_at dksX8_isNumber_1 19 rfl rfl)
theorem dX8_isNumber_46 : decode cX8_isNumber 46 = .ok (.lload_n 3, 1) := dk_33 (dk_at dksX8_isNumber_1 22 rfl rfl)
theorem dX8_isNumber_47 : decode cX8_isNumber 47 = .ok (.ldc2_w 131, 3) := dk_20 0 131 (dk_at dksX8_isNumber_2 0 rfl rfl)
theorem dX8_isNumber_50 : decode cX8_isNumber 50 = .ok (.lcmp, 1) := dk_148 (dk_at dksX8_isNumber_2 3 rfl rfl)
theorem dX8_isNumber_51 : decode cX8_isNumber 51 = .ok (.ifCond .gt 33, 3) := dk_157 0 33 (dk_at dksX8_isNumber_2 4 rfl rfl)
theorem dX8_isNumber_54 : decode cX8_isNumber 54 = .ok (.iload_n 2, 1) := dk_28 (dk_at dksX8_isNumber_2 7 rfl rfl)
theorem dX8_isNumber_55 : decode cX8_isNumber 55 = .ok (.iconst 1, 1) := dk_4 (dk_at dksX8_isNumber_2 8 rfl rfl)
theorem dX8_isNumber_56 : decode cX8_isNumber 56 = .ok (.if_icmp .eq 14, 3) := dk_159 0 14 (dk_at dksX8_isNumber_2 9 rfl rfl)
theorem dX8_isNumber_59 : decode cX8_isNumber 59 = .ok (.aload_n 0, 1) := dk_42 (dk_at dksX8_isNumber_2 12 rfl rfl)
theorem dX8_isNumber_60 : decode cX8_isNumber 60 = .ok (.getfield 9, 3) := dk_180 0 9 (dk_at dksX8_isNumber_2 13 rfl rfl)
theorem dX8_isNumber_63 : decode cX8_isNumber 63 = .ok (.iload_n 1, 1) := dk_27 (dk_at dksX8_isNumber_2 16 rfl rfl)
theorem dX8_isNumber_64 : decode cX8_isNumber 64 = .ok (.iaload, 1) := dk_46 (dk_at dksX8_isNumber_2 17 rfl rfl)
theorem dX8_isNumber_65 : decode cX8_isNumber 65 = .ok (.bipush 48, 2) := dk_16 48 (dk_at dksX8_isNumber_2 18 rfl rfl)
theorem dX8_isNumber_67 : decode cX8_isNumber 67 = .ok (.if_icmp .eq 17, 3) := dk_159 0 17 (dk_at dksX8_isNumber_2 20 rfl rfl)
theorem dX8_isNumber_70 : decode cX8_isNumber 70 = .ok (.aload_n 0, 1) := dk_42 (dk_at dksX8_isNumber_2 23 rfl rfl)
theorem dX8_isNumber_71 : decode cX8_isNumber 71 = .ok (.iload_n 1, 1) := dk_27 (dk_at dksX8_isNumber_3 0 rfl rfl)
theorem dX8_isNumber_72 : decode cX8_isNumber 72 = .ok (.iload_n 2, 1) := dk_28 (dk_at dksX8_isNumber_3 1 rfl rfl)
theorem dX8_isNumber_73 : decode cX8_isNumber 73 = .ok (.iadd, 1) := dk_96 (dk_at dksX8_isNumber_3 2 rfl rfl)
theorem dX8_isNumber_74 : decode cX8_isNumber 74 = .ok (.invokevirtual 137, 3) := dk_182 0 137 (dk_at dksX8_isNumber_3 3 rfl rfl)
theorem dX8_isNumber_77 : decode cX8_isNumber 77 = .ok (.ifCond .ne 7, 3) := dk_154 0 7 (dk_at dksX8_isNumber_3 6 rfl rfl)
theorem dX8_isNumber_80 : decode cX8_isNumber 80 = .ok (.iconst 1, 1) := dk_4 (dk_at dksX8_isNumber_3 9 rfl rfl)
theorem dX8_isNumber_81 : decode cX8_isNumber 81 = .ok (.goto 4, 3) := dk_167 0 4 (dk_at dksX8_isNumber_3 10 rfl rfl)
theorem dX8_isNumber_84 : decode cX8_isNumber 84 = .ok (.iconst 0, 1) := dk_3 (dk_at dksX8_isNumber_3 13 rfl rfl)
theorem dX8_isNumber_85 : decode cX8_isNumber 85 = .ok (.ireturn, 1) := dk_172 (dk_at dksX8_isNumber_3 14 rfl rfl)
abbrev cX8_function : ByteArray := prog_10_method_31_code
def yX8_function : MethodName := ⟨RX8, "function", "()I"⟩
def dkwX8_function_4 : List UInt8 := [153, 0, 7, 2, 167, 0, 8, 42, 4, 182, 0, 217, 182, 0, 185, 27, 172]
abbrev dktX8_function_4 : List UInt8 := dkwX8_function_4 ++ []
def dkwX8_function_3 : List UInt8 := [27, 42, 182, 0, 196, 182, 0, 185, 167, 255, 232, 42, 16, 41, 182, 0, 176, 42, 27, 42, 180, 0, 155]
abbrev dktX8_function_3 : List UInt8 := dkwX8_function_3 ++ dktX8_function_4
def dkwX8_function_2 : List UInt8 := [27, 42, 182, 0, 196, 182, 0, 185, 42, 182, 0, 162, 16, 44, 160, 0, 21, 42, 16, 44, 182, 0, 176, 42]
abbrev dktX8_function_2 : List UInt8 := dkwX8_function_2 ++ dktX8_function_3
def dkwX8_function_1 : List UInt8 := [27, 42, 182, 0, 196, 182, 0, 185, 42, 16, 40, 182, 0, 176, 42, 182, 0, 162, 16, 41, 159, 0, 39, 42]
abbrev dktX8_function_1 : List UInt8 := dkwX8_function_1 ++ dktX8_function_2
def dkwX8_function_0 : List UInt8 := [42, 4, 42, 180, 0, 22, 42, 180, 0, 159, 46, 3, 182, 0, 172, 60, 42, 17, 1, 44, 182, 0, 176, 42]
abbrev dktX8_function_0 : List UInt8 := dkwX8_function_0 ++ dktX8_function_1
theorem dksX8_function_0 : cX8_function.data.toList.drop 0 = dktX8_function_0 := by decide +kernel
theorem dksX8_function_1 : cX8_function.data.toList.drop 24 = dktX8_function_1 := dk_seg dksX8_function_0 24 rfl rfl
theorem dksX8_function_2 : cX8_function.data.toList.drop 48 = dktX8_function_2 := dk_seg dksX8_function_1 24 rfl rfl
theorem dksX8_function_3 : cX8_function.data.toList.drop 72 = dktX8_function_3 := dk_seg dksX8_function_2 24 rfl rfl
theorem dksX8_function_4 : cX8_function.data.toList.drop 95 = dktX8_function_4 := dk_seg dksX8_function_3 23 rfl rfl
theorem dX8_function_0 : decode cX8_function 0 = .ok (.aload_n 0, 1) := dk_42 (dk_at dksX8_function_0 0 rfl rfl)
theorem dX8_function_1 : decode cX8_function 1 = .ok (.iconst 1, 1) := dk_4 (dk_at dksX8_function_0 1 rfl rfl)
theorem dX8_function_2 : decode cX8_function 2 = .ok (.aload_n 0, 1) := dk_42 (dk_at dksX8_function_0 2 rfl rfl)
theorem dX8_function_3 : decode cX8_function 3 = .ok (.getfield 22, 3) := dk_180 0 22 (dk_at dksX8_function_0 3 rfl rfl)
theorem dX8_function_6 : decode cX8_function 6 = .ok (.aload_n 0, 1) := dk_42 (dk_at dksX8_function_0 6 rfl rfl)
theorem dX8_function_7 : decode cX8_function 7 = .ok (.getfield 159, 3) := dk_180 0 159 (dk_at dksX8_function_0 7 rfl rfl)
theorem dX8_function_10 : decode cX8_function 10 = .ok (.iaload, 1) := dk_46 (dk_at dksX8_function_0 10 rfl rfl)
theorem dX8_function_11 : decode cX8_function 11 = .ok (.iconst 0, 1) := dk_3 (dk_at dksX8_function_0 11 rfl rfl)
theorem dX8_function_12 : decode cX8_function 12 = .ok (.invokevirtual 172, 3) := dk_182 0 172 (dk_at dksX8_function_0 12 rfl rfl)
theorem dX8_function_15 : decode cX8_function 15 = .ok (.istore_n 1, 1) := dk_60 (dk_at dksX8_function_0 15 rfl rfl)
theorem dX8_function_16 : decode cX8_function 16 = .ok (.aload_n 0, 1) := dk_42 (dk_at dksX8_function_0 16 rfl rfl)
theorem dX8_function_17 : decode cX8_function 17 = .ok (.sipush 300, 3) := dk_17 1 44 (dk_at dksX8_function_0 17 rfl rfl)
theorem dX8_function_20 : decode cX8_function 20 = .ok (.invokevirtual 176, 3) := dk_182 0 176 (dk_at dksX8_function_0 20 rfl rfl)
theorem dX8_function_23 : decode cX8_function 23 = .ok (.aload_n 0, 1) := dk_42 (dk_at dksX8_function_0 23 rfl rfl)
theorem dX8_function_24 : decode cX8_function 24 = .ok (.iload_n 1, 1) := dk_27 (dk_at dksX8_function_1 0 rfl rfl)
theorem dX8_function_25 : decode cX8_function 25 = .ok (.aload_n 0, 1) := dk_42 (dk_at dksX8_function_1 1 rfl rfl)
theorem dX8_function_26 : decode cX8_function 26 = .ok (.invokevirtual 196, 3) := dk_182 0 196 (dk_at dksX8_function_1 2 rfl rfl)
theorem dX8_function_29 : decode cX8_function 29 = .ok (.invokevirtual 185, 3) := dk_182 0 185 (dk_at dksX8_function_1 5 rfl rfl)
theorem dX8_function_32 : decode cX8_function 32 = .ok (.aload_n 0, 1) := dk_42 (dk_at dksX8_function_1 8 rfl rfl)
theorem dX8_function_33 : decode cX8_function 33 = .ok (.bipush 40, 2) := dk_16 40 (dk_at dksX8_function_1 9 rfl rfl)
theorem dX8_function_35 : decode cX8_function 35 = .ok (.invokevirtual 176, 3) := dk_182 0 176 (dk_at dksX8_function_1 11 rfl rfl)
theorem dX8_function_38 : decode cX8_function 38 = .ok (.aload_n 0, 1) := dk_42 (dk_at dksX8_function_1 14 rfl rfl)
theorem dX8_function_39 : decode cX8_function 39 = .ok (.invokevirtual 162, 3) := dk_182 0 162 (dk_at dksX8_function_1 15 rfl rfl)
theorem dX8_function_42 : decode cX8_function 42 = .ok (.bipush 41, 2) := dk_16 41 (dk_at dksX8_function_1 18 rfl rfl)
theorem dX8_function_44 : decode cX8_function 44 = .ok (.if_icmp .eq 39, 3) := dk_159 0 39 (dk_at dksX8_function_1 20 rfl rfl)
theorem dX8_function_47 : decode cX8_function 47 = .ok (.aload_n 0, 1) := dk_42 (dk_at dksX8_function_1 23 rfl rfl)
theorem dX8_function_48 : decode cX8_function 48 = .ok (.iload_n 1, 1) := dk_27 (dk_at dksX8_function_2 0 rfl rfl)
theorem dX8_function_49 : decode cX8_function 49 = .ok (.aload_n 0, 1) := dk_42 (dk_at dksX8_function_2 1 rfl rfl)
theorem dX8_function_50 : decode cX8_function 50 = .ok (.invokevirtual 196, 3) := dk_182 0 196 (dk_at dksX8_function_2 2 rfl rfl)
theorem dX8_function_53 : decode cX8_function 53 = .ok (.invokevirtual 185, 3) := dk_182 0 185 (dk_at dksX8_function_2 5 rfl rfl)
theorem dX8_function_56 : decode cX8_function 56 = .ok (.aload_n 0, 1) := dk_42 (dk_at dksX8_function_2 8 rfl rfl)
theorem dX8_function_57 : decode cX8_function 57 = .ok (.invokevirtual 162, 3) := dk_182 0 162 (dk_at dksX8_function_2 9 rfl rfl)
theorem dX8_function_60 : decode cX8_function 60 = .ok (.bipush 44, 2) := dk_16 44 (dk_at dksX8_function_2 12 rfl rfl)
theorem dX8_function_62 : decode cX8_function 62 = .ok (.if_icmp .ne 21, 3) := dk_160 0 21 (dk_at dksX8_function_2 14 rfl rfl)
theorem dX8_function_65 : decode cX8_function 65 = .ok (.aload_n 0, 1) := dk_42 (dk_at dksX8_function_2 17 rfl rfl)
theorem dX8_function_66 : decode cX8_function 66 = .ok (.bipush 44, 2) := dk_16 44 (dk_at dksX8_function_2 18 rfl rfl)
theorem dX8_function_68 : decode cX8_function 68 = .ok (.invokevirtual 176, 3) := dk_182 0 176 (dk_at dksX8_function_2 20 rfl rfl)
theorem dX8_function_71 : decode cX8_function 71 = .ok (.aload_n 0, 1) := dk_42 (dk_at dksX8_function_2 23 rfl rfl)
theorem dX8_function_72 : decode cX8_function 72 = .ok (.iload_n 1, 1) := dk_27 (dk_at dksX8_function_3 0 rfl rfl)
theorem dX8_function_73 : decode cX8_function 73 = .ok (.aload_n 0, 1) := dk_42 (dk_at dksX8_function_3 1 rfl rfl)
theorem dX8_function_74 : decode cX8_function 74 = .ok (.invokevirtual 196, 3) := dk_182 0 196 (dk_at dksX8_function_3 2 rfl rfl)
theorem dX8_function_77 : decode cX8_function 77 = .ok (.invokevirtual 185, 3) := dk_182 0 185 (dk_at dksX8_function_3 5 rfl rfl)
theorem dX8_function_80 : decode cX8_function 80 = .ok (.goto (-24), 3) := dk_167 255 232 (dk_at dksX8_function_3 8 rfl rfl)
theorem dX8_function_83 : decode cX8_function 83 = .ok (.aload_n 0, 1) := dk_42 (dk_at dksX8_function_3 11 rfl rfl)
theorem dX8_function_84 : decode cX8_function 84 = .ok (.bipush 41, 2) := dk_16 41 (dk_at dksX8_function_3 12 rfl rfl)
theorem dX8_function_86 : decode cX8_function 86 = .ok (.invokevirtual 176, 3) := dk_182 0 176 (dk_at dksX8_function_3 14 rfl rfl)
theorem dX8_function_89 : decode cX8_function 89 = .ok (.aload_n 0, 1) := dk_42 (dk_at dksX8_function_3 17 rfl rfl)
theorem dX8_function_90 : decode cX8_function 90 = .ok (.iload_n 1, 1) := dk_27 (dk_at dksX8_function_3 18 rfl rfl)
theorem dX8_function_91 : decode cX8_function 91 = .ok (.aload_n 0, 1) := dk_42 (dk_at dksX8_function_3 19 rfl rfl)
theorem dX8_function_92 : decode cX8_function 92 = .ok (.getfield 155, 3) := dk_180 0 155 (dk_at dksX8_function_3 20 rfl rfl)
theorem dX8_function_95 : decode cX8_function 95 = .ok (.ifCond .eq 7, 3) := dk_153 0 7 (dk_at dksX8_function_4 0 rfl rfl)
theorem dX8_function_98 : decode cX8_function 98 = .ok (.iconst (-1), 1) := dk_2 (dk_at dksX8_function_4 3 rfl rfl)
theorem dX8_function_99 : decode cX8_function 99 = .ok (.goto 8, 3) := dk_167 0 8 (dk_at dksX8_function_4 4 rfl rfl)
theorem dX8_function_102 : decode cX8_function 102 = .ok (.aload_n 0, 1) := dk_42 (dk_at dksX8_function_4 7 rfl rfl)
theorem dX8_function_103 : decode cX8_function 103 = .ok (.iconst 1, 1) := dk_4 (dk_at dksX8_function_4 8 rfl rfl)
theorem dX8_function_104 : decode cX8_function 104 = .ok (.invokevirtual 217, 3) := dk_182 0 217 (dk_at dksX8_function_4 9 rfl rfl)
theorem dX8_function_107 : decode cX8_function 107 = .ok (.invokevirtual 185, 3) := dk_182 0 185 (dk_at dksX8_function_4 12 rfl rfl)
theorem dX8_function_110 : decode cX8_function 110 = .ok (.iload_n 1, 1) := dk_27 (dk_at dksX8_function_4 15 rfl rfl)
theorem dX8_function_111 : decode cX8_function 111 = .ok (.ireturn, 1) := dk_172 (dk_at dksX8_function_4 16 rfl rfl)
abbrev cX8_draft : ByteArray := prog_10_method_16_code
def yX8_draft : MethodName := ⟨RX8, "draft", "(III)I"⟩
def dkwX8_draft_3 : List UInt8 := [180, 0, 169, 4, 100, 172]
abbrev dktX8_draft_3 : List UInt8 := dkwX8_draft_3 ++ []
def dkwX8_draft_2 : List UInt8 := [2, 79, 42, 180, 0, 47, 42, 180, 0, 169, 2, 79, 42, 89, 180, 0, 169, 4, 96, 181, 0, 169, 42]
abbrev dktX8_draft_2 : List UInt8 := dkwX8_draft_2 ++ dktX8_draft_3
def dkwX8_draft_1 : List UInt8 := [42, 180, 0, 169, 29, 79, 42, 180, 0, 41, 42, 180, 0, 169, 2, 79, 42, 180, 0, 44, 42, 180, 0, 169]
abbrev dktX8_draft_1 : List UInt8 := dkwX8_draft_1 ++ dktX8_draft_2
def dkwX8_draft_0 : List UInt8 := [42, 180, 0, 32, 42, 180, 0, 169, 27, 79, 42, 180, 0, 35, 42, 180, 0, 169, 28, 79, 42, 180, 0, 38]
abbrev dktX8_draft_0 : List UInt8 := dkwX8_draft_0 ++ dktX8_draft_1
theorem dksX8_draft_0 : cX8_draft.data.toList.drop 0 = dktX8_draft_0 := by decide +kernel
theorem dksX8_draft_1 : cX8_draft.data.toList.drop 24 = dktX8_draft_1 := dk_seg dksX8_draft_0 24 rfl rfl
theorem dksX8_draft_2 : cX8_draft.data.toList.drop 48 = dktX8_draft_2 := dk_seg dksX8_draft_1 24 rfl rfl
theorem dksX8_draft_3 : cX8_draft.data.toList.drop 71 = dktX8_draft_3 := dk_seg dksX8_draft_2 23 rfl rfl
theorem dX8_draft_0 : decode cX8_draft 0 = .ok (.aload_n 0, 1) := dk_42 (dk_at dksX8_draft_0 0 rfl rfl)
theorem dX8_draft_1 : decode cX8_draft 1 = .ok (.getfield 32, 3) := dk_180 0 32 (dk_at dksX8_draft_0 1 rfl rfl)
theorem dX8_draft_4 : decode cX8_draft 4 = .ok (.aload_n 0, 1) := dk_42 (dk_at dksX8_draft_0 4 rfl rfl)
theorem dX8_draft_5 : decode cX8_draft 5 = .ok (.getfield 169, 3) := dk_180 0 169 (dk_at dksX8_draft_0 5 rfl rfl)
theorem dX8_draft_8 : decode cX8_draft 8 = .ok (.iload_n 1, 1) := dk_27 (dk_at dksX8_draft_0 8 rfl rfl)
theorem dX8_draft_9 : decode cX8_draft 9 = .ok (.iastore, 1) := dk_79 (dk_at dksX8_draft_0 9 rfl rfl)
theorem dX8_draft_10 : decode cX8_draft 10 = .ok (.aload_n 0, 1) := dk_42 (dk_at dksX8_draft_0 10 rfl rfl)
theorem dX8_draft_11 : decode cX8_draft 11 = .ok (.getfield 35, 3) := dk_180 0 35 (dk_at dksX8_draft_0 11 rfl rfl)
theorem dX8_draft_14 : decode cX8_draft 14 = .ok (.aload_n 0, 1) := dk_42 (dk_at dksX8_draft_0 14 rfl rfl)
theorem dX8_draft_15 : decode cX8_draft 15 = .ok (.getfield 169, 3) := dk_180 0 169 (dk_at dksX8_draft_0 15 rfl rfl)
theorem dX8_draft_18 : decode cX8_draft 18 = .ok (.iload_n 2, 1) := dk_28 (dk_at dksX8_draft_0 18 rfl rfl)
theorem dX8_draft_19 : decode cX8_draft 19 = .ok (.iastore, 1) := dk_79 (dk_at dksX8_draft_0 19 rfl rfl)
theorem dX8_draft_20 : decode cX8_draft 20 = .ok (.aload_n 0, 1) := dk_42 (dk_at dksX8_draft_0 20 rfl rfl)
theorem dX8_draft_21 : decode cX8_draft 21 = .ok (.getfield 38, 3) := dk_180 0 38 (dk_at dksX8_draft_0 21 rfl rfl)
theorem dX8_draft_24 : decode cX8_draft 24 = .ok (.aload_n 0, 1) := dk_42 (dk_at dksX8_draft_1 0 rfl rfl)
theorem dX8_draft_25 : decode cX8_draft 25 = .ok (.getfield 169, 3) := dk_180 0 169 (dk_at dksX8_draft_1 1 rfl rfl)
theorem dX8_draft_28 : decode cX8_draft 28 = .ok (.iload_n 3, 1) := dk_29 (dk_at dksX8_draft_1 4 rfl rfl)
theorem dX8_draft_29 : decode cX8_draft 29 = .ok (.iastore, 1) := dk_79 (dk_at dksX8_draft_1 5 rfl rfl)
theorem dX8_draft_30 : decode cX8_draft 30 = .ok (.aload_n 0, 1) := dk_42 (dk_at dksX8_draft_1 6 rfl rfl)
theorem dX8_draft_31 : decode cX8_draft 31 = .ok (.getfield 41, 3) := dk_180 0 41 (dk_at dksX8_draft_1 7 rfl rfl)
theorem dX8_draft_34 : decode cX8_draft 34 = .ok (.aload_n 0, 1) := dk_42 (dk_at dksX8_draft_1 10 rfl rfl)
theorem dX8_draft_35 : decode cX8_draft 35 = .ok (.getfield 169, 3) := dk_180 0 169 (dk_at dksX8_draft_1 11 rfl rfl)
theorem dX8_draft_38 : decode cX8_draft 38 = .ok (.iconst (-1), 1) := dk_2 (dk_at dksX8_draft_1 14 rfl rfl)
theorem dX8_draft_39 : decode cX8_draft 39 = .ok (.iastore, 1) := dk_79 (dk_at dksX8_draft_1 15 rfl rfl)
theorem dX8_draft_40 : decode cX8_draft 40 = .ok (.aload_n 0, 1) := dk_42 (dk_at dksX8_draft_1 16 rfl rfl)
theorem dX8_draft_41 : decode cX8_draft 41 = .ok (.getfield 44, 3) := dk_180 0 44 (dk_at dksX8_draft_1 17 rfl rfl)
theorem dX8_draft_44 : decode cX8_draft 44 = .ok (.aload_n 0, 1) := dk_42 (dk_at dksX8_draft_1 20 rfl rfl)
theorem dX8_draft_45 : decode cX8_draft 45 = .ok (.getfield 169, 3) := dk_180 0 169 (dk_at dksX8_draft_1 21 rfl rfl)
theorem dX8_draft_48 : decode cX8_draft 48 = .ok (.iconst (-1), 1) := dk_2 (dk_at dksX8_draft_2 0 rfl rfl)
theorem dX8_draft_49 : decode cX8_draft 49 = .ok (.iastore, 1) := dk_79 (dk_at dksX8_draft_2 1 rfl rfl)
theorem dX8_draft_50 : decode cX8_draft 50 = .ok (.aload_n 0, 1) := dk_42 (dk_at dksX8_draft_2 2 rfl rfl)
theorem dX8_draft_51 : decode cX8_draft 51 = .ok (.getfield 47, 3) := dk_180 0 47 (dk_at dksX8_draft_2 3 rfl rfl)
theorem dX8_draft_54 : decode cX8_draft 54 = .ok (.aload_n 0, 1) := dk_42 (dk_at dksX8_draft_2 6 rfl rfl)
theorem dX8_draft_55 : decode cX8_draft 55 = .ok (.getfield 169, 3) := dk_180 0 169 (dk_at dksX8_draft_2 7 rfl rfl)
theorem dX8_draft_58 : decode cX8_draft 58 = .ok (.iconst (-1), 1) := dk_2 (dk_at dksX8_draft_2 10 rfl rfl)
theorem dX8_draft_59 : decode cX8_draft 59 = .ok (.iastore, 1) := dk_79 (dk_at dksX8_draft_2 11 rfl rfl)
theorem dX8_draft_60 : decode cX8_draft 60 = .ok (.aload_n 0, 1) := dk_42 (dk_at dksX8_draft_2 12 rfl rfl)
theorem dX8_draft_61 : decode cX8_draft 61 = .ok (.dup, 1) := dk_89 (dk_at dksX8_draft_2 13 rfl rfl)
theorem dX8_draft_62 : decode cX8_draft 62 = .ok (.getfield 169, 3) := dk_180 0 169 (dk_at dksX8_draft_2 14 rfl rfl)
theorem dX8_draft_65 : decode cX8_draft 65 = .ok (.iconst 1, 1) := dk_4 (dk_at dksX8_draft_2 17 rfl rfl)
theorem dX8_draft_66 : decode cX8_draft 66 = .ok (.iadd, 1) := dk_96 (dk_at dksX8_draft_2 18 rfl rfl)
theorem dX8_draft_67 : decode cX8_draft 67 = .ok (.putfield 169, 3) := dk_181 0 169 (dk_at dksX8_draft_2 19 rfl rfl)
theorem dX8_draft_70 : decode cX8_draft 70 = .ok (.aload_n 0, 1) := dk_42 (dk_at dksX8_draft_2 22 rfl rfl)
theorem dX8_draft_71 : decode cX8_draft 71 = .ok (.getfield 169, 3) := dk_180 0 169 (dk_at dksX8_draft_3 0 rfl rfl)
theorem dX8_draft_74 : decode cX8_draft 74 = .ok (.iconst 1, 1) := dk_4 (dk_at dksX8_draft_3 3 rfl rfl)
theorem dX8_draft_75 : decode cX8_draft 75 = .ok (.isub, 1) := dk_100 (dk_at dksX8_draft_3 4 rfl rfl)
theorem dX8_draft_76 : decode cX8_draft 76 = .ok (.ireturn, 1) := dk_172 (dk_at dksX8_draft_3 5 rfl rfl)
abbrev cX8_take : ByteArray := prog_10_method_15_code
def yX8_take : MethodName := ⟨RX8, "take", "(I)V"⟩
def dkwX8_take_1 : List UInt8 := [153, 0, 10, 42, 180, 0, 159, 167, 0, 9, 42, 180, 0, 159, 4, 96, 181, 0, 159, 177]
abbrev dktX8_take_1 : List UInt8 := dkwX8_take_1 ++ []
def dkwX8_take_0 : List UInt8 := [42, 42, 182, 0, 162, 27, 160, 0, 7, 4, 167, 0, 4, 3, 182, 0, 165, 42, 42, 180, 0, 155]
abbrev dktX8_take_0 : List UInt8 := dkwX8_take_0 ++ dktX8_take_1
theorem dksX8_take_0 : cX8_take.data.toList.drop 0 = dktX8_take_0 := by decide +kernel
theorem dksX8_take_1 : cX8_take.data.toList.drop 22 = dktX8_take_1 := dk_seg dksX8_take_0 22 rfl rfl
theorem dX8_take_0 : decode cX8_take 0 = .ok (.aload_n 0, 1) := dk_42 (dk_at dksX8_take_0 0 rfl rfl)
theorem dX8_take_1 : decode cX8_take 1 = .ok (.aload_n 0, 1) := dk_42 (dk_at dksX8_take_0 1 rfl rfl)
theorem dX8_take_2 : decode cX8_take 2 = .ok (.invokevirtual 162, 3) := dk_182 0 162 (dk_at dksX8_take_0 2 rfl rfl)
theorem dX8_take_5 : decode cX8_take 5 = .ok (.iload_n 1, 1) := dk_27 (dk_at dksX8_take_0 5 rfl rfl)
theorem dX8_take_6 : decode cX8_take 6 = .ok (.if_icmp .ne 7, 3) := dk_160 0 7 (dk_at dksX8_take_0 6 rfl rfl)
theorem dX8_take_9 : decode cX8_take 9 = .ok (.iconst 1, 1) := dk_4 (dk_at dksX8_take_0 9 rfl rfl)
theorem dX8_take_10 : decode cX8_take 10 = .ok (.goto 4, 3) := dk_167 0 4 (dk_at dksX8_take_0 10 rfl rfl)
theorem dX8_take_13 : decode cX8_take 13 = .ok (.iconst 0, 1) := dk_3 (dk_at dksX8_take_0 13 rfl rfl)
theorem dX8_take_14 : decode cX8_take 14 = .ok (.invokevirtual 165, 3) := dk_182 0 165 (dk_at dksX8_take_0 14 rfl rfl)
theorem dX8_take_17 : decode cX8_take 17 = .ok (.aload_n 0, 1) := dk_42 (dk_at dksX8_take_0 17 rfl rfl)
theorem dX8_take_18 : decode cX8_take 18 = .ok (.aload_n 0, 1) := dk_42 (dk_at dksX8_take_0 18 rfl rfl)
theorem dX8_take_19 : decode cX8_take 19 = .ok (.getfield 155, 3) := dk_180 0 155 (dk_at dksX8_take_0 19 rfl rfl)
theorem dX8_take_22 : decode cX8_take 22 = .ok (.ifCond .eq 10, 3) := dk_153 0 10 (dk_at dksX8_take_1 0 rfl rfl)
theorem dX8_take_25 : decode cX8_take 25 = .ok (.aload_n 0, 1) := dk_42 (dk_at dksX8_take_1 3 rfl rfl)
theorem dX8_take_26 : decode cX8_take 26 = .ok (.getfield 159, 3) := dk_180 0 159 (dk_at dksX8_take_1 4 rfl rfl)
theorem dX8_take_29 : decode cX8_take 29 = .ok (.goto 9, 3) := dk_167 0 9 (dk_at dksX8_take_1 7 rfl rfl)
theorem dX8_take_32 : decode cX8_take 32 = .ok (.aload_n 0, 1) := dk_42 (dk_at dksX8_take_1 10 rfl rfl)
theorem dX8_take_33 : decode cX8_take 33 = .ok (.getfield 159, 3) := dk_180 0 159 (dk_at dksX8_take_1 11 rfl rfl)
theorem dX8_take_36 : decode cX8_take 36 = .ok (.iconst 1, 1) := dk_4 (dk_at dksX8_take_1 14 rfl rfl)
theorem dX8_take_37 : decode cX8_take 37 = .ok (.iadd, 1) := dk_96 (dk_at dksX8_take_1 15 rfl rfl)
theorem dX8_take_38 : decode cX8_take 38 = .ok (.putfield 159, 3) := dk_181 0 159 (dk_at dksX8_take_1 16 rfl rfl)
theorem dX8_take_41 : decode cX8_take 41 = .ok (.return_, 1) := dk_177 (dk_at dksX8_take_1 19 rfl rfl)
abbrev cX8_look : ByteArray := prog_10_method_13_code
def yX8_look : MethodName := ⟨RX8, "look", "()I"⟩
def dkwX8_look_0 : List UInt8 := [42, 180, 0, 155, 153, 0, 7, 4, 167, 0, 12, 42, 180, 0, 19, 42, 180, 0, 159, 46, 172]
abbrev dktX8_look_0 : List UInt8 := dkwX8_look_0 ++ []
theorem dksX8_look_0 : cX8_look.data.toList.drop 0 = dktX8_look_0 := by decide +kernel
theorem dX8_look_0 : decode cX8_look 0 = .ok (.aload_n 0, 1) := dk_42 (dk_at dksX8_look_0 0 rfl rfl)
theorem dX8_look_1 : decode cX8_look 1 = .ok (.getfield 155, 3) := dk_180 0 155 (dk_at dksX8_look_0 1 rfl rfl)
theorem dX8_look_4 : decode cX8_look 4 = .ok (.ifCond .eq 7, 3) := dk_153 0 7 (dk_at dksX8_look_0 4 rfl rfl)
theorem dX8_look_7 : decode cX8_look 7 = .ok (.iconst 1, 1) := dk_4 (dk_at dksX8_look_0 7 rfl rfl)
theorem dX8_look_8 : decode cX8_look 8 = .ok (.goto 12, 3) := dk_167 0 12 (dk_at dksX8_look_0 8 rfl rfl)
theorem dX8_look_11 : decode cX8_look 11 = .ok (.aload_n 0, 1) := dk_42 (dk_at dksX8_look_0 11 rfl rfl)
theorem dX8_look_12 : decode cX8_look 12 = .ok (.getfield 19, 3) := dk_180 0 19 (dk_at dksX8_look_0 12 rfl rfl)
theorem dX8_look_15 : decode cX8_look 15 = .ok (.aload_n 0, 1) := dk_42 (dk_at dksX8_look_0 15 rfl rfl)
theorem dX8_look_16 : decode cX8_look 16 = .ok (.getfield 159, 3) := dk_180 0 159 (dk_at dksX8_look_0 16 rfl rfl)
theorem dX8_look_19 : decode cX8_look 19 = .ok (.iaload, 1) := dk_46 (dk_at dksX8_look_0 19 rfl rfl)
theorem dX8_look_20 : decode cX8_look 20 = .ok (.ireturn, 1) := dk_172 (dk_at dksX8_look_0 20 rfl rfl)
abbrev cX8_need : ByteArray := prog_10_method_14_code
def yX8_need : MethodName := ⟨RX8, "need", "(Z)V"⟩
def dkwX8_need_1 : List UInt8 := [180, 0, 159, 46, 181, 0, 28, 177]
abbrev dktX8_need_1 : List UInt8 := dkwX8_need_1 ++ []
def dkwX8_need_0 : List UInt8 := [27, 154, 0, 28, 42, 180, 0, 155, 154, 0, 21, 42, 4, 181, 0, 155, 42, 42, 180, 0, 22, 42]
abbrev dktX8_need_0 : List UInt8 := dkwX8_need_0 ++ dktX8_need_1
theorem dksX8_need_0 : cX8_need.data.toList.drop 0 = dktX8_need_0 := by decide +kernel
theorem dksX8_need_1 : cX8_need.data.toList.drop 22 = dktX8_need_1 := dk_seg dksX8_need_0 22 rfl rfl
theorem dX8_need_0 : decode cX8_need 0 = .ok (.iload_n 1, 1) := dk_27 (dk_at dksX8_need_0 0 rfl rfl)
theorem dX8_need_1 : decode cX8_need 1 = .ok (.ifCond .ne 28, 3) := dk_154 0 28 (dk_at dksX8_need_0 1 rfl rfl)
theorem dX8_need_4 : decode cX8_need 4 = .ok (.aload_n 0, 1) := dk_42 (dk_at dksX8_need_0 4 rfl rfl)
theorem dX8_need_5 : decode cX8_need 5 = .ok (.getfield 155, 3) := dk_180 0 155 (dk_at dksX8_need_0 5 rfl rfl)
theorem dX8_need_8 : decode cX8_need 8 = .ok (.ifCond .ne 21, 3) := dk_154 0 21 (dk_at dksX8_need_0 8 rfl rfl)
theorem dX8_need_11 : decode cX8_need 11 = .ok (.aload_n 0, 1) := dk_42 (dk_at dksX8_need_0 11 rfl rfl)
theorem dX8_need_12 : decode cX8_need 12 = .ok (.iconst 1, 1) := dk_4 (dk_at dksX8_need_0 12 rfl rfl)
theorem dX8_need_13 : decode cX8_need 13 = .ok (.putfield 155, 3) := dk_181 0 155 (dk_at dksX8_need_0 13 rfl rfl)
theorem dX8_need_16 : decode cX8_need 16 = .ok (.aload_n 0, 1) := dk_42 (dk_at dksX8_need_0 16 rfl rfl)
theorem dX8_need_17 : decode cX8_need 17 = .ok (.aload_n 0, 1) := dk_42 (dk_at dksX8_need_0 17 rfl rfl)
theorem dX8_need_18 : decode cX8_need 18 = .ok (.getfield 22, 3) := dk_180 0 22 (dk_at dksX8_need_0 18 rfl rfl)
theorem dX8_need_21 : decode cX8_need 21 = .ok (.aload_n 0, 1) := dk_42 (dk_at dksX8_need_0 21 rfl rfl)
theorem dX8_need_22 : decode cX8_need 22 = .ok (.getfield 159, 3) := dk_180 0 159 (dk_at dksX8_need_1 0 rfl rfl)
theorem dX8_need_25 : decode cX8_need 25 = .ok (.iaload, 1) := dk_46 (dk_at dksX8_need_1 3 rfl rfl)
theorem dX8_need_26 : decode cX8_need 26 = .ok (.putfield 28, 3) := dk_181 0 28 (dk_at dksX8_need_1 4 rfl rfl)
theorem dX8_need_29 : decode cX8_need 29 = .ok (.return_, 1) := dk_177 (dk_at dksX8_need_1 7 rfl rfl)
abbrev cX8_name : ByteArray := prog_10_method_18_code
def yX8_name : MethodName := ⟨RX8, "name", "()I"⟩
def dkwX8_name_1 : List UInt8 := [182, 0, 176, 27, 172]
abbrev dktX8_name_1 : List UInt8 := dkwX8_name_1 ++ []
def dkwX8_name_0 : List UInt8 := [42, 16, 13, 42, 180, 0, 22, 42, 180, 0, 159, 46, 42, 180, 0, 159, 182, 0, 172, 60, 42, 5]
abbrev dktX8_name_0 : List UInt8 := dkwX8_name_0 ++ dktX8_name_1
theorem dksX8_name_0 : cX8_name.data.toList.drop 0 = dktX8_name_0 := by decide +kernel
theorem dksX8_name_1 : cX8_name.data.toList.drop 22 = dktX8_name_1 := dk_seg dksX8_name_0 22 rfl rfl
theorem dX8_name_0 : decode cX8_name 0 = .ok (.aload_n 0, 1) := dk_42 (dk_at dksX8_name_0 0 rfl rfl)
theorem dX8_name_1 : decode cX8_name 1 = .ok (.bipush 13, 2) := dk_16 13 (dk_at dksX8_name_0 1 rfl rfl)
theorem dX8_name_3 : decode cX8_name 3 = .ok (.aload_n 0, 1) := dk_42 (dk_at dksX8_name_0 3 rfl rfl)
theorem dX8_name_4 : decode cX8_name 4 = .ok (.getfield 22, 3) := dk_180 0 22 (dk_at dksX8_name_0 4 rfl rfl)
theorem dX8_name_7 : decode cX8_name 7 = .ok (.aload_n 0, 1) := dk_42 (dk_at dksX8_name_0 7 rfl rfl)
theorem dX8_name_8 : decode cX8_name 8 = .ok (.getfield 159, 3) := dk_180 0 159 (dk_at dksX8_name_0 8 rfl rfl)
theorem dX8_name_11 : decode cX8_name 11 = .ok (.iaload, 1) := dk_46 (dk_at dksX8_name_0 11 rfl rfl)
theorem dX8_name_12 : decode cX8_name 12 = .ok (.aload_n 0, 1) := dk_42 (dk_at dksX8_name_0 12 rfl rfl)
theorem dX8_name_13 : decode cX8_name 13 = .ok (.getfield 159, 3) := dk_180 0 159 (dk_at dksX8_name_0 13 rfl rfl)
theorem dX8_name_16 : decode cX8_name 16 = .ok (.invokevirtual 172, 3) := dk_182 0 172 (dk_at dksX8_name_0 16 rfl rfl)
theorem dX8_name_19 : decode cX8_name 19 = .ok (.istore_n 1, 1) := dk_60 (dk_at dksX8_name_0 19 rfl rfl)
theorem dX8_name_20 : decode cX8_name 20 = .ok (.aload_n 0, 1) := dk_42 (dk_at dksX8_name_0 20 rfl rfl)
theorem dX8_name_21 : decode cX8_name 21 = .ok (.iconst 2, 1) := dk_5 (dk_at dksX8_name_0 21 rfl rfl)
theorem dX8_name_22 : decode cX8_name 22 = .ok (.invokevirtual 176, 3) := dk_182 0 176 (dk_at dksX8_name_1 0 rfl rfl)
theorem dX8_name_25 : decode cX8_name 25 = .ok (.iload_n 1, 1) := dk_27 (dk_at dksX8_name_1 3 rfl rfl)
theorem dX8_name_26 : decode cX8_name 26 = .ok (.ireturn, 1) := dk_172 (dk_at dksX8_name_1 4 rfl rfl)
abbrev cX8_join : ByteArray := prog_10_method_17_code
def yX8_join : MethodName := ⟨RX8, "join", "(II)V"⟩
def dkwX8_join_1 : List UInt8 := [167, 0, 15, 42, 180, 0, 47, 42, 180, 0, 44, 27, 46, 28, 79, 42, 180, 0, 44, 27, 28, 79, 177]
abbrev dktX8_join_1 : List UInt8 := dkwX8_join_1 ++ []
def dkwX8_join_0 : List UInt8 := [28, 2, 160, 0, 4, 177, 42, 180, 0, 41, 27, 46, 2, 160, 0, 13, 42, 180, 0, 41, 27, 28, 79]
abbrev dktX8_join_0 : List UInt8 := dkwX8_join_0 ++ dktX8_join_1
theorem dksX8_join_0 : cX8_join.data.toList.drop 0 = dktX8_join_0 := by decide +kernel
theorem dksX8_join_1 : cX8_join.data.toList.drop 23 = dktX8_join_1 := dk_seg dksX8_join_0 23 rfl rfl
theorem dX8_join_0 : decode cX8_join 0 = .ok (.iload_n 2, 1) := dk_28 (dk_at dksX8_join_0 0 rfl rfl)
theorem dX8_join_1 : decode cX8_join 1 = .ok (.iconst (-1), 1) := dk_2 (dk_at dksX8_join_0 1 rfl rfl)
theorem dX8_join_2 : decode cX8_join 2 = .ok (.if_icmp .ne 4, 3) := dk_160 0 4 (dk_at dksX8_join_0 2 rfl rfl)
theorem dX8_join_5 : decode cX8_join 5 = .ok (.return_, 1) := dk_177 (dk_at dksX8_join_0 5 rfl rfl)
theorem dX8_join_6 : decode cX8_join 6 = .ok (.aload_n 0, 1) := dk_42 (dk_at dksX8_join_0 6 rfl rfl)
theorem dX8_join_7 : decode cX8_join 7 = .ok (.getfield 41, 3) := dk_180 0 41 (dk_at dksX8_join_0 7 rfl rfl)
theorem dX8_join_10 : decode cX8_join 10 = .ok (.iload_n 1, 1) := dk_27 (dk_at dksX8_join_0 10 rfl rfl)
theorem dX8_join_11 : decode cX8_join 11 = .ok (.iaload, 1) := dk_46 (dk_at dksX8_join_0 11 rfl rfl)
theorem dX8_join_12 : decode cX8_join 12 = .ok (.iconst (-1), 1) := dk_2 (dk_at dksX8_join_0 12 rfl rfl)
theorem dX8_join_13 : decode cX8_join 13 = .ok (.if_icmp .ne 13, 3) := dk_160 0 13 (dk_at dksX8_join_0 13 rfl rfl)
theorem dX8_join_16 : decode cX8_join 16 = .ok (.aload_n 0, 1) := dk_42 (dk_at dksX8_join_0 16 rfl rfl)
theorem dX8_join_17 : decode cX8_join 17 = .ok (.getfield 41, 3) := dk_180 0 41 (dk_at dksX8_join_0 17 rfl rfl)
theorem dX8_join_20 : decode cX8_join 20 = .ok (.iload_n 1, 1) := dk_27 (dk_at dksX8_join_0 20 rfl rfl)
theorem dX8_join_21 : decode cX8_join 21 = .ok (.iload_n 2, 1) := dk_28 (dk_at dksX8_join_0 21 rfl rfl)
theorem dX8_join_22 : decode cX8_join 22 = .ok (.iastore, 1) := dk_79 (dk_at dksX8_join_0 22 rfl rfl)
theorem dX8_join_23 : decode cX8_join 23 = .ok (.goto 15, 3) := dk_167 0 15 (dk_at dksX8_join_1 0 rfl rfl)
theorem dX8_join_26 : decode cX8_join 26 = .ok (.aload_n 0, 1) := dk_42 (dk_at dksX8_join_1 3 rfl rfl)
theorem dX8_join_27 : decode cX8_join 27 = .ok (.getfield 47, 3) := dk_180 0 47 (dk_at dksX8_join_1 4 rfl rfl)
theorem dX8_join_30 : decode cX8_join 30 = .ok (.aload_n 0, 1) := dk_42 (dk_at dksX8_join_1 7 rfl rfl)
theorem dX8_join_31 : decode cX8_join 31 = .ok (.getfield 44, 3) := dk_180 0 44 (dk_at dksX8_join_1 8 rfl rfl)
theorem dX8_join_34 : decode cX8_join 34 = .ok (.iload_n 1, 1) := dk_27 (dk_at dksX8_join_1 11 rfl rfl)
theorem dX8_join_35 : decode cX8_join 35 = .ok (.iaload, 1) := dk_46 (dk_at dksX8_join_1 12 rfl rfl)
theorem dX8_join_36 : decode cX8_join 36 = .ok (.iload_n 2, 1) := dk_28 (dk_at dksX8_join_1 13 rfl rfl)
theorem dX8_join_37 : decode cX8_join 37 = .ok (.iastore, 1) := dk_79 (dk_at dksX8_join_1 14 rfl rfl)
theorem dX8_join_38 : decode cX8_join 38 = .ok (.aload_n 0, 1) := dk_42 (dk_at dksX8_join_1 15 rfl rfl)
theorem dX8_join_39 : decode cX8_join 39 = .ok (.getfield 44, 3) := dk_180 0 44 (dk_at dksX8_join_1 16 rfl rfl)
theorem dX8_join_42 : decode cX8_join 42 = .ok (.iload_n 1, 1) := dk_27 (dk_at dksX8_join_1 19 rfl rfl)
theorem dX8_join_43 : decode cX8_join 43 = .ok (.iload_n 2, 1) := dk_28 (dk_at dksX8_join_1 20 rfl rfl)
theorem dX8_join_44 : decode cX8_join 44 = .ok (.iastore, 1) := dk_79 (dk_at dksX8_join_1 21 rfl rfl)
theorem dX8_join_45 : decode cX8_join 45 = .ok (.return_, 1) := dk_177 (dk_at dksX8_join_1 22 rfl rfl)
abbrev cX8_block : ByteArray := prog_10_method_27_code
def yX8_block : MethodName := ⟨RX8, "block", "(I)I"⟩
def dkwX8_block_2 : List UInt8 := [182, 0, 211, 182, 0, 185, 167, 255, 230, 42, 16, 125, 182, 0, 176, 28, 172]
abbrev dktX8_block_2 : List UInt8 := dkwX8_block_2 ++ []
def dkwX8_block_1 : List UInt8 := [182, 0, 176, 42, 180, 0, 155, 154, 0, 25, 42, 182, 0, 162, 16, 125, 159, 0, 16, 42, 28, 42, 27]
abbrev dktX8_block_1 : List UInt8 := dkwX8_block_1 ++ dktX8_block_2
def dkwX8_block_0 : List UInt8 := [42, 27, 182, 0, 179, 42, 5, 42, 180, 0, 22, 42, 180, 0, 159, 46, 3, 182, 0, 172, 61, 42, 16, 123]
abbrev dktX8_block_0 : List UInt8 := dkwX8_block_0 ++ dktX8_block_1
theorem dksX8_block_0 : cX8_block.data.toList.drop 0 = dktX8_block_0 := by decide +kernel
theorem dksX8_block_1 : cX8_block.data.toList.drop 24 = dktX8_block_1 := dk_seg dksX8_block_0 24 rfl rfl
theorem dksX8_block_2 : cX8_block.data.toList.drop 47 = dktX8_block_2 := dk_seg dksX8_block_1 23 rfl rfl
theorem dX8_block_0 : decode cX8_block 0 = .ok (.aload_n 0, 1) := dk_42 (dk_at dksX8_block_0 0 rfl rfl)
theorem dX8_block_1 : decode cX8_block 1 = .ok (.iload_n 1, 1) := dk_27 (dk_at dksX8_block_0 1 rfl rfl)
theorem dX8_block_2 : decode cX8_block 2 = .ok (.invokevirtual 179, 3) := dk_182 0 179 (dk_at dksX8_block_0 2 rfl rfl)
theorem dX8_block_5 : decode cX8_block 5 = .ok (.aload_n 0, 1) := dk_42 (dk_at dksX8_block_0 5 rfl rfl)
theorem dX8_block_6 : decode cX8_block 6 = .ok (.iconst 2, 1) := dk_5 (dk_at dksX8_block_0 6 rfl rfl)
theorem dX8_block_7 : decode cX8_block 7 = .ok (.aload_n 0, 1) := dk_42 (dk_at dksX8_block_0 7 rfl rfl)
theorem dX8_block_8 : decode cX8_block 8 = .ok (.getfield 22, 3) := dk_180 0 22 (dk_at dksX8_block_0 8 rfl rfl)
theorem dX8_block_11 : decode cX8_block 11 = .ok (.aload_n 0, 1) := dk_42 (dk_at dksX8_block_0 11 rfl rfl)
theorem dX8_block_12 : decode cX8_block 12 = .ok (.getfield 159, 3) := dk_180 0 159 (dk_at dksX8_block_0 12 rfl rfl)
theorem dX8_block_15 : decode cX8_block 15 = .ok (.iaload, 1) := dk_46 (dk_at dksX8_block_0 15 rfl rfl)
theorem dX8_block_16 : decode cX8_block 16 = .ok (.iconst 0, 1) := dk_3 (dk_at dksX8_block_0 16 rfl rfl)
theorem dX8_block_17 : decode cX8_block 17 = .ok (.invokevirtual 172, 3) := dk_182 0 172 (dk_at dksX8_block_0 17 rfl rfl)
theorem dX8_block_20 : decode cX8_block 20 = .ok (.istore_n 2, 1) := dk_61 (dk_at dksX8_block_0 20 rfl rfl)
theorem dX8_block_21 : decode cX8_block 21 = .ok (.aload_n 0, 1) := dk_42 (dk_at dksX8_block_0 21 rfl rfl)
theorem dX8_block_22 : decode cX8_block 22 = .ok (.bipush 123, 2) := dk_16 123 (dk_at dksX8_block_0 22 rfl rfl)
theorem dX8_block_24 : decode cX8_block 24 = .ok (.invokevirtual 176, 3) := dk_182 0 176 (dk_at dksX8_block_1 0 rfl rfl)
theorem dX8_block_27 : decode cX8_block 27 = .ok (.aload_n 0, 1) := dk_42 (dk_at dksX8_block_1 3 rfl rfl)
theorem dX8_block_28 : decode cX8_block 28 = .ok (.getfield 155, 3) := dk_180 0 155 (dk_at dksX8_block_1 4 rfl rfl)
theorem dX8_block_31 : decode cX8_block 31 = .ok (.ifCond .ne 25, 3) := dk_154 0 25 (dk_at dksX8_block_1 7 rfl rfl)
theorem dX8_block_34 : decode cX8_block 34 = .ok (.aload_n 0, 1) := dk_42 (dk_at dksX8_block_1 10 rfl rfl)
theorem dX8_block_35 : decode cX8_block 35 = .ok (.invokevirtual 162, 3) := dk_182 0 162 (dk_at dksX8_block_1 11 rfl rfl)
theorem dX8_block_38 : decode cX8_block 38 = .ok (.bipush 125, 2) := dk_16 125 (dk_at dksX8_block_1 14 rfl rfl)
theorem dX8_block_40 : decode cX8_block 40 = .ok (.if_icmp .eq 16, 3) := dk_159 0 16 (dk_at dksX8_block_1 16 rfl rfl)
theorem dX8_block_43 : decode cX8_block 43 = .ok (.aload_n 0, 1) := dk_42 (dk_at dksX8_block_1 19 rfl rfl)
theorem dX8_block_44 : decode cX8_block 44 = .ok (.iload_n 2, 1) := dk_28 (dk_at dksX8_block_1 20 rfl rfl)
theorem dX8_block_45 : decode cX8_block 45 = .ok (.aload_n 0, 1) := dk_42 (dk_at dksX8_block_1 21 rfl rfl)
theorem dX8_block_46 : decode cX8_block 46 = .ok (.iload_n 1, 1) := dk_27 (dk_at dksX8_block_1 22 rfl rfl)
theorem dX8_block_47 : decode cX8_block 47 = .ok (.invokevirtual 211, 3) := dk_182 0 211 (dk_at dksX8_block_2 0 rfl rfl)
theorem dX8_block_50 : decode cX8_block 50 = .ok (.invokevirtual 185, 3) := dk_182 0 185 (dk_at dksX8_block_2 3 rfl rfl)
theorem dX8_block_53 : decode cX8_block 53 = .ok (.goto (-26), 3) := dk_167 255 230 (dk_at dksX8_block_2 6 rfl rfl)
theorem dX8_block_56 : decode cX8_block 56 = .ok (.aload_n 0, 1) := dk_42 (dk_at dksX8_block_2 9 rfl rfl)
theorem dX8_block_57 : decode cX8_block 57 = .ok (.bipush 125, 2) := dk_16 125 (dk_at dksX8_block_2 10 rfl rfl)
theorem dX8_block_59 : decode cX8_block 59 = .ok (.invokevirtual 176, 3) := dk_182 0 176 (dk_at dksX8_block_2 12 rfl rfl)
theorem dX8_block_62 : decode cX8_block 62 = .ok (.iload_n 2, 1) := dk_28 (dk_at dksX8_block_2 15 rfl rfl)
theorem dX8_block_63 : decode cX8_block 63 = .ok (.ireturn, 1) := dk_172 (dk_at dksX8_block_2 16 rfl rfl)
abbrev cX8_deep : ByteArray := prog_10_method_20_code
def yX8_deep : MethodName := ⟨RX8, "deep", "(I)V"⟩
def dkwX8_deep_0 : List UInt8 := [42, 27, 16, 60, 163, 0, 7, 4, 167, 0, 4, 3, 182, 0, 165, 177]
abbrev dktX8_deep_0 : List UInt8 := dkwX8_deep_0 ++ []
theorem dksX8_deep_0 : cX8_deep.data.toList.drop 0 = dktX8_deep_0 := by decide +kernel
theorem dX8_deep_0 : decode cX8_deep 0 = .ok (.aload_n 0, 1) := dk_42 (dk_at dksX8_deep_0 0 rfl rfl)
theorem dX8_deep_1 : decode cX8_deep 1 = .ok (.iload_n 1, 1) := dk_27 (dk_at dksX8_deep_0 1 rfl rfl)
theorem dX8_deep_2 : decode cX8_deep 2 = .ok (.bipush 60, 2) := dk_16 60 (dk_at dksX8_deep_0 2 rfl rfl)
theorem dX8_deep_4 : decode cX8_deep 4 = .ok (.if_icmp .gt 7, 3) := dk_163 0 7 (dk_at dksX8_deep_0 4 rfl rfl)
theorem dX8_deep_7 : decode cX8_deep 7 = .ok (.iconst 1, 1) := dk_4 (dk_at dksX8_deep_0 7 rfl rfl)
theorem dX8_deep_8 : decode cX8_deep 8 = .ok (.goto 4, 3) := dk_167 0 4 (dk_at dksX8_deep_0 8 rfl rfl)
theorem dX8_deep_11 : decode cX8_deep 11 = .ok (.iconst 0, 1) := dk_3 (dk_at dksX8_deep_0 11 rfl rfl)
theorem dX8_deep_12 : decode cX8_deep 12 = .ok (.invokevirtual 165, 3) := dk_182 0 165 (dk_at dksX8_deep_0 12 rfl rfl)
theorem dX8_deep_15 : decode cX8_deep 15 = .ok (.return_, 1) := dk_177 (dk_at dksX8_deep_0 15 rfl rfl)
abbrev cX8_statement : ByteArray := prog_10_method_29_code
def yX8_statement : MethodName := ⟨RX8, "statement", "(I)I"⟩
def dkwX8_statement_19 : List UInt8 := [21, 4, 172]
abbrev dktX8_statement_19 : List UInt8 := dkwX8_statement_19 ++ []
def dkwX8_statement_18 : List UInt8 := [153, 0, 7, 2, 167, 0, 10, 42, 27, 4, 96, 182, 0, 199, 182, 0, 185, 42, 16, 59, 182, 0, 176]
abbrev dktX8_statement_18 : List UInt8 := dkwX8_statement_18 ++ dktX8_statement_19
def dkwX8_statement_17 : List UInt8 := [17, 1, 50, 182, 0, 176, 42, 16, 11, 28, 3, 182, 0, 172, 54, 4, 42, 21, 4, 42, 180, 0, 155]
abbrev dktX8_statement_17 : List UInt8 := dkwX8_statement_17 ++ dktX8_statement_18
def dkwX8_statement_16 : List UInt8 := [182, 0, 208, 182, 0, 185, 42, 16, 41, 182, 0, 176, 42, 16, 59, 182, 0, 176, 167, 0, 50, 42]
abbrev dktX8_statement_16 : List UInt8 := dkwX8_statement_16 ++ dktX8_statement_17
def dkwX8_statement_15 : List UInt8 := [16, 40, 182, 0, 176, 42, 21, 4, 42, 180, 0, 155, 153, 0, 7, 2, 167, 0, 10, 42, 27, 4, 96]
abbrev dktX8_statement_15 : List UInt8 := dkwX8_statement_15 ++ dktX8_statement_16
def dkwX8_statement_14 : List UInt8 := [17, 1, 49, 160, 0, 65, 42, 16, 10, 28, 3, 182, 0, 172, 54, 4, 42, 17, 1, 49, 182, 0, 176, 42]
abbrev dktX8_statement_14 : List UInt8 := dkwX8_statement_14 ++ dktX8_statement_15
def dkwX8_statement_13 : List UInt8 := [180, 0, 155, 153, 0, 7, 2, 167, 0, 10, 42, 27, 4, 96, 182, 0, 217, 182, 0, 185, 167, 0, 119, 29]
abbrev dktX8_statement_13 : List UInt8 := dkwX8_statement_13 ++ dktX8_statement_14
def dkwX8_statement_12 : List UInt8 := [160, 0, 163, 42, 182, 0, 162, 17, 1, 47, 160, 0, 153, 42, 17, 1, 47, 182, 0, 176, 42, 21, 4, 42]
abbrev dktX8_statement_12 : List UInt8 := dkwX8_statement_12 ++ dktX8_statement_13
def dkwX8_statement_11 : List UInt8 := [180, 0, 155, 153, 0, 7, 2, 167, 0, 10, 42, 27, 4, 96, 182, 0, 217, 182, 0, 185, 29, 17, 1, 46]
abbrev dktX8_statement_11 : List UInt8 := dkwX8_statement_11 ++ dktX8_statement_12
def dkwX8_statement_10 : List UInt8 := [167, 0, 10, 42, 27, 4, 96, 182, 0, 208, 182, 0, 185, 42, 16, 41, 182, 0, 176, 42, 21, 4, 42]
abbrev dktX8_statement_10 : List UInt8 := dkwX8_statement_10 ++ dktX8_statement_11
def dkwX8_statement_9 : List UInt8 := [54, 4, 42, 29, 182, 0, 176, 42, 16, 40, 182, 0, 176, 42, 21, 4, 42, 180, 0, 155, 153, 0, 7, 2]
abbrev dktX8_statement_9 : List UInt8 := dkwX8_statement_9 ++ dktX8_statement_10
def dkwX8_statement_8 : List UInt8 := [160, 0, 141, 42, 29, 17, 1, 46, 160, 0, 8, 16, 8, 167, 0, 5, 16, 9, 28, 3, 182, 0, 172]
abbrev dktX8_statement_8 : List UInt8 := dkwX8_statement_8 ++ dktX8_statement_9
def dkwX8_statement_7 : List UInt8 := [54, 4, 42, 16, 59, 182, 0, 176, 167, 1, 15, 29, 17, 1, 46, 159, 0, 10, 29, 17, 1, 48]
abbrev dktX8_statement_7 : List UInt8 := dkwX8_statement_7 ++ dktX8_statement_8
def dkwX8_statement_6 : List UInt8 := [182, 0, 185, 42, 16, 59, 182, 0, 176, 167, 1, 37, 29, 5, 160, 0, 20, 42, 28, 27, 182, 0, 214]
abbrev dktX8_statement_6 : List UInt8 := dkwX8_statement_6 ++ dktX8_statement_7
def dkwX8_statement_5 : List UInt8 := [182, 0, 176, 42, 21, 4, 42, 180, 0, 155, 153, 0, 7, 2, 167, 0, 10, 42, 27, 4, 96, 182, 0, 199]
abbrev dktX8_statement_5 : List UInt8 := dkwX8_statement_5 ++ dktX8_statement_6
def dkwX8_statement_4 : List UInt8 := [182, 0, 185, 42, 16, 93, 182, 0, 176, 167, 0, 42, 42, 182, 0, 162, 16, 61, 160, 0, 33, 42, 16, 61]
abbrev dktX8_statement_4 : List UInt8 := dkwX8_statement_4 ++ dktX8_statement_5
def dkwX8_statement_3 : List UInt8 := [182, 0, 162, 16, 91, 160, 0, 29, 42, 16, 91, 182, 0, 176, 42, 21, 4, 42, 3, 182, 0, 192]
abbrev dktX8_statement_3 : List UInt8 := dkwX8_statement_3 ++ dktX8_statement_4
def dkwX8_statement_2 : List UInt8 := [160, 0, 7, 7, 167, 0, 4, 6, 28, 3, 182, 0, 172, 54, 4, 42, 21, 4, 21, 5, 182, 0, 185, 42]
abbrev dktX8_statement_2 : List UInt8 := dkwX8_statement_2 ++ dktX8_statement_3
def dkwX8_statement_1 : List UInt8 := [160, 0, 129, 42, 17, 1, 45, 182, 0, 176, 42, 182, 0, 196, 54, 5, 42, 42, 182, 0, 162, 16, 91]
abbrev dktX8_statement_1 : List UInt8 := dkwX8_statement_1 ++ dktX8_statement_2
def dkwX8_statement_0 : List UInt8 := [42, 180, 0, 22, 42, 180, 0, 159, 46, 61, 42, 182, 0, 162, 62, 2, 54, 4, 29, 17, 1, 45]
abbrev dktX8_statement_0 : List UInt8 := dkwX8_statement_0 ++ dktX8_statement_1
theorem dksX8_statement_0 : cX8_statement.data.toList.drop 0 = dktX8_statement_0 := by decide +kernel
theorem dksX8_statement_1 : cX8_statement.data.toList.drop 22 = dktX8_statement_1 := dk_seg dksX8_statement_0 22 rfl rfl
theorem dksX8_statement_2 : cX8_statement.data.toList.drop 45 = dktX8_statement_2 := dk_seg dksX8_statement_1 23 rfl rfl
theorem dksX8_statement_3 : cX8_statement.data.toList.drop 69 = dktX8_statement_3 := dk_seg dksX8_statement_2 24 rfl rfl
theorem dksX8_statement_4 : cX8_statement.data.toList.drop 91 = dktX8_statement_4 := dk_seg dksX8_statement_3 22 rfl rfl
theorem dksX8_statement_5 : cX8_statement.data.toList.drop 115 = dktX8_statement_5 := dk_seg dksX8_statement_4 24 rfl rfl
theorem dksX8_statement_6 : cX8_statement.data.toList.drop 139 = dktX8_statement_6 := dk_seg dksX8_statement_5 24 rfl rfl
theorem dksX8_statement_7 : cX8_statement.data.toList.drop 162 = dktX8_statement_7 := dk_seg dksX8_statement_6 23 rfl rfl
theorem dksX8_statement_8 : cX8_statement.data.toList.drop 184 = dktX8_statement_8 := dk_seg dksX8_statement_7 22 rfl rfl
theorem dksX8_statement_9 : cX8_statement.data.toList.drop 207 = dktX8_statement_9 := dk_seg dksX8_statement_8 23 rfl rfl
theorem dksX8_statement_10 : cX8_statement.data.toList.drop 231 = dktX8_statement_10 := dk_seg dksX8_statement_9 24 rfl rfl
theorem dksX8_statement_11 : cX8_statement.data.toList.drop 254 = dktX8_statement_11 := dk_seg dksX8_statement_10 23 rfl rfl
theorem dksX8_statement_12 : cX8_statement.data.toList.drop 278 = dktX8_statement_12 := dk_seg dksX8_statement_11 24 rfl rfl
theorem dksX8_statement_13 : cX8_statement.data.toList.drop 302 = dktX8_statement_13 := dk_seg dksX8_statement_12 24 rfl rfl
theorem dksX8_statement_14 : cX8_statement.data.toList.drop 326 = dktX8_statement_14 := dk_seg dksX8_statement_13 24 rfl rfl
theorem dksX8_statement_15 : cX8_statement.data.toList.drop 350 = dktX8_statement_15 := dk_seg dksX8_statement_14 24 rfl rfl
theorem dksX8_statement_16 : cX8_statement.data.toList.drop 373 = dktX8_statement_16 := dk_seg dksX8_statement_15 23 rfl rfl
theorem dksX8_statement_17 : cX8_statement.data.toList.drop 395 = dktX8_statement_17 := dk_seg dksX8_statement_16 22 rfl rfl
theorem dksX8_statement_18 : cX8_statement.data.toList.drop 418 = dktX8_statement_18 := dk_seg dksX8_statement_17 23 rfl rfl
theorem dksX8_statement_19 : cX8_statement.data.toList.drop 441 = dktX8_statement_19 := dk_seg dksX8_statement_18 23 rfl rfl
theorem dX8_statement_0 : decode cX8_statement 0 = .ok (.aload_n 0, 1) := dk_42 (dk_at dksX8_statement_0 0 rfl rfl)
theorem dX8_statement_1 : decode cX8_statement 1 = .ok (.getfield 22, 3) := dk_180 0 22 (dk_at dksX8_statement_0 1 rfl rfl)
theorem dX8_statement_4 : decode cX8_statement 4 = .ok (.aload_n 0, 1) := dk_42 (dk_at dksX8_statement_0 4 rfl rfl)
theorem dX8_statement_5 : decode cX8_statement 5 = .ok (.getfield 159, 3) := dk_180 0 159 (dk_at dksX8_statement_0 5 rfl rfl)
theorem dX8_statement_8 : decode cX8_statement 8 = .ok (.iaload, 1) := dk_46 (dk_at dksX8_statement_0 8 rfl rfl)
theorem dX8_statement_9 : decode cX8_statement 9 = .ok (.istore_n 2, 1) := dk_61 (dk_at dksX8_statement_0 9 rfl rfl)
theorem dX8_statement_10 : decode cX8_statement 10 = .ok (.aload_n 0, 1) := dk_42 (dk_at dksX8_statement_0 10 rfl rfl)
theorem dX8_statement_11 : decode cX8_statement 11 = .ok (.invokevirtual 162, 3) := dk_182 0 162 (dk_at dksX8_statement_0 11 rfl rfl)
theorem dX8_statement_14 : decode cX8_statement 14 = .ok (.istore_n 3, 1) := dk_62 (dk_at dksX8_statement_0 14 rfl rfl)
theorem dX8_statement_15 : decode cX8_statement 15 = .ok (.iconst (-1), 1) := dk_2 (dk_at dksX8_statement_0 15 rfl rfl)
theorem dX8_statement_16 : decode cX8_statement 16 = .ok (.istore 4, 2) := dk_54 4 (dk_at dksX8_statement_0 16 rfl rfl)
theorem dX8_statement_18 : decode cX8_statement 18 = .ok (.iload_n 3, 1) := dk_29 (dk_at dksX8_statement_0 18 rfl rfl)
theorem dX8_statement_19 : decode cX8_statement 19 = .ok (.sipush 301, 3) := dk_17 1 45 (dk_at dksX8_statement_0 19 rfl rfl)
theorem dX8_statement_22 : decode cX8_statement 22 = .ok (.if_icmp .ne 129, 3) := dk_160 0 129 (dk_at dksX8_statement_1 0 rfl rfl)
theorem dX8_statement_25 : decode cX8_statement 25 = .ok (.aload_n 0, 1) := dk_42 (dk_at dksX8_statement_1 3 rfl rfl)
theorem dX8_statement_26 : decode cX8_statement 26 = .ok (.sipush 301, 3) := dk_17 1 45 (dk_at dksX8_statement_1 4 rfl rfl)
theorem dX8_statement_29 : decode cX8_statement 29 = .ok (.invokevirtual 176, 3) := dk_182 0 176 (dk_at dksX8_statement_1 7 rfl rfl)
theorem dX8_statement_32 : decode cX8_statement 32 = .ok (.aload_n 0, 1) := dk_42 (dk_at dksX8_statement_1 10 rfl rfl)
theorem dX8_statement_33 : decode cX8_statement 33 = .ok (.invokevirtual 196, 3) := dk_182 0 196 (dk_at dksX8_statement_1 11 rfl rfl)
theorem dX8_statement_36 : decode cX8_statement 36 = .ok (.istore 5, 2) := dk_54 5 (dk_at dksX8_statement_1 14 rfl rfl)
theorem dX8_statement_38 : decode cX8_statement 38 = .ok (.aload_n 0, 1) := dk_42 (dk_at dksX8_statement_1 16 rfl rfl)
theorem dX8_statement_39 : decode cX8_statement 39 = .ok (.aload_n 0, 1) := dk_42 (dk_at dksX8_statement_1 17 rfl rfl)
theorem dX8_statement_40 : decode cX8_statement 40 = .ok (.invokevirtual 162, 3) := dk_182 0 162 (dk_at dksX8_statement_1 18 rfl rfl)
theorem dX8_statement_43 : decode cX8_statement 43 = .ok (.bipush 91, 2) := dk_16 91 (dk_at dksX8_statement_1 21 rfl rfl)
theorem dX8_statement_45 : decode cX8_statement 45 = .ok (.if_icmp .ne 7, 3) := dk_160 0 7 (dk_at dksX8_statement_2 0 rfl rfl)
theorem dX8_statement_48 : decode cX8_statement 48 = .ok (.iconst 4, 1) := dk_7 (dk_at dksX8_statement_2 3 rfl rfl)
theorem dX8_statement_49 : decode cX8_statement 49 = .ok (.goto 4, 3) := dk_167 0 4 (dk_at dksX8_statement_2 4 rfl rfl)
theorem dX8_statement_52 : decode cX8_statement 52 = .ok (.iconst 3, 1) := dk_6 (dk_at dksX8_statement_2 7 rfl rfl)
theorem dX8_statement_53 : decode cX8_statement 53 = .ok (.iload_n 2, 1) := dk_28 (dk_at dksX8_statement_2 8 rfl rfl)
theorem dX8_statement_54 : decode cX8_statement 54 = .ok (.iconst 0, 1) := dk_3 (dk_at dksX8_statement_2 9 rfl rfl)
theorem dX8_statement_55 : decode cX8_statement 55 = .ok (.invokevirtual 172, 3) := dk_182 0 172 (dk_at dksX8_statement_2 10 rfl rfl)
theorem dX8_statement_58 : decode cX8_statement 58 = .ok (.istore 4, 2) := dk_54 4 (dk_at dksX8_statement_2 13 rfl rfl)
theorem dX8_statement_60 : decode cX8_statement 60 = .ok (.aload_n 0, 1) := dk_42 (dk_at dksX8_statement_2 15 rfl rfl)
theorem dX8_statement_61 : decode cX8_statement 61 = .ok (.iload 4, 2) := dk_21 4 (dk_at dksX8_statement_2 16 rfl rfl)
theorem dX8_statement_63 : decode cX8_statement 63 = .ok (.iload 5, 2) := dk_21 5 (dk_at dksX8_statement_2 18 rfl rfl)
theorem dX8_statement_65 : decode cX8_statement 65 = .ok (.invokevirtual 185, 3) := dk_182 0 185 (dk_at dksX8_statement_2 20 rfl rfl)
theorem dX8_statement_68 : decode cX8_statement 68 = .ok (.aload_n 0, 1) := dk_42 (dk_at dksX8_statement_2 23 rfl rfl)
theorem dX8_statement_69 : decode cX8_statement 69 = .ok (.invokevirtual 162, 3) := dk_182 0 162 (dk_at dksX8_statement_3 0 rfl rfl)
theorem dX8_statement_72 : decode cX8_statement 72 = .ok (.bipush 91, 2) := dk_16 91 (dk_at dksX8_statement_3 3 rfl rfl)
theorem dX8_statement_74 : decode cX8_statement 74 = .ok (.if_icmp .ne 29, 3) := dk_160 0 29 (dk_at dksX8_statement_3 5 rfl rfl)
theorem dX8_statement_77 : decode cX8_statement 77 = .ok (.aload_n 0, 1) := dk_42 (dk_at dksX8_statement_3 8 rfl rfl)
theorem dX8_statement_78 : decode cX8_statement 78 = .ok (.bipush 91, 2) := dk_16 91 (dk_at dksX8_statement_3 9 rfl rfl)
theorem dX8_statement_80 : decode cX8_statement 80 = .ok (.invokevirtual 176, 3) := dk_182 0 176 (dk_at dksX8_statement_3 11 rfl rfl)
theorem dX8_statement_83 : decode cX8_statement 83 = .ok (.aload_n 0, 1) := dk_42 (dk_at dksX8_statement_3 14 rfl rfl)
theorem dX8_statement_84 : decode cX8_statement 84 = .ok (.iload 4, 2) := dk_21 4 (dk_at dksX8_statement_3 15 rfl rfl)
theorem dX8_statement_86 : decode cX8_statement 86 = .ok (.aload_n 0, 1) := dk_42 (dk_at dksX8_statement_3 17 rfl rfl)
theorem dX8_statement_87 : decode cX8_statement 87 = .ok (.iconst 0, 1) := dk_3 (dk_at dksX8_statement_3 18 rfl rfl)
theorem dX8_statement_88 : decode cX8_statement 88 = .ok (.invokevirtual 192, 3) := dk_182 0 192 (dk_at dksX8_statement_3 19 rfl rfl)
theorem dX8_statement_91 : decode cX8_statement 91 = .ok (.invokevirtual 185, 3) := dk_182 0 185 (dk_at dksX8_statement_4 0 rfl rfl)
theorem dX8_statement_94 : decode cX8_statement 94 = .ok (.aload_n 0, 1) := dk_42 (dk_at dksX8_statement_4 3 rfl rfl)
theorem dX8_statement_95 : decode cX8_statement 95 = .ok (.bipush 93, 2) := dk_16 93 (dk_at dksX8_statement_4 4 rfl rfl)
theorem dX8_statement_97 : decode cX8_statement 97 = .ok (.invokevirtual 176, 3) := dk_182 0 176 (dk_at dksX8_statement_4 6 rfl rfl)
theorem dX8_statement_100 : decode cX8_statement 100 = .ok (.goto 42, 3) := dk_167 0 42 (dk_at dksX8_statement_4 9 rfl rfl)
theorem dX8_statement_103 : decode cX8_statement 103 = .ok (.aload_n 0, 1) := dk_42 (dk_at dksX8_statement_4 12 rfl rfl)
theorem dX8_statement_104 : decode cX8_statement 104 = .ok (.invokevirtual 162, 3) := dk_182 0 162 (dk_at dksX8_statement_4 13 rfl rfl)
theorem dX8_statement_107 : decode cX8_statement 107 = .ok (.bipush 61, 2) := dk_16 61 (dk_at dksX8_statement_4 16 rfl rfl)
theorem dX8_statement_109 : decode cX8_statement 109 = .ok (.if_icmp .ne 33, 3) := dk_160 0 33 (dk_at dksX8_statement_4 18 rfl rfl)
theorem dX8_statement_112 : decode cX8_statement 112 = .ok (.aload_n 0, 1) := dk_42 (dk_at dksX8_statement_4 21 rfl rfl)
theorem dX8_statement_113 : decode cX8_statement 113 = .ok (.bipush 61, 2) := dk_16 61 (dk_at dksX8_statement_4 22 rfl rfl)
theorem dX8_statement_115 : decode cX8_statement 115 = .ok (.invokevirtual 176, 3) := dk_182 0 176 (dk_at dksX8_statement_5 0 rfl rfl)
theorem dX8_statement_118 : decode cX8_statement 118 = .ok (.aload_n 0, 1) := dk_42 (dk_at dksX8_statement_5 3 rfl rfl)
theorem dX8_statement_119 : decode cX8_statement 119 = .ok (.iload 4, 2) := dk_21 4 (dk_at dksX8_statement_5 4 rfl rfl)
theorem dX8_statement_121 : decode cX8_statement 121 = .ok (.aload_n 0, 1) := dk_42 (dk_at dksX8_statement_5 6 rfl rfl)
theorem dX8_statement_122 : decode cX8_statement 122 = .ok (.getfield 155, 3) := dk_180 0 155 (dk_at dksX8_statement_5 7 rfl rfl)
theorem dX8_statement_125 : decode cX8_statement 125 = .ok (.ifCond .eq 7, 3) := dk_153 0 7 (dk_at dksX8_statement_5 10 rfl rfl)
theorem dX8_statement_128 : decode cX8_statement 128 = .ok (.iconst (-1), 1) := dk_2 (dk_at dksX8_statement_5 13 rfl rfl)
theorem dX8_statement_129 : decode cX8_statement 129 = .ok (.goto 10, 3) := dk_167 0 10 (dk_at dksX8_statement_5 14 rfl rfl)
theorem dX8_statement_132 : decode cX8_statement 132 = .ok (.aload_n 0, 1) := dk_42 (dk_at dksX8_statement_5 17 rfl rfl)
theorem dX8_statement_133 : decode cX8_statement 133 = .ok (.iload_n 1, 1) := dk_27 (dk_at dksX8_statement_5 18 rfl rfl)
theorem dX8_statement_134 : decode cX8_statement 134 = .ok (.iconst 1, 1) := dk_4 (dk_at dksX8_statement_5 19 rfl rfl)
theorem dX8_statement_135 : decode cX8_statement 135 = .ok (.iadd, 1) := dk_96 (dk_at dksX8_statement_5 20 rfl rfl)
theorem dX8_statement_136 : decode cX8_statement 136 = .ok (.invokevirtual 199, 3) := dk_182 0 199 (dk_at dksX8_statement_5 21 rfl rfl)
theorem dX8_statement_139 : decode cX8_statement 139 = .ok (.invokevirtual 185, 3) := dk_182 0 185 (dk_at dksX8_statement_6 0 rfl rfl)
theorem dX8_statement_142 : decode cX8_statement 142 = .ok (.aload_n 0, 1) := dk_42 (dk_at dksX8_statement_6 3 rfl rfl)
theorem dX8_statement_143 : decode cX8_statement 143 = .ok (.bipush 59, 2) := dk_16 59 (dk_at dksX8_statement_6 4 rfl rfl)
theorem dX8_statement_145 : decode cX8_statement 145 = .ok (.invokevirtual 176, 3) := dk_182 0 176 (dk_at dksX8_statement_6 6 rfl rfl)
theorem dX8_statement_148 : decode cX8_statement 148 = .ok (.goto 293, 3) := dk_167 1 37 (dk_at dksX8_statement_6 9 rfl rfl)
theorem dX8_statement_151 : decode cX8_statement 151 = .ok (.iload_n 3, 1) := dk_29 (dk_at dksX8_statement_6 12 rfl rfl)
theorem dX8_statement_152 : decode cX8_statement 152 = .ok (.iconst 2, 1) := dk_5 (dk_at dksX8_statement_6 13 rfl rfl)
theorem dX8_statement_153 : decode cX8_statement 153 = .ok (.if_icmp .ne 20, 3) := dk_160 0 20 (dk_at dksX8_statement_6 14 rfl rfl)
theorem dX8_statement_156 : decode cX8_statement 156 = .ok (.aload_n 0, 1) := dk_42 (dk_at dksX8_statement_6 17 rfl rfl)
theorem dX8_statement_157 : decode cX8_statement 157 = .ok (.iload_n 2, 1) := dk_28 (dk_at dksX8_statement_6 18 rfl rfl)
theorem dX8_statement_158 : decode cX8_statement 158 = .ok (.iload_n 1, 1) := dk_27 (dk_at dksX8_statement_6 19 rfl rfl)
theorem dX8_statement_159 : decode cX8_statement 159 = .ok (.invokevirtual 214, 3) := dk_182 0 214 (dk_at dksX8_statement_6 20 rfl rfl)
theorem dX8_statement_162 : decode cX8_statement 162 = .ok (.istore 4, 2) := dk_54 4 (dk_at dksX8_statement_7 0 rfl rfl)
theorem dX8_statement_164 : decode cX8_statement 164 = .ok (.aload_n 0, 1) := dk_42 (dk_at dksX8_statement_7 2 rfl rfl)
theorem dX8_statement_165 : decode cX8_statement 165 = .ok (.bipush 59, 2) := dk_16 59 (dk_at dksX8_statement_7 3 rfl rfl)
theorem dX8_statement_167 : decode cX8_statement 167 = .ok (.invokevirtual 176, 3) := dk_182 0 176 (dk_at dksX8_statement_7 5 rfl rfl)
theorem dX8_statement_170 : decode cX8_statement 170 = .ok (.goto 271, 3) := dk_167 1 15 (dk_at dksX8_statement_7 8 rfl rfl)
theorem dX8_statement_173 : decode cX8_statement 173 = .ok (.iload_n 3, 1) := dk_29 (dk_at dksX8_statement_7 11 rfl rfl)
theorem dX8_statement_174 : decode cX8_statement 174 = .ok (.sipush 302, 3) := dk_17 1 46 (dk_at dksX8_statement_7 12 rfl rfl)
theorem dX8_statement_177 : decode cX8_statement 177 = .ok (.if_icmp .eq 10, 3) := dk_159 0 10 (dk_at dksX8_statement_7 15 rfl rfl)
theorem dX8_statement_180 : decode cX8_statement 180 = .ok (.iload_n 3, 1) := dk_29 (dk_at dksX8_statement_7 18 rfl rfl)
theorem dX8_statement_181 : decode cX8_statement 181 = .ok (.sipush 304, 3) := dk_17 1 48 (dk_at dksX8_statement_7 19 rfl rfl)
theorem dX8_statement_184 : decode cX8_statement 184 = .ok (.if_icmp .ne 141, 3) := dk_160 0 141 (dk_at dksX8_statement_8 0 rfl rfl)
theorem dX8_statement_187 : decode cX8_statement 187 = .ok (.aload_n 0, 1) := dk_42 (dk_at dksX8_statement_8 3 rfl rfl)
theorem dX8_statement_188 : decode cX8_statement 188 = .ok (.iload_n 3, 1) := dk_29 (dk_at dksX8_statement_8 4 rfl rfl)
theorem dX8_statement_189 : decode cX8_statement 189 = .ok (.sipush 302, 3) := dk_17 1 46 (dk_at dksX8_statement_8 5 rfl rfl)
theorem dX8_statement_192 : decode cX8_statement 192 = .ok (.if_icmp .ne 8, 3) := dk_160 0 8 (dk_at dksX8_statement_8 8 rfl rfl)
theorem dX8_statement_195 : decode cX8_statement 195 = .ok (.bipush 8, 2) := dk_16 8 (dk_at dksX8_statement_8 11 rfl rfl)
theorem dX8_statement_197 : decode cX8_statement 197 = .ok (.goto 5, 3) := dk_167 0 5 (dk_at dksX8_statement_8 13 rfl rfl)
theorem dX8_statement_200 : decode cX8_statement 200 = .ok (.bipush 9, 2) := dk_16 9 (dk_at dksX8_statement_8 16 rfl rfl)
theorem dX8_statement_202 : decode cX8_statement 202 = .ok (.iload_n 2, 1) := dk_28 (dk_at dksX8_statement_8 18 rfl rfl)
theorem dX8_statement_203 : decode cX8_statement 203 = .ok (.iconst 0, 1) := dk_3 (dk_at dksX8_statement_8 19 rfl rfl)
theorem dX8_statement_204 : decode cX8_statement 204 = .ok (.invokevirtual 172, 3) := dk_182 0 172 (dk_at dksX8_statement_8 20 rfl rfl)
theorem dX8_statement_207 : decode cX8_statement 207 = .ok (.istore 4, 2) := dk_54 4 (dk_at dksX8_statement_9 0 rfl rfl)
theorem dX8_statement_209 : decode cX8_statement 209 = .ok (.aload_n 0, 1) := dk_42 (dk_at dksX8_statement_9 2 rfl rfl)
theorem dX8_statement_210 : decode cX8_statement 210 = .ok (.iload_n 3, 1) := dk_29 (dk_at dksX8_statement_9 3 rfl rfl)
theorem dX8_statement_211 : decode cX8_statement 211 = .ok (.invokevirtual 176, 3) := dk_182 0 176 (dk_at dksX8_statement_9 4 rfl rfl)
theorem dX8_statement_214 : decode cX8_statement 214 = .ok (.aload_n 0, 1) := dk_42 (dk_at dksX8_statement_9 7 rfl rfl)
theorem dX8_statement_215 : decode cX8_statement 215 = .ok (.bipush 40, 2) := dk_16 40 (dk_at dksX8_statement_9 8 rfl rfl)
theorem dX8_statement_217 : decode cX8_statement 217 = .ok (.invokevirtual 176, 3) := dk_182 0 176 (dk_at dksX8_statement_9 10 rfl rfl)
theorem dX8_statement_220 : decode cX8_statement 220 = .ok (.aload_n 0, 1) := dk_42 (dk_at dksX8_statement_9 13 rfl rfl)
theorem dX8_statement_221 : decode cX8_statement 221 = .ok (.iload 4, 2) := dk_21 4 (dk_at dksX8_statement_9 14 rfl rfl)
theorem dX8_statement_223 : decode cX8_statement 223 = .ok (.aload_n 0, 1) := dk_42 (dk_at dksX8_statement_9 16 rfl rfl)
theorem dX8_statement_224 : decode cX8_statement 224 = .ok (.getfield 155, 3) := dk_180 0 155 (dk_at dksX8_statement_9 17 rfl rfl)
theorem dX8_statement_227 : decode cX8_statement 227 = .ok (.ifCond .eq 7, 3) := dk_153 0 7 (dk_at dksX8_statement_9 20 rfl rfl)
theorem dX8_statement_230 : decode cX8_statement 230 = .ok (.iconst (-1), 1) := dk_2 (dk_at dksX8_statement_9 23 rfl rfl)
theorem dX8_statement_231 : decode cX8_statement 231 = .ok (.goto 10, 3) := dk_167 0 10 (dk_at dksX8_statement_10 0 rfl rfl)
theorem dX8_statement_234 : decode cX8_statement 234 = .ok (.aload_n 0, 1) := dk_42 (dk_at dksX8_statement_10 3 rfl rfl)
theorem dX8_statement_235 : decode cX8_statement 235 = .ok (.iload_n 1, 1) := dk_27 (dk_at dksX8_statement_10 4 rfl rfl)
theorem dX8_statement_236 : decode cX8_statement 236 = .ok (.iconst 1, 1) := dk_4 (dk_at dksX8_statement_10 5 rfl rfl)
theorem dX8_statement_237 : decode cX8_statement 237 = .ok (.iadd, 1) := dk_96 (dk_at dksX8_statement_10 6 rfl rfl)
theorem dX8_statement_238 : decode cX8_statement 238 = .ok (.invokevirtual 208, 3) := dk_182 0 208 (dk_at dksX8_statement_10 7 rfl rfl)
theorem dX8_statement_241 : decode cX8_statement 241 = .ok (.invokevirtual 185, 3) := dk_182 0 185 (dk_at dksX8_statement_10 10 rfl rfl)
theorem dX8_statement_244 : decode cX8_statement 244 = .ok (.aload_n 0, 1) := dk_42 (dk_at dksX8_statement_10 13 rfl rfl)
theorem dX8_statement_245 : decode cX8_statement 245 = .ok (.bipush 41, 2) := dk_16 41 (dk_at dksX8_statement_10 14 rfl rfl)
theorem dX8_statement_247 : decode cX8_statement 247 = .ok (.invokevirtual 176, 3) := dk_182 0 176 (dk_at dksX8_statement_10 16 rfl rfl)
theorem dX8_statement_250 : decode cX8_statement 250 = .ok (.aload_n 0, 1) := dk_42 (dk_at dksX8_statement_10 19 rfl rfl)
theorem dX8_statement_251 : decode cX8_statement 251 = .ok (.iload 4, 2) := dk_21 4 (dk_at dksX8_statement_10 20 rfl rfl)
theorem dX8_statement_253 : decode cX8_statement 253 = .ok (.aload_n 0, 1) := dk_42 (dk_at dksX8_statement_10 22 rfl rfl)
theorem dX8_statement_254 : decode cX8_statement 254 = .ok (.getfield 155, 3) := dk_180 0 155 (dk_at dksX8_statement_11 0 rfl rfl)
theorem dX8_statement_257 : decode cX8_statement 257 = .ok (.ifCond .eq 7, 3) := dk_153 0 7 (dk_at dksX8_statement_11 3 rfl rfl)
theorem dX8_statement_260 : decode cX8_statement 260 = .ok (.iconst (-1), 1) := dk_2 (dk_at dksX8_statement_11 6 rfl rfl)
theorem dX8_statement_261 : decode cX8_statement 261 = .ok (.goto 10, 3) := dk_167 0 10 (dk_at dksX8_statement_11 7 rfl rfl)
theorem dX8_statement_264 : decode cX8_statement 264 = .ok (.aload_n 0, 1) := dk_42 (dk_at dksX8_statement_11 10 rfl rfl)
theorem dX8_statement_265 : decode cX8_statement 265 = .ok (.iload_n 1, 1) := dk_27 (dk_at dksX8_statement_11 11 rfl rfl)
theorem dX8_statement_266 : decode cX8_statement 266 = .ok (.iconst 1, 1) := dk_4 (dk_at dksX8_statement_11 12 rfl rfl)
theorem dX8_statement_267 : decode cX8_statement 267 = .ok (.iadd, 1) := dk_96 (dk_at dksX8_statement_11 13 rfl rfl)
theorem dX8_statement_268 : decode cX8_statement 268 = .ok (.invokevirtual 217, 3) := dk_182 0 217 (dk_at dksX8_statement_11 14 rfl rfl)
theorem dX8_statement_271 : decode cX8_statement 271 = .ok (.invokevirtual 185, 3) := dk_182 0 185 (dk_at dksX8_statement_11 17 rfl rfl)
theorem dX8_statement_274 : decode cX8_statement 274 = .ok (.iload_n 3, 1) := dk_29 (dk_at dksX8_statement_11 20 rfl rfl)
theorem dX8_statement_275 : decode cX8_statement 275 = .ok (.sipush 302, 3) := dk_17 1 46 (dk_at dksX8_statement_11 21 rfl rfl)
theorem dX8_statement_278 : decode cX8_statement 278 = .ok (.if_icmp .ne 163, 3) := dk_160 0 163 (dk_at dksX8_statement_12 0 rfl rfl)
theorem dX8_statement_281 : decode cX8_statement 281 = .ok (.aload_n 0, 1) := dk_42 (dk_at dksX8_statement_12 3 rfl rfl)
theorem dX8_statement_282 : decode cX8_statement 282 = .ok (.invokevirtual 162, 3) := dk_182 0 162 (dk_at dksX8_statement_12 4 rfl rfl)
theorem dX8_statement_285 : decode cX8_statement 285 = .ok (.sipush 303, 3) := dk_17 1 47 (dk_at dksX8_statement_12 7 rfl rfl)
theorem dX8_statement_288 : decode cX8_statement 288 = .ok (.if_icmp .ne 153, 3) := dk_160 0 153 (dk_at dksX8_statement_12 10 rfl rfl)
theorem dX8_statement_291 : decode cX8_statement 291 = .ok (.aload_n 0, 1) := dk_42 (dk_at dksX8_statement_12 13 rfl rfl)
theorem dX8_statement_292 : decode cX8_statement 292 = .ok (.sipush 303, 3) := dk_17 1 47 (dk_at dksX8_statement_12 14 rfl rfl)
theorem dX8_statement_295 : decode cX8_statement 295 = .ok (.invokevirtual 176, 3) := dk_182 0 176 (dk_at dksX8_statement_12 17 rfl rfl)
theorem dX8_statement_298 : decode cX8_statement 298 = .ok (.aload_n 0, 1) := dk_42 (dk_at dksX8_statement_12 20 rfl rfl)
theorem dX8_statement_299 : decode cX8_statement 299 = .ok (.iload 4, 2) := dk_21 4 (dk_at dksX8_statement_12 21 rfl rfl)
theorem dX8_statement_301 : decode cX8_statement 301 = .ok (.aload_n 0, 1) := dk_42 (dk_at dksX8_statement_12 23 rfl rfl)
theorem dX8_statement_302 : decode cX8_statement 302 = .ok (.getfield 155, 3) := dk_180 0 155 (dk_at dksX8_statement_13 0 rfl rfl)
theorem dX8_statement_305 : decode cX8_statement 305 = .ok (.ifCond .eq 7, 3) := dk_153 0 7 (dk_at dksX8_statement_13 3 rfl rfl)
theorem dX8_statement_308 : decode cX8_statement 308 = .ok (.iconst (-1), 1) := dk_2 (dk_at dksX8_statement_13 6 rfl rfl)
theorem dX8_statement_309 : decode cX8_statement 309 = .ok (.goto 10, 3) := dk_167 0 10 (dk_at dksX8_statement_13 7 rfl rfl)
theorem dX8_statement_312 : decode cX8_statement 312 = .ok (.aload_n 0, 1) := dk_42 (dk_at dksX8_statement_13 10 rfl rfl)
theorem dX8_statement_313 : decode cX8_statement 313 = .ok (.iload_n 1, 1) := dk_27 (dk_at dksX8_statement_13 11 rfl rfl)
theorem dX8_statement_314 : decode cX8_statement 314 = .ok (.iconst 1, 1) := dk_4 (dk_at dksX8_statement_13 12 rfl rfl)
theorem dX8_statement_315 : decode cX8_statement 315 = .ok (.iadd, 1) := dk_96 (dk_at dksX8_statement_13 13 rfl rfl)
theorem dX8_statement_316 : decode cX8_statement 316 = .ok (.invokevirtual 217, 3) := dk_182 0 217 (dk_at dksX8_statement_13 14 rfl rfl)
theorem dX8_statement_319 : decode cX8_statement 319 = .ok (.invokevirtual 185, 3) := dk_182 0 185 (dk_at dksX8_statement_13 17 rfl rfl)
theorem dX8_statement_322 : decode cX8_statement 322 = .ok (.goto 119, 3) := dk_167 0 119 (dk_at dksX8_statement_13 20 rfl rfl)
theorem dX8_statement_325 : decode cX8_statement 325 = .ok (.iload_n 3, 1) := dk_29 (dk_at dksX8_statement_13 23 rfl rfl)
theorem dX8_statement_326 : decode cX8_statement 326 = .ok (.sipush 305, 3) := dk_17 1 49 (dk_at dksX8_statement_14 0 rfl rfl)
theorem dX8_statement_329 : decode cX8_statement 329 = .ok (.if_icmp .ne 65, 3) := dk_160 0 65 (dk_at dksX8_statement_14 3 rfl rfl)
theorem dX8_statement_332 : decode cX8_statement 332 = .ok (.aload_n 0, 1) := dk_42 (dk_at dksX8_statement_14 6 rfl rfl)
theorem dX8_statement_333 : decode cX8_statement 333 = .ok (.bipush 10, 2) := dk_16 10 (dk_at dksX8_statement_14 7 rfl rfl)
theorem dX8_statement_335 : decode cX8_statement 335 = .ok (.iload_n 2, 1) := dk_28 (dk_at dksX8_statement_14 9 rfl rfl)
theorem dX8_statement_336 : decode cX8_statement 336 = .ok (.iconst 0, 1) := dk_3 (dk_at dksX8_statement_14 10 rfl rfl)
theorem dX8_statement_337 : decode cX8_statement 337 = .ok (.invokevirtual 172, 3) := dk_182 0 172 (dk_at dksX8_statement_14 11 rfl rfl)
theorem dX8_statement_340 : decode cX8_statement 340 = .ok (.istore 4, 2) := dk_54 4 (dk_at dksX8_statement_14 14 rfl rfl)
theorem dX8_statement_342 : decode cX8_statement 342 = .ok (.aload_n 0, 1) := dk_42 (dk_at dksX8_statement_14 16 rfl rfl)
theorem dX8_statement_343 : decode cX8_statement 343 = .ok (.sipush 305, 3) := dk_17 1 49 (dk_at dksX8_statement_14 17 rfl rfl)
theorem dX8_statement_346 : decode cX8_statement 346 = .ok (.invokevirtual 176, 3) := dk_182 0 176 (dk_at dksX8_statement_14 20 rfl rfl)
theorem dX8_statement_349 : decode cX8_statement 349 = .ok (.aload_n 0, 1) := dk_42 (dk_at dksX8_statement_14 23 rfl rfl)
theorem dX8_statement_350 : decode cX8_statement 350 = .ok (.bipush 40, 2) := dk_16 40 (dk_at dksX8_statement_15 0 rfl rfl)
theorem dX8_statement_352 : decode cX8_statement 352 = .ok (.invokevirtual 176, 3) := dk_182 0 176 (dk_at dksX8_statement_15 2 rfl rfl)
theorem dX8_statement_355 : decode cX8_statement 355 = .ok (.aload_n 0, 1) := dk_42 (dk_at dksX8_statement_15 5 rfl rfl)
theorem dX8_statement_356 : decode cX8_statement 356 = .ok (.iload 4, 2) := dk_21 4 (dk_at dksX8_statement_15 6 rfl rfl)
theorem dX8_statement_358 : decode cX8_statement 358 = .ok (.aload_n 0, 1) := dk_42 (dk_at dksX8_statement_15 8 rfl rfl)
theorem dX8_statement_359 : decode cX8_statement 359 = .ok (.getfield 155, 3) := dk_180 0 155 (dk_at dksX8_statement_15 9 rfl rfl)
theorem dX8_statement_362 : decode cX8_statement 362 = .ok (.ifCond .eq 7, 3) := dk_153 0 7 (dk_at dksX8_statement_15 12 rfl rfl)
theorem dX8_statement_365 : decode cX8_statement 365 = .ok (.iconst (-1), 1) := dk_2 (dk_at dksX8_statement_15 15 rfl rfl)
theorem dX8_statement_366 : decode cX8_statement 366 = .ok (.goto 10, 3) := dk_167 0 10 (dk_at dksX8_statement_15 16 rfl rfl)
theorem dX8_statement_369 : decode cX8_statement 369 = .ok (.aload_n 0, 1) := dk_42 (dk_at dksX8_statement_15 19 rfl rfl)
theorem dX8_statement_370 : decode cX8_statement 370 = .ok (.iload_n 1, 1) := dk_27 (dk_at dksX8_statement_15 20 rfl rfl)
theorem dX8_statement_371 : decode cX8_statement 371 = .ok (.iconst 1, 1) := dk_4 (dk_at dksX8_statement_15 21 rfl rfl)
theorem dX8_statement_372 : decode cX8_statement 372 = .ok (.iadd, 1) := dk_96 (dk_at dksX8_statement_15 22 rfl rfl)
theorem dX8_statement_373 : decode cX8_statement 373 = .ok (.invokevirtual 208, 3) := dk_182 0 208 (dk_at dksX8_statement_16 0 rfl rfl)
theorem dX8_statement_376 : decode cX8_statement 376 = .ok (.invokevirtual 185, 3) := dk_182 0 185 (dk_at dksX8_statement_16 3 rfl rfl)
theorem dX8_statement_379 : decode cX8_statement 379 = .ok (.aload_n 0, 1) := dk_42 (dk_at dksX8_statement_16 6 rfl rfl)
theorem dX8_statement_380 : decode cX8_statement 380 = .ok (.bipush 41, 2) := dk_16 41 (dk_at dksX8_statement_16 7 rfl rfl)
theorem dX8_statement_382 : decode cX8_statement 382 = .ok (.invokevirtual 176, 3) := dk_182 0 176 (dk_at dksX8_statement_16 9 rfl rfl)
theorem dX8_statement_385 : decode cX8_statement 385 = .ok (.aload_n 0, 1) := dk_42 (dk_at dksX8_statement_16 12 rfl rfl)
theorem dX8_statement_386 : decode cX8_statement 386 = .ok (.bipush 59, 2) := dk_16 59 (dk_at dksX8_statement_16 13 rfl rfl)
theorem dX8_statement_388 : decode cX8_statement 388 = .ok (.invokevirtual 176, 3) := dk_182 0 176 (dk_at dksX8_statement_16 15 rfl rfl)
theorem dX8_statement_391 : decode cX8_statement 391 = .ok (.goto 50, 3) := dk_167 0 50 (dk_at dksX8_statement_16 18 rfl rfl)
theorem dX8_statement_394 : decode cX8_statement 394 = .ok (.aload_n 0, 1) := dk_42 (dk_at dksX8_statement_16 21 rfl rfl)
theorem dX8_statement_395 : decode cX8_statement 395 = .ok (.sipush 306, 3) := dk_17 1 50 (dk_at dksX8_statement_17 0 rfl rfl)
theorem dX8_statement_398 : decode cX8_statement 398 = .ok (.invokevirtual 176, 3) := dk_182 0 176 (dk_at dksX8_statement_17 3 rfl rfl)
theorem dX8_statement_401 : decode cX8_statement 401 = .ok (.aload_n 0, 1) := dk_42 (dk_at dksX8_statement_17 6 rfl rfl)
theorem dX8_statement_402 : decode cX8_statement 402 = .ok (.bipush 11, 2) := dk_16 11 (dk_at dksX8_statement_17 7 rfl rfl)
theorem dX8_statement_404 : decode cX8_statement 404 = .ok (.iload_n 2, 1) := dk_28 (dk_at dksX8_statement_17 9 rfl rfl)
theorem dX8_statement_405 : decode cX8_statement 405 = .ok (.iconst 0, 1) := dk_3 (dk_at dksX8_statement_17 10 rfl rfl)
theorem dX8_statement_406 : decode cX8_statement 406 = .ok (.invokevirtual 172, 3) := dk_182 0 172 (dk_at dksX8_statement_17 11 rfl rfl)
theorem dX8_statement_409 : decode cX8_statement 409 = .ok (.istore 4, 2) := dk_54 4 (dk_at dksX8_statement_17 14 rfl rfl)
theorem dX8_statement_411 : decode cX8_statement 411 = .ok (.aload_n 0, 1) := dk_42 (dk_at dksX8_statement_17 16 rfl rfl)
theorem dX8_statement_412 : decode cX8_statement 412 = .ok (.iload 4, 2) := dk_21 4 (dk_at dksX8_statement_17 17 rfl rfl)
theorem dX8_statement_414 : decode cX8_statement 414 = .ok (.aload_n 0, 1) := dk_42 (dk_at dksX8_statement_17 19 rfl rfl)
theorem dX8_statement_415 : decode cX8_statement 415 = .ok (.getfield 155, 3) := dk_180 0 155 (dk_at dksX8_statement_17 20 rfl rfl)
theorem dX8_statement_418 : decode cX8_statement 418 = .ok (.ifCond .eq 7, 3) := dk_153 0 7 (dk_at dksX8_statement_18 0 rfl rfl)
theorem dX8_statement_421 : decode cX8_statement 421 = .ok (.iconst (-1), 1) := dk_2 (dk_at dksX8_statement_18 3 rfl rfl)
theorem dX8_statement_422 : decode cX8_statement 422 = .ok (.goto 10, 3) := dk_167 0 10 (dk_at dksX8_statement_18 4 rfl rfl)
theorem dX8_statement_425 : decode cX8_statement 425 = .ok (.aload_n 0, 1) := dk_42 (dk_at dksX8_statement_18 7 rfl rfl)
theorem dX8_statement_426 : decode cX8_statement 426 = .ok (.iload_n 1, 1) := dk_27 (dk_at dksX8_statement_18 8 rfl rfl)
theorem dX8_statement_427 : decode cX8_statement 427 = .ok (.iconst 1, 1) := dk_4 (dk_at dksX8_statement_18 9 rfl rfl)
theorem dX8_statement_428 : decode cX8_statement 428 = .ok (.iadd, 1) := dk_96 (dk_at dksX8_statement_18 10 rfl rfl)
theorem dX8_statement_429 : decode cX8_statement 429 = .ok (.invokevirtual 199, 3) := dk_182 0 199 (dk_at dksX8_statement_18 11 rfl rfl)
theorem dX8_statement_432 : decode cX8_statement 432 = .ok (.invokevirtual 185, 3) := dk_182 0 185 (dk_at dksX8_statement_18 14 rfl rfl)
theorem dX8_statement_435 : decode cX8_statement 435 = .ok (.aload_n 0, 1) := dk_42 (dk_at dksX8_statement_18 17 rfl rfl)
theorem dX8_statement_436 : decode cX8_statement 436 = .ok (.bipush 59, 2) := dk_16 59 (dk_at dksX8_statement_18 18 rfl rfl)
theorem dX8_statement_438 : decode cX8_statement 438 = .ok (.invokevirtual 176, 3) := dk_182 0 176 (dk_at dksX8_statement_18 20 rfl rfl)
theorem dX8_statement_441 : decode cX8_statement 441 = .ok (.iload 4, 2) := dk_21 4 (dk_at dksX8_statement_19 0 rfl rfl)
theorem dX8_statement_443 : decode cX8_statement 443 = .ok (.ireturn, 1) := dk_172 (dk_at dksX8_statement_19 2 rfl rfl)
abbrev cX8_number : ByteArray := prog_10_method_19_code
def yX8_number : MethodName := ⟨RX8, "number", "(Z)I"⟩
def dkwX8_number_4 : List UInt8 := [132, 5, 1, 167, 255, 211, 42, 6, 182, 0, 176, 42, 16, 12, 28, 29, 21, 4, 104, 182, 0, 172, 172]
abbrev dktX8_number_4 : List UInt8 := dkwX8_number_4 ++ []
def dkwX8_number_3 : List UInt8 := [180, 0, 9, 42, 180, 0, 22, 42, 180, 0, 159, 46, 21, 5, 96, 46, 96, 16, 48, 100, 54, 4]
abbrev dktX8_number_3 : List UInt8 := dkwX8_number_3 ++ dktX8_number_4
def dkwX8_number_2 : List UInt8 := [54, 5, 21, 5, 42, 180, 0, 25, 42, 180, 0, 159, 46, 162, 0, 37, 16, 10, 21, 4, 104, 42]
abbrev dktX8_number_2 : List UInt8 := dkwX8_number_2 ++ dktX8_number_3
def dkwX8_number_1 : List UInt8 := [160, 0, 11, 42, 16, 45, 182, 0, 176, 2, 62, 3, 54, 4, 42, 182, 0, 162, 6, 160, 0, 54, 3]
abbrev dktX8_number_1 : List UInt8 := dkwX8_number_1 ++ dktX8_number_2
def dkwX8_number_0 : List UInt8 := [42, 180, 0, 22, 42, 180, 0, 159, 46, 61, 4, 62, 27, 153, 0, 20, 42, 182, 0, 162, 16, 45]
abbrev dktX8_number_0 : List UInt8 := dkwX8_number_0 ++ dktX8_number_1
theorem dksX8_number_0 : cX8_number.data.toList.drop 0 = dktX8_number_0 := by decide +kernel
theorem dksX8_number_1 : cX8_number.data.toList.drop 22 = dktX8_number_1 := dk_seg dksX8_number_0 22 rfl rfl
theorem dksX8_number_2 : cX8_number.data.toList.drop 45 = dktX8_number_2 := dk_seg dksX8_number_1 23 rfl rfl
theorem dksX8_number_3 : cX8_number.data.toList.drop 67 = dktX8_number_3 := dk_seg dksX8_number_2 22 rfl rfl
theorem dksX8_number_4 : cX8_number.data.toList.drop 89 = dktX8_number_4 := dk_seg dksX8_number_3 22 rfl rfl
theorem dX8_number_0 : decode cX8_number 0 = .ok (.aload_n 0, 1) := dk_42 (dk_at dksX8_number_0 0 rfl rfl)
theorem dX8_number_1 : decode cX8_number 1 = .ok (.getfield 22, 3) := dk_180 0 22 (dk_at dksX8_number_0 1 rfl rfl)
theorem dX8_number_4 : decode cX8_number 4 = .ok (.aload_n 0, 1) := dk_42 (dk_at dksX8_number_0 4 rfl rfl)
theorem dX8_number_5 : decode cX8_number 5 = .ok (.getfield 159, 3) := dk_180 0 159 (dk_at dksX8_number_0 5 rfl rfl)
theorem dX8_number_8 : decode cX8_number 8 = .ok (.iaload, 1) := dk_46 (dk_at dksX8_number_0 8 rfl rfl)
theorem dX8_number_9 : decode cX8_number 9 = .ok (.istore_n 2, 1) := dk_61 (dk_at dksX8_number_0 9 rfl rfl)
theorem dX8_number_10 : decode cX8_number 10 = .ok (.iconst 1, 1) := dk_4 (dk_at dksX8_number_0 10 rfl rfl)
theorem dX8_number_11 : decode cX8_number 11 = .ok (.istore_n 3, 1) := dk_62 (dk_at dksX8_number_0 11 rfl rfl)
theorem dX8_number_12 : decode cX8_number 12 = .ok (.iload_n 1, 1) := dk_27 (dk_at dksX8_number_0 12 rfl rfl)
theorem dX8_number_13 : decode cX8_number 13 = .ok (.ifCond .eq 20, 3) := dk_153 0 20 (dk_at dksX8_number_0 13 rfl rfl)
theorem dX8_number_16 : decode cX8_number 16 = .ok (.aload_n 0, 1) := dk_42 (dk_at dksX8_number_0 16 rfl rfl)
theorem dX8_number_17 : decode cX8_number 17 = .ok (.invokevirtual 162, 3) := dk_182 0 162 (dk_at dksX8_number_0 17 rfl rfl)
theorem dX8_number_20 : decode cX8_number 20 = .ok (.bipush 45, 2) := dk_16 45 (dk_at dksX8_number_0 20 rfl rfl)
theorem dX8_number_22 : decode cX8_number 22 = .ok (.if_icmp .ne 11, 3) := dk_160 0 11 (dk_at dksX8_number_1 0 rfl rfl)
theorem dX8_number_25 : decode cX8_number 25 = .ok (.aload_n 0, 1) := dk_42 (dk_at dksX8_number_1 3 rfl rfl)
theorem dX8_number_26 : decode cX8_number 26 = .ok (.bipush 45, 2) := dk_16 45 (dk_at dksX8_number_1 4 rfl rfl)
theorem dX8_number_28 : decode cX8_number 28 = .ok (.invokevirtual 176, 3) := dk_182 0 176 (dk_at dksX8_number_1 6 rfl rfl)
theorem dX8_number_31 : decode cX8_number 31 = .ok (.iconst (-1), 1) := dk_2 (dk_at dksX8_number_1 9 rfl rfl)
theorem dX8_number_32 : decode cX8_number 32 = .ok (.istore_n 3, 1) := dk_62 (dk_at dksX8_number_1 10 rfl rfl)
theorem dX8_number_33 : decode cX8_number 33 = .ok (.iconst 0, 1) := dk_3 (dk_at dksX8_number_1 11 rfl rfl)
theorem dX8_number_34 : decode cX8_number 34 = .ok (.istore 4, 2) := dk_54 4 (dk_at dksX8_number_1 12 rfl rfl)
theorem dX8_number_36 : decode cX8_number 36 = .ok (.aload_n 0, 1) := dk_42 (dk_at dksX8_number_1 14 rfl rfl)
theorem dX8_number_37 : decode cX8_number 37 = .ok (.invokevirtual 162, 3) := dk_182 0 162 (dk_at dksX8_number_1 15 rfl rfl)
theorem dX8_number_40 : decode cX8_number 40 = .ok (.iconst 3, 1) := dk_6 (dk_at dksX8_number_1 18 rfl rfl)
theorem dX8_number_41 : decode cX8_number 41 = .ok (.if_icmp .ne 54, 3) := dk_160 0 54 (dk_at dksX8_number_1 19 rfl rfl)
theorem dX8_number_44 : decode cX8_number 44 = .ok (.iconst 0, 1) := dk_3 (dk_at dksX8_number_1 22 rfl rfl)
theorem dX8_number_45 : decode cX8_number 45 = .ok (.istore 5, 2) := dk_54 5 (dk_at dksX8_number_2 0 rfl rfl)
theorem dX8_number_47 : decode cX8_number 47 = .ok (.iload 5, 2) := dk_21 5 (dk_at dksX8_number_2 2 rfl rfl)
theorem dX8_number_49 : decode cX8_number 49 = .ok (.aload_n 0, 1) := dk_42 (dk_at dksX8_number_2 4 rfl rfl)
theorem dX8_number_50 : decode cX8_number 50 = .ok (.getfield 25, 3) := dk_180 0 25 (dk_at dksX8_number_2 5 rfl rfl)
theorem dX8_number_53 : decode cX8_number 53 = .ok (.aload_n 0, 1) := dk_42 (dk_at dksX8_number_2 8 rfl rfl)
theorem dX8_number_54 : decode cX8_number 54 = .ok (.getfield 159, 3) := dk_180 0 159 (dk_at dksX8_number_2 9 rfl rfl)
theorem dX8_number_57 : decode cX8_number 57 = .ok (.iaload, 1) := dk_46 (dk_at dksX8_number_2 12 rfl rfl)
theorem dX8_number_58 : decode cX8_number 58 = .ok (.if_icmp .ge 37, 3) := dk_162 0 37 (dk_at dksX8_number_2 13 rfl rfl)
theorem dX8_number_61 : decode cX8_number 61 = .ok (.bipush 10, 2) := dk_16 10 (dk_at dksX8_number_2 16 rfl rfl)
theorem dX8_number_63 : decode cX8_number 63 = .ok (.iload 4, 2) := dk_21 4 (dk_at dksX8_number_2 18 rfl rfl)
theorem dX8_number_65 : decode cX8_number 65 = .ok (.imul, 1) := dk_104 (dk_at dksX8_number_2 20 rfl rfl)
theorem dX8_number_66 : decode cX8_number 66 = .ok (.aload_n 0, 1) := dk_42 (dk_at dksX8_number_2 21 rfl rfl)
theorem dX8_number_67 : decode cX8_number 67 = .ok (.getfield 9, 3) := dk_180 0 9 (dk_at dksX8_number_3 0 rfl rfl)
theorem dX8_number_70 : decode cX8_number 70 = .ok (.aload_n 0, 1) := dk_42 (dk_at dksX8_number_3 3 rfl rfl)
theorem dX8_number_71 : decode cX8_number 71 = .ok (.getfield 22, 3) := dk_180 0 22 (dk_at dksX8_number_3 4 rfl rfl)
theorem dX8_number_74 : decode cX8_number 74 = .ok (.aload_n 0, 1) := dk_42 (dk_at dksX8_number_3 7 rfl rfl)
theorem dX8_number_75 : decode cX8_number 75 = .ok (.getfield 159, 3) := dk_180 0 159 (dk_at dksX8_number_3 8 rfl rfl)
theorem dX8_number_78 : decode cX8_number 78 = .ok (.iaload, 1) := dk_46 (dk_at dksX8_number_3 11 rfl rfl)
theorem dX8_number_79 : decode cX8_number 79 = .ok (.iload 5, 2) := dk_21 5 (dk_at dksX8_number_3 12 rfl rfl)
theorem dX8_number_81 : decode cX8_number 81 = .ok (.iadd, 1) := dk_96 (dk_at dksX8_number_3 14 rfl rfl)
theorem dX8_number_82 : decode cX8_number 82 = .ok (.iaload, 1) := dk_46 (dk_at dksX8_number_3 15 rfl rfl)
theorem dX8_number_83 : decode cX8_number 83 = .ok (.iadd, 1) := dk_96 (dk_at dksX8_number_3 16 rfl rfl)
theorem dX8_number_84 : decode cX8_number 84 = .ok (.bipush 48, 2) := dk_16 48 (dk_at dksX8_number_3 17 rfl rfl)
theorem dX8_number_86 : decode cX8_number 86 = .ok (.isub, 1) := dk_100 (dk_at dksX8_number_3 19 rfl rfl)
theorem dX8_number_87 : decode cX8_number 87 = .ok (.istore 4, 2) := dk_54 4 (dk_at dksX8_number_3 20 rfl rfl)
theorem dX8_number_89 : decode cX8_number 89 = .ok (.iinc 5 1, 3) := dk_132 5 1 (dk_at dksX8_number_4 0 rfl rfl)
theorem dX8_number_92 : decode cX8_number 92 = .ok (.goto (-45), 3) := dk_167 255 211 (dk_at dksX8_number_4 3 rfl rfl)
theorem dX8_number_95 : decode cX8_number 95 = .ok (.aload_n 0, 1) := dk_42 (dk_at dksX8_number_4 6 rfl rfl)
theorem dX8_number_96 : decode cX8_number 96 = .ok (.iconst 3, 1) := dk_6 (dk_at dksX8_number_4 7 rfl rfl)
theorem dX8_number_97 : decode cX8_number 97 = .ok (.invokevirtual 176, 3) := dk_182 0 176 (dk_at dksX8_number_4 8 rfl rfl)
theorem dX8_number_100 : decode cX8_number 100 = .ok (.aload_n 0, 1) := dk_42 (dk_at dksX8_number_4 11 rfl rfl)
theorem dX8_number_101 : decode cX8_number 101 = .ok (.bipush 12, 2) := dk_16 12 (dk_at dksX8_number_4 12 rfl rfl)
theorem dX8_number_103 : decode cX8_number 103 = .ok (.iload_n 2, 1) := dk_28 (dk_at dksX8_number_4 14 rfl rfl)
theorem dX8_number_104 : decode cX8_number 104 = .ok (.iload_n 3, 1) := dk_29 (dk_at dksX8_number_4 15 rfl rfl)
theorem dX8_number_105 : decode cX8_number 105 = .ok (.iload 4, 2) := dk_21 4 (dk_at dksX8_number_4 16 rfl rfl)
theorem dX8_number_107 : decode cX8_number 107 = .ok (.imul, 1) := dk_104 (dk_at dksX8_number_4 18 rfl rfl)
theorem dX8_number_108 : decode cX8_number 108 = .ok (.invokevirtual 172, 3) := dk_182 0 172 (dk_at dksX8_number_4 19 rfl rfl)
theorem dX8_number_111 : decode cX8_number 111 = .ok (.ireturn, 1) := dk_172 (dk_at dksX8_number_4 22 rfl rfl)
abbrev cX8_sum : ByteArray := prog_10_method_21_code
def yX8_sum : MethodName := ⟨RX8, "sum", "(I)I"⟩
def dkwX8_sum_6 : List UInt8 := [182, 0, 182, 182, 0, 185, 42, 29, 21, 4, 182, 0, 185, 167, 255, 169, 29, 172]
abbrev dktX8_sum_6 : List UInt8 := dkwX8_sum_6 ++ []
def dkwX8_sum_5 : List UInt8 := [182, 0, 162, 182, 0, 176, 42, 21, 4, 42, 180, 0, 155, 153, 0, 7, 2, 167, 0, 8, 42, 27]
abbrev dktX8_sum_5 : List UInt8 := dkwX8_sum_5 ++ dktX8_sum_6
def dkwX8_sum_4 : List UInt8 := [167, 0, 5, 16, 19, 42, 180, 0, 22, 42, 180, 0, 159, 46, 3, 182, 0, 172, 54, 4, 42, 42]
abbrev dktX8_sum_4 : List UInt8 := dkwX8_sum_4 ++ dktX8_sum_5
def dkwX8_sum_3 : List UInt8 := [159, 0, 12, 42, 182, 0, 162, 16, 45, 160, 0, 75, 42, 42, 182, 0, 162, 16, 43, 160, 0, 8, 16, 18]
abbrev dktX8_sum_3 : List UInt8 := dkwX8_sum_3 ++ dktX8_sum_4
def dkwX8_sum_2 : List UInt8 := [180, 0, 35, 28, 46, 3, 182, 0, 172, 62, 42, 29, 28, 182, 0, 185, 42, 182, 0, 162, 16, 43]
abbrev dktX8_sum_2 : List UInt8 := dkwX8_sum_2 ++ dktX8_sum_3
def dkwX8_sum_1 : List UInt8 := [182, 0, 162, 16, 43, 159, 0, 14, 42, 182, 0, 162, 16, 45, 159, 0, 5, 28, 172, 42, 16, 17, 42]
abbrev dktX8_sum_1 : List UInt8 := dkwX8_sum_1 ++ dktX8_sum_2
def dkwX8_sum_0 : List UInt8 := [42, 27, 182, 0, 179, 42, 180, 0, 155, 153, 0, 7, 2, 167, 0, 8, 42, 27, 182, 0, 182, 61, 42]
abbrev dktX8_sum_0 : List UInt8 := dkwX8_sum_0 ++ dktX8_sum_1
theorem dksX8_sum_0 : cX8_sum.data.toList.drop 0 = dktX8_sum_0 := by decide +kernel
theorem dksX8_sum_1 : cX8_sum.data.toList.drop 23 = dktX8_sum_1 := dk_seg dksX8_sum_0 23 rfl rfl
theorem dksX8_sum_2 : cX8_sum.data.toList.drop 46 = dktX8_sum_2 := dk_seg dksX8_sum_1 23 rfl rfl
theorem dksX8_sum_3 : cX8_sum.data.toList.drop 68 = dktX8_sum_3 := dk_seg dksX8_sum_2 22 rfl rfl
theorem dksX8_sum_4 : cX8_sum.data.toList.drop 92 = dktX8_sum_4 := dk_seg dksX8_sum_3 24 rfl rfl
theorem dksX8_sum_5 : cX8_sum.data.toList.drop 114 = dktX8_sum_5 := dk_seg dksX8_sum_4 22 rfl rfl
theorem dksX8_sum_6 : cX8_sum.data.toList.drop 136 = dktX8_sum_6 := dk_seg dksX8_sum_5 22 rfl rfl
theorem dX8_sum_0 : decode cX8_sum 0 = .ok (.aload_n 0, 1) := dk_42 (dk_at dksX8_sum_0 0 rfl rfl)
theorem dX8_sum_1 : decode cX8_sum 1 = .ok (.iload_n 1, 1) := dk_27 (dk_at dksX8_sum_0 1 rfl rfl)
theorem dX8_sum_2 : decode cX8_sum 2 = .ok (.invokevirtual 179, 3) := dk_182 0 179 (dk_at dksX8_sum_0 2 rfl rfl)
theorem dX8_sum_5 : decode cX8_sum 5 = .ok (.aload_n 0, 1) := dk_42 (dk_at dksX8_sum_0 5 rfl rfl)
theorem dX8_sum_6 : decode cX8_sum 6 = .ok (.getfield 155, 3) := dk_180 0 155 (dk_at dksX8_sum_0 6 rfl rfl)
theorem dX8_sum_9 : decode cX8_sum 9 = .ok (.ifCond .eq 7, 3) := dk_153 0 7 (dk_at dksX8_sum_0 9 rfl rfl)
theorem dX8_sum_12 : decode cX8_sum 12 = .ok (.iconst (-1), 1) := dk_2 (dk_at dksX8_sum_0 12 rfl rfl)
theorem dX8_sum_13 : decode cX8_sum 13 = .ok (.goto 8, 3) := dk_167 0 8 (dk_at dksX8_sum_0 13 rfl rfl)
theorem dX8_sum_16 : decode cX8_sum 16 = .ok (.aload_n 0, 1) := dk_42 (dk_at dksX8_sum_0 16 rfl rfl)
theorem dX8_sum_17 : decode cX8_sum 17 = .ok (.iload_n 1, 1) := dk_27 (dk_at dksX8_sum_0 17 rfl rfl)
theorem dX8_sum_18 : decode cX8_sum 18 = .ok (.invokevirtual 182, 3) := dk_182 0 182 (dk_at dksX8_sum_0 18 rfl rfl)
theorem dX8_sum_21 : decode cX8_sum 21 = .ok (.istore_n 2, 1) := dk_61 (dk_at dksX8_sum_0 21 rfl rfl)
theorem dX8_sum_22 : decode cX8_sum 22 = .ok (.aload_n 0, 1) := dk_42 (dk_at dksX8_sum_0 22 rfl rfl)
theorem dX8_sum_23 : decode cX8_sum 23 = .ok (.invokevirtual 162, 3) := dk_182 0 162 (dk_at dksX8_sum_1 0 rfl rfl)
theorem dX8_sum_26 : decode cX8_sum 26 = .ok (.bipush 43, 2) := dk_16 43 (dk_at dksX8_sum_1 3 rfl rfl)
theorem dX8_sum_28 : decode cX8_sum 28 = .ok (.if_icmp .eq 14, 3) := dk_159 0 14 (dk_at dksX8_sum_1 5 rfl rfl)
theorem dX8_sum_31 : decode cX8_sum 31 = .ok (.aload_n 0, 1) := dk_42 (dk_at dksX8_sum_1 8 rfl rfl)
theorem dX8_sum_32 : decode cX8_sum 32 = .ok (.invokevirtual 162, 3) := dk_182 0 162 (dk_at dksX8_sum_1 9 rfl rfl)
theorem dX8_sum_35 : decode cX8_sum 35 = .ok (.bipush 45, 2) := dk_16 45 (dk_at dksX8_sum_1 12 rfl rfl)
theorem dX8_sum_37 : decode cX8_sum 37 = .ok (.if_icmp .eq 5, 3) := dk_159 0 5 (dk_at dksX8_sum_1 14 rfl rfl)
theorem dX8_sum_40 : decode cX8_sum 40 = .ok (.iload_n 2, 1) := dk_28 (dk_at dksX8_sum_1 17 rfl rfl)
theorem dX8_sum_41 : decode cX8_sum 41 = .ok (.ireturn, 1) := dk_172 (dk_at dksX8_sum_1 18 rfl rfl)
theorem dX8_sum_42 : decode cX8_sum 42 = .ok (.aload_n 0, 1) := dk_42 (dk_at dksX8_sum_1 19 rfl rfl)
theorem dX8_sum_43 : decode cX8_sum 43 = .ok (.bipush 17, 2) := dk_16 17 (dk_at dksX8_sum_1 20 rfl rfl)
theorem dX8_sum_45 : decode cX8_sum 45 = .ok (.aload_n 0, 1) := dk_42 (dk_at dksX8_sum_1 22 rfl rfl)
theorem dX8_sum_46 : decode cX8_sum 46 = .ok (.getfield 35, 3) := dk_180 0 35 (dk_at dksX8_sum_2 0 rfl rfl)
theorem dX8_sum_49 : decode cX8_sum 49 = .ok (.iload_n 2, 1) := dk_28 (dk_at dksX8_sum_2 3 rfl rfl)
theorem dX8_sum_50 : decode cX8_sum 50 = .ok (.iaload, 1) := dk_46 (dk_at dksX8_sum_2 4 rfl rfl)
theorem dX8_sum_51 : decode cX8_sum 51 = .ok (.iconst 0, 1) := dk_3 (dk_at dksX8_sum_2 5 rfl rfl)
theorem dX8_sum_52 : decode cX8_sum 52 = .ok (.invokevirtual 172, 3) := dk_182 0 172 (dk_at dksX8_sum_2 6 rfl rfl)
theorem dX8_sum_55 : decode cX8_sum 55 = .ok (.istore_n 3, 1) := dk_62 (dk_at dksX8_sum_2 9 rfl rfl)
theorem dX8_sum_56 : decode cX8_sum 56 = .ok (.aload_n 0, 1) := dk_42 (dk_at dksX8_sum_2 10 rfl rfl)
theorem dX8_sum_57 : decode cX8_sum 57 = .ok (.iload_n 3, 1) := dk_29 (dk_at dksX8_sum_2 11 rfl rfl)
theorem dX8_sum_58 : decode cX8_sum 58 = .ok (.iload_n 2, 1) := dk_28 (dk_at dksX8_sum_2 12 rfl rfl)
theorem dX8_sum_59 : decode cX8_sum 59 = .ok (.invokevirtual 185, 3) := dk_182 0 185 (dk_at dksX8_sum_2 13 rfl rfl)
theorem dX8_sum_62 : decode cX8_sum 62 = .ok (.aload_n 0, 1) := dk_42 (dk_at dksX8_sum_2 16 rfl rfl)
theorem dX8_sum_63 : decode cX8_sum 63 = .ok (.invokevirtual 162, 3) := dk_182 0 162 (dk_at dksX8_sum_2 17 rfl rfl)
theorem dX8_sum_66 : decode cX8_sum 66 = .ok (.bipush 43, 2) := dk_16 43 (dk_at dksX8_sum_2 20 rfl rfl)
theorem dX8_sum_68 : decode cX8_sum 68 = .ok (.if_icmp .eq 12, 3) := dk_159 0 12 (dk_at dksX8_sum_3 0 rfl rfl)
theorem dX8_sum_71 : decode cX8_sum 71 = .ok (.aload_n 0, 1) := dk_42 (dk_at dksX8_sum_3 3 rfl rfl)
theorem dX8_sum_72 : decode cX8_sum 72 = .ok (.invokevirtual 162, 3) := dk_182 0 162 (dk_at dksX8_sum_3 4 rfl rfl)
theorem dX8_sum_75 : decode cX8_sum 75 = .ok (.bipush 45, 2) := dk_16 45 (dk_at dksX8_sum_3 7 rfl rfl)
theorem dX8_sum_77 : decode cX8_sum 77 = .ok (.if_icmp .ne 75, 3) := dk_160 0 75 (dk_at dksX8_sum_3 9 rfl rfl)
theorem dX8_sum_80 : decode cX8_sum 80 = .ok (.aload_n 0, 1) := dk_42 (dk_at dksX8_sum_3 12 rfl rfl)
theorem dX8_sum_81 : decode cX8_sum 81 = .ok (.aload_n 0, 1) := dk_42 (dk_at dksX8_sum_3 13 rfl rfl)
theorem dX8_sum_82 : decode cX8_sum 82 = .ok (.invokevirtual 162, 3) := dk_182 0 162 (dk_at dksX8_sum_3 14 rfl rfl)
theorem dX8_sum_85 : decode cX8_sum 85 = .ok (.bipush 43, 2) := dk_16 43 (dk_at dksX8_sum_3 17 rfl rfl)
theorem dX8_sum_87 : decode cX8_sum 87 = .ok (.if_icmp .ne 8, 3) := dk_160 0 8 (dk_at dksX8_sum_3 19 rfl rfl)
theorem dX8_sum_90 : decode cX8_sum 90 = .ok (.bipush 18, 2) := dk_16 18 (dk_at dksX8_sum_3 22 rfl rfl)
theorem dX8_sum_92 : decode cX8_sum 92 = .ok (.goto 5, 3) := dk_167 0 5 (dk_at dksX8_sum_4 0 rfl rfl)
theorem dX8_sum_95 : decode cX8_sum 95 = .ok (.bipush 19, 2) := dk_16 19 (dk_at dksX8_sum_4 3 rfl rfl)
theorem dX8_sum_97 : decode cX8_sum 97 = .ok (.aload_n 0, 1) := dk_42 (dk_at dksX8_sum_4 5 rfl rfl)
theorem dX8_sum_98 : decode cX8_sum 98 = .ok (.getfield 22, 3) := dk_180 0 22 (dk_at dksX8_sum_4 6 rfl rfl)
theorem dX8_sum_101 : decode cX8_sum 101 = .ok (.aload_n 0, 1) := dk_42 (dk_at dksX8_sum_4 9 rfl rfl)
theorem dX8_sum_102 : decode cX8_sum 102 = .ok (.getfield 159, 3) := dk_180 0 159 (dk_at dksX8_sum_4 10 rfl rfl)
theorem dX8_sum_105 : decode cX8_sum 105 = .ok (.iaload, 1) := dk_46 (dk_at dksX8_sum_4 13 rfl rfl)
theorem dX8_sum_106 : decode cX8_sum 106 = .ok (.iconst 0, 1) := dk_3 (dk_at dksX8_sum_4 14 rfl rfl)
theorem dX8_sum_107 : decode cX8_sum 107 = .ok (.invokevirtual 172, 3) := dk_182 0 172 (dk_at dksX8_sum_4 15 rfl rfl)
theorem dX8_sum_110 : decode cX8_sum 110 = .ok (.istore 4, 2) := dk_54 4 (dk_at dksX8_sum_4 18 rfl rfl)
theorem dX8_sum_112 : decode cX8_sum 112 = .ok (.aload_n 0, 1) := dk_42 (dk_at dksX8_sum_4 20 rfl rfl)
theorem dX8_sum_113 : decode cX8_sum 113 = .ok (.aload_n 0, 1) := dk_42 (dk_at dksX8_sum_4 21 rfl rfl)
theorem dX8_sum_114 : decode cX8_sum 114 = .ok (.invokevirtual 162, 3) := dk_182 0 162 (dk_at dksX8_sum_5 0 rfl rfl)
theorem dX8_sum_117 : decode cX8_sum 117 = .ok (.invokevirtual 176, 3) := dk_182 0 176 (dk_at dksX8_sum_5 3 rfl rfl)
theorem dX8_sum_120 : decode cX8_sum 120 = .ok (.aload_n 0, 1) := dk_42 (dk_at dksX8_sum_5 6 rfl rfl)
theorem dX8_sum_121 : decode cX8_sum 121 = .ok (.iload 4, 2) := dk_21 4 (dk_at dksX8_sum_5 7 rfl rfl)
theorem dX8_sum_123 : decode cX8_sum 123 = .ok (.aload_n 0, 1) := dk_42 (dk_at dksX8_sum_5 9 rfl rfl)
theorem dX8_sum_124 : decode cX8_sum 124 = .ok (.getfield 155, 3) := dk_180 0 155 (dk_at dksX8_sum_5 10 rfl rfl)
theorem dX8_sum_127 : decode cX8_sum 127 = .ok (.ifCond .eq 7, 3) := dk_153 0 7 (dk_at dksX8_sum_5 13 rfl rfl)
theorem dX8_sum_130 : decode cX8_sum 130 = .ok (.iconst (-1), 1) := dk_2 (dk_at dksX8_sum_5 16 rfl rfl)
theorem dX8_sum_131 : decode cX8_sum 131 = .ok (.goto 8, 3) := dk_167 0 8 (dk_at dksX8_sum_5 17 rfl rfl)
theorem dX8_sum_134 : decode cX8_sum 134 = .ok (.aload_n 0, 1) := dk_42 (dk_at dksX8_sum_5 20 rfl rfl)
theorem dX8_sum_135 : decode cX8_sum 135 = .ok (.iload_n 1, 1) := dk_27 (dk_at dksX8_sum_5 21 rfl rfl)
theorem dX8_sum_136 : decode cX8_sum 136 = .ok (.invokevirtual 182, 3) := dk_182 0 182 (dk_at dksX8_sum_6 0 rfl rfl)
theorem dX8_sum_139 : decode cX8_sum 139 = .ok (.invokevirtual 185, 3) := dk_182 0 185 (dk_at dksX8_sum_6 3 rfl rfl)
theorem dX8_sum_142 : decode cX8_sum 142 = .ok (.aload_n 0, 1) := dk_42 (dk_at dksX8_sum_6 6 rfl rfl)
theorem dX8_sum_143 : decode cX8_sum 143 = .ok (.iload_n 3, 1) := dk_29 (dk_at dksX8_sum_6 7 rfl rfl)
theorem dX8_sum_144 : decode cX8_sum 144 = .ok (.iload 4, 2) := dk_21 4 (dk_at dksX8_sum_6 8 rfl rfl)
theorem dX8_sum_146 : decode cX8_sum 146 = .ok (.invokevirtual 185, 3) := dk_182 0 185 (dk_at dksX8_sum_6 10 rfl rfl)
theorem dX8_sum_149 : decode cX8_sum 149 = .ok (.goto (-87), 3) := dk_167 255 169 (dk_at dksX8_sum_6 13 rfl rfl)
theorem dX8_sum_152 : decode cX8_sum 152 = .ok (.iload_n 3, 1) := dk_29 (dk_at dksX8_sum_6 16 rfl rfl)
theorem dX8_sum_153 : decode cX8_sum 153 = .ok (.ireturn, 1) := dk_172 (dk_at dksX8_sum_6 17 rfl rfl)
abbrev cX8_term : ByteArray := prog_10_method_22_code
def yX8_term : MethodName := ⟨RX8, "term", "(I)I"⟩
def dkwX8_term_7 : List UInt8 := [182, 0, 185, 167, 255, 146, 29, 172]
abbrev dktX8_term_7 : List UInt8 := dkwX8_term_7 ++ []
def dkwX8_term_6 : List UInt8 := [180, 0, 155, 153, 0, 7, 2, 167, 0, 8, 42, 27, 182, 0, 189, 182, 0, 185, 42, 29, 21, 4]
abbrev dktX8_term_6 : List UInt8 := dkwX8_term_6 ++ dktX8_term_7
def dkwX8_term_5 : List UInt8 := [180, 0, 159, 46, 3, 182, 0, 172, 54, 4, 42, 42, 182, 0, 162, 182, 0, 176, 42, 21, 4, 42]
abbrev dktX8_term_5 : List UInt8 := dkwX8_term_5 ++ dktX8_term_6
def dkwX8_term_4 : List UInt8 := [167, 0, 19, 42, 182, 0, 162, 16, 47, 160, 0, 8, 16, 22, 167, 0, 5, 16, 23, 42, 180, 0, 22, 42]
abbrev dktX8_term_4 : List UInt8 := dkwX8_term_4 ++ dktX8_term_5
def dkwX8_term_3 : List UInt8 := [159, 0, 12, 42, 182, 0, 162, 16, 37, 160, 0, 89, 42, 42, 182, 0, 162, 16, 42, 160, 0, 8, 16, 21]
abbrev dktX8_term_3 : List UInt8 := dkwX8_term_3 ++ dktX8_term_4
def dkwX8_term_2 : List UInt8 := [62, 42, 29, 28, 182, 0, 185, 42, 182, 0, 162, 16, 42, 159, 0, 21, 42, 182, 0, 162, 16, 47]
abbrev dktX8_term_2 : List UInt8 := dkwX8_term_2 ++ dktX8_term_3
def dkwX8_term_1 : List UInt8 := [42, 182, 0, 162, 16, 37, 159, 0, 5, 28, 172, 42, 16, 20, 42, 180, 0, 35, 28, 46, 3, 182, 0, 172]
abbrev dktX8_term_1 : List UInt8 := dkwX8_term_1 ++ dktX8_term_2
def dkwX8_term_0 : List UInt8 := [42, 27, 182, 0, 189, 61, 42, 182, 0, 162, 16, 42, 159, 0, 23, 42, 182, 0, 162, 16, 47, 159, 0, 14]
abbrev dktX8_term_0 : List UInt8 := dkwX8_term_0 ++ dktX8_term_1
theorem dksX8_term_0 : cX8_term.data.toList.drop 0 = dktX8_term_0 := by decide +kernel
theorem dksX8_term_1 : cX8_term.data.toList.drop 24 = dktX8_term_1 := dk_seg dksX8_term_0 24 rfl rfl
theorem dksX8_term_2 : cX8_term.data.toList.drop 48 = dktX8_term_2 := dk_seg dksX8_term_1 24 rfl rfl
theorem dksX8_term_3 : cX8_term.data.toList.drop 70 = dktX8_term_3 := dk_seg dksX8_term_2 22 rfl rfl
theorem dksX8_term_4 : cX8_term.data.toList.drop 94 = dktX8_term_4 := dk_seg dksX8_term_3 24 rfl rfl
theorem dksX8_term_5 : cX8_term.data.toList.drop 118 = dktX8_term_5 := dk_seg dksX8_term_4 24 rfl rfl
theorem dksX8_term_6 : cX8_term.data.toList.drop 140 = dktX8_term_6 := dk_seg dksX8_term_5 22 rfl rfl
theorem dksX8_term_7 : cX8_term.data.toList.drop 162 = dktX8_term_7 := dk_seg dksX8_term_6 22 rfl rfl
theorem dX8_term_0 : decode cX8_term 0 = .ok (.aload_n 0, 1) := dk_42 (dk_at dksX8_term_0 0 rfl rfl)
theorem dX8_term_1 : decode cX8_term 1 = .ok (.iload_n 1, 1) := dk_27 (dk_at dksX8_term_0 1 rfl rfl)
theorem dX8_term_2 : decode cX8_term 2 = .ok (.invokevirtual 189, 3) := dk_182 0 189 (dk_at dksX8_term_0 2 rfl rfl)
theorem dX8_term_5 : decode cX8_term 5 = .ok (.istore_n 2, 1) := dk_61 (dk_at dksX8_term_0 5 rfl rfl)
theorem dX8_term_6 : decode cX8_term 6 = .ok (.aload_n 0, 1) := dk_42 (dk_at dksX8_term_0 6 rfl rfl)
theorem dX8_term_7 : decode cX8_term 7 = .ok (.invokevirtual 162, 3) := dk_182 0 162 (dk_at dksX8_term_0 7 rfl rfl)
theorem dX8_term_10 : decode cX8_term 10 = .ok (.bipush 42, 2) := dk_16 42 (dk_at dksX8_term_0 10 rfl rfl)
theorem dX8_term_12 : decode cX8_term 12 = .ok (.if_icmp .eq 23, 3) := dk_159 0 23 (dk_at dksX8_term_0 12 rfl rfl)
theorem dX8_term_15 : decode cX8_term 15 = .ok (.aload_n 0, 1) := dk_42 (dk_at dksX8_term_0 15 rfl rfl)
theorem dX8_term_16 : decode cX8_term 16 = .ok (.invokevirtual 162, 3) := dk_182 0 162 (dk_at dksX8_term_0 16 rfl rfl)
theorem dX8_term_19 : decode cX8_term 19 = .ok (.bipush 47, 2) := dk_16 47 (dk_at dksX8_term_0 19 rfl rfl)
theorem dX8_term_21 : decode cX8_term 21 = .ok (.if_icmp .eq 14, 3) := dk_159 0 14 (dk_at dksX8_term_0 21 rfl rfl)
theorem dX8_term_24 : decode cX8_term 24 = .ok (.aload_n 0, 1) := dk_42 (dk_at dksX8_term_1 0 rfl rfl)
theorem dX8_term_25 : decode cX8_term 25 = .ok (.invokevirtual 162, 3) := dk_182 0 162 (dk_at dksX8_term_1 1 rfl rfl)
theorem dX8_term_28 : decode cX8_term 28 = .ok (.bipush 37, 2) := dk_16 37 (dk_at dksX8_term_1 4 rfl rfl)
theorem dX8_term_30 : decode cX8_term 30 = .ok (.if_icmp .eq 5, 3) := dk_159 0 5 (dk_at dksX8_term_1 6 rfl rfl)
theorem dX8_term_33 : decode cX8_term 33 = .ok (.iload_n 2, 1) := dk_28 (dk_at dksX8_term_1 9 rfl rfl)
theorem dX8_term_34 : decode cX8_term 34 = .ok (.ireturn, 1) := dk_172 (dk_at dksX8_term_1 10 rfl rfl)
theorem dX8_term_35 : decode cX8_term 35 = .ok (.aload_n 0, 1) := dk_42 (dk_at dksX8_term_1 11 rfl rfl)
theorem dX8_term_36 : decode cX8_term 36 = .ok (.bipush 20, 2) := dk_16 20 (dk_at dksX8_term_1 12 rfl rfl)
theorem dX8_term_38 : decode cX8_term 38 = .ok (.aload_n 0, 1) := dk_42 (dk_at dksX8_term_1 14 rfl rfl)
theorem dX8_term_39 : decode cX8_term 39 = .ok (.getfield 35, 3) := dk_180 0 35 (dk_at dksX8_term_1 15 rfl rfl)
theorem dX8_term_42 : decode cX8_term 42 = .ok (.iload_n 2, 1) := dk_28 (dk_at dksX8_term_1 18 rfl rfl)
theorem dX8_term_43 : decode cX8_term 43 = .ok (.iaload, 1) := dk_46 (dk_at dksX8_term_1 19 rfl rfl)
theorem dX8_term_44 : decode cX8_term 44 = .ok (.iconst 0, 1) := dk_3 (dk_at dksX8_term_1 20 rfl rfl)
theorem dX8_term_45 : decode cX8_term 45 = .ok (.invokevirtual 172, 3) := dk_182 0 172 (dk_at dksX8_term_1 21 rfl rfl)
theorem dX8_term_48 : decode cX8_term 48 = .ok (.istore_n 3, 1) := dk_62 (dk_at dksX8_term_2 0 rfl rfl)
theorem dX8_term_49 : decode cX8_term 49 = .ok (.aload_n 0, 1) := dk_42 (dk_at dksX8_term_2 1 rfl rfl)
theorem dX8_term_50 : decode cX8_term 50 = .ok (.iload_n 3, 1) := dk_29 (dk_at dksX8_term_2 2 rfl rfl)
theorem dX8_term_51 : decode cX8_term 51 = .ok (.iload_n 2, 1) := dk_28 (dk_at dksX8_term_2 3 rfl rfl)
theorem dX8_term_52 : decode cX8_term 52 = .ok (.invokevirtual 185, 3) := dk_182 0 185 (dk_at dksX8_term_2 4 rfl rfl)
theorem dX8_term_55 : decode cX8_term 55 = .ok (.aload_n 0, 1) := dk_42 (dk_at dksX8_term_2 7 rfl rfl)
theorem dX8_term_56 : decode cX8_term 56 = .ok (.invokevirtual 162, 3) := dk_182 0 162 (dk_at dksX8_term_2 8 rfl rfl)
theorem dX8_term_59 : decode cX8_term 59 = .ok (.bipush 42, 2) := dk_16 42 (dk_at dksX8_term_2 11 rfl rfl)
theorem dX8_term_61 : decode cX8_term 61 = .ok (.if_icmp .eq 21, 3) := dk_159 0 21 (dk_at dksX8_term_2 13 rfl rfl)
theorem dX8_term_64 : decode cX8_term 64 = .ok (.aload_n 0, 1) := dk_42 (dk_at dksX8_term_2 16 rfl rfl)
theorem dX8_term_65 : decode cX8_term 65 = .ok (.invokevirtual 162, 3) := dk_182 0 162 (dk_at dksX8_term_2 17 rfl rfl)
theorem dX8_term_68 : decode cX8_term 68 = .ok (.bipush 47, 2) := dk_16 47 (dk_at dksX8_term_2 20 rfl rfl)
theorem dX8_term_70 : decode cX8_term 70 = .ok (.if_icmp .eq 12, 3) := dk_159 0 12 (dk_at dksX8_term_3 0 rfl rfl)
theorem dX8_term_73 : decode cX8_term 73 = .ok (.aload_n 0, 1) := dk_42 (dk_at dksX8_term_3 3 rfl rfl)
theorem dX8_term_74 : decode cX8_term 74 = .ok (.invokevirtual 162, 3) := dk_182 0 162 (dk_at dksX8_term_3 4 rfl rfl)
theorem dX8_term_77 : decode cX8_term 77 = .ok (.bipush 37, 2) := dk_16 37 (dk_at dksX8_term_3 7 rfl rfl)
theorem dX8_term_79 : decode cX8_term 79 = .ok (.if_icmp .ne 89, 3) := dk_160 0 89 (dk_at dksX8_term_3 9 rfl rfl)
theorem dX8_term_82 : decode cX8_term 82 = .ok (.aload_n 0, 1) := dk_42 (dk_at dksX8_term_3 12 rfl rfl)
theorem dX8_term_83 : decode cX8_term 83 = .ok (.aload_n 0, 1) := dk_42 (dk_at dksX8_term_3 13 rfl rfl)
theorem dX8_term_84 : decode cX8_term 84 = .ok (.invokevirtual 162, 3) := dk_182 0 162 (dk_at dksX8_term_3 14 rfl rfl)
theorem dX8_term_87 : decode cX8_term 87 = .ok (.bipush 42, 2) := dk_16 42 (dk_at dksX8_term_3 17 rfl rfl)
theorem dX8_term_89 : decode cX8_term 89 = .ok (.if_icmp .ne 8, 3) := dk_160 0 8 (dk_at dksX8_term_3 19 rfl rfl)
theorem dX8_term_92 : decode cX8_term 92 = .ok (.bipush 21, 2) := dk_16 21 (dk_at dksX8_term_3 22 rfl rfl)
theorem dX8_term_94 : decode cX8_term 94 = .ok (.goto 19, 3) := dk_167 0 19 (dk_at dksX8_term_4 0 rfl rfl)
theorem dX8_term_97 : decode cX8_term 97 = .ok (.aload_n 0, 1) := dk_42 (dk_at dksX8_term_4 3 rfl rfl)
theorem dX8_term_98 : decode cX8_term 98 = .ok (.invokevirtual 162, 3) := dk_182 0 162 (dk_at dksX8_term_4 4 rfl rfl)
theorem dX8_term_101 : decode cX8_term 101 = .ok (.bipush 47, 2) := dk_16 47 (dk_at dksX8_term_4 7 rfl rfl)
theorem dX8_term_103 : decode cX8_term 103 = .ok (.if_icmp .ne 8, 3) := dk_160 0 8 (dk_at dksX8_term_4 9 rfl rfl)
theorem dX8_term_106 : decode cX8_term 106 = .ok (.bipush 22, 2) := dk_16 22 (dk_at dksX8_term_4 12 rfl rfl)
theorem dX8_term_108 : decode cX8_term 108 = .ok (.goto 5, 3) := dk_167 0 5 (dk_at dksX8_term_4 14 rfl rfl)
theorem dX8_term_111 : decode cX8_term 111 = .ok (.bipush 23, 2) := dk_16 23 (dk_at dksX8_term_4 17 rfl rfl)
theorem dX8_term_113 : decode cX8_term 113 = .ok (.aload_n 0, 1) := dk_42 (dk_at dksX8_term_4 19 rfl rfl)
theorem dX8_term_114 : decode cX8_term 114 = .ok (.getfield 22, 3) := dk_180 0 22 (dk_at dksX8_term_4 20 rfl rfl)
theorem dX8_term_117 : decode cX8_term 117 = .ok (.aload_n 0, 1) := dk_42 (dk_at dksX8_term_4 23 rfl rfl)
theorem dX8_term_118 : decode cX8_term 118 = .ok (.getfield 159, 3) := dk_180 0 159 (dk_at dksX8_term_5 0 rfl rfl)
theorem dX8_term_121 : decode cX8_term 121 = .ok (.iaload, 1) := dk_46 (dk_at dksX8_term_5 3 rfl rfl)
theorem dX8_term_122 : decode cX8_term 122 = .ok (.iconst 0, 1) := dk_3 (dk_at dksX8_term_5 4 rfl rfl)
theorem dX8_term_123 : decode cX8_term 123 = .ok (.invokevirtual 172, 3) := dk_182 0 172 (dk_at dksX8_term_5 5 rfl rfl)
theorem dX8_term_126 : decode cX8_term 126 = .ok (.istore 4, 2) := dk_54 4 (dk_at dksX8_term_5 8 rfl rfl)
theorem dX8_term_128 : decode cX8_term 128 = .ok (.aload_n 0, 1) := dk_42 (dk_at dksX8_term_5 10 rfl rfl)
theorem dX8_term_129 : decode cX8_term 129 = .ok (.aload_n 0, 1) := dk_42 (dk_at dksX8_term_5 11 rfl rfl)
theorem dX8_term_130 : decode cX8_term 130 = .ok (.invokevirtual 162, 3) := dk_182 0 162 (dk_at dksX8_term_5 12 rfl rfl)
theorem dX8_term_133 : decode cX8_term 133 = .ok (.invokevirtual 176, 3) := dk_182 0 176 (dk_at dksX8_term_5 15 rfl rfl)
theorem dX8_term_136 : decode cX8_term 136 = .ok (.aload_n 0, 1) := dk_42 (dk_at dksX8_term_5 18 rfl rfl)
theorem dX8_term_137 : decode cX8_term 137 = .ok (.iload 4, 2) := dk_21 4 (dk_at dksX8_term_5 19 rfl rfl)
theorem dX8_term_139 : decode cX8_term 139 = .ok (.aload_n 0, 1) := dk_42 (dk_at dksX8_term_5 21 rfl rfl)
theorem dX8_term_140 : decode cX8_term 140 = .ok (.getfield 155, 3) := dk_180 0 155 (dk_at dksX8_term_6 0 rfl rfl)
theorem dX8_term_143 : decode cX8_term 143 = .ok (.ifCond .eq 7, 3) := dk_153 0 7 (dk_at dksX8_term_6 3 rfl rfl)
theorem dX8_term_146 : decode cX8_term 146 = .ok (.iconst (-1), 1) := dk_2 (dk_at dksX8_term_6 6 rfl rfl)
theorem dX8_term_147 : decode cX8_term 147 = .ok (.goto 8, 3) := dk_167 0 8 (dk_at dksX8_term_6 7 rfl rfl)
theorem dX8_term_150 : decode cX8_term 150 = .ok (.aload_n 0, 1) := dk_42 (dk_at dksX8_term_6 10 rfl rfl)
theorem dX8_term_151 : decode cX8_term 151 = .ok (.iload_n 1, 1) := dk_27 (dk_at dksX8_term_6 11 rfl rfl)
theorem dX8_term_152 : decode cX8_term 152 = .ok (.invokevirtual 189, 3) := dk_182 0 189 (dk_at dksX8_term_6 12 rfl rfl)
theorem dX8_term_155 : decode cX8_term 155 = .ok (.invokevirtual 185, 3) := dk_182 0 185 (dk_at dksX8_term_6 15 rfl rfl)
theorem dX8_term_158 : decode cX8_term 158 = .ok (.aload_n 0, 1) := dk_42 (dk_at dksX8_term_6 18 rfl rfl)
theorem dX8_term_159 : decode cX8_term 159 = .ok (.iload_n 3, 1) := dk_29 (dk_at dksX8_term_6 19 rfl rfl)
theorem dX8_term_160 : decode cX8_term 160 = .ok (.iload 4, 2) := dk_21 4 (dk_at dksX8_term_6 20 rfl rfl)
theorem dX8_term_162 : decode cX8_term 162 = .ok (.invokevirtual 185, 3) := dk_182 0 185 (dk_at dksX8_term_7 0 rfl rfl)
theorem dX8_term_165 : decode cX8_term 165 = .ok (.goto (-110), 3) := dk_167 255 146 (dk_at dksX8_term_7 3 rfl rfl)
theorem dX8_term_168 : decode cX8_term 168 = .ok (.iload_n 3, 1) := dk_29 (dk_at dksX8_term_7 6 rfl rfl)
theorem dX8_term_169 : decode cX8_term 169 = .ok (.ireturn, 1) := dk_172 (dk_at dksX8_term_7 7 rfl rfl)
abbrev cX8_factor : ByteArray := prog_10_method_23_code
def yX8_factor : MethodName := ⟨RX8, "factor", "(I)I"⟩
def dkwX8_factor_11 : List UInt8 := [153, 0, 7, 2, 167, 0, 10, 42, 27, 4, 96, 182, 0, 199, 62, 42, 16, 41, 182, 0, 176, 29, 172]
abbrev dktX8_factor_11 : List UInt8 := dkwX8_factor_11 ++ []
def dkwX8_factor_10 : List UInt8 := [182, 0, 192, 182, 0, 185, 42, 16, 41, 182, 0, 176, 29, 172, 42, 16, 40, 182, 0, 176, 42, 180, 0, 155]
abbrev dktX8_factor_10 : List UInt8 := dkwX8_factor_10 ++ dktX8_factor_11
def dkwX8_factor_9 : List UInt8 := [182, 0, 176, 42, 29, 42, 4, 182, 0, 192, 182, 0, 185, 42, 16, 44, 182, 0, 176, 42, 29, 42, 4]
abbrev dktX8_factor_9 : List UInt8 := dkwX8_factor_9 ++ dktX8_factor_10
def dkwX8_factor_8 : List UInt8 := [3, 182, 0, 172, 62, 42, 17, 1, 51, 182, 0, 176, 42, 182, 0, 162, 16, 40, 160, 0, 41, 42, 16, 40]
abbrev dktX8_factor_8 : List UInt8 := dkwX8_factor_8 ++ dktX8_factor_9
def dkwX8_factor_7 : List UInt8 := [182, 0, 185, 29, 172, 28, 17, 1, 51, 160, 0, 76, 42, 16, 16, 42, 180, 0, 22, 42, 180, 0, 159, 46]
abbrev dktX8_factor_7 : List UInt8 := dkwX8_factor_7 ++ dktX8_factor_8
def dkwX8_factor_6 : List UInt8 := [182, 0, 179, 42, 29, 42, 180, 0, 155, 153, 0, 7, 2, 167, 0, 10, 42, 27, 4, 96, 182, 0, 189]
abbrev dktX8_factor_6 : List UInt8 := dkwX8_factor_6 ++ dktX8_factor_7
def dkwX8_factor_5 : List UInt8 := [180, 0, 22, 42, 180, 0, 159, 46, 3, 182, 0, 172, 62, 42, 16, 45, 182, 0, 176, 42, 27, 4, 96]
abbrev dktX8_factor_5 : List UInt8 := dkwX8_factor_5 ++ dktX8_factor_6
def dkwX8_factor_4 : List UInt8 := [182, 0, 185, 42, 16, 93, 182, 0, 176, 21, 5, 172, 28, 16, 45, 160, 0, 58, 42, 16, 15, 42]
abbrev dktX8_factor_4 : List UInt8 := dkwX8_factor_4 ++ dktX8_factor_5
def dkwX8_factor_3 : List UInt8 := [182, 0, 176, 42, 21, 5, 42, 180, 0, 155, 153, 0, 7, 2, 167, 0, 10, 42, 27, 4, 96, 182, 0, 199]
abbrev dktX8_factor_3 : List UInt8 := dkwX8_factor_3 ++ dktX8_factor_4
def dkwX8_factor_2 : List UInt8 := [21, 4, 172, 42, 16, 14, 29, 3, 182, 0, 172, 54, 5, 42, 21, 5, 21, 4, 182, 0, 185, 42, 16, 91]
abbrev dktX8_factor_2 : List UInt8 := dkwX8_factor_2 ++ dktX8_factor_3
def dkwX8_factor_1 : List UInt8 := [180, 0, 22, 42, 180, 0, 159, 46, 62, 42, 182, 0, 196, 54, 4, 42, 182, 0, 162, 16, 91, 159, 0, 6]
abbrev dktX8_factor_1 : List UInt8 := dkwX8_factor_1 ++ dktX8_factor_2
def dkwX8_factor_0 : List UInt8 := [42, 182, 0, 162, 61, 28, 6, 160, 0, 9, 42, 3, 182, 0, 192, 172, 28, 5, 160, 0, 88, 42]
abbrev dktX8_factor_0 : List UInt8 := dkwX8_factor_0 ++ dktX8_factor_1
theorem dksX8_factor_0 : cX8_factor.data.toList.drop 0 = dktX8_factor_0 := by decide +kernel
theorem dksX8_factor_1 : cX8_factor.data.toList.drop 22 = dktX8_factor_1 := dk_seg dksX8_factor_0 22 rfl rfl
theorem dksX8_factor_2 : cX8_factor.data.toList.drop 46 = dktX8_factor_2 := dk_seg dksX8_factor_1 24 rfl rfl
theorem dksX8_factor_3 : cX8_factor.data.toList.drop 70 = dktX8_factor_3 := dk_seg dksX8_factor_2 24 rfl rfl
theorem dksX8_factor_4 : cX8_factor.data.toList.drop 94 = dktX8_factor_4 := dk_seg dksX8_factor_3 24 rfl rfl
theorem dksX8_factor_5 : cX8_factor.data.toList.drop 116 = dktX8_factor_5 := dk_seg dksX8_factor_4 22 rfl rfl
theorem dksX8_factor_6 : cX8_factor.data.toList.drop 139 = dktX8_factor_6 := dk_seg dksX8_factor_5 23 rfl rfl
theorem dksX8_factor_7 : cX8_factor.data.toList.drop 162 = dktX8_factor_7 := dk_seg dksX8_factor_6 23 rfl rfl
theorem dksX8_factor_8 : cX8_factor.data.toList.drop 186 = dktX8_factor_8 := dk_seg dksX8_factor_7 24 rfl rfl
theorem dksX8_factor_9 : cX8_factor.data.toList.drop 210 = dktX8_factor_9 := dk_seg dksX8_factor_8 24 rfl rfl
theorem dksX8_factor_10 : cX8_factor.data.toList.drop 233 = dktX8_factor_10 := dk_seg dksX8_factor_9 23 rfl rfl
theorem dksX8_factor_11 : cX8_factor.data.toList.drop 257 = dktX8_factor_11 := dk_seg dksX8_factor_10 24 rfl rfl
theorem dX8_factor_0 : decode cX8_factor 0 = .ok (.aload_n 0, 1) := dk_42 (dk_at dksX8_factor_0 0 rfl rfl)
theorem dX8_factor_1 : decode cX8_factor 1 = .ok (.invokevirtual 162, 3) := dk_182 0 162 (dk_at dksX8_factor_0 1 rfl rfl)
theorem dX8_factor_4 : decode cX8_factor 4 = .ok (.istore_n 2, 1) := dk_61 (dk_at dksX8_factor_0 4 rfl rfl)
theorem dX8_factor_5 : decode cX8_factor 5 = .ok (.iload_n 2, 1) := dk_28 (dk_at dksX8_factor_0 5 rfl rfl)
theorem dX8_factor_6 : decode cX8_factor 6 = .ok (.iconst 3, 1) := dk_6 (dk_at dksX8_factor_0 6 rfl rfl)
theorem dX8_factor_7 : decode cX8_factor 7 = .ok (.if_icmp .ne 9, 3) := dk_160 0 9 (dk_at dksX8_factor_0 7 rfl rfl)
theorem dX8_factor_10 : decode cX8_factor 10 = .ok (.aload_n 0, 1) := dk_42 (dk_at dksX8_factor_0 10 rfl rfl)
theorem dX8_factor_11 : decode cX8_factor 11 = .ok (.iconst 0, 1) := dk_3 (dk_at dksX8_factor_0 11 rfl rfl)
theorem dX8_factor_12 : decode cX8_factor 12 = .ok (.invokevirtual 192, 3) := dk_182 0 192 (dk_at dksX8_factor_0 12 rfl rfl)
theorem dX8_factor_15 : decode cX8_factor 15 = .ok (.ireturn, 1) := dk_172 (dk_at dksX8_factor_0 15 rfl rfl)
theorem dX8_factor_16 : decode cX8_factor 16 = .ok (.iload_n 2, 1) := dk_28 (dk_at dksX8_factor_0 16 rfl rfl)
theorem dX8_factor_17 : decode cX8_factor 17 = .ok (.iconst 2, 1) := dk_5 (dk_at dksX8_factor_0 17 rfl rfl)
theorem dX8_factor_18 : decode cX8_factor 18 = .ok (.if_icmp .ne 88, 3) := dk_160 0 88 (dk_at dksX8_factor_0 18 rfl rfl)
theorem dX8_factor_21 : decode cX8_factor 21 = .ok (.aload_n 0, 1) := dk_42 (dk_at dksX8_factor_0 21 rfl rfl)
theorem dX8_factor_22 : decode cX8_factor 22 = .ok (.getfield 22, 3) := dk_180 0 22 (dk_at dksX8_factor_1 0 rfl rfl)
theorem dX8_factor_25 : decode cX8_factor 25 = .ok (.aload_n 0, 1) := dk_42 (dk_at dksX8_factor_1 3 rfl rfl)
theorem dX8_factor_26 : decode cX8_factor 26 = .ok (.getfield 159, 3) := dk_180 0 159 (dk_at dksX8_factor_1 4 rfl rfl)
theorem dX8_factor_29 : decode cX8_factor 29 = .ok (.iaload, 1) := dk_46 (dk_at dksX8_factor_1 7 rfl rfl)
theorem dX8_factor_30 : decode cX8_factor 30 = .ok (.istore_n 3, 1) := dk_62 (dk_at dksX8_factor_1 8 rfl rfl)
theorem dX8_factor_31 : decode cX8_factor 31 = .ok (.aload_n 0, 1) := dk_42 (dk_at dksX8_factor_1 9 rfl rfl)
theorem dX8_factor_32 : decode cX8_factor 32 = .ok (.invokevirtual 196, 3) := dk_182 0 196 (dk_at dksX8_factor_1 10 rfl rfl)
theorem dX8_factor_35 : decode cX8_factor 35 = .ok (.istore 4, 2) := dk_54 4 (dk_at dksX8_factor_1 13 rfl rfl)
theorem dX8_factor_37 : decode cX8_factor 37 = .ok (.aload_n 0, 1) := dk_42 (dk_at dksX8_factor_1 15 rfl rfl)
theorem dX8_factor_38 : decode cX8_factor 38 = .ok (.invokevirtual 162, 3) := dk_182 0 162 (dk_at dksX8_factor_1 16 rfl rfl)
theorem dX8_factor_41 : decode cX8_factor 41 = .ok (.bipush 91, 2) := dk_16 91 (dk_at dksX8_factor_1 19 rfl rfl)
theorem dX8_factor_43 : decode cX8_factor 43 = .ok (.if_icmp .eq 6, 3) := dk_159 0 6 (dk_at dksX8_factor_1 21 rfl rfl)
theorem dX8_factor_46 : decode cX8_factor 46 = .ok (.iload 4, 2) := dk_21 4 (dk_at dksX8_factor_2 0 rfl rfl)
theorem dX8_factor_48 : decode cX8_factor 48 = .ok (.ireturn, 1) := dk_172 (dk_at dksX8_factor_2 2 rfl rfl)
theorem dX8_factor_49 : decode cX8_factor 49 = .ok (.aload_n 0, 1) := dk_42 (dk_at dksX8_factor_2 3 rfl rfl)
theorem dX8_factor_50 : decode cX8_factor 50 = .ok (.bipush 14, 2) := dk_16 14 (dk_at dksX8_factor_2 4 rfl rfl)
theorem dX8_factor_52 : decode cX8_factor 52 = .ok (.iload_n 3, 1) := dk_29 (dk_at dksX8_factor_2 6 rfl rfl)
theorem dX8_factor_53 : decode cX8_factor 53 = .ok (.iconst 0, 1) := dk_3 (dk_at dksX8_factor_2 7 rfl rfl)
theorem dX8_factor_54 : decode cX8_factor 54 = .ok (.invokevirtual 172, 3) := dk_182 0 172 (dk_at dksX8_factor_2 8 rfl rfl)
theorem dX8_factor_57 : decode cX8_factor 57 = .ok (.istore 5, 2) := dk_54 5 (dk_at dksX8_factor_2 11 rfl rfl)
theorem dX8_factor_59 : decode cX8_factor 59 = .ok (.aload_n 0, 1) := dk_42 (dk_at dksX8_factor_2 13 rfl rfl)
theorem dX8_factor_60 : decode cX8_factor 60 = .ok (.iload 5, 2) := dk_21 5 (dk_at dksX8_factor_2 14 rfl rfl)
theorem dX8_factor_62 : decode cX8_factor 62 = .ok (.iload 4, 2) := dk_21 4 (dk_at dksX8_factor_2 16 rfl rfl)
theorem dX8_factor_64 : decode cX8_factor 64 = .ok (.invokevirtual 185, 3) := dk_182 0 185 (dk_at dksX8_factor_2 18 rfl rfl)
theorem dX8_factor_67 : decode cX8_factor 67 = .ok (.aload_n 0, 1) := dk_42 (dk_at dksX8_factor_2 21 rfl rfl)
theorem dX8_factor_68 : decode cX8_factor 68 = .ok (.bipush 91, 2) := dk_16 91 (dk_at dksX8_factor_2 22 rfl rfl)
theorem dX8_factor_70 : decode cX8_factor 70 = .ok (.invokevirtual 176, 3) := dk_182 0 176 (dk_at dksX8_factor_3 0 rfl rfl)
theorem dX8_factor_73 : decode cX8_factor 73 = .ok (.aload_n 0, 1) := dk_42 (dk_at dksX8_factor_3 3 rfl rfl)
theorem dX8_factor_74 : decode cX8_factor 74 = .ok (.iload 5, 2) := dk_21 5 (dk_at dksX8_factor_3 4 rfl rfl)
theorem dX8_factor_76 : decode cX8_factor 76 = .ok (.aload_n 0, 1) := dk_42 (dk_at dksX8_factor_3 6 rfl rfl)
theorem dX8_factor_77 : decode cX8_factor 77 = .ok (.getfield 155, 3) := dk_180 0 155 (dk_at dksX8_factor_3 7 rfl rfl)
theorem dX8_factor_80 : decode cX8_factor 80 = .ok (.ifCond .eq 7, 3) := dk_153 0 7 (dk_at dksX8_factor_3 10 rfl rfl)
theorem dX8_factor_83 : decode cX8_factor 83 = .ok (.iconst (-1), 1) := dk_2 (dk_at dksX8_factor_3 13 rfl rfl)
theorem dX8_factor_84 : decode cX8_factor 84 = .ok (.goto 10, 3) := dk_167 0 10 (dk_at dksX8_factor_3 14 rfl rfl)
theorem dX8_factor_87 : decode cX8_factor 87 = .ok (.aload_n 0, 1) := dk_42 (dk_at dksX8_factor_3 17 rfl rfl)
theorem dX8_factor_88 : decode cX8_factor 88 = .ok (.iload_n 1, 1) := dk_27 (dk_at dksX8_factor_3 18 rfl rfl)
theorem dX8_factor_89 : decode cX8_factor 89 = .ok (.iconst 1, 1) := dk_4 (dk_at dksX8_factor_3 19 rfl rfl)
theorem dX8_factor_90 : decode cX8_factor 90 = .ok (.iadd, 1) := dk_96 (dk_at dksX8_factor_3 20 rfl rfl)
theorem dX8_factor_91 : decode cX8_factor 91 = .ok (.invokevirtual 199, 3) := dk_182 0 199 (dk_at dksX8_factor_3 21 rfl rfl)
theorem dX8_factor_94 : decode cX8_factor 94 = .ok (.invokevirtual 185, 3) := dk_182 0 185 (dk_at dksX8_factor_4 0 rfl rfl)
theorem dX8_factor_97 : decode cX8_factor 97 = .ok (.aload_n 0, 1) := dk_42 (dk_at dksX8_factor_4 3 rfl rfl)
theorem dX8_factor_98 : decode cX8_factor 98 = .ok (.bipush 93, 2) := dk_16 93 (dk_at dksX8_factor_4 4 rfl rfl)
theorem dX8_factor_100 : decode cX8_factor 100 = .ok (.invokevirtual 176, 3) := dk_182 0 176 (dk_at dksX8_factor_4 6 rfl rfl)
theorem dX8_factor_103 : decode cX8_factor 103 = .ok (.iload 5, 2) := dk_21 5 (dk_at dksX8_factor_4 9 rfl rfl)
theorem dX8_factor_105 : decode cX8_factor 105 = .ok (.ireturn, 1) := dk_172 (dk_at dksX8_factor_4 11 rfl rfl)
theorem dX8_factor_106 : decode cX8_factor 106 = .ok (.iload_n 2, 1) := dk_28 (dk_at dksX8_factor_4 12 rfl rfl)
theorem dX8_factor_107 : decode cX8_factor 107 = .ok (.bipush 45, 2) := dk_16 45 (dk_at dksX8_factor_4 13 rfl rfl)
theorem dX8_factor_109 : decode cX8_factor 109 = .ok (.if_icmp .ne 58, 3) := dk_160 0 58 (dk_at dksX8_factor_4 15 rfl rfl)
theorem dX8_factor_112 : decode cX8_factor 112 = .ok (.aload_n 0, 1) := dk_42 (dk_at dksX8_factor_4 18 rfl rfl)
theorem dX8_factor_113 : decode cX8_factor 113 = .ok (.bipush 15, 2) := dk_16 15 (dk_at dksX8_factor_4 19 rfl rfl)
theorem dX8_factor_115 : decode cX8_factor 115 = .ok (.aload_n 0, 1) := dk_42 (dk_at dksX8_factor_4 21 rfl rfl)
theorem dX8_factor_116 : decode cX8_factor 116 = .ok (.getfield 22, 3) := dk_180 0 22 (dk_at dksX8_factor_5 0 rfl rfl)
theorem dX8_factor_119 : decode cX8_factor 119 = .ok (.aload_n 0, 1) := dk_42 (dk_at dksX8_factor_5 3 rfl rfl)
theorem dX8_factor_120 : decode cX8_factor 120 = .ok (.getfield 159, 3) := dk_180 0 159 (dk_at dksX8_factor_5 4 rfl rfl)
theorem dX8_factor_123 : decode cX8_factor 123 = .ok (.iaload, 1) := dk_46 (dk_at dksX8_factor_5 7 rfl rfl)
theorem dX8_factor_124 : decode cX8_factor 124 = .ok (.iconst 0, 1) := dk_3 (dk_at dksX8_factor_5 8 rfl rfl)
theorem dX8_factor_125 : decode cX8_factor 125 = .ok (.invokevirtual 172, 3) := dk_182 0 172 (dk_at dksX8_factor_5 9 rfl rfl)
theorem dX8_factor_128 : decode cX8_factor 128 = .ok (.istore_n 3, 1) := dk_62 (dk_at dksX8_factor_5 12 rfl rfl)
theorem dX8_factor_129 : decode cX8_factor 129 = .ok (.aload_n 0, 1) := dk_42 (dk_at dksX8_factor_5 13 rfl rfl)
theorem dX8_factor_130 : decode cX8_factor 130 = .ok (.bipush 45, 2) := dk_16 45 (dk_at dksX8_factor_5 14 rfl rfl)
theorem dX8_factor_132 : decode cX8_factor 132 = .ok (.invokevirtual 176, 3) := dk_182 0 176 (dk_at dksX8_factor_5 16 rfl rfl)
theorem dX8_factor_135 : decode cX8_factor 135 = .ok (.aload_n 0, 1) := dk_42 (dk_at dksX8_factor_5 19 rfl rfl)
theorem dX8_factor_136 : decode cX8_factor 136 = .ok (.iload_n 1, 1) := dk_27 (dk_at dksX8_factor_5 20 rfl rfl)
theorem dX8_factor_137 : decode cX8_factor 137 = .ok (.iconst 1, 1) := dk_4 (dk_at dksX8_factor_5 21 rfl rfl)
theorem dX8_factor_138 : decode cX8_factor 138 = .ok (.iadd, 1) := dk_96 (dk_at dksX8_factor_5 22 rfl rfl)
theorem dX8_factor_139 : decode cX8_factor 139 = .ok (.invokevirtual 179, 3) := dk_182 0 179 (dk_at dksX8_factor_6 0 rfl rfl)
theorem dX8_factor_142 : decode cX8_factor 142 = .ok (.aload_n 0, 1) := dk_42 (dk_at dksX8_factor_6 3 rfl rfl)
theorem dX8_factor_143 : decode cX8_factor 143 = .ok (.iload_n 3, 1) := dk_29 (dk_at dksX8_factor_6 4 rfl rfl)
theorem dX8_factor_144 : decode cX8_factor 144 = .ok (.aload_n 0, 1) := dk_42 (dk_at dksX8_factor_6 5 rfl rfl)
theorem dX8_factor_145 : decode cX8_factor 145 = .ok (.getfield 155, 3) := dk_180 0 155 (dk_at dksX8_factor_6 6 rfl rfl)
theorem dX8_factor_148 : decode cX8_factor 148 = .ok (.ifCond .eq 7, 3) := dk_153 0 7 (dk_at dksX8_factor_6 9 rfl rfl)
theorem dX8_factor_151 : decode cX8_factor 151 = .ok (.iconst (-1), 1) := dk_2 (dk_at dksX8_factor_6 12 rfl rfl)
theorem dX8_factor_152 : decode cX8_factor 152 = .ok (.goto 10, 3) := dk_167 0 10 (dk_at dksX8_factor_6 13 rfl rfl)
theorem dX8_factor_155 : decode cX8_factor 155 = .ok (.aload_n 0, 1) := dk_42 (dk_at dksX8_factor_6 16 rfl rfl)
theorem dX8_factor_156 : decode cX8_factor 156 = .ok (.iload_n 1, 1) := dk_27 (dk_at dksX8_factor_6 17 rfl rfl)
theorem dX8_factor_157 : decode cX8_factor 157 = .ok (.iconst 1, 1) := dk_4 (dk_at dksX8_factor_6 18 rfl rfl)
theorem dX8_factor_158 : decode cX8_factor 158 = .ok (.iadd, 1) := dk_96 (dk_at dksX8_factor_6 19 rfl rfl)
theorem dX8_factor_159 : decode cX8_factor 159 = .ok (.invokevirtual 189, 3) := dk_182 0 189 (dk_at dksX8_factor_6 20 rfl rfl)
theorem dX8_factor_162 : decode cX8_factor 162 = .ok (.invokevirtual 185, 3) := dk_182 0 185 (dk_at dksX8_factor_7 0 rfl rfl)
theorem dX8_factor_165 : decode cX8_factor 165 = .ok (.iload_n 3, 1) := dk_29 (dk_at dksX8_factor_7 3 rfl rfl)
theorem dX8_factor_166 : decode cX8_factor 166 = .ok (.ireturn, 1) := dk_172 (dk_at dksX8_factor_7 4 rfl rfl)
theorem dX8_factor_167 : decode cX8_factor 167 = .ok (.iload_n 2, 1) := dk_28 (dk_at dksX8_factor_7 5 rfl rfl)
theorem dX8_factor_168 : decode cX8_factor 168 = .ok (.sipush 307, 3) := dk_17 1 51 (dk_at dksX8_factor_7 6 rfl rfl)
theorem dX8_factor_171 : decode cX8_factor 171 = .ok (.if_icmp .ne 76, 3) := dk_160 0 76 (dk_at dksX8_factor_7 9 rfl rfl)
theorem dX8_factor_174 : decode cX8_factor 174 = .ok (.aload_n 0, 1) := dk_42 (dk_at dksX8_factor_7 12 rfl rfl)
theorem dX8_factor_175 : decode cX8_factor 175 = .ok (.bipush 16, 2) := dk_16 16 (dk_at dksX8_factor_7 13 rfl rfl)
theorem dX8_factor_177 : decode cX8_factor 177 = .ok (.aload_n 0, 1) := dk_42 (dk_at dksX8_factor_7 15 rfl rfl)
theorem dX8_factor_178 : decode cX8_factor 178 = .ok (.getfield 22, 3) := dk_180 0 22 (dk_at dksX8_factor_7 16 rfl rfl)
theorem dX8_factor_181 : decode cX8_factor 181 = .ok (.aload_n 0, 1) := dk_42 (dk_at dksX8_factor_7 19 rfl rfl)
theorem dX8_factor_182 : decode cX8_factor 182 = .ok (.getfield 159, 3) := dk_180 0 159 (dk_at dksX8_factor_7 20 rfl rfl)
theorem dX8_factor_185 : decode cX8_factor 185 = .ok (.iaload, 1) := dk_46 (dk_at dksX8_factor_7 23 rfl rfl)
theorem dX8_factor_186 : decode cX8_factor 186 = .ok (.iconst 0, 1) := dk_3 (dk_at dksX8_factor_8 0 rfl rfl)
theorem dX8_factor_187 : decode cX8_factor 187 = .ok (.invokevirtual 172, 3) := dk_182 0 172 (dk_at dksX8_factor_8 1 rfl rfl)
theorem dX8_factor_190 : decode cX8_factor 190 = .ok (.istore_n 3, 1) := dk_62 (dk_at dksX8_factor_8 4 rfl rfl)
theorem dX8_factor_191 : decode cX8_factor 191 = .ok (.aload_n 0, 1) := dk_42 (dk_at dksX8_factor_8 5 rfl rfl)
theorem dX8_factor_192 : decode cX8_factor 192 = .ok (.sipush 307, 3) := dk_17 1 51 (dk_at dksX8_factor_8 6 rfl rfl)
theorem dX8_factor_195 : decode cX8_factor 195 = .ok (.invokevirtual 176, 3) := dk_182 0 176 (dk_at dksX8_factor_8 9 rfl rfl)
theorem dX8_factor_198 : decode cX8_factor 198 = .ok (.aload_n 0, 1) := dk_42 (dk_at dksX8_factor_8 12 rfl rfl)
theorem dX8_factor_199 : decode cX8_factor 199 = .ok (.invokevirtual 162, 3) := dk_182 0 162 (dk_at dksX8_factor_8 13 rfl rfl)
theorem dX8_factor_202 : decode cX8_factor 202 = .ok (.bipush 40, 2) := dk_16 40 (dk_at dksX8_factor_8 16 rfl rfl)
theorem dX8_factor_204 : decode cX8_factor 204 = .ok (.if_icmp .ne 41, 3) := dk_160 0 41 (dk_at dksX8_factor_8 18 rfl rfl)
theorem dX8_factor_207 : decode cX8_factor 207 = .ok (.aload_n 0, 1) := dk_42 (dk_at dksX8_factor_8 21 rfl rfl)
theorem dX8_factor_208 : decode cX8_factor 208 = .ok (.bipush 40, 2) := dk_16 40 (dk_at dksX8_factor_8 22 rfl rfl)
theorem dX8_factor_210 : decode cX8_factor 210 = .ok (.invokevirtual 176, 3) := dk_182 0 176 (dk_at dksX8_factor_9 0 rfl rfl)
theorem dX8_factor_213 : decode cX8_factor 213 = .ok (.aload_n 0, 1) := dk_42 (dk_at dksX8_factor_9 3 rfl rfl)
theorem dX8_factor_214 : decode cX8_factor 214 = .ok (.iload_n 3, 1) := dk_29 (dk_at dksX8_factor_9 4 rfl rfl)
theorem dX8_factor_215 : decode cX8_factor 215 = .ok (.aload_n 0, 1) := dk_42 (dk_at dksX8_factor_9 5 rfl rfl)
theorem dX8_factor_216 : decode cX8_factor 216 = .ok (.iconst 1, 1) := dk_4 (dk_at dksX8_factor_9 6 rfl rfl)
theorem dX8_factor_217 : decode cX8_factor 217 = .ok (.invokevirtual 192, 3) := dk_182 0 192 (dk_at dksX8_factor_9 7 rfl rfl)
theorem dX8_factor_220 : decode cX8_factor 220 = .ok (.invokevirtual 185, 3) := dk_182 0 185 (dk_at dksX8_factor_9 10 rfl rfl)
theorem dX8_factor_223 : decode cX8_factor 223 = .ok (.aload_n 0, 1) := dk_42 (dk_at dksX8_factor_9 13 rfl rfl)
theorem dX8_factor_224 : decode cX8_factor 224 = .ok (.bipush 44, 2) := dk_16 44 (dk_at dksX8_factor_9 14 rfl rfl)
theorem dX8_factor_226 : decode cX8_factor 226 = .ok (.invokevirtual 176, 3) := dk_182 0 176 (dk_at dksX8_factor_9 16 rfl rfl)
theorem dX8_factor_229 : decode cX8_factor 229 = .ok (.aload_n 0, 1) := dk_42 (dk_at dksX8_factor_9 19 rfl rfl)
theorem dX8_factor_230 : decode cX8_factor 230 = .ok (.iload_n 3, 1) := dk_29 (dk_at dksX8_factor_9 20 rfl rfl)
theorem dX8_factor_231 : decode cX8_factor 231 = .ok (.aload_n 0, 1) := dk_42 (dk_at dksX8_factor_9 21 rfl rfl)
theorem dX8_factor_232 : decode cX8_factor 232 = .ok (.iconst 1, 1) := dk_4 (dk_at dksX8_factor_9 22 rfl rfl)
theorem dX8_factor_233 : decode cX8_factor 233 = .ok (.invokevirtual 192, 3) := dk_182 0 192 (dk_at dksX8_factor_10 0 rfl rfl)
theorem dX8_factor_236 : decode cX8_factor 236 = .ok (.invokevirtual 185, 3) := dk_182 0 185 (dk_at dksX8_factor_10 3 rfl rfl)
theorem dX8_factor_239 : decode cX8_factor 239 = .ok (.aload_n 0, 1) := dk_42 (dk_at dksX8_factor_10 6 rfl rfl)
theorem dX8_factor_240 : decode cX8_factor 240 = .ok (.bipush 41, 2) := dk_16 41 (dk_at dksX8_factor_10 7 rfl rfl)
theorem dX8_factor_242 : decode cX8_factor 242 = .ok (.invokevirtual 176, 3) := dk_182 0 176 (dk_at dksX8_factor_10 9 rfl rfl)
theorem dX8_factor_245 : decode cX8_factor 245 = .ok (.iload_n 3, 1) := dk_29 (dk_at dksX8_factor_10 12 rfl rfl)
theorem dX8_factor_246 : decode cX8_factor 246 = .ok (.ireturn, 1) := dk_172 (dk_at dksX8_factor_10 13 rfl rfl)
theorem dX8_factor_247 : decode cX8_factor 247 = .ok (.aload_n 0, 1) := dk_42 (dk_at dksX8_factor_10 14 rfl rfl)
theorem dX8_factor_248 : decode cX8_factor 248 = .ok (.bipush 40, 2) := dk_16 40 (dk_at dksX8_factor_10 15 rfl rfl)
theorem dX8_factor_250 : decode cX8_factor 250 = .ok (.invokevirtual 176, 3) := dk_182 0 176 (dk_at dksX8_factor_10 17 rfl rfl)
theorem dX8_factor_253 : decode cX8_factor 253 = .ok (.aload_n 0, 1) := dk_42 (dk_at dksX8_factor_10 20 rfl rfl)
theorem dX8_factor_254 : decode cX8_factor 254 = .ok (.getfield 155, 3) := dk_180 0 155 (dk_at dksX8_factor_10 21 rfl rfl)
theorem dX8_factor_257 : decode cX8_factor 257 = .ok (.ifCond .eq 7, 3) := dk_153 0 7 (dk_at dksX8_factor_11 0 rfl rfl)
theorem dX8_factor_260 : decode cX8_factor 260 = .ok (.iconst (-1), 1) := dk_2 (dk_at dksX8_factor_11 3 rfl rfl)
theorem dX8_factor_261 : decode cX8_factor 261 = .ok (.goto 10, 3) := dk_167 0 10 (dk_at dksX8_factor_11 4 rfl rfl)
theorem dX8_factor_264 : decode cX8_factor 264 = .ok (.aload_n 0, 1) := dk_42 (dk_at dksX8_factor_11 7 rfl rfl)
theorem dX8_factor_265 : decode cX8_factor 265 = .ok (.iload_n 1, 1) := dk_27 (dk_at dksX8_factor_11 8 rfl rfl)
theorem dX8_factor_266 : decode cX8_factor 266 = .ok (.iconst 1, 1) := dk_4 (dk_at dksX8_factor_11 9 rfl rfl)
theorem dX8_factor_267 : decode cX8_factor 267 = .ok (.iadd, 1) := dk_96 (dk_at dksX8_factor_11 10 rfl rfl)
theorem dX8_factor_268 : decode cX8_factor 268 = .ok (.invokevirtual 199, 3) := dk_182 0 199 (dk_at dksX8_factor_11 11 rfl rfl)
theorem dX8_factor_271 : decode cX8_factor 271 = .ok (.istore_n 3, 1) := dk_62 (dk_at dksX8_factor_11 14 rfl rfl)
theorem dX8_factor_272 : decode cX8_factor 272 = .ok (.aload_n 0, 1) := dk_42 (dk_at dksX8_factor_11 15 rfl rfl)
theorem dX8_factor_273 : decode cX8_factor 273 = .ok (.bipush 41, 2) := dk_16 41 (dk_at dksX8_factor_11 16 rfl rfl)
theorem dX8_factor_275 : decode cX8_factor 275 = .ok (.invokevirtual 176, 3) := dk_182 0 176 (dk_at dksX8_factor_11 18 rfl rfl)
theorem dX8_factor_278 : decode cX8_factor 278 = .ok (.iload_n 3, 1) := dk_29 (dk_at dksX8_factor_11 21 rfl rfl)
theorem dX8_factor_279 : decode cX8_factor 279 = .ok (.ireturn, 1) := dk_172 (dk_at dksX8_factor_11 22 rfl rfl)
abbrev cX8_named : ByteArray := prog_10_method_30_code
def yX8_named : MethodName := ⟨RX8, "named", "(II)I"⟩
def dkwX8_named_11 : List UInt8 := [21, 4, 172]
abbrev dktX8_named_11 : List UInt8 := dkwX8_named_11 ++ []
def dkwX8_named_10 : List UInt8 := [21, 4, 42, 180, 0, 155, 153, 0, 7, 2, 167, 0, 10, 42, 28, 4, 96, 182, 0, 199, 182, 0, 185]
abbrev dktX8_named_10 : List UInt8 := dkwX8_named_10 ++ dktX8_named_11
def dkwX8_named_9 : List UInt8 := [182, 0, 220, 21, 4, 172, 42, 8, 27, 3, 182, 0, 172, 54, 4, 42, 21, 4, 29, 182, 0, 185, 42]
abbrev dktX8_named_9 : List UInt8 := dkwX8_named_9 ++ dktX8_named_10
def dkwX8_named_8 : List UInt8 := [54, 4, 42, 21, 4, 29, 182, 0, 185, 42, 21, 4, 42, 182, 0, 196, 182, 0, 185, 42, 21, 4, 28]
abbrev dktX8_named_8 : List UInt8 := dkwX8_named_8 ++ dktX8_named_9
def dkwX8_named_7 : List UInt8 := [180, 0, 19, 42, 180, 0, 159, 4, 96, 46, 16, 40, 160, 0, 40, 42, 16, 7, 27, 3, 182, 0, 172]
abbrev dktX8_named_7 : List UInt8 := dkwX8_named_7 ++ dktX8_named_8
def dkwX8_named_6 : List UInt8 := [182, 0, 199, 182, 0, 185, 21, 4, 172, 42, 16, 61, 182, 0, 176, 42, 182, 0, 162, 5, 160, 0, 56, 42]
abbrev dktX8_named_6 : List UInt8 := dkwX8_named_6 ++ dktX8_named_7
def dkwX8_named_5 : List UInt8 := [16, 61, 182, 0, 176, 42, 21, 4, 42, 180, 0, 155, 153, 0, 7, 2, 167, 0, 10, 42, 28, 4, 96]
abbrev dktX8_named_5 : List UInt8 := dkwX8_named_5 ++ dktX8_named_6
def dkwX8_named_4 : List UInt8 := [153, 0, 7, 2, 167, 0, 10, 42, 28, 4, 96, 182, 0, 199, 182, 0, 185, 42, 16, 93, 182, 0, 176, 42]
abbrev dktX8_named_4 : List UInt8 := dkwX8_named_4 ++ dktX8_named_5
def dkwX8_named_3 : List UInt8 := [54, 4, 42, 21, 4, 29, 182, 0, 185, 42, 16, 91, 182, 0, 176, 42, 21, 4, 42, 180, 0, 155]
abbrev dktX8_named_3 : List UInt8 := dkwX8_named_3 ++ dktX8_named_4
def dkwX8_named_2 : List UInt8 := [28, 182, 0, 220, 21, 4, 172, 42, 182, 0, 162, 16, 91, 160, 0, 89, 42, 16, 6, 27, 3, 182, 0, 172]
abbrev dktX8_named_2 : List UInt8 := dkwX8_named_2 ++ dktX8_named_3
def dkwX8_named_1 : List UInt8 := [42, 21, 4, 42, 16, 33, 27, 3, 182, 0, 172, 182, 0, 185, 42, 21, 4, 29, 182, 0, 185, 42, 21, 4]
abbrev dktX8_named_1 : List UInt8 := dkwX8_named_1 ++ dktX8_named_2
def dkwX8_named_0 : List UInt8 := [42, 182, 0, 196, 62, 42, 182, 0, 162, 16, 40, 160, 0, 44, 42, 16, 7, 27, 3, 182, 0, 172, 54, 4]
abbrev dktX8_named_0 : List UInt8 := dkwX8_named_0 ++ dktX8_named_1
theorem dksX8_named_0 : cX8_named.data.toList.drop 0 = dktX8_named_0 := by decide +kernel
theorem dksX8_named_1 : cX8_named.data.toList.drop 24 = dktX8_named_1 := dk_seg dksX8_named_0 24 rfl rfl
theorem dksX8_named_2 : cX8_named.data.toList.drop 48 = dktX8_named_2 := dk_seg dksX8_named_1 24 rfl rfl
theorem dksX8_named_3 : cX8_named.data.toList.drop 72 = dktX8_named_3 := dk_seg dksX8_named_2 24 rfl rfl
theorem dksX8_named_4 : cX8_named.data.toList.drop 94 = dktX8_named_4 := dk_seg dksX8_named_3 22 rfl rfl
theorem dksX8_named_5 : cX8_named.data.toList.drop 118 = dktX8_named_5 := dk_seg dksX8_named_4 24 rfl rfl
theorem dksX8_named_6 : cX8_named.data.toList.drop 141 = dktX8_named_6 := dk_seg dksX8_named_5 23 rfl rfl
theorem dksX8_named_7 : cX8_named.data.toList.drop 165 = dktX8_named_7 := dk_seg dksX8_named_6 24 rfl rfl
theorem dksX8_named_8 : cX8_named.data.toList.drop 188 = dktX8_named_8 := dk_seg dksX8_named_7 23 rfl rfl
theorem dksX8_named_9 : cX8_named.data.toList.drop 211 = dktX8_named_9 := dk_seg dksX8_named_8 23 rfl rfl
theorem dksX8_named_10 : cX8_named.data.toList.drop 234 = dktX8_named_10 := dk_seg dksX8_named_9 23 rfl rfl
theorem dksX8_named_11 : cX8_named.data.toList.drop 257 = dktX8_named_11 := dk_seg dksX8_named_10 23 rfl rfl
theorem dX8_named_0 : decode cX8_named 0 = .ok (.aload_n 0, 1) := dk_42 (dk_at dksX8_named_0 0 rfl rfl)
theorem dX8_named_1 : decode cX8_named 1 = .ok (.invokevirtual 196, 3) := dk_182 0 196 (dk_at dksX8_named_0 1 rfl rfl)
theorem dX8_named_4 : decode cX8_named 4 = .ok (.istore_n 3, 1) := dk_62 (dk_at dksX8_named_0 4 rfl rfl)
theorem dX8_named_5 : decode cX8_named 5 = .ok (.aload_n 0, 1) := dk_42 (dk_at dksX8_named_0 5 rfl rfl)
theorem dX8_named_6 : decode cX8_named 6 = .ok (.invokevirtual 162, 3) := dk_182 0 162 (dk_at dksX8_named_0 6 rfl rfl)
theorem dX8_named_9 : decode cX8_named 9 = .ok (.bipush 40, 2) := dk_16 40 (dk_at dksX8_named_0 9 rfl rfl)
theorem dX8_named_11 : decode cX8_named 11 = .ok (.if_icmp .ne 44, 3) := dk_160 0 44 (dk_at dksX8_named_0 11 rfl rfl)
theorem dX8_named_14 : decode cX8_named 14 = .ok (.aload_n 0, 1) := dk_42 (dk_at dksX8_named_0 14 rfl rfl)
theorem dX8_named_15 : decode cX8_named 15 = .ok (.bipush 7, 2) := dk_16 7 (dk_at dksX8_named_0 15 rfl rfl)
theorem dX8_named_17 : decode cX8_named 17 = .ok (.iload_n 1, 1) := dk_27 (dk_at dksX8_named_0 17 rfl rfl)
theorem dX8_named_18 : decode cX8_named 18 = .ok (.iconst 0, 1) := dk_3 (dk_at dksX8_named_0 18 rfl rfl)
theorem dX8_named_19 : decode cX8_named 19 = .ok (.invokevirtual 172, 3) := dk_182 0 172 (dk_at dksX8_named_0 19 rfl rfl)
theorem dX8_named_22 : decode cX8_named 22 = .ok (.istore 4, 2) := dk_54 4 (dk_at dksX8_named_0 22 rfl rfl)
theorem dX8_named_24 : decode cX8_named 24 = .ok (.aload_n 0, 1) := dk_42 (dk_at dksX8_named_1 0 rfl rfl)
theorem dX8_named_25 : decode cX8_named 25 = .ok (.iload 4, 2) := dk_21 4 (dk_at dksX8_named_1 1 rfl rfl)
theorem dX8_named_27 : decode cX8_named 27 = .ok (.aload_n 0, 1) := dk_42 (dk_at dksX8_named_1 3 rfl rfl)
theorem dX8_named_28 : decode cX8_named 28 = .ok (.bipush 33, 2) := dk_16 33 (dk_at dksX8_named_1 4 rfl rfl)
theorem dX8_named_30 : decode cX8_named 30 = .ok (.iload_n 1, 1) := dk_27 (dk_at dksX8_named_1 6 rfl rfl)
theorem dX8_named_31 : decode cX8_named 31 = .ok (.iconst 0, 1) := dk_3 (dk_at dksX8_named_1 7 rfl rfl)
theorem dX8_named_32 : decode cX8_named 32 = .ok (.invokevirtual 172, 3) := dk_182 0 172 (dk_at dksX8_named_1 8 rfl rfl)
theorem dX8_named_35 : decode cX8_named 35 = .ok (.invokevirtual 185, 3) := dk_182 0 185 (dk_at dksX8_named_1 11 rfl rfl)
theorem dX8_named_38 : decode cX8_named 38 = .ok (.aload_n 0, 1) := dk_42 (dk_at dksX8_named_1 14 rfl rfl)
theorem dX8_named_39 : decode cX8_named 39 = .ok (.iload 4, 2) := dk_21 4 (dk_at dksX8_named_1 15 rfl rfl)
theorem dX8_named_41 : decode cX8_named 41 = .ok (.iload_n 3, 1) := dk_29 (dk_at dksX8_named_1 17 rfl rfl)
theorem dX8_named_42 : decode cX8_named 42 = .ok (.invokevirtual 185, 3) := dk_182 0 185 (dk_at dksX8_named_1 18 rfl rfl)
theorem dX8_named_45 : decode cX8_named 45 = .ok (.aload_n 0, 1) := dk_42 (dk_at dksX8_named_1 21 rfl rfl)
theorem dX8_named_46 : decode cX8_named 46 = .ok (.iload 4, 2) := dk_21 4 (dk_at dksX8_named_1 22 rfl rfl)
theorem dX8_named_48 : decode cX8_named 48 = .ok (.iload_n 2, 1) := dk_28 (dk_at dksX8_named_2 0 rfl rfl)
theorem dX8_named_49 : decode cX8_named 49 = .ok (.invokevirtual 220, 3) := dk_182 0 220 (dk_at dksX8_named_2 1 rfl rfl)
theorem dX8_named_52 : decode cX8_named 52 = .ok (.iload 4, 2) := dk_21 4 (dk_at dksX8_named_2 4 rfl rfl)
theorem dX8_named_54 : decode cX8_named 54 = .ok (.ireturn, 1) := dk_172 (dk_at dksX8_named_2 6 rfl rfl)
theorem dX8_named_55 : decode cX8_named 55 = .ok (.aload_n 0, 1) := dk_42 (dk_at dksX8_named_2 7 rfl rfl)
theorem dX8_named_56 : decode cX8_named 56 = .ok (.invokevirtual 162, 3) := dk_182 0 162 (dk_at dksX8_named_2 8 rfl rfl)
theorem dX8_named_59 : decode cX8_named 59 = .ok (.bipush 91, 2) := dk_16 91 (dk_at dksX8_named_2 11 rfl rfl)
theorem dX8_named_61 : decode cX8_named 61 = .ok (.if_icmp .ne 89, 3) := dk_160 0 89 (dk_at dksX8_named_2 13 rfl rfl)
theorem dX8_named_64 : decode cX8_named 64 = .ok (.aload_n 0, 1) := dk_42 (dk_at dksX8_named_2 16 rfl rfl)
theorem dX8_named_65 : decode cX8_named 65 = .ok (.bipush 6, 2) := dk_16 6 (dk_at dksX8_named_2 17 rfl rfl)
theorem dX8_named_67 : decode cX8_named 67 = .ok (.iload_n 1, 1) := dk_27 (dk_at dksX8_named_2 19 rfl rfl)
theorem dX8_named_68 : decode cX8_named 68 = .ok (.iconst 0, 1) := dk_3 (dk_at dksX8_named_2 20 rfl rfl)
theorem dX8_named_69 : decode cX8_named 69 = .ok (.invokevirtual 172, 3) := dk_182 0 172 (dk_at dksX8_named_2 21 rfl rfl)
theorem dX8_named_72 : decode cX8_named 72 = .ok (.istore 4, 2) := dk_54 4 (dk_at dksX8_named_3 0 rfl rfl)
theorem dX8_named_74 : decode cX8_named 74 = .ok (.aload_n 0, 1) := dk_42 (dk_at dksX8_named_3 2 rfl rfl)
theorem dX8_named_75 : decode cX8_named 75 = .ok (.iload 4, 2) := dk_21 4 (dk_at dksX8_named_3 3 rfl rfl)
theorem dX8_named_77 : decode cX8_named 77 = .ok (.iload_n 3, 1) := dk_29 (dk_at dksX8_named_3 5 rfl rfl)
theorem dX8_named_78 : decode cX8_named 78 = .ok (.invokevirtual 185, 3) := dk_182 0 185 (dk_at dksX8_named_3 6 rfl rfl)
theorem dX8_named_81 : decode cX8_named 81 = .ok (.aload_n 0, 1) := dk_42 (dk_at dksX8_named_3 9 rfl rfl)
theorem dX8_named_82 : decode cX8_named 82 = .ok (.bipush 91, 2) := dk_16 91 (dk_at dksX8_named_3 10 rfl rfl)
theorem dX8_named_84 : decode cX8_named 84 = .ok (.invokevirtual 176, 3) := dk_182 0 176 (dk_at dksX8_named_3 12 rfl rfl)
theorem dX8_named_87 : decode cX8_named 87 = .ok (.aload_n 0, 1) := dk_42 (dk_at dksX8_named_3 15 rfl rfl)
theorem dX8_named_88 : decode cX8_named 88 = .ok (.iload 4, 2) := dk_21 4 (dk_at dksX8_named_3 16 rfl rfl)
theorem dX8_named_90 : decode cX8_named 90 = .ok (.aload_n 0, 1) := dk_42 (dk_at dksX8_named_3 18 rfl rfl)
theorem dX8_named_91 : decode cX8_named 91 = .ok (.getfield 155, 3) := dk_180 0 155 (dk_at dksX8_named_3 19 rfl rfl)
theorem dX8_named_94 : decode cX8_named 94 = .ok (.ifCond .eq 7, 3) := dk_153 0 7 (dk_at dksX8_named_4 0 rfl rfl)
theorem dX8_named_97 : decode cX8_named 97 = .ok (.iconst (-1), 1) := dk_2 (dk_at dksX8_named_4 3 rfl rfl)
theorem dX8_named_98 : decode cX8_named 98 = .ok (.goto 10, 3) := dk_167 0 10 (dk_at dksX8_named_4 4 rfl rfl)
theorem dX8_named_101 : decode cX8_named 101 = .ok (.aload_n 0, 1) := dk_42 (dk_at dksX8_named_4 7 rfl rfl)
theorem dX8_named_102 : decode cX8_named 102 = .ok (.iload_n 2, 1) := dk_28 (dk_at dksX8_named_4 8 rfl rfl)
theorem dX8_named_103 : decode cX8_named 103 = .ok (.iconst 1, 1) := dk_4 (dk_at dksX8_named_4 9 rfl rfl)
theorem dX8_named_104 : decode cX8_named 104 = .ok (.iadd, 1) := dk_96 (dk_at dksX8_named_4 10 rfl rfl)
theorem dX8_named_105 : decode cX8_named 105 = .ok (.invokevirtual 199, 3) := dk_182 0 199 (dk_at dksX8_named_4 11 rfl rfl)
theorem dX8_named_108 : decode cX8_named 108 = .ok (.invokevirtual 185, 3) := dk_182 0 185 (dk_at dksX8_named_4 14 rfl rfl)
theorem dX8_named_111 : decode cX8_named 111 = .ok (.aload_n 0, 1) := dk_42 (dk_at dksX8_named_4 17 rfl rfl)
theorem dX8_named_112 : decode cX8_named 112 = .ok (.bipush 93, 2) := dk_16 93 (dk_at dksX8_named_4 18 rfl rfl)
theorem dX8_named_114 : decode cX8_named 114 = .ok (.invokevirtual 176, 3) := dk_182 0 176 (dk_at dksX8_named_4 20 rfl rfl)
theorem dX8_named_117 : decode cX8_named 117 = .ok (.aload_n 0, 1) := dk_42 (dk_at dksX8_named_4 23 rfl rfl)
theorem dX8_named_118 : decode cX8_named 118 = .ok (.bipush 61, 2) := dk_16 61 (dk_at dksX8_named_5 0 rfl rfl)
theorem dX8_named_120 : decode cX8_named 120 = .ok (.invokevirtual 176, 3) := dk_182 0 176 (dk_at dksX8_named_5 2 rfl rfl)
theorem dX8_named_123 : decode cX8_named 123 = .ok (.aload_n 0, 1) := dk_42 (dk_at dksX8_named_5 5 rfl rfl)
theorem dX8_named_124 : decode cX8_named 124 = .ok (.iload 4, 2) := dk_21 4 (dk_at dksX8_named_5 6 rfl rfl)
theorem dX8_named_126 : decode cX8_named 126 = .ok (.aload_n 0, 1) := dk_42 (dk_at dksX8_named_5 8 rfl rfl)
theorem dX8_named_127 : decode cX8_named 127 = .ok (.getfield 155, 3) := dk_180 0 155 (dk_at dksX8_named_5 9 rfl rfl)
theorem dX8_named_130 : decode cX8_named 130 = .ok (.ifCond .eq 7, 3) := dk_153 0 7 (dk_at dksX8_named_5 12 rfl rfl)
theorem dX8_named_133 : decode cX8_named 133 = .ok (.iconst (-1), 1) := dk_2 (dk_at dksX8_named_5 15 rfl rfl)
theorem dX8_named_134 : decode cX8_named 134 = .ok (.goto 10, 3) := dk_167 0 10 (dk_at dksX8_named_5 16 rfl rfl)
theorem dX8_named_137 : decode cX8_named 137 = .ok (.aload_n 0, 1) := dk_42 (dk_at dksX8_named_5 19 rfl rfl)
theorem dX8_named_138 : decode cX8_named 138 = .ok (.iload_n 2, 1) := dk_28 (dk_at dksX8_named_5 20 rfl rfl)
theorem dX8_named_139 : decode cX8_named 139 = .ok (.iconst 1, 1) := dk_4 (dk_at dksX8_named_5 21 rfl rfl)
theorem dX8_named_140 : decode cX8_named 140 = .ok (.iadd, 1) := dk_96 (dk_at dksX8_named_5 22 rfl rfl)
theorem dX8_named_141 : decode cX8_named 141 = .ok (.invokevirtual 199, 3) := dk_182 0 199 (dk_at dksX8_named_6 0 rfl rfl)
theorem dX8_named_144 : decode cX8_named 144 = .ok (.invokevirtual 185, 3) := dk_182 0 185 (dk_at dksX8_named_6 3 rfl rfl)
theorem dX8_named_147 : decode cX8_named 147 = .ok (.iload 4, 2) := dk_21 4 (dk_at dksX8_named_6 6 rfl rfl)
theorem dX8_named_149 : decode cX8_named 149 = .ok (.ireturn, 1) := dk_172 (dk_at dksX8_named_6 8 rfl rfl)
theorem dX8_named_150 : decode cX8_named 150 = .ok (.aload_n 0, 1) := dk_42 (dk_at dksX8_named_6 9 rfl rfl)
theorem dX8_named_151 : decode cX8_named 151 = .ok (.bipush 61, 2) := dk_16 61 (dk_at dksX8_named_6 10 rfl rfl)
theorem dX8_named_153 : decode cX8_named 153 = .ok (.invokevirtual 176, 3) := dk_182 0 176 (dk_at dksX8_named_6 12 rfl rfl)
theorem dX8_named_156 : decode cX8_named 156 = .ok (.aload_n 0, 1) := dk_42 (dk_at dksX8_named_6 15 rfl rfl)
theorem dX8_named_157 : decode cX8_named 157 = .ok (.invokevirtual 162, 3) := dk_182 0 162 (dk_at dksX8_named_6 16 rfl rfl)
theorem dX8_named_160 : decode cX8_named 160 = .ok (.iconst 2, 1) := dk_5 (dk_at dksX8_named_6 19 rfl rfl)
theorem dX8_named_161 : decode cX8_named 161 = .ok (.if_icmp .ne 56, 3) := dk_160 0 56 (dk_at dksX8_named_6 20 rfl rfl)
theorem dX8_named_164 : decode cX8_named 164 = .ok (.aload_n 0, 1) := dk_42 (dk_at dksX8_named_6 23 rfl rfl)
theorem dX8_named_165 : decode cX8_named 165 = .ok (.getfield 19, 3) := dk_180 0 19 (dk_at dksX8_named_7 0 rfl rfl)
theorem dX8_named_168 : decode cX8_named 168 = .ok (.aload_n 0, 1) := dk_42 (dk_at dksX8_named_7 3 rfl rfl)
theorem dX8_named_169 : decode cX8_named 169 = .ok (.getfield 159, 3) := dk_180 0 159 (dk_at dksX8_named_7 4 rfl rfl)
theorem dX8_named_172 : decode cX8_named 172 = .ok (.iconst 1, 1) := dk_4 (dk_at dksX8_named_7 7 rfl rfl)
theorem dX8_named_173 : decode cX8_named 173 = .ok (.iadd, 1) := dk_96 (dk_at dksX8_named_7 8 rfl rfl)
theorem dX8_named_174 : decode cX8_named 174 = .ok (.iaload, 1) := dk_46 (dk_at dksX8_named_7 9 rfl rfl)
theorem dX8_named_175 : decode cX8_named 175 = .ok (.bipush 40, 2) := dk_16 40 (dk_at dksX8_named_7 10 rfl rfl)
theorem dX8_named_177 : decode cX8_named 177 = .ok (.if_icmp .ne 40, 3) := dk_160 0 40 (dk_at dksX8_named_7 12 rfl rfl)
theorem dX8_named_180 : decode cX8_named 180 = .ok (.aload_n 0, 1) := dk_42 (dk_at dksX8_named_7 15 rfl rfl)
theorem dX8_named_181 : decode cX8_named 181 = .ok (.bipush 7, 2) := dk_16 7 (dk_at dksX8_named_7 16 rfl rfl)
theorem dX8_named_183 : decode cX8_named 183 = .ok (.iload_n 1, 1) := dk_27 (dk_at dksX8_named_7 18 rfl rfl)
theorem dX8_named_184 : decode cX8_named 184 = .ok (.iconst 0, 1) := dk_3 (dk_at dksX8_named_7 19 rfl rfl)
theorem dX8_named_185 : decode cX8_named 185 = .ok (.invokevirtual 172, 3) := dk_182 0 172 (dk_at dksX8_named_7 20 rfl rfl)
theorem dX8_named_188 : decode cX8_named 188 = .ok (.istore 4, 2) := dk_54 4 (dk_at dksX8_named_8 0 rfl rfl)
theorem dX8_named_190 : decode cX8_named 190 = .ok (.aload_n 0, 1) := dk_42 (dk_at dksX8_named_8 2 rfl rfl)
theorem dX8_named_191 : decode cX8_named 191 = .ok (.iload 4, 2) := dk_21 4 (dk_at dksX8_named_8 3 rfl rfl)
theorem dX8_named_193 : decode cX8_named 193 = .ok (.iload_n 3, 1) := dk_29 (dk_at dksX8_named_8 5 rfl rfl)
theorem dX8_named_194 : decode cX8_named 194 = .ok (.invokevirtual 185, 3) := dk_182 0 185 (dk_at dksX8_named_8 6 rfl rfl)
theorem dX8_named_197 : decode cX8_named 197 = .ok (.aload_n 0, 1) := dk_42 (dk_at dksX8_named_8 9 rfl rfl)
theorem dX8_named_198 : decode cX8_named 198 = .ok (.iload 4, 2) := dk_21 4 (dk_at dksX8_named_8 10 rfl rfl)
theorem dX8_named_200 : decode cX8_named 200 = .ok (.aload_n 0, 1) := dk_42 (dk_at dksX8_named_8 12 rfl rfl)
theorem dX8_named_201 : decode cX8_named 201 = .ok (.invokevirtual 196, 3) := dk_182 0 196 (dk_at dksX8_named_8 13 rfl rfl)
theorem dX8_named_204 : decode cX8_named 204 = .ok (.invokevirtual 185, 3) := dk_182 0 185 (dk_at dksX8_named_8 16 rfl rfl)
theorem dX8_named_207 : decode cX8_named 207 = .ok (.aload_n 0, 1) := dk_42 (dk_at dksX8_named_8 19 rfl rfl)
theorem dX8_named_208 : decode cX8_named 208 = .ok (.iload 4, 2) := dk_21 4 (dk_at dksX8_named_8 20 rfl rfl)
theorem dX8_named_210 : decode cX8_named 210 = .ok (.iload_n 2, 1) := dk_28 (dk_at dksX8_named_8 22 rfl rfl)
theorem dX8_named_211 : decode cX8_named 211 = .ok (.invokevirtual 220, 3) := dk_182 0 220 (dk_at dksX8_named_9 0 rfl rfl)
theorem dX8_named_214 : decode cX8_named 214 = .ok (.iload 4, 2) := dk_21 4 (dk_at dksX8_named_9 3 rfl rfl)
theorem dX8_named_216 : decode cX8_named 216 = .ok (.ireturn, 1) := dk_172 (dk_at dksX8_named_9 5 rfl rfl)
theorem dX8_named_217 : decode cX8_named 217 = .ok (.aload_n 0, 1) := dk_42 (dk_at dksX8_named_9 6 rfl rfl)
theorem dX8_named_218 : decode cX8_named 218 = .ok (.iconst 5, 1) := dk_8 (dk_at dksX8_named_9 7 rfl rfl)
theorem dX8_named_219 : decode cX8_named 219 = .ok (.iload_n 1, 1) := dk_27 (dk_at dksX8_named_9 8 rfl rfl)
theorem dX8_named_220 : decode cX8_named 220 = .ok (.iconst 0, 1) := dk_3 (dk_at dksX8_named_9 9 rfl rfl)
theorem dX8_named_221 : decode cX8_named 221 = .ok (.invokevirtual 172, 3) := dk_182 0 172 (dk_at dksX8_named_9 10 rfl rfl)
theorem dX8_named_224 : decode cX8_named 224 = .ok (.istore 4, 2) := dk_54 4 (dk_at dksX8_named_9 13 rfl rfl)
theorem dX8_named_226 : decode cX8_named 226 = .ok (.aload_n 0, 1) := dk_42 (dk_at dksX8_named_9 15 rfl rfl)
theorem dX8_named_227 : decode cX8_named 227 = .ok (.iload 4, 2) := dk_21 4 (dk_at dksX8_named_9 16 rfl rfl)
theorem dX8_named_229 : decode cX8_named 229 = .ok (.iload_n 3, 1) := dk_29 (dk_at dksX8_named_9 18 rfl rfl)
theorem dX8_named_230 : decode cX8_named 230 = .ok (.invokevirtual 185, 3) := dk_182 0 185 (dk_at dksX8_named_9 19 rfl rfl)
theorem dX8_named_233 : decode cX8_named 233 = .ok (.aload_n 0, 1) := dk_42 (dk_at dksX8_named_9 22 rfl rfl)
theorem dX8_named_234 : decode cX8_named 234 = .ok (.iload 4, 2) := dk_21 4 (dk_at dksX8_named_10 0 rfl rfl)
theorem dX8_named_236 : decode cX8_named 236 = .ok (.aload_n 0, 1) := dk_42 (dk_at dksX8_named_10 2 rfl rfl)
theorem dX8_named_237 : decode cX8_named 237 = .ok (.getfield 155, 3) := dk_180 0 155 (dk_at dksX8_named_10 3 rfl rfl)
theorem dX8_named_240 : decode cX8_named 240 = .ok (.ifCond .eq 7, 3) := dk_153 0 7 (dk_at dksX8_named_10 6 rfl rfl)
theorem dX8_named_243 : decode cX8_named 243 = .ok (.iconst (-1), 1) := dk_2 (dk_at dksX8_named_10 9 rfl rfl)
theorem dX8_named_244 : decode cX8_named 244 = .ok (.goto 10, 3) := dk_167 0 10 (dk_at dksX8_named_10 10 rfl rfl)
theorem dX8_named_247 : decode cX8_named 247 = .ok (.aload_n 0, 1) := dk_42 (dk_at dksX8_named_10 13 rfl rfl)
theorem dX8_named_248 : decode cX8_named 248 = .ok (.iload_n 2, 1) := dk_28 (dk_at dksX8_named_10 14 rfl rfl)
theorem dX8_named_249 : decode cX8_named 249 = .ok (.iconst 1, 1) := dk_4 (dk_at dksX8_named_10 15 rfl rfl)
theorem dX8_named_250 : decode cX8_named 250 = .ok (.iadd, 1) := dk_96 (dk_at dksX8_named_10 16 rfl rfl)
theorem dX8_named_251 : decode cX8_named 251 = .ok (.invokevirtual 199, 3) := dk_182 0 199 (dk_at dksX8_named_10 17 rfl rfl)
theorem dX8_named_254 : decode cX8_named 254 = .ok (.invokevirtual 185, 3) := dk_182 0 185 (dk_at dksX8_named_10 20 rfl rfl)
theorem dX8_named_257 : decode cX8_named 257 = .ok (.iload 4, 2) := dk_21 4 (dk_at dksX8_named_11 0 rfl rfl)
theorem dX8_named_259 : decode cX8_named 259 = .ok (.ireturn, 1) := dk_172 (dk_at dksX8_named_11 2 rfl rfl)
abbrev cX8_sums : ByteArray := prog_10_method_28_code
def yX8_sums : MethodName := ⟨RX8, "sums", "(II)V"⟩
def dkwX8_sums_3 : List UInt8 := [182, 0, 199, 182, 0, 185, 167, 255, 218, 42, 16, 41, 182, 0, 176, 177]
abbrev dktX8_sums_3 : List UInt8 := dkwX8_sums_3 ++ []
def dkwX8_sums_2 : List UInt8 := [16, 44, 182, 0, 176, 42, 27, 42, 180, 0, 155, 153, 0, 7, 2, 167, 0, 10, 42, 28, 4, 96]
abbrev dktX8_sums_2 : List UInt8 := dkwX8_sums_2 ++ dktX8_sums_3
def dkwX8_sums_1 : List UInt8 := [2, 167, 0, 10, 42, 28, 4, 96, 182, 0, 199, 182, 0, 185, 42, 182, 0, 162, 16, 44, 160, 0, 35, 42]
abbrev dktX8_sums_1 : List UInt8 := dkwX8_sums_1 ++ dktX8_sums_2
def dkwX8_sums_0 : List UInt8 := [42, 16, 40, 182, 0, 176, 42, 182, 0, 162, 16, 41, 159, 0, 67, 42, 27, 42, 180, 0, 155, 153, 0, 7]
abbrev dktX8_sums_0 : List UInt8 := dkwX8_sums_0 ++ dktX8_sums_1
theorem dksX8_sums_0 : cX8_sums.data.toList.drop 0 = dktX8_sums_0 := by decide +kernel
theorem dksX8_sums_1 : cX8_sums.data.toList.drop 24 = dktX8_sums_1 := dk_seg dksX8_sums_0 24 rfl rfl
theorem dksX8_sums_2 : cX8_sums.data.toList.drop 48 = dktX8_sums_2 := dk_seg dksX8_sums_1 24 rfl rfl
theorem dksX8_sums_3 : cX8_sums.data.toList.drop 70 = dktX8_sums_3 := dk_seg dksX8_sums_2 22 rfl rfl
theorem dX8_sums_0 : decode cX8_sums 0 = .ok (.aload_n 0, 1) := dk_42 (dk_at dksX8_sums_0 0 rfl rfl)
theorem dX8_sums_1 : decode cX8_sums 1 = .ok (.bipush 40, 2) := dk_16 40 (dk_at dksX8_sums_0 1 rfl rfl)
theorem dX8_sums_3 : decode cX8_sums 3 = .ok (.invokevirtual 176, 3) := dk_182 0 176 (dk_at dksX8_sums_0 3 rfl rfl)
theorem dX8_sums_6 : decode cX8_sums 6 = .ok (.aload_n 0, 1) := dk_42 (dk_at dksX8_sums_0 6 rfl rfl)
theorem dX8_sums_7 : decode cX8_sums 7 = .ok (.invokevirtual 162, 3) := dk_182 0 162 (dk_at dksX8_sums_0 7 rfl rfl)
theorem dX8_sums_10 : decode cX8_sums 10 = .ok (.bipush 41, 2) := dk_16 41 (dk_at dksX8_sums_0 10 rfl rfl)
theorem dX8_sums_12 : decode cX8_sums 12 = .ok (.if_icmp .eq 67, 3) := dk_159 0 67 (dk_at dksX8_sums_0 12 rfl rfl)
theorem dX8_sums_15 : decode cX8_sums 15 = .ok (.aload_n 0, 1) := dk_42 (dk_at dksX8_sums_0 15 rfl rfl)
theorem dX8_sums_16 : decode cX8_sums 16 = .ok (.iload_n 1, 1) := dk_27 (dk_at dksX8_sums_0 16 rfl rfl)
theorem dX8_sums_17 : decode cX8_sums 17 = .ok (.aload_n 0, 1) := dk_42 (dk_at dksX8_sums_0 17 rfl rfl)
theorem dX8_sums_18 : decode cX8_sums 18 = .ok (.getfield 155, 3) := dk_180 0 155 (dk_at dksX8_sums_0 18 rfl rfl)
theorem dX8_sums_21 : decode cX8_sums 21 = .ok (.ifCond .eq 7, 3) := dk_153 0 7 (dk_at dksX8_sums_0 21 rfl rfl)
theorem dX8_sums_24 : decode cX8_sums 24 = .ok (.iconst (-1), 1) := dk_2 (dk_at dksX8_sums_1 0 rfl rfl)
theorem dX8_sums_25 : decode cX8_sums 25 = .ok (.goto 10, 3) := dk_167 0 10 (dk_at dksX8_sums_1 1 rfl rfl)
theorem dX8_sums_28 : decode cX8_sums 28 = .ok (.aload_n 0, 1) := dk_42 (dk_at dksX8_sums_1 4 rfl rfl)
theorem dX8_sums_29 : decode cX8_sums 29 = .ok (.iload_n 2, 1) := dk_28 (dk_at dksX8_sums_1 5 rfl rfl)
theorem dX8_sums_30 : decode cX8_sums 30 = .ok (.iconst 1, 1) := dk_4 (dk_at dksX8_sums_1 6 rfl rfl)
theorem dX8_sums_31 : decode cX8_sums 31 = .ok (.iadd, 1) := dk_96 (dk_at dksX8_sums_1 7 rfl rfl)
theorem dX8_sums_32 : decode cX8_sums 32 = .ok (.invokevirtual 199, 3) := dk_182 0 199 (dk_at dksX8_sums_1 8 rfl rfl)
theorem dX8_sums_35 : decode cX8_sums 35 = .ok (.invokevirtual 185, 3) := dk_182 0 185 (dk_at dksX8_sums_1 11 rfl rfl)
theorem dX8_sums_38 : decode cX8_sums 38 = .ok (.aload_n 0, 1) := dk_42 (dk_at dksX8_sums_1 14 rfl rfl)
theorem dX8_sums_39 : decode cX8_sums 39 = .ok (.invokevirtual 162, 3) := dk_182 0 162 (dk_at dksX8_sums_1 15 rfl rfl)
theorem dX8_sums_42 : decode cX8_sums 42 = .ok (.bipush 44, 2) := dk_16 44 (dk_at dksX8_sums_1 18 rfl rfl)
theorem dX8_sums_44 : decode cX8_sums 44 = .ok (.if_icmp .ne 35, 3) := dk_160 0 35 (dk_at dksX8_sums_1 20 rfl rfl)
theorem dX8_sums_47 : decode cX8_sums 47 = .ok (.aload_n 0, 1) := dk_42 (dk_at dksX8_sums_1 23 rfl rfl)
theorem dX8_sums_48 : decode cX8_sums 48 = .ok (.bipush 44, 2) := dk_16 44 (dk_at dksX8_sums_2 0 rfl rfl)
theorem dX8_sums_50 : decode cX8_sums 50 = .ok (.invokevirtual 176, 3) := dk_182 0 176 (dk_at dksX8_sums_2 2 rfl rfl)
theorem dX8_sums_53 : decode cX8_sums 53 = .ok (.aload_n 0, 1) := dk_42 (dk_at dksX8_sums_2 5 rfl rfl)
theorem dX8_sums_54 : decode cX8_sums 54 = .ok (.iload_n 1, 1) := dk_27 (dk_at dksX8_sums_2 6 rfl rfl)
theorem dX8_sums_55 : decode cX8_sums 55 = .ok (.aload_n 0, 1) := dk_42 (dk_at dksX8_sums_2 7 rfl rfl)
theorem dX8_sums_56 : decode cX8_sums 56 = .ok (.getfield 155, 3) := dk_180 0 155 (dk_at dksX8_sums_2 8 rfl rfl)
theorem dX8_sums_59 : decode cX8_sums 59 = .ok (.ifCond .eq 7, 3) := dk_153 0 7 (dk_at dksX8_sums_2 11 rfl rfl)
theorem dX8_sums_62 : decode cX8_sums 62 = .ok (.iconst (-1), 1) := dk_2 (dk_at dksX8_sums_2 14 rfl rfl)
theorem dX8_sums_63 : decode cX8_sums 63 = .ok (.goto 10, 3) := dk_167 0 10 (dk_at dksX8_sums_2 15 rfl rfl)
theorem dX8_sums_66 : decode cX8_sums 66 = .ok (.aload_n 0, 1) := dk_42 (dk_at dksX8_sums_2 18 rfl rfl)
theorem dX8_sums_67 : decode cX8_sums 67 = .ok (.iload_n 2, 1) := dk_28 (dk_at dksX8_sums_2 19 rfl rfl)
theorem dX8_sums_68 : decode cX8_sums 68 = .ok (.iconst 1, 1) := dk_4 (dk_at dksX8_sums_2 20 rfl rfl)
theorem dX8_sums_69 : decode cX8_sums 69 = .ok (.iadd, 1) := dk_96 (dk_at dksX8_sums_2 21 rfl rfl)
theorem dX8_sums_70 : decode cX8_sums 70 = .ok (.invokevirtual 199, 3) := dk_182 0 199 (dk_at dksX8_sums_3 0 rfl rfl)
theorem dX8_sums_73 : decode cX8_sums 73 = .ok (.invokevirtual 185, 3) := dk_182 0 185 (dk_at dksX8_sums_3 3 rfl rfl)
theorem dX8_sums_76 : decode cX8_sums 76 = .ok (.goto (-38), 3) := dk_167 255 218 (dk_at dksX8_sums_3 6 rfl rfl)
theorem dX8_sums_79 : decode cX8_sums 79 = .ok (.aload_n 0, 1) := dk_42 (dk_at dksX8_sums_3 9 rfl rfl)
theorem dX8_sums_80 : decode cX8_sums 80 = .ok (.bipush 41, 2) := dk_16 41 (dk_at dksX8_sums_3 10 rfl rfl)
theorem dX8_sums_82 : decode cX8_sums 82 = .ok (.invokevirtual 176, 3) := dk_182 0 176 (dk_at dksX8_sums_3 12 rfl rfl)
theorem dX8_sums_85 : decode cX8_sums 85 = .ok (.return_, 1) := dk_177 (dk_at dksX8_sums_3 15 rfl rfl)
abbrev cX8_cond : ByteArray := prog_10_method_24_code
def yX8_cond : MethodName := ⟨RX8, "cond", "(I)I"⟩
def dkwX8_cond_0 : List UInt8 := [42, 27, 182, 0, 179, 42, 180, 0, 155, 153, 0, 7, 2, 167, 0, 10, 42, 27, 16, 24, 182, 0, 202, 172]
abbrev dktX8_cond_0 : List UInt8 := dkwX8_cond_0 ++ []
theorem dksX8_cond_0 : cX8_cond.data.toList.drop 0 = dktX8_cond_0 := by decide +kernel
theorem dX8_cond_0 : decode cX8_cond 0 = .ok (.aload_n 0, 1) := dk_42 (dk_at dksX8_cond_0 0 rfl rfl)
theorem dX8_cond_1 : decode cX8_cond 1 = .ok (.iload_n 1, 1) := dk_27 (dk_at dksX8_cond_0 1 rfl rfl)
theorem dX8_cond_2 : decode cX8_cond 2 = .ok (.invokevirtual 179, 3) := dk_182 0 179 (dk_at dksX8_cond_0 2 rfl rfl)
theorem dX8_cond_5 : decode cX8_cond 5 = .ok (.aload_n 0, 1) := dk_42 (dk_at dksX8_cond_0 5 rfl rfl)
theorem dX8_cond_6 : decode cX8_cond 6 = .ok (.getfield 155, 3) := dk_180 0 155 (dk_at dksX8_cond_0 6 rfl rfl)
theorem dX8_cond_9 : decode cX8_cond 9 = .ok (.ifCond .eq 7, 3) := dk_153 0 7 (dk_at dksX8_cond_0 9 rfl rfl)
theorem dX8_cond_12 : decode cX8_cond 12 = .ok (.iconst (-1), 1) := dk_2 (dk_at dksX8_cond_0 12 rfl rfl)
theorem dX8_cond_13 : decode cX8_cond 13 = .ok (.goto 10, 3) := dk_167 0 10 (dk_at dksX8_cond_0 13 rfl rfl)
theorem dX8_cond_16 : decode cX8_cond 16 = .ok (.aload_n 0, 1) := dk_42 (dk_at dksX8_cond_0 16 rfl rfl)
theorem dX8_cond_17 : decode cX8_cond 17 = .ok (.iload_n 1, 1) := dk_27 (dk_at dksX8_cond_0 17 rfl rfl)
theorem dX8_cond_18 : decode cX8_cond 18 = .ok (.bipush 24, 2) := dk_16 24 (dk_at dksX8_cond_0 18 rfl rfl)
theorem dX8_cond_20 : decode cX8_cond 20 = .ok (.invokevirtual 202, 3) := dk_182 0 202 (dk_at dksX8_cond_0 20 rfl rfl)
theorem dX8_cond_23 : decode cX8_cond 23 = .ok (.ireturn, 1) := dk_172 (dk_at dksX8_cond_0 23 rfl rfl)
abbrev cX8_tests : ByteArray := prog_10_method_25_code
def yX8_tests : MethodName := ⟨RX8, "tests", "(II)I"⟩
def dkwX8_tests_5 : List UInt8 := [27, 182, 0, 205, 182, 0, 185, 167, 255, 205, 21, 5, 172]
abbrev dktX8_tests_5 : List UInt8 := dkwX8_tests_5 ++ []
def dkwX8_tests_4 : List UInt8 := [153, 0, 7, 2, 167, 0, 24, 28, 16, 24, 160, 0, 13, 42, 27, 16, 25, 182, 0, 202, 167, 0, 8, 42]
abbrev dktX8_tests_4 : List UInt8 := dkwX8_tests_4 ++ dktX8_tests_5
def dkwX8_tests_3 : List UInt8 := [182, 0, 185, 42, 182, 0, 162, 29, 160, 0, 49, 42, 29, 182, 0, 176, 42, 21, 5, 42, 180, 0, 155]
abbrev dktX8_tests_3 : List UInt8 := dkwX8_tests_3 ++ dktX8_tests_4
def dkwX8_tests_2 : List UInt8 := [21, 4, 172, 42, 28, 42, 180, 0, 35, 21, 4, 46, 3, 182, 0, 172, 54, 5, 42, 21, 5, 21, 4]
abbrev dktX8_tests_2 : List UInt8 := dkwX8_tests_2 ++ dktX8_tests_3
def dkwX8_tests_1 : List UInt8 := [16, 25, 182, 0, 202, 167, 0, 8, 42, 27, 182, 0, 205, 54, 4, 42, 182, 0, 162, 29, 159, 0, 6]
abbrev dktX8_tests_1 : List UInt8 := dkwX8_tests_1 ++ dktX8_tests_2
def dkwX8_tests_0 : List UInt8 := [28, 16, 24, 160, 0, 9, 17, 1, 5, 167, 0, 6, 17, 1, 4, 62, 28, 16, 24, 160, 0, 13, 42, 27]
abbrev dktX8_tests_0 : List UInt8 := dkwX8_tests_0 ++ dktX8_tests_1
theorem dksX8_tests_0 : cX8_tests.data.toList.drop 0 = dktX8_tests_0 := by decide +kernel
theorem dksX8_tests_1 : cX8_tests.data.toList.drop 24 = dktX8_tests_1 := dk_seg dksX8_tests_0 24 rfl rfl
theorem dksX8_tests_2 : cX8_tests.data.toList.drop 47 = dktX8_tests_2 := dk_seg dksX8_tests_1 23 rfl rfl
theorem dksX8_tests_3 : cX8_tests.data.toList.drop 70 = dktX8_tests_3 := dk_seg dksX8_tests_2 23 rfl rfl
theorem dksX8_tests_4 : cX8_tests.data.toList.drop 93 = dktX8_tests_4 := dk_seg dksX8_tests_3 23 rfl rfl
theorem dksX8_tests_5 : cX8_tests.data.toList.drop 117 = dktX8_tests_5 := dk_seg dksX8_tests_4 24 rfl rfl
theorem dX8_tests_0 : decode cX8_tests 0 = .ok (.iload_n 2, 1) := dk_28 (dk_at dksX8_tests_0 0 rfl rfl)
theorem dX8_tests_1 : decode cX8_tests 1 = .ok (.bipush 24, 2) := dk_16 24 (dk_at dksX8_tests_0 1 rfl rfl)
theorem dX8_tests_3 : decode cX8_tests 3 = .ok (.if_icmp .ne 9, 3) := dk_160 0 9 (dk_at dksX8_tests_0 3 rfl rfl)
theorem dX8_tests_6 : decode cX8_tests 6 = .ok (.sipush 261, 3) := dk_17 1 5 (dk_at dksX8_tests_0 6 rfl rfl)
theorem dX8_tests_9 : decode cX8_tests 9 = .ok (.goto 6, 3) := dk_167 0 6 (dk_at dksX8_tests_0 9 rfl rfl)
theorem dX8_tests_12 : decode cX8_tests 12 = .ok (.sipush 260, 3) := dk_17 1 4 (dk_at dksX8_tests_0 12 rfl rfl)
theorem dX8_tests_15 : decode cX8_tests 15 = .ok (.istore_n 3, 1) := dk_62 (dk_at dksX8_tests_0 15 rfl rfl)
theorem dX8_tests_16 : decode cX8_tests 16 = .ok (.iload_n 2, 1) := dk_28 (dk_at dksX8_tests_0 16 rfl rfl)
theorem dX8_tests_17 : decode cX8_tests 17 = .ok (.bipush 24, 2) := dk_16 24 (dk_at dksX8_tests_0 17 rfl rfl)
theorem dX8_tests_19 : decode cX8_tests 19 = .ok (.if_icmp .ne 13, 3) := dk_160 0 13 (dk_at dksX8_tests_0 19 rfl rfl)
theorem dX8_tests_22 : decode cX8_tests 22 = .ok (.aload_n 0, 1) := dk_42 (dk_at dksX8_tests_0 22 rfl rfl)
theorem dX8_tests_23 : decode cX8_tests 23 = .ok (.iload_n 1, 1) := dk_27 (dk_at dksX8_tests_0 23 rfl rfl)
theorem dX8_tests_24 : decode cX8_tests 24 = .ok (.bipush 25, 2) := dk_16 25 (dk_at dksX8_tests_1 0 rfl rfl)
theorem dX8_tests_26 : decode cX8_tests 26 = .ok (.invokevirtual 202, 3) := dk_182 0 202 (dk_at dksX8_tests_1 2 rfl rfl)
theorem dX8_tests_29 : decode cX8_tests 29 = .ok (.goto 8, 3) := dk_167 0 8 (dk_at dksX8_tests_1 5 rfl rfl)
theorem dX8_tests_32 : decode cX8_tests 32 = .ok (.aload_n 0, 1) := dk_42 (dk_at dksX8_tests_1 8 rfl rfl)
theorem dX8_tests_33 : decode cX8_tests 33 = .ok (.iload_n 1, 1) := dk_27 (dk_at dksX8_tests_1 9 rfl rfl)
theorem dX8_tests_34 : decode cX8_tests 34 = .ok (.invokevirtual 205, 3) := dk_182 0 205 (dk_at dksX8_tests_1 10 rfl rfl)
theorem dX8_tests_37 : decode cX8_tests 37 = .ok (.istore 4, 2) := dk_54 4 (dk_at dksX8_tests_1 13 rfl rfl)
theorem dX8_tests_39 : decode cX8_tests 39 = .ok (.aload_n 0, 1) := dk_42 (dk_at dksX8_tests_1 15 rfl rfl)
theorem dX8_tests_40 : decode cX8_tests 40 = .ok (.invokevirtual 162, 3) := dk_182 0 162 (dk_at dksX8_tests_1 16 rfl rfl)
theorem dX8_tests_43 : decode cX8_tests 43 = .ok (.iload_n 3, 1) := dk_29 (dk_at dksX8_tests_1 19 rfl rfl)
theorem dX8_tests_44 : decode cX8_tests 44 = .ok (.if_icmp .eq 6, 3) := dk_159 0 6 (dk_at dksX8_tests_1 20 rfl rfl)
theorem dX8_tests_47 : decode cX8_tests 47 = .ok (.iload 4, 2) := dk_21 4 (dk_at dksX8_tests_2 0 rfl rfl)
theorem dX8_tests_49 : decode cX8_tests 49 = .ok (.ireturn, 1) := dk_172 (dk_at dksX8_tests_2 2 rfl rfl)
theorem dX8_tests_50 : decode cX8_tests 50 = .ok (.aload_n 0, 1) := dk_42 (dk_at dksX8_tests_2 3 rfl rfl)
theorem dX8_tests_51 : decode cX8_tests 51 = .ok (.iload_n 2, 1) := dk_28 (dk_at dksX8_tests_2 4 rfl rfl)
theorem dX8_tests_52 : decode cX8_tests 52 = .ok (.aload_n 0, 1) := dk_42 (dk_at dksX8_tests_2 5 rfl rfl)
theorem dX8_tests_53 : decode cX8_tests 53 = .ok (.getfield 35, 3) := dk_180 0 35 (dk_at dksX8_tests_2 6 rfl rfl)
theorem dX8_tests_56 : decode cX8_tests 56 = .ok (.iload 4, 2) := dk_21 4 (dk_at dksX8_tests_2 9 rfl rfl)
theorem dX8_tests_58 : decode cX8_tests 58 = .ok (.iaload, 1) := dk_46 (dk_at dksX8_tests_2 11 rfl rfl)
theorem dX8_tests_59 : decode cX8_tests 59 = .ok (.iconst 0, 1) := dk_3 (dk_at dksX8_tests_2 12 rfl rfl)
theorem dX8_tests_60 : decode cX8_tests 60 = .ok (.invokevirtual 172, 3) := dk_182 0 172 (dk_at dksX8_tests_2 13 rfl rfl)
theorem dX8_tests_63 : decode cX8_tests 63 = .ok (.istore 5, 2) := dk_54 5 (dk_at dksX8_tests_2 16 rfl rfl)
theorem dX8_tests_65 : decode cX8_tests 65 = .ok (.aload_n 0, 1) := dk_42 (dk_at dksX8_tests_2 18 rfl rfl)
theorem dX8_tests_66 : decode cX8_tests 66 = .ok (.iload 5, 2) := dk_21 5 (dk_at dksX8_tests_2 19 rfl rfl)
theorem dX8_tests_68 : decode cX8_tests 68 = .ok (.iload 4, 2) := dk_21 4 (dk_at dksX8_tests_2 21 rfl rfl)
theorem dX8_tests_70 : decode cX8_tests 70 = .ok (.invokevirtual 185, 3) := dk_182 0 185 (dk_at dksX8_tests_3 0 rfl rfl)
theorem dX8_tests_73 : decode cX8_tests 73 = .ok (.aload_n 0, 1) := dk_42 (dk_at dksX8_tests_3 3 rfl rfl)
theorem dX8_tests_74 : decode cX8_tests 74 = .ok (.invokevirtual 162, 3) := dk_182 0 162 (dk_at dksX8_tests_3 4 rfl rfl)
theorem dX8_tests_77 : decode cX8_tests 77 = .ok (.iload_n 3, 1) := dk_29 (dk_at dksX8_tests_3 7 rfl rfl)
theorem dX8_tests_78 : decode cX8_tests 78 = .ok (.if_icmp .ne 49, 3) := dk_160 0 49 (dk_at dksX8_tests_3 8 rfl rfl)
theorem dX8_tests_81 : decode cX8_tests 81 = .ok (.aload_n 0, 1) := dk_42 (dk_at dksX8_tests_3 11 rfl rfl)
theorem dX8_tests_82 : decode cX8_tests 82 = .ok (.iload_n 3, 1) := dk_29 (dk_at dksX8_tests_3 12 rfl rfl)
theorem dX8_tests_83 : decode cX8_tests 83 = .ok (.invokevirtual 176, 3) := dk_182 0 176 (dk_at dksX8_tests_3 13 rfl rfl)
theorem dX8_tests_86 : decode cX8_tests 86 = .ok (.aload_n 0, 1) := dk_42 (dk_at dksX8_tests_3 16 rfl rfl)
theorem dX8_tests_87 : decode cX8_tests 87 = .ok (.iload 5, 2) := dk_21 5 (dk_at dksX8_tests_3 17 rfl rfl)
theorem dX8_tests_89 : decode cX8_tests 89 = .ok (.aload_n 0, 1) := dk_42 (dk_at dksX8_tests_3 19 rfl rfl)
theorem dX8_tests_90 : decode cX8_tests 90 = .ok (.getfield 155, 3) := dk_180 0 155 (dk_at dksX8_tests_3 20 rfl rfl)
theorem dX8_tests_93 : decode cX8_tests 93 = .ok (.ifCond .eq 7, 3) := dk_153 0 7 (dk_at dksX8_tests_4 0 rfl rfl)
theorem dX8_tests_96 : decode cX8_tests 96 = .ok (.iconst (-1), 1) := dk_2 (dk_at dksX8_tests_4 3 rfl rfl)
theorem dX8_tests_97 : decode cX8_tests 97 = .ok (.goto 24, 3) := dk_167 0 24 (dk_at dksX8_tests_4 4 rfl rfl)
theorem dX8_tests_100 : decode cX8_tests 100 = .ok (.iload_n 2, 1) := dk_28 (dk_at dksX8_tests_4 7 rfl rfl)
theorem dX8_tests_101 : decode cX8_tests 101 = .ok (.bipush 24, 2) := dk_16 24 (dk_at dksX8_tests_4 8 rfl rfl)
theorem dX8_tests_103 : decode cX8_tests 103 = .ok (.if_icmp .ne 13, 3) := dk_160 0 13 (dk_at dksX8_tests_4 10 rfl rfl)
theorem dX8_tests_106 : decode cX8_tests 106 = .ok (.aload_n 0, 1) := dk_42 (dk_at dksX8_tests_4 13 rfl rfl)
theorem dX8_tests_107 : decode cX8_tests 107 = .ok (.iload_n 1, 1) := dk_27 (dk_at dksX8_tests_4 14 rfl rfl)
theorem dX8_tests_108 : decode cX8_tests 108 = .ok (.bipush 25, 2) := dk_16 25 (dk_at dksX8_tests_4 15 rfl rfl)
theorem dX8_tests_110 : decode cX8_tests 110 = .ok (.invokevirtual 202, 3) := dk_182 0 202 (dk_at dksX8_tests_4 17 rfl rfl)
theorem dX8_tests_113 : decode cX8_tests 113 = .ok (.goto 8, 3) := dk_167 0 8 (dk_at dksX8_tests_4 20 rfl rfl)
theorem dX8_tests_116 : decode cX8_tests 116 = .ok (.aload_n 0, 1) := dk_42 (dk_at dksX8_tests_4 23 rfl rfl)
theorem dX8_tests_117 : decode cX8_tests 117 = .ok (.iload_n 1, 1) := dk_27 (dk_at dksX8_tests_5 0 rfl rfl)
theorem dX8_tests_118 : decode cX8_tests 118 = .ok (.invokevirtual 205, 3) := dk_182 0 205 (dk_at dksX8_tests_5 1 rfl rfl)
theorem dX8_tests_121 : decode cX8_tests 121 = .ok (.invokevirtual 185, 3) := dk_182 0 185 (dk_at dksX8_tests_5 4 rfl rfl)
theorem dX8_tests_124 : decode cX8_tests 124 = .ok (.goto (-51), 3) := dk_167 255 205 (dk_at dksX8_tests_5 7 rfl rfl)
theorem dX8_tests_127 : decode cX8_tests 127 = .ok (.iload 5, 2) := dk_21 5 (dk_at dksX8_tests_5 10 rfl rfl)
theorem dX8_tests_129 : decode cX8_tests 129 = .ok (.ireturn, 1) := dk_172 (dk_at dksX8_tests_5 12 rfl rfl)
abbrev cX8_test : ByteArray := prog_10_method_26_code
def yX8_test : MethodName := ⟨RX8, "test", "(I)I"⟩
def dkwX8_test_11 : List UInt8 := [21, 5, 172]
abbrev dktX8_test_11 : List UInt8 := dkwX8_test_11 ++ []
def dkwX8_test_10 : List UInt8 := [182, 0, 176, 42, 21, 5, 28, 182, 0, 185, 42, 21, 5, 42, 27, 4, 96, 182, 0, 199, 182, 0, 185]
abbrev dktX8_test_10 : List UInt8 := dkwX8_test_10 ++ dktX8_test_11
def dkwX8_test_9 : List UInt8 := [153, 0, 5, 2, 172, 42, 21, 4, 42, 180, 0, 35, 28, 46, 3, 182, 0, 172, 54, 5, 42, 29]
abbrev dktX8_test_9 : List UInt8 := dkwX8_test_9 ++ dktX8_test_10
def dkwX8_test_8 : List UInt8 := [167, 0, 4, 3, 54, 4, 42, 21, 4, 158, 0, 7, 4, 167, 0, 4, 3, 182, 0, 165, 42, 180, 0, 155]
abbrev dktX8_test_8 : List UInt8 := dkwX8_test_8 ++ dktX8_test_9
def dkwX8_test_7 : List UInt8 := [167, 0, 28, 29, 17, 1, 2, 160, 0, 8, 16, 31, 167, 0, 16, 29, 17, 1, 3, 160, 0, 8, 16, 32]
abbrev dktX8_test_7 : List UInt8 := dkwX8_test_7 ++ dktX8_test_8
def dkwX8_test_6 : List UInt8 := [167, 0, 51, 29, 16, 62, 160, 0, 8, 16, 29, 167, 0, 40, 29, 17, 1, 1, 160, 0, 8, 16, 30]
abbrev dktX8_test_6 : List UInt8 := dkwX8_test_6 ++ dktX8_test_7
def dkwX8_test_5 : List UInt8 := [182, 0, 162, 62, 29, 16, 60, 160, 0, 8, 16, 27, 167, 0, 63, 29, 17, 1, 0, 160, 0, 8, 16, 28]
abbrev dktX8_test_5 : List UInt8 := dkwX8_test_5 ++ dktX8_test_6
def dkwX8_test_4 : List UInt8 := [4, 96, 182, 0, 208, 61, 42, 16, 93, 182, 0, 176, 28, 172, 42, 27, 4, 96, 182, 0, 199, 61, 42]
abbrev dktX8_test_4 : List UInt8 := dkwX8_test_4 ++ dktX8_test_5
def dkwX8_test_3 : List UInt8 := [16, 91, 160, 0, 36, 42, 16, 91, 182, 0, 176, 42, 180, 0, 155, 153, 0, 7, 2, 167, 0, 10, 42, 27]
abbrev dktX8_test_3 : List UInt8 := dkwX8_test_3 ++ dktX8_test_4
def dkwX8_test_2 : List UInt8 := [153, 0, 7, 2, 167, 0, 10, 42, 27, 4, 96, 182, 0, 205, 182, 0, 185, 28, 172, 42, 182, 0, 162]
abbrev dktX8_test_2 : List UInt8 := dkwX8_test_2 ++ dktX8_test_3
def dkwX8_test_1 : List UInt8 := [182, 0, 172, 61, 42, 16, 33, 182, 0, 176, 42, 27, 4, 96, 182, 0, 179, 42, 28, 42, 180, 0, 155]
abbrev dktX8_test_1 : List UInt8 := dkwX8_test_1 ++ dktX8_test_2
def dkwX8_test_0 : List UInt8 := [42, 182, 0, 162, 16, 33, 160, 0, 58, 42, 16, 26, 42, 180, 0, 22, 42, 180, 0, 159, 46, 3]
abbrev dktX8_test_0 : List UInt8 := dkwX8_test_0 ++ dktX8_test_1
theorem dksX8_test_0 : cX8_test.data.toList.drop 0 = dktX8_test_0 := by decide +kernel
theorem dksX8_test_1 : cX8_test.data.toList.drop 22 = dktX8_test_1 := dk_seg dksX8_test_0 22 rfl rfl
theorem dksX8_test_2 : cX8_test.data.toList.drop 45 = dktX8_test_2 := dk_seg dksX8_test_1 23 rfl rfl
theorem dksX8_test_3 : cX8_test.data.toList.drop 68 = dktX8_test_3 := dk_seg dksX8_test_2 23 rfl rfl
theorem dksX8_test_4 : cX8_test.data.toList.drop 92 = dktX8_test_4 := dk_seg dksX8_test_3 24 rfl rfl
theorem dksX8_test_5 : cX8_test.data.toList.drop 115 = dktX8_test_5 := dk_seg dksX8_test_4 23 rfl rfl
theorem dksX8_test_6 : cX8_test.data.toList.drop 139 = dktX8_test_6 := dk_seg dksX8_test_5 24 rfl rfl
theorem dksX8_test_7 : cX8_test.data.toList.drop 162 = dktX8_test_7 := dk_seg dksX8_test_6 23 rfl rfl
theorem dksX8_test_8 : cX8_test.data.toList.drop 186 = dktX8_test_8 := dk_seg dksX8_test_7 24 rfl rfl
theorem dksX8_test_9 : cX8_test.data.toList.drop 210 = dktX8_test_9 := dk_seg dksX8_test_8 24 rfl rfl
theorem dksX8_test_10 : cX8_test.data.toList.drop 232 = dktX8_test_10 := dk_seg dksX8_test_9 22 rfl rfl
theorem dksX8_test_11 : cX8_test.data.toList.drop 255 = dktX8_test_11 := dk_seg dksX8_test_10 23 rfl rfl
theorem dX8_test_0 : decode cX8_test 0 = .ok (.aload_n 0, 1) := dk_42 (dk_at dksX8_test_0 0 rfl rfl)
theorem dX8_test_1 : decode cX8_test 1 = .ok (.invokevirtual 162, 3) := dk_182 0 162 (dk_at dksX8_test_0 1 rfl rfl)
theorem dX8_test_4 : decode cX8_test 4 = .ok (.bipush 33, 2) := dk_16 33 (dk_at dksX8_test_0 4 rfl rfl)
theorem dX8_test_6 : decode cX8_test 6 = .ok (.if_icmp .ne 58, 3) := dk_160 0 58 (dk_at dksX8_test_0 6 rfl rfl)
theorem dX8_test_9 : decode cX8_test 9 = .ok (.aload_n 0, 1) := dk_42 (dk_at dksX8_test_0 9 rfl rfl)
theorem dX8_test_10 : decode cX8_test 10 = .ok (.bipush 26, 2) := dk_16 26 (dk_at dksX8_test_0 10 rfl rfl)
theorem dX8_test_12 : decode cX8_test 12 = .ok (.aload_n 0, 1) := dk_42 (dk_at dksX8_test_0 12 rfl rfl)
theorem dX8_test_13 : decode cX8_test 13 = .ok (.getfield 22, 3) := dk_180 0 22 (dk_at dksX8_test_0 13 rfl rfl)
theorem dX8_test_16 : decode cX8_test 16 = .ok (.aload_n 0, 1) := dk_42 (dk_at dksX8_test_0 16 rfl rfl)
theorem dX8_test_17 : decode cX8_test 17 = .ok (.getfield 159, 3) := dk_180 0 159 (dk_at dksX8_test_0 17 rfl rfl)
theorem dX8_test_20 : decode cX8_test 20 = .ok (.iaload, 1) := dk_46 (dk_at dksX8_test_0 20 rfl rfl)
theorem dX8_test_21 : decode cX8_test 21 = .ok (.iconst 0, 1) := dk_3 (dk_at dksX8_test_0 21 rfl rfl)
theorem dX8_test_22 : decode cX8_test 22 = .ok (.invokevirtual 172, 3) := dk_182 0 172 (dk_at dksX8_test_1 0 rfl rfl)
theorem dX8_test_25 : decode cX8_test 25 = .ok (.istore_n 2, 1) := dk_61 (dk_at dksX8_test_1 3 rfl rfl)
theorem dX8_test_26 : decode cX8_test 26 = .ok (.aload_n 0, 1) := dk_42 (dk_at dksX8_test_1 4 rfl rfl)
theorem dX8_test_27 : decode cX8_test 27 = .ok (.bipush 33, 2) := dk_16 33 (dk_at dksX8_test_1 5 rfl rfl)
theorem dX8_test_29 : decode cX8_test 29 = .ok (.invokevirtual 176, 3) := dk_182 0 176 (dk_at dksX8_test_1 7 rfl rfl)
theorem dX8_test_32 : decode cX8_test 32 = .ok (.aload_n 0, 1) := dk_42 (dk_at dksX8_test_1 10 rfl rfl)
theorem dX8_test_33 : decode cX8_test 33 = .ok (.iload_n 1, 1) := dk_27 (dk_at dksX8_test_1 11 rfl rfl)
theorem dX8_test_34 : decode cX8_test 34 = .ok (.iconst 1, 1) := dk_4 (dk_at dksX8_test_1 12 rfl rfl)
theorem dX8_test_35 : decode cX8_test 35 = .ok (.iadd, 1) := dk_96 (dk_at dksX8_test_1 13 rfl rfl)
theorem dX8_test_36 : decode cX8_test 36 = .ok (.invokevirtual 179, 3) := dk_182 0 179 (dk_at dksX8_test_1 14 rfl rfl)
theorem dX8_test_39 : decode cX8_test 39 = .ok (.aload_n 0, 1) := dk_42 (dk_at dksX8_test_1 17 rfl rfl)
theorem dX8_test_40 : decode cX8_test 40 = .ok (.iload_n 2, 1) := dk_28 (dk_at dksX8_test_1 18 rfl rfl)
theorem dX8_test_41 : decode cX8_test 41 = .ok (.aload_n 0, 1) := dk_42 (dk_at dksX8_test_1 19 rfl rfl)
theorem dX8_test_42 : decode cX8_test 42 = .ok (.getfield 155, 3) := dk_180 0 155 (dk_at dksX8_test_1 20 rfl rfl)
theorem dX8_test_45 : decode cX8_test 45 = .ok (.ifCond .eq 7, 3) := dk_153 0 7 (dk_at dksX8_test_2 0 rfl rfl)
theorem dX8_test_48 : decode cX8_test 48 = .ok (.iconst (-1), 1) := dk_2 (dk_at dksX8_test_2 3 rfl rfl)
theorem dX8_test_49 : decode cX8_test 49 = .ok (.goto 10, 3) := dk_167 0 10 (dk_at dksX8_test_2 4 rfl rfl)
theorem dX8_test_52 : decode cX8_test 52 = .ok (.aload_n 0, 1) := dk_42 (dk_at dksX8_test_2 7 rfl rfl)
theorem dX8_test_53 : decode cX8_test 53 = .ok (.iload_n 1, 1) := dk_27 (dk_at dksX8_test_2 8 rfl rfl)
theorem dX8_test_54 : decode cX8_test 54 = .ok (.iconst 1, 1) := dk_4 (dk_at dksX8_test_2 9 rfl rfl)
theorem dX8_test_55 : decode cX8_test 55 = .ok (.iadd, 1) := dk_96 (dk_at dksX8_test_2 10 rfl rfl)
theorem dX8_test_56 : decode cX8_test 56 = .ok (.invokevirtual 205, 3) := dk_182 0 205 (dk_at dksX8_test_2 11 rfl rfl)
theorem dX8_test_59 : decode cX8_test 59 = .ok (.invokevirtual 185, 3) := dk_182 0 185 (dk_at dksX8_test_2 14 rfl rfl)
theorem dX8_test_62 : decode cX8_test 62 = .ok (.iload_n 2, 1) := dk_28 (dk_at dksX8_test_2 17 rfl rfl)
theorem dX8_test_63 : decode cX8_test 63 = .ok (.ireturn, 1) := dk_172 (dk_at dksX8_test_2 18 rfl rfl)
theorem dX8_test_64 : decode cX8_test 64 = .ok (.aload_n 0, 1) := dk_42 (dk_at dksX8_test_2 19 rfl rfl)
theorem dX8_test_65 : decode cX8_test 65 = .ok (.invokevirtual 162, 3) := dk_182 0 162 (dk_at dksX8_test_2 20 rfl rfl)
theorem dX8_test_68 : decode cX8_test 68 = .ok (.bipush 91, 2) := dk_16 91 (dk_at dksX8_test_3 0 rfl rfl)
theorem dX8_test_70 : decode cX8_test 70 = .ok (.if_icmp .ne 36, 3) := dk_160 0 36 (dk_at dksX8_test_3 2 rfl rfl)
theorem dX8_test_73 : decode cX8_test 73 = .ok (.aload_n 0, 1) := dk_42 (dk_at dksX8_test_3 5 rfl rfl)
theorem dX8_test_74 : decode cX8_test 74 = .ok (.bipush 91, 2) := dk_16 91 (dk_at dksX8_test_3 6 rfl rfl)
theorem dX8_test_76 : decode cX8_test 76 = .ok (.invokevirtual 176, 3) := dk_182 0 176 (dk_at dksX8_test_3 8 rfl rfl)
theorem dX8_test_79 : decode cX8_test 79 = .ok (.aload_n 0, 1) := dk_42 (dk_at dksX8_test_3 11 rfl rfl)
theorem dX8_test_80 : decode cX8_test 80 = .ok (.getfield 155, 3) := dk_180 0 155 (dk_at dksX8_test_3 12 rfl rfl)
theorem dX8_test_83 : decode cX8_test 83 = .ok (.ifCond .eq 7, 3) := dk_153 0 7 (dk_at dksX8_test_3 15 rfl rfl)
theorem dX8_test_86 : decode cX8_test 86 = .ok (.iconst (-1), 1) := dk_2 (dk_at dksX8_test_3 18 rfl rfl)
theorem dX8_test_87 : decode cX8_test 87 = .ok (.goto 10, 3) := dk_167 0 10 (dk_at dksX8_test_3 19 rfl rfl)
theorem dX8_test_90 : decode cX8_test 90 = .ok (.aload_n 0, 1) := dk_42 (dk_at dksX8_test_3 22 rfl rfl)
theorem dX8_test_91 : decode cX8_test 91 = .ok (.iload_n 1, 1) := dk_27 (dk_at dksX8_test_3 23 rfl rfl)
theorem dX8_test_92 : decode cX8_test 92 = .ok (.iconst 1, 1) := dk_4 (dk_at dksX8_test_4 0 rfl rfl)
theorem dX8_test_93 : decode cX8_test 93 = .ok (.iadd, 1) := dk_96 (dk_at dksX8_test_4 1 rfl rfl)
theorem dX8_test_94 : decode cX8_test 94 = .ok (.invokevirtual 208, 3) := dk_182 0 208 (dk_at dksX8_test_4 2 rfl rfl)
theorem dX8_test_97 : decode cX8_test 97 = .ok (.istore_n 2, 1) := dk_61 (dk_at dksX8_test_4 5 rfl rfl)
theorem dX8_test_98 : decode cX8_test 98 = .ok (.aload_n 0, 1) := dk_42 (dk_at dksX8_test_4 6 rfl rfl)
theorem dX8_test_99 : decode cX8_test 99 = .ok (.bipush 93, 2) := dk_16 93 (dk_at dksX8_test_4 7 rfl rfl)
theorem dX8_test_101 : decode cX8_test 101 = .ok (.invokevirtual 176, 3) := dk_182 0 176 (dk_at dksX8_test_4 9 rfl rfl)
theorem dX8_test_104 : decode cX8_test 104 = .ok (.iload_n 2, 1) := dk_28 (dk_at dksX8_test_4 12 rfl rfl)
theorem dX8_test_105 : decode cX8_test 105 = .ok (.ireturn, 1) := dk_172 (dk_at dksX8_test_4 13 rfl rfl)
theorem dX8_test_106 : decode cX8_test 106 = .ok (.aload_n 0, 1) := dk_42 (dk_at dksX8_test_4 14 rfl rfl)
theorem dX8_test_107 : decode cX8_test 107 = .ok (.iload_n 1, 1) := dk_27 (dk_at dksX8_test_4 15 rfl rfl)
theorem dX8_test_108 : decode cX8_test 108 = .ok (.iconst 1, 1) := dk_4 (dk_at dksX8_test_4 16 rfl rfl)
theorem dX8_test_109 : decode cX8_test 109 = .ok (.iadd, 1) := dk_96 (dk_at dksX8_test_4 17 rfl rfl)
theorem dX8_test_110 : decode cX8_test 110 = .ok (.invokevirtual 199, 3) := dk_182 0 199 (dk_at dksX8_test_4 18 rfl rfl)
theorem dX8_test_113 : decode cX8_test 113 = .ok (.istore_n 2, 1) := dk_61 (dk_at dksX8_test_4 21 rfl rfl)
theorem dX8_test_114 : decode cX8_test 114 = .ok (.aload_n 0, 1) := dk_42 (dk_at dksX8_test_4 22 rfl rfl)
theorem dX8_test_115 : decode cX8_test 115 = .ok (.invokevirtual 162, 3) := dk_182 0 162 (dk_at dksX8_test_5 0 rfl rfl)
theorem dX8_test_118 : decode cX8_test 118 = .ok (.istore_n 3, 1) := dk_62 (dk_at dksX8_test_5 3 rfl rfl)
theorem dX8_test_119 : decode cX8_test 119 = .ok (.iload_n 3, 1) := dk_29 (dk_at dksX8_test_5 4 rfl rfl)
theorem dX8_test_120 : decode cX8_test 120 = .ok (.bipush 60, 2) := dk_16 60 (dk_at dksX8_test_5 5 rfl rfl)
theorem dX8_test_122 : decode cX8_test 122 = .ok (.if_icmp .ne 8, 3) := dk_160 0 8 (dk_at dksX8_test_5 7 rfl rfl)
theorem dX8_test_125 : decode cX8_test 125 = .ok (.bipush 27, 2) := dk_16 27 (dk_at dksX8_test_5 10 rfl rfl)
theorem dX8_test_127 : decode cX8_test 127 = .ok (.goto 63, 3) := dk_167 0 63 (dk_at dksX8_test_5 12 rfl rfl)
theorem dX8_test_130 : decode cX8_test 130 = .ok (.iload_n 3, 1) := dk_29 (dk_at dksX8_test_5 15 rfl rfl)
theorem dX8_test_131 : decode cX8_test 131 = .ok (.sipush 256, 3) := dk_17 1 0 (dk_at dksX8_test_5 16 rfl rfl)
theorem dX8_test_134 : decode cX8_test 134 = .ok (.if_icmp .ne 8, 3) := dk_160 0 8 (dk_at dksX8_test_5 19 rfl rfl)
theorem dX8_test_137 : decode cX8_test 137 = .ok (.bipush 28, 2) := dk_16 28 (dk_at dksX8_test_5 22 rfl rfl)
theorem dX8_test_139 : decode cX8_test 139 = .ok (.goto 51, 3) := dk_167 0 51 (dk_at dksX8_test_6 0 rfl rfl)
theorem dX8_test_142 : decode cX8_test 142 = .ok (.iload_n 3, 1) := dk_29 (dk_at dksX8_test_6 3 rfl rfl)
theorem dX8_test_143 : decode cX8_test 143 = .ok (.bipush 62, 2) := dk_16 62 (dk_at dksX8_test_6 4 rfl rfl)
theorem dX8_test_145 : decode cX8_test 145 = .ok (.if_icmp .ne 8, 3) := dk_160 0 8 (dk_at dksX8_test_6 6 rfl rfl)
theorem dX8_test_148 : decode cX8_test 148 = .ok (.bipush 29, 2) := dk_16 29 (dk_at dksX8_test_6 9 rfl rfl)
theorem dX8_test_150 : decode cX8_test 150 = .ok (.goto 40, 3) := dk_167 0 40 (dk_at dksX8_test_6 11 rfl rfl)
theorem dX8_test_153 : decode cX8_test 153 = .ok (.iload_n 3, 1) := dk_29 (dk_at dksX8_test_6 14 rfl rfl)
theorem dX8_test_154 : decode cX8_test 154 = .ok (.sipush 257, 3) := dk_17 1 1 (dk_at dksX8_test_6 15 rfl rfl)
theorem dX8_test_157 : decode cX8_test 157 = .ok (.if_icmp .ne 8, 3) := dk_160 0 8 (dk_at dksX8_test_6 18 rfl rfl)
theorem dX8_test_160 : decode cX8_test 160 = .ok (.bipush 30, 2) := dk_16 30 (dk_at dksX8_test_6 21 rfl rfl)
theorem dX8_test_162 : decode cX8_test 162 = .ok (.goto 28, 3) := dk_167 0 28 (dk_at dksX8_test_7 0 rfl rfl)
theorem dX8_test_165 : decode cX8_test 165 = .ok (.iload_n 3, 1) := dk_29 (dk_at dksX8_test_7 3 rfl rfl)
theorem dX8_test_166 : decode cX8_test 166 = .ok (.sipush 258, 3) := dk_17 1 2 (dk_at dksX8_test_7 4 rfl rfl)
theorem dX8_test_169 : decode cX8_test 169 = .ok (.if_icmp .ne 8, 3) := dk_160 0 8 (dk_at dksX8_test_7 7 rfl rfl)
theorem dX8_test_172 : decode cX8_test 172 = .ok (.bipush 31, 2) := dk_16 31 (dk_at dksX8_test_7 10 rfl rfl)
theorem dX8_test_174 : decode cX8_test 174 = .ok (.goto 16, 3) := dk_167 0 16 (dk_at dksX8_test_7 12 rfl rfl)
theorem dX8_test_177 : decode cX8_test 177 = .ok (.iload_n 3, 1) := dk_29 (dk_at dksX8_test_7 15 rfl rfl)
theorem dX8_test_178 : decode cX8_test 178 = .ok (.sipush 259, 3) := dk_17 1 3 (dk_at dksX8_test_7 16 rfl rfl)
theorem dX8_test_181 : decode cX8_test 181 = .ok (.if_icmp .ne 8, 3) := dk_160 0 8 (dk_at dksX8_test_7 19 rfl rfl)
theorem dX8_test_184 : decode cX8_test 184 = .ok (.bipush 32, 2) := dk_16 32 (dk_at dksX8_test_7 22 rfl rfl)
theorem dX8_test_186 : decode cX8_test 186 = .ok (.goto 4, 3) := dk_167 0 4 (dk_at dksX8_test_8 0 rfl rfl)
theorem dX8_test_189 : decode cX8_test 189 = .ok (.iconst 0, 1) := dk_3 (dk_at dksX8_test_8 3 rfl rfl)
theorem dX8_test_190 : decode cX8_test 190 = .ok (.istore 4, 2) := dk_54 4 (dk_at dksX8_test_8 4 rfl rfl)
theorem dX8_test_192 : decode cX8_test 192 = .ok (.aload_n 0, 1) := dk_42 (dk_at dksX8_test_8 6 rfl rfl)
theorem dX8_test_193 : decode cX8_test 193 = .ok (.iload 4, 2) := dk_21 4 (dk_at dksX8_test_8 7 rfl rfl)
theorem dX8_test_195 : decode cX8_test 195 = .ok (.ifCond .le 7, 3) := dk_158 0 7 (dk_at dksX8_test_8 9 rfl rfl)
theorem dX8_test_198 : decode cX8_test 198 = .ok (.iconst 1, 1) := dk_4 (dk_at dksX8_test_8 12 rfl rfl)
theorem dX8_test_199 : decode cX8_test 199 = .ok (.goto 4, 3) := dk_167 0 4 (dk_at dksX8_test_8 13 rfl rfl)
theorem dX8_test_202 : decode cX8_test 202 = .ok (.iconst 0, 1) := dk_3 (dk_at dksX8_test_8 16 rfl rfl)
theorem dX8_test_203 : decode cX8_test 203 = .ok (.invokevirtual 165, 3) := dk_182 0 165 (dk_at dksX8_test_8 17 rfl rfl)
theorem dX8_test_206 : decode cX8_test 206 = .ok (.aload_n 0, 1) := dk_42 (dk_at dksX8_test_8 20 rfl rfl)
theorem dX8_test_207 : decode cX8_test 207 = .ok (.getfield 155, 3) := dk_180 0 155 (dk_at dksX8_test_8 21 rfl rfl)
theorem dX8_test_210 : decode cX8_test 210 = .ok (.ifCond .eq 5, 3) := dk_153 0 5 (dk_at dksX8_test_9 0 rfl rfl)
theorem dX8_test_213 : decode cX8_test 213 = .ok (.iconst (-1), 1) := dk_2 (dk_at dksX8_test_9 3 rfl rfl)
theorem dX8_test_214 : decode cX8_test 214 = .ok (.ireturn, 1) := dk_172 (dk_at dksX8_test_9 4 rfl rfl)
theorem dX8_test_215 : decode cX8_test 215 = .ok (.aload_n 0, 1) := dk_42 (dk_at dksX8_test_9 5 rfl rfl)
theorem dX8_test_216 : decode cX8_test 216 = .ok (.iload 4, 2) := dk_21 4 (dk_at dksX8_test_9 6 rfl rfl)
theorem dX8_test_218 : decode cX8_test 218 = .ok (.aload_n 0, 1) := dk_42 (dk_at dksX8_test_9 8 rfl rfl)
theorem dX8_test_219 : decode cX8_test 219 = .ok (.getfield 35, 3) := dk_180 0 35 (dk_at dksX8_test_9 9 rfl rfl)
theorem dX8_test_222 : decode cX8_test 222 = .ok (.iload_n 2, 1) := dk_28 (dk_at dksX8_test_9 12 rfl rfl)
theorem dX8_test_223 : decode cX8_test 223 = .ok (.iaload, 1) := dk_46 (dk_at dksX8_test_9 13 rfl rfl)
theorem dX8_test_224 : decode cX8_test 224 = .ok (.iconst 0, 1) := dk_3 (dk_at dksX8_test_9 14 rfl rfl)
theorem dX8_test_225 : decode cX8_test 225 = .ok (.invokevirtual 172, 3) := dk_182 0 172 (dk_at dksX8_test_9 15 rfl rfl)
theorem dX8_test_228 : decode cX8_test 228 = .ok (.istore 5, 2) := dk_54 5 (dk_at dksX8_test_9 18 rfl rfl)
theorem dX8_test_230 : decode cX8_test 230 = .ok (.aload_n 0, 1) := dk_42 (dk_at dksX8_test_9 20 rfl rfl)
theorem dX8_test_231 : decode cX8_test 231 = .ok (.iload_n 3, 1) := dk_29 (dk_at dksX8_test_9 21 rfl rfl)
theorem dX8_test_232 : decode cX8_test 232 = .ok (.invokevirtual 176, 3) := dk_182 0 176 (dk_at dksX8_test_10 0 rfl rfl)
theorem dX8_test_235 : decode cX8_test 235 = .ok (.aload_n 0, 1) := dk_42 (dk_at dksX8_test_10 3 rfl rfl)
theorem dX8_test_236 : decode cX8_test 236 = .ok (.iload 5, 2) := dk_21 5 (dk_at dksX8_test_10 4 rfl rfl)
theorem dX8_test_238 : decode cX8_test 238 = .ok (.iload_n 2, 1) := dk_28 (dk_at dksX8_test_10 6 rfl rfl)
theorem dX8_test_239 : decode cX8_test 239 = .ok (.invokevirtual 185, 3) := dk_182 0 185 (dk_at dksX8_test_10 7 rfl rfl)
theorem dX8_test_242 : decode cX8_test 242 = .ok (.aload_n 0, 1) := dk_42 (dk_at dksX8_test_10 10 rfl rfl)
theorem dX8_test_243 : decode cX8_test 243 = .ok (.iload 5, 2) := dk_21 5 (dk_at dksX8_test_10 11 rfl rfl)
theorem dX8_test_245 : decode cX8_test 245 = .ok (.aload_n 0, 1) := dk_42 (dk_at dksX8_test_10 13 rfl rfl)
theorem dX8_test_246 : decode cX8_test 246 = .ok (.iload_n 1, 1) := dk_27 (dk_at dksX8_test_10 14 rfl rfl)
theorem dX8_test_247 : decode cX8_test 247 = .ok (.iconst 1, 1) := dk_4 (dk_at dksX8_test_10 15 rfl rfl)
theorem dX8_test_248 : decode cX8_test 248 = .ok (.iadd, 1) := dk_96 (dk_at dksX8_test_10 16 rfl rfl)
theorem dX8_test_249 : decode cX8_test 249 = .ok (.invokevirtual 199, 3) := dk_182 0 199 (dk_at dksX8_test_10 17 rfl rfl)
theorem dX8_test_252 : decode cX8_test 252 = .ok (.invokevirtual 185, 3) := dk_182 0 185 (dk_at dksX8_test_10 20 rfl rfl)
theorem dX8_test_255 : decode cX8_test 255 = .ok (.iload 5, 2) := dk_21 5 (dk_at dksX8_test_11 0 rfl rfl)
theorem dX8_test_257 : decode cX8_test 257 = .ok (.ireturn, 1) := dk_172 (dk_at dksX8_test_11 2 rfl rfl)
abbrev cX8_keep : ByteArray := prog_10_method_33_code
def yX8_keep : MethodName := ⟨RX8, "keep", "(II)V"⟩
def dkwX8_keep_7 : List UInt8 := [167, 0, 6, 2, 54, 4, 167, 255, 93, 177]
abbrev dktX8_keep_7 : List UInt8 := dkwX8_keep_7 ++ []
def dkwX8_keep_6 : List UInt8 := [158, 0, 27, 132, 3, 254, 42, 180, 0, 50, 29, 46, 54, 4, 42, 180, 0, 50, 29, 4, 96, 46, 54, 5]
abbrev dktX8_keep_6 : List UInt8 := dkwX8_keep_6 ++ dktX8_keep_7
def dkwX8_keep_5 : List UInt8 := [21, 4, 46, 2, 159, 0, 19, 42, 180, 0, 41, 21, 4, 46, 54, 4, 21, 6, 54, 5, 167, 0, 34, 29]
abbrev dktX8_keep_5 : List UInt8 := dkwX8_keep_5 ++ dktX8_keep_6
def dkwX8_keep_4 : List UInt8 := [180, 0, 47, 21, 4, 46, 79, 42, 180, 0, 50, 29, 4, 96, 21, 5, 79, 132, 3, 2, 42, 180, 0, 41]
abbrev dktX8_keep_4 : List UInt8 := dkwX8_keep_4 ++ dktX8_keep_5
def dkwX8_keep_3 : List UInt8 := [180, 0, 47, 21, 4, 46, 2, 159, 0, 35, 21, 4, 28, 159, 0, 29, 42, 180, 0, 50, 29, 42]
abbrev dktX8_keep_3 : List UInt8 := dkwX8_keep_3 ++ dktX8_keep_4
def dkwX8_keep_2 : List UInt8 := [21, 4, 46, 182, 0, 226, 167, 0, 10, 42, 180, 0, 38, 21, 4, 46, 21, 5, 182, 0, 103, 54, 6, 42]
abbrev dktX8_keep_2 : List UInt8 := dkwX8_keep_2 ++ dktX8_keep_3
def dkwX8_keep_1 : List UInt8 := [180, 0, 35, 21, 4, 46, 42, 180, 0, 32, 21, 4, 46, 16, 13, 160, 0, 17, 42, 42, 180, 0, 38]
abbrev dktX8_keep_1 : List UInt8 := dkwX8_keep_1 ++ dktX8_keep_2
def dkwX8_keep_0 : List UInt8 := [3, 62, 28, 54, 4, 3, 54, 5, 21, 4, 2, 159, 0, 163, 42, 27, 42, 180, 0, 32, 21, 4, 46, 42]
abbrev dktX8_keep_0 : List UInt8 := dkwX8_keep_0 ++ dktX8_keep_1
theorem dksX8_keep_0 : cX8_keep.data.toList.drop 0 = dktX8_keep_0 := by decide +kernel
theorem dksX8_keep_1 : cX8_keep.data.toList.drop 24 = dktX8_keep_1 := dk_seg dksX8_keep_0 24 rfl rfl
theorem dksX8_keep_2 : cX8_keep.data.toList.drop 47 = dktX8_keep_2 := dk_seg dksX8_keep_1 23 rfl rfl
theorem dksX8_keep_3 : cX8_keep.data.toList.drop 71 = dktX8_keep_3 := dk_seg dksX8_keep_2 24 rfl rfl
theorem dksX8_keep_4 : cX8_keep.data.toList.drop 93 = dktX8_keep_4 := dk_seg dksX8_keep_3 22 rfl rfl
theorem dksX8_keep_5 : cX8_keep.data.toList.drop 117 = dktX8_keep_5 := dk_seg dksX8_keep_4 24 rfl rfl
theorem dksX8_keep_6 : cX8_keep.data.toList.drop 141 = dktX8_keep_6 := dk_seg dksX8_keep_5 24 rfl rfl
theorem dksX8_keep_7 : cX8_keep.data.toList.drop 165 = dktX8_keep_7 := dk_seg dksX8_keep_6 24 rfl rfl
theorem dX8_keep_0 : decode cX8_keep 0 = .ok (.iconst 0, 1) := dk_3 (dk_at dksX8_keep_0 0 rfl rfl)
theorem dX8_keep_1 : decode cX8_keep 1 = .ok (.istore_n 3, 1) := dk_62 (dk_at dksX8_keep_0 1 rfl rfl)
theorem dX8_keep_2 : decode cX8_keep 2 = .ok (.iload_n 2, 1) := dk_28 (dk_at dksX8_keep_0 2 rfl rfl)
theorem dX8_keep_3 : decode cX8_keep 3 = .ok (.istore 4, 2) := dk_54 4 (dk_at dksX8_keep_0 3 rfl rfl)
theorem dX8_keep_5 : decode cX8_keep 5 = .ok (.iconst 0, 1) := dk_3 (dk_at dksX8_keep_0 5 rfl rfl)
theorem dX8_keep_6 : decode cX8_keep 6 = .ok (.istore 5, 2) := dk_54 5 (dk_at dksX8_keep_0 6 rfl rfl)
theorem dX8_keep_8 : decode cX8_keep 8 = .ok (.iload 4, 2) := dk_21 4 (dk_at dksX8_keep_0 8 rfl rfl)
theorem dX8_keep_10 : decode cX8_keep 10 = .ok (.iconst (-1), 1) := dk_2 (dk_at dksX8_keep_0 10 rfl rfl)
theorem dX8_keep_11 : decode cX8_keep 11 = .ok (.if_icmp .eq 163, 3) := dk_159 0 163 (dk_at dksX8_keep_0 11 rfl rfl)
theorem dX8_keep_14 : decode cX8_keep 14 = .ok (.aload_n 0, 1) := dk_42 (dk_at dksX8_keep_0 14 rfl rfl)
theorem dX8_keep_15 : decode cX8_keep 15 = .ok (.iload_n 1, 1) := dk_27 (dk_at dksX8_keep_0 15 rfl rfl)
theorem dX8_keep_16 : decode cX8_keep 16 = .ok (.aload_n 0, 1) := dk_42 (dk_at dksX8_keep_0 16 rfl rfl)
theorem dX8_keep_17 : decode cX8_keep 17 = .ok (.getfield 32, 3) := dk_180 0 32 (dk_at dksX8_keep_0 17 rfl rfl)
theorem dX8_keep_20 : decode cX8_keep 20 = .ok (.iload 4, 2) := dk_21 4 (dk_at dksX8_keep_0 20 rfl rfl)
theorem dX8_keep_22 : decode cX8_keep 22 = .ok (.iaload, 1) := dk_46 (dk_at dksX8_keep_0 22 rfl rfl)
theorem dX8_keep_23 : decode cX8_keep 23 = .ok (.aload_n 0, 1) := dk_42 (dk_at dksX8_keep_0 23 rfl rfl)
theorem dX8_keep_24 : decode cX8_keep 24 = .ok (.getfield 35, 3) := dk_180 0 35 (dk_at dksX8_keep_1 0 rfl rfl)
theorem dX8_keep_27 : decode cX8_keep 27 = .ok (.iload 4, 2) := dk_21 4 (dk_at dksX8_keep_1 3 rfl rfl)
theorem dX8_keep_29 : decode cX8_keep 29 = .ok (.iaload, 1) := dk_46 (dk_at dksX8_keep_1 5 rfl rfl)
theorem dX8_keep_30 : decode cX8_keep 30 = .ok (.aload_n 0, 1) := dk_42 (dk_at dksX8_keep_1 6 rfl rfl)
theorem dX8_keep_31 : decode cX8_keep 31 = .ok (.getfield 32, 3) := dk_180 0 32 (dk_at dksX8_keep_1 7 rfl rfl)
theorem dX8_keep_34 : decode cX8_keep 34 = .ok (.iload 4, 2) := dk_21 4 (dk_at dksX8_keep_1 10 rfl rfl)
theorem dX8_keep_36 : decode cX8_keep 36 = .ok (.iaload, 1) := dk_46 (dk_at dksX8_keep_1 12 rfl rfl)
theorem dX8_keep_37 : decode cX8_keep 37 = .ok (.bipush 13, 2) := dk_16 13 (dk_at dksX8_keep_1 13 rfl rfl)
theorem dX8_keep_39 : decode cX8_keep 39 = .ok (.if_icmp .ne 17, 3) := dk_160 0 17 (dk_at dksX8_keep_1 15 rfl rfl)
theorem dX8_keep_42 : decode cX8_keep 42 = .ok (.aload_n 0, 1) := dk_42 (dk_at dksX8_keep_1 18 rfl rfl)
theorem dX8_keep_43 : decode cX8_keep 43 = .ok (.aload_n 0, 1) := dk_42 (dk_at dksX8_keep_1 19 rfl rfl)
theorem dX8_keep_44 : decode cX8_keep 44 = .ok (.getfield 38, 3) := dk_180 0 38 (dk_at dksX8_keep_1 20 rfl rfl)
theorem dX8_keep_47 : decode cX8_keep 47 = .ok (.iload 4, 2) := dk_21 4 (dk_at dksX8_keep_2 0 rfl rfl)
theorem dX8_keep_49 : decode cX8_keep 49 = .ok (.iaload, 1) := dk_46 (dk_at dksX8_keep_2 2 rfl rfl)
theorem dX8_keep_50 : decode cX8_keep 50 = .ok (.invokevirtual 226, 3) := dk_182 0 226 (dk_at dksX8_keep_2 3 rfl rfl)
theorem dX8_keep_53 : decode cX8_keep 53 = .ok (.goto 10, 3) := dk_167 0 10 (dk_at dksX8_keep_2 6 rfl rfl)
theorem dX8_keep_56 : decode cX8_keep 56 = .ok (.aload_n 0, 1) := dk_42 (dk_at dksX8_keep_2 9 rfl rfl)
theorem dX8_keep_57 : decode cX8_keep 57 = .ok (.getfield 38, 3) := dk_180 0 38 (dk_at dksX8_keep_2 10 rfl rfl)
theorem dX8_keep_60 : decode cX8_keep 60 = .ok (.iload 4, 2) := dk_21 4 (dk_at dksX8_keep_2 13 rfl rfl)
theorem dX8_keep_62 : decode cX8_keep 62 = .ok (.iaload, 1) := dk_46 (dk_at dksX8_keep_2 15 rfl rfl)
theorem dX8_keep_63 : decode cX8_keep 63 = .ok (.iload 5, 2) := dk_21 5 (dk_at dksX8_keep_2 16 rfl rfl)
theorem dX8_keep_65 : decode cX8_keep 65 = .ok (.invokevirtual 103, 3) := dk_182 0 103 (dk_at dksX8_keep_2 18 rfl rfl)
theorem dX8_keep_68 : decode cX8_keep 68 = .ok (.istore 6, 2) := dk_54 6 (dk_at dksX8_keep_2 21 rfl rfl)
theorem dX8_keep_70 : decode cX8_keep 70 = .ok (.aload_n 0, 1) := dk_42 (dk_at dksX8_keep_2 23 rfl rfl)
theorem dX8_keep_71 : decode cX8_keep 71 = .ok (.getfield 47, 3) := dk_180 0 47 (dk_at dksX8_keep_3 0 rfl rfl)
theorem dX8_keep_74 : decode cX8_keep 74 = .ok (.iload 4, 2) := dk_21 4 (dk_at dksX8_keep_3 3 rfl rfl)
theorem dX8_keep_76 : decode cX8_keep 76 = .ok (.iaload, 1) := dk_46 (dk_at dksX8_keep_3 5 rfl rfl)
theorem dX8_keep_77 : decode cX8_keep 77 = .ok (.iconst (-1), 1) := dk_2 (dk_at dksX8_keep_3 6 rfl rfl)
theorem dX8_keep_78 : decode cX8_keep 78 = .ok (.if_icmp .eq 35, 3) := dk_159 0 35 (dk_at dksX8_keep_3 7 rfl rfl)
theorem dX8_keep_81 : decode cX8_keep 81 = .ok (.iload 4, 2) := dk_21 4 (dk_at dksX8_keep_3 10 rfl rfl)
theorem dX8_keep_83 : decode cX8_keep 83 = .ok (.iload_n 2, 1) := dk_28 (dk_at dksX8_keep_3 12 rfl rfl)
theorem dX8_keep_84 : decode cX8_keep 84 = .ok (.if_icmp .eq 29, 3) := dk_159 0 29 (dk_at dksX8_keep_3 13 rfl rfl)
theorem dX8_keep_87 : decode cX8_keep 87 = .ok (.aload_n 0, 1) := dk_42 (dk_at dksX8_keep_3 16 rfl rfl)
theorem dX8_keep_88 : decode cX8_keep 88 = .ok (.getfield 50, 3) := dk_180 0 50 (dk_at dksX8_keep_3 17 rfl rfl)
theorem dX8_keep_91 : decode cX8_keep 91 = .ok (.iload_n 3, 1) := dk_29 (dk_at dksX8_keep_3 20 rfl rfl)
theorem dX8_keep_92 : decode cX8_keep 92 = .ok (.aload_n 0, 1) := dk_42 (dk_at dksX8_keep_3 21 rfl rfl)
theorem dX8_keep_93 : decode cX8_keep 93 = .ok (.getfield 47, 3) := dk_180 0 47 (dk_at dksX8_keep_4 0 rfl rfl)
theorem dX8_keep_96 : decode cX8_keep 96 = .ok (.iload 4, 2) := dk_21 4 (dk_at dksX8_keep_4 3 rfl rfl)
theorem dX8_keep_98 : decode cX8_keep 98 = .ok (.iaload, 1) := dk_46 (dk_at dksX8_keep_4 5 rfl rfl)
theorem dX8_keep_99 : decode cX8_keep 99 = .ok (.iastore, 1) := dk_79 (dk_at dksX8_keep_4 6 rfl rfl)
theorem dX8_keep_100 : decode cX8_keep 100 = .ok (.aload_n 0, 1) := dk_42 (dk_at dksX8_keep_4 7 rfl rfl)
theorem dX8_keep_101 : decode cX8_keep 101 = .ok (.getfield 50, 3) := dk_180 0 50 (dk_at dksX8_keep_4 8 rfl rfl)
theorem dX8_keep_104 : decode cX8_keep 104 = .ok (.iload_n 3, 1) := dk_29 (dk_at dksX8_keep_4 11 rfl rfl)
theorem dX8_keep_105 : decode cX8_keep 105 = .ok (.iconst 1, 1) := dk_4 (dk_at dksX8_keep_4 12 rfl rfl)
theorem dX8_keep_106 : decode cX8_keep 106 = .ok (.iadd, 1) := dk_96 (dk_at dksX8_keep_4 13 rfl rfl)
theorem dX8_keep_107 : decode cX8_keep 107 = .ok (.iload 5, 2) := dk_21 5 (dk_at dksX8_keep_4 14 rfl rfl)
theorem dX8_keep_109 : decode cX8_keep 109 = .ok (.iastore, 1) := dk_79 (dk_at dksX8_keep_4 16 rfl rfl)
theorem dX8_keep_110 : decode cX8_keep 110 = .ok (.iinc 3 2, 3) := dk_132 3 2 (dk_at dksX8_keep_4 17 rfl rfl)
theorem dX8_keep_113 : decode cX8_keep 113 = .ok (.aload_n 0, 1) := dk_42 (dk_at dksX8_keep_4 20 rfl rfl)
theorem dX8_keep_114 : decode cX8_keep 114 = .ok (.getfield 41, 3) := dk_180 0 41 (dk_at dksX8_keep_4 21 rfl rfl)
theorem dX8_keep_117 : decode cX8_keep 117 = .ok (.iload 4, 2) := dk_21 4 (dk_at dksX8_keep_5 0 rfl rfl)
theorem dX8_keep_119 : decode cX8_keep 119 = .ok (.iaload, 1) := dk_46 (dk_at dksX8_keep_5 2 rfl rfl)
theorem dX8_keep_120 : decode cX8_keep 120 = .ok (.iconst (-1), 1) := dk_2 (dk_at dksX8_keep_5 3 rfl rfl)
theorem dX8_keep_121 : decode cX8_keep 121 = .ok (.if_icmp .eq 19, 3) := dk_159 0 19 (dk_at dksX8_keep_5 4 rfl rfl)
theorem dX8_keep_124 : decode cX8_keep 124 = .ok (.aload_n 0, 1) := dk_42 (dk_at dksX8_keep_5 7 rfl rfl)
theorem dX8_keep_125 : decode cX8_keep 125 = .ok (.getfield 41, 3) := dk_180 0 41 (dk_at dksX8_keep_5 8 rfl rfl)
theorem dX8_keep_128 : decode cX8_keep 128 = .ok (.iload 4, 2) := dk_21 4 (dk_at dksX8_keep_5 11 rfl rfl)
theorem dX8_keep_130 : decode cX8_keep 130 = .ok (.iaload, 1) := dk_46 (dk_at dksX8_keep_5 13 rfl rfl)
theorem dX8_keep_131 : decode cX8_keep 131 = .ok (.istore 4, 2) := dk_54 4 (dk_at dksX8_keep_5 14 rfl rfl)
theorem dX8_keep_133 : decode cX8_keep 133 = .ok (.iload 6, 2) := dk_21 6 (dk_at dksX8_keep_5 16 rfl rfl)
theorem dX8_keep_135 : decode cX8_keep 135 = .ok (.istore 5, 2) := dk_54 5 (dk_at dksX8_keep_5 18 rfl rfl)
theorem dX8_keep_137 : decode cX8_keep 137 = .ok (.goto 34, 3) := dk_167 0 34 (dk_at dksX8_keep_5 20 rfl rfl)
theorem dX8_keep_140 : decode cX8_keep 140 = .ok (.iload_n 3, 1) := dk_29 (dk_at dksX8_keep_5 23 rfl rfl)
theorem dX8_keep_141 : decode cX8_keep 141 = .ok (.ifCond .le 27, 3) := dk_158 0 27 (dk_at dksX8_keep_6 0 rfl rfl)
theorem dX8_keep_144 : decode cX8_keep 144 = .ok (.iinc 3 (-2), 3) := dk_132 3 254 (dk_at dksX8_keep_6 3 rfl rfl)
theorem dX8_keep_147 : decode cX8_keep 147 = .ok (.aload_n 0, 1) := dk_42 (dk_at dksX8_keep_6 6 rfl rfl)
theorem dX8_keep_148 : decode cX8_keep 148 = .ok (.getfield 50, 3) := dk_180 0 50 (dk_at dksX8_keep_6 7 rfl rfl)
theorem dX8_keep_151 : decode cX8_keep 151 = .ok (.iload_n 3, 1) := dk_29 (dk_at dksX8_keep_6 10 rfl rfl)
theorem dX8_keep_152 : decode cX8_keep 152 = .ok (.iaload, 1) := dk_46 (dk_at dksX8_keep_6 11 rfl rfl)
theorem dX8_keep_153 : decode cX8_keep 153 = .ok (.istore 4, 2) := dk_54 4 (dk_at dksX8_keep_6 12 rfl rfl)
theorem dX8_keep_155 : decode cX8_keep 155 = .ok (.aload_n 0, 1) := dk_42 (dk_at dksX8_keep_6 14 rfl rfl)
theorem dX8_keep_156 : decode cX8_keep 156 = .ok (.getfield 50, 3) := dk_180 0 50 (dk_at dksX8_keep_6 15 rfl rfl)
theorem dX8_keep_159 : decode cX8_keep 159 = .ok (.iload_n 3, 1) := dk_29 (dk_at dksX8_keep_6 18 rfl rfl)
theorem dX8_keep_160 : decode cX8_keep 160 = .ok (.iconst 1, 1) := dk_4 (dk_at dksX8_keep_6 19 rfl rfl)
theorem dX8_keep_161 : decode cX8_keep 161 = .ok (.iadd, 1) := dk_96 (dk_at dksX8_keep_6 20 rfl rfl)
theorem dX8_keep_162 : decode cX8_keep 162 = .ok (.iaload, 1) := dk_46 (dk_at dksX8_keep_6 21 rfl rfl)
theorem dX8_keep_163 : decode cX8_keep 163 = .ok (.istore 5, 2) := dk_54 5 (dk_at dksX8_keep_6 22 rfl rfl)
theorem dX8_keep_165 : decode cX8_keep 165 = .ok (.goto 6, 3) := dk_167 0 6 (dk_at dksX8_keep_7 0 rfl rfl)
theorem dX8_keep_168 : decode cX8_keep 168 = .ok (.iconst (-1), 1) := dk_2 (dk_at dksX8_keep_7 3 rfl rfl)
theorem dX8_keep_169 : decode cX8_keep 169 = .ok (.istore 4, 2) := dk_54 4 (dk_at dksX8_keep_7 4 rfl rfl)
theorem dX8_keep_171 : decode cX8_keep 171 = .ok (.goto (-163), 3) := dk_167 255 93 (dk_at dksX8_keep_7 6 rfl rfl)
theorem dX8_keep_174 : decode cX8_keep 174 = .ok (.return_, 1) := dk_177 (dk_at dksX8_keep_7 9 rfl rfl)
abbrev cX8_nameOf : ByteArray := prog_10_method_32_code
def yX8_nameOf : MethodName := ⟨RX8, "nameOf", "(I)I"⟩
def dkwX8_nameOf_8 : List UInt8 := [42, 180, 0, 25, 27, 46, 96, 79, 42, 180, 0, 223, 4, 100, 172]
abbrev dktX8_nameOf_8 : List UInt8 := dkwX8_nameOf_8 ++ []
def dkwX8_nameOf_7 : List UInt8 := [4, 96, 181, 0, 223, 42, 180, 0, 74, 42, 180, 0, 223, 42, 180, 0, 74, 42, 180, 0, 223, 4, 100, 46]
abbrev dktX8_nameOf_7 : List UInt8 := dkwX8_nameOf_7 ++ dktX8_nameOf_8
def dkwX8_nameOf_6 : List UInt8 := [180, 0, 9, 42, 180, 0, 22, 27, 46, 28, 96, 46, 79, 132, 2, 1, 167, 255, 214, 42, 89, 180, 0, 223]
abbrev dktX8_nameOf_6 : List UInt8 := dkwX8_nameOf_6 ++ dktX8_nameOf_7
def dkwX8_nameOf_5 : List UInt8 := [180, 0, 25, 27, 46, 162, 0, 38, 42, 180, 0, 71, 42, 180, 0, 74, 42, 180, 0, 223, 46, 28, 96, 42]
abbrev dktX8_nameOf_5 : List UInt8 := dkwX8_nameOf_5 ++ dktX8_nameOf_6
def dkwX8_nameOf_4 : List UInt8 := [62, 132, 4, 1, 167, 255, 201, 29, 153, 0, 5, 28, 172, 132, 2, 1, 167, 255, 148, 3, 61, 28, 42]
abbrev dktX8_nameOf_4 : List UInt8 := dkwX8_nameOf_4 ++ dktX8_nameOf_5
def dkwX8_nameOf_3 : List UInt8 := [96, 46, 42, 180, 0, 9, 42, 180, 0, 22, 27, 46, 21, 4, 96, 46, 160, 0, 7, 4, 167, 0, 4, 3]
abbrev dktX8_nameOf_3 : List UInt8 := dkwX8_nameOf_3 ++ dktX8_nameOf_4
def dkwX8_nameOf_2 : List UInt8 := [180, 0, 25, 27, 46, 162, 0, 50, 29, 153, 0, 46, 42, 180, 0, 71, 42, 180, 0, 74, 28, 46, 21, 4]
abbrev dktX8_nameOf_2 : List UInt8 := dkwX8_nameOf_2 ++ dktX8_nameOf_3
def dkwX8_nameOf_1 : List UInt8 := [100, 42, 180, 0, 25, 27, 46, 160, 0, 7, 4, 167, 0, 4, 3, 62, 3, 54, 4, 21, 4, 42]
abbrev dktX8_nameOf_1 : List UInt8 := dkwX8_nameOf_1 ++ dktX8_nameOf_2
def dkwX8_nameOf_0 : List UInt8 := [3, 61, 28, 42, 180, 0, 223, 162, 0, 106, 42, 180, 0, 74, 28, 4, 96, 46, 42, 180, 0, 74, 28, 46]
abbrev dktX8_nameOf_0 : List UInt8 := dkwX8_nameOf_0 ++ dktX8_nameOf_1
theorem dksX8_nameOf_0 : cX8_nameOf.data.toList.drop 0 = dktX8_nameOf_0 := by decide +kernel
theorem dksX8_nameOf_1 : cX8_nameOf.data.toList.drop 24 = dktX8_nameOf_1 := dk_seg dksX8_nameOf_0 24 rfl rfl
theorem dksX8_nameOf_2 : cX8_nameOf.data.toList.drop 46 = dktX8_nameOf_2 := dk_seg dksX8_nameOf_1 22 rfl rfl
theorem dksX8_nameOf_3 : cX8_nameOf.data.toList.drop 70 = dktX8_nameOf_3 := dk_seg dksX8_nameOf_2 24 rfl rfl
theorem dksX8_nameOf_4 : cX8_nameOf.data.toList.drop 94 = dktX8_nameOf_4 := dk_seg dksX8_nameOf_3 24 rfl rfl
theorem dksX8_nameOf_5 : cX8_nameOf.data.toList.drop 117 = dktX8_nameOf_5 := dk_seg dksX8_nameOf_4 23 rfl rfl
theorem dksX8_nameOf_6 : cX8_nameOf.data.toList.drop 141 = dktX8_nameOf_6 := dk_seg dksX8_nameOf_5 24 rfl rfl
theorem dksX8_nameOf_7 : cX8_nameOf.data.toList.drop 165 = dktX8_nameOf_7 := dk_seg dksX8_nameOf_6 24 rfl rfl
theorem dksX8_nameOf_8 : cX8_nameOf.data.toList.drop 189 = dktX8_nameOf_8 := dk_seg dksX8_nameOf_7 24 rfl rfl
theorem dX8_nameOf_0 : decode cX8_nameOf 0 = .ok (.iconst 0, 1) := dk_3 (dk_at dksX8_nameOf_0 0 rfl rfl)
theorem dX8_nameOf_1 : decode cX8_nameOf 1 = .ok (.istore_n 2, 1) := dk_61 (dk_at dksX8_nameOf_0 1 rfl rfl)
theorem dX8_nameOf_2 : decode cX8_nameOf 2 = .ok (.iload_n 2, 1) := dk_28 (dk_at dksX8_nameOf_0 2 rfl rfl)
theorem dX8_nameOf_3 : decode cX8_nameOf 3 = .ok (.aload_n 0, 1) := dk_42 (dk_at dksX8_nameOf_0 3 rfl rfl)
theorem dX8_nameOf_4 : decode cX8_nameOf 4 = .ok (.getfield 223, 3) := dk_180 0 223 (dk_at dksX8_nameOf_0 4 rfl rfl)
theorem dX8_nameOf_7 : decode cX8_nameOf 7 = .ok (.if_icmp .ge 106, 3) := dk_162 0 106 (dk_at dksX8_nameOf_0 7 rfl rfl)
theorem dX8_nameOf_10 : decode cX8_nameOf 10 = .ok (.aload_n 0, 1) := dk_42 (dk_at dksX8_nameOf_0 10 rfl rfl)
theorem dX8_nameOf_11 : decode cX8_nameOf 11 = .ok (.getfield 74, 3) := dk_180 0 74 (dk_at dksX8_nameOf_0 11 rfl rfl)
theorem dX8_nameOf_14 : decode cX8_nameOf 14 = .ok (.iload_n 2, 1) := dk_28 (dk_at dksX8_nameOf_0 14 rfl rfl)
theorem dX8_nameOf_15 : decode cX8_nameOf 15 = .ok (.iconst 1, 1) := dk_4 (dk_at dksX8_nameOf_0 15 rfl rfl)
theorem dX8_nameOf_16 : decode cX8_nameOf 16 = .ok (.iadd, 1) := dk_96 (dk_at dksX8_nameOf_0 16 rfl rfl)
theorem dX8_nameOf_17 : decode cX8_nameOf 17 = .ok (.iaload, 1) := dk_46 (dk_at dksX8_nameOf_0 17 rfl rfl)
theorem dX8_nameOf_18 : decode cX8_nameOf 18 = .ok (.aload_n 0, 1) := dk_42 (dk_at dksX8_nameOf_0 18 rfl rfl)
theorem dX8_nameOf_19 : decode cX8_nameOf 19 = .ok (.getfield 74, 3) := dk_180 0 74 (dk_at dksX8_nameOf_0 19 rfl rfl)
theorem dX8_nameOf_22 : decode cX8_nameOf 22 = .ok (.iload_n 2, 1) := dk_28 (dk_at dksX8_nameOf_0 22 rfl rfl)
theorem dX8_nameOf_23 : decode cX8_nameOf 23 = .ok (.iaload, 1) := dk_46 (dk_at dksX8_nameOf_0 23 rfl rfl)
theorem dX8_nameOf_24 : decode cX8_nameOf 24 = .ok (.isub, 1) := dk_100 (dk_at dksX8_nameOf_1 0 rfl rfl)
theorem dX8_nameOf_25 : decode cX8_nameOf 25 = .ok (.aload_n 0, 1) := dk_42 (dk_at dksX8_nameOf_1 1 rfl rfl)
theorem dX8_nameOf_26 : decode cX8_nameOf 26 = .ok (.getfield 25, 3) := dk_180 0 25 (dk_at dksX8_nameOf_1 2 rfl rfl)
theorem dX8_nameOf_29 : decode cX8_nameOf 29 = .ok (.iload_n 1, 1) := dk_27 (dk_at dksX8_nameOf_1 5 rfl rfl)
theorem dX8_nameOf_30 : decode cX8_nameOf 30 = .ok (.iaload, 1) := dk_46 (dk_at dksX8_nameOf_1 6 rfl rfl)
theorem dX8_nameOf_31 : decode cX8_nameOf 31 = .ok (.if_icmp .ne 7, 3) := dk_160 0 7 (dk_at dksX8_nameOf_1 7 rfl rfl)
theorem dX8_nameOf_34 : decode cX8_nameOf 34 = .ok (.iconst 1, 1) := dk_4 (dk_at dksX8_nameOf_1 10 rfl rfl)
theorem dX8_nameOf_35 : decode cX8_nameOf 35 = .ok (.goto 4, 3) := dk_167 0 4 (dk_at dksX8_nameOf_1 11 rfl rfl)
theorem dX8_nameOf_38 : decode cX8_nameOf 38 = .ok (.iconst 0, 1) := dk_3 (dk_at dksX8_nameOf_1 14 rfl rfl)
theorem dX8_nameOf_39 : decode cX8_nameOf 39 = .ok (.istore_n 3, 1) := dk_62 (dk_at dksX8_nameOf_1 15 rfl rfl)
theorem dX8_nameOf_40 : decode cX8_nameOf 40 = .ok (.iconst 0, 1) := dk_3 (dk_at dksX8_nameOf_1 16 rfl rfl)
theorem dX8_nameOf_41 : decode cX8_nameOf 41 = .ok (.istore 4, 2) := dk_54 4 (dk_at dksX8_nameOf_1 17 rfl rfl)
theorem dX8_nameOf_43 : decode cX8_nameOf 43 = .ok (.iload 4, 2) := dk_21 4 (dk_at dksX8_nameOf_1 19 rfl rfl)
theorem dX8_nameOf_45 : decode cX8_nameOf 45 = .ok (.aload_n 0, 1) := dk_42 (dk_at dksX8_nameOf_1 21 rfl rfl)
theorem dX8_nameOf_46 : decode cX8_nameOf 46 = .ok (.getfield 25, 3) := dk_180 0 25 (dk_at dksX8_nameOf_2 0 rfl rfl)
theorem dX8_nameOf_49 : decode cX8_nameOf 49 = .ok (.iload_n 1, 1) := dk_27 (dk_at dksX8_nameOf_2 3 rfl rfl)
theorem dX8_nameOf_50 : decode cX8_nameOf 50 = .ok (.iaload, 1) := dk_46 (dk_at dksX8_nameOf_2 4 rfl rfl)
theorem dX8_nameOf_51 : decode cX8_nameOf 51 = .ok (.if_icmp .ge 50, 3) := dk_162 0 50 (dk_at dksX8_nameOf_2 5 rfl rfl)
theorem dX8_nameOf_54 : decode cX8_nameOf 54 = .ok (.iload_n 3, 1) := dk_29 (dk_at dksX8_nameOf_2 8 rfl rfl)
theorem dX8_nameOf_55 : decode cX8_nameOf 55 = .ok (.ifCond .eq 46, 3) := dk_153 0 46 (dk_at dksX8_nameOf_2 9 rfl rfl)
theorem dX8_nameOf_58 : decode cX8_nameOf 58 = .ok (.aload_n 0, 1) := dk_42 (dk_at dksX8_nameOf_2 12 rfl rfl)
theorem dX8_nameOf_59 : decode cX8_nameOf 59 = .ok (.getfield 71, 3) := dk_180 0 71 (dk_at dksX8_nameOf_2 13 rfl rfl)
theorem dX8_nameOf_62 : decode cX8_nameOf 62 = .ok (.aload_n 0, 1) := dk_42 (dk_at dksX8_nameOf_2 16 rfl rfl)
theorem dX8_nameOf_63 : decode cX8_nameOf 63 = .ok (.getfield 74, 3) := dk_180 0 74 (dk_at dksX8_nameOf_2 17 rfl rfl)
theorem dX8_nameOf_66 : decode cX8_nameOf 66 = .ok (.iload_n 2, 1) := dk_28 (dk_at dksX8_nameOf_2 20 rfl rfl)
theorem dX8_nameOf_67 : decode cX8_nameOf 67 = .ok (.iaload, 1) := dk_46 (dk_at dksX8_nameOf_2 21 rfl rfl)
theorem dX8_nameOf_68 : decode cX8_nameOf 68 = .ok (.iload 4, 2) := dk_21 4 (dk_at dksX8_nameOf_2 22 rfl rfl)
theorem dX8_nameOf_70 : decode cX8_nameOf 70 = .ok (.iadd, 1) := dk_96 (dk_at dksX8_nameOf_3 0 rfl rfl)
theorem dX8_nameOf_71 : decode cX8_nameOf 71 = .ok (.iaload, 1) := dk_46 (dk_at dksX8_nameOf_3 1 rfl rfl)
theorem dX8_nameOf_72 : decode cX8_nameOf 72 = .ok (.aload_n 0, 1) := dk_42 (dk_at dksX8_nameOf_3 2 rfl rfl)
theorem dX8_nameOf_73 : decode cX8_nameOf 73 = .ok (.getfield 9, 3) := dk_180 0 9 (dk_at dksX8_nameOf_3 3 rfl rfl)
theorem dX8_nameOf_76 : decode cX8_nameOf 76 = .ok (.aload_n 0, 1) := dk_42 (dk_at dksX8_nameOf_3 6 rfl rfl)
theorem dX8_nameOf_77 : decode cX8_nameOf 77 = .ok (.getfield 22, 3) := dk_180 0 22 (dk_at dksX8_nameOf_3 7 rfl rfl)
theorem dX8_nameOf_80 : decode cX8_nameOf 80 = .ok (.iload_n 1, 1) := dk_27 (dk_at dksX8_nameOf_3 10 rfl rfl)
theorem dX8_nameOf_81 : decode cX8_nameOf 81 = .ok (.iaload, 1) := dk_46 (dk_at dksX8_nameOf_3 11 rfl rfl)
theorem dX8_nameOf_82 : decode cX8_nameOf 82 = .ok (.iload 4, 2) := dk_21 4 (dk_at dksX8_nameOf_3 12 rfl rfl)
theorem dX8_nameOf_84 : decode cX8_nameOf 84 = .ok (.iadd, 1) := dk_96 (dk_at dksX8_nameOf_3 14 rfl rfl)
theorem dX8_nameOf_85 : decode cX8_nameOf 85 = .ok (.iaload, 1) := dk_46 (dk_at dksX8_nameOf_3 15 rfl rfl)
theorem dX8_nameOf_86 : decode cX8_nameOf 86 = .ok (.if_icmp .ne 7, 3) := dk_160 0 7 (dk_at dksX8_nameOf_3 16 rfl rfl)
theorem dX8_nameOf_89 : decode cX8_nameOf 89 = .ok (.iconst 1, 1) := dk_4 (dk_at dksX8_nameOf_3 19 rfl rfl)
theorem dX8_nameOf_90 : decode cX8_nameOf 90 = .ok (.goto 4, 3) := dk_167 0 4 (dk_at dksX8_nameOf_3 20 rfl rfl)
theorem dX8_nameOf_93 : decode cX8_nameOf 93 = .ok (.iconst 0, 1) := dk_3 (dk_at dksX8_nameOf_3 23 rfl rfl)
theorem dX8_nameOf_94 : decode cX8_nameOf 94 = .ok (.istore_n 3, 1) := dk_62 (dk_at dksX8_nameOf_4 0 rfl rfl)
theorem dX8_nameOf_95 : decode cX8_nameOf 95 = .ok (.iinc 4 1, 3) := dk_132 4 1 (dk_at dksX8_nameOf_4 1 rfl rfl)
theorem dX8_nameOf_98 : decode cX8_nameOf 98 = .ok (.goto (-55), 3) := dk_167 255 201 (dk_at dksX8_nameOf_4 4 rfl rfl)
theorem dX8_nameOf_101 : decode cX8_nameOf 101 = .ok (.iload_n 3, 1) := dk_29 (dk_at dksX8_nameOf_4 7 rfl rfl)
theorem dX8_nameOf_102 : decode cX8_nameOf 102 = .ok (.ifCond .eq 5, 3) := dk_153 0 5 (dk_at dksX8_nameOf_4 8 rfl rfl)
theorem dX8_nameOf_105 : decode cX8_nameOf 105 = .ok (.iload_n 2, 1) := dk_28 (dk_at dksX8_nameOf_4 11 rfl rfl)
theorem dX8_nameOf_106 : decode cX8_nameOf 106 = .ok (.ireturn, 1) := dk_172 (dk_at dksX8_nameOf_4 12 rfl rfl)
theorem dX8_nameOf_107 : decode cX8_nameOf 107 = .ok (.iinc 2 1, 3) := dk_132 2 1 (dk_at dksX8_nameOf_4 13 rfl rfl)
theorem dX8_nameOf_110 : decode cX8_nameOf 110 = .ok (.goto (-108), 3) := dk_167 255 148 (dk_at dksX8_nameOf_4 16 rfl rfl)
theorem dX8_nameOf_113 : decode cX8_nameOf 113 = .ok (.iconst 0, 1) := dk_3 (dk_at dksX8_nameOf_4 19 rfl rfl)
theorem dX8_nameOf_114 : decode cX8_nameOf 114 = .ok (.istore_n 2, 1) := dk_61 (dk_at dksX8_nameOf_4 20 rfl rfl)
theorem dX8_nameOf_115 : decode cX8_nameOf 115 = .ok (.iload_n 2, 1) := dk_28 (dk_at dksX8_nameOf_4 21 rfl rfl)
theorem dX8_nameOf_116 : decode cX8_nameOf 116 = .ok (.aload_n 0, 1) := dk_42 (dk_at dksX8_nameOf_4 22 rfl rfl)
theorem dX8_nameOf_117 : decode cX8_nameOf 117 = .ok (.getfield 25, 3) := dk_180 0 25 (dk_at dksX8_nameOf_5 0 rfl rfl)
theorem dX8_nameOf_120 : decode cX8_nameOf 120 = .ok (.iload_n 1, 1) := dk_27 (dk_at dksX8_nameOf_5 3 rfl rfl)
theorem dX8_nameOf_121 : decode cX8_nameOf 121 = .ok (.iaload, 1) := dk_46 (dk_at dksX8_nameOf_5 4 rfl rfl)
theorem dX8_nameOf_122 : decode cX8_nameOf 122 = .ok (.if_icmp .ge 38, 3) := dk_162 0 38 (dk_at dksX8_nameOf_5 5 rfl rfl)
theorem dX8_nameOf_125 : decode cX8_nameOf 125 = .ok (.aload_n 0, 1) := dk_42 (dk_at dksX8_nameOf_5 8 rfl rfl)
theorem dX8_nameOf_126 : decode cX8_nameOf 126 = .ok (.getfield 71, 3) := dk_180 0 71 (dk_at dksX8_nameOf_5 9 rfl rfl)
theorem dX8_nameOf_129 : decode cX8_nameOf 129 = .ok (.aload_n 0, 1) := dk_42 (dk_at dksX8_nameOf_5 12 rfl rfl)
theorem dX8_nameOf_130 : decode cX8_nameOf 130 = .ok (.getfield 74, 3) := dk_180 0 74 (dk_at dksX8_nameOf_5 13 rfl rfl)
theorem dX8_nameOf_133 : decode cX8_nameOf 133 = .ok (.aload_n 0, 1) := dk_42 (dk_at dksX8_nameOf_5 16 rfl rfl)
theorem dX8_nameOf_134 : decode cX8_nameOf 134 = .ok (.getfield 223, 3) := dk_180 0 223 (dk_at dksX8_nameOf_5 17 rfl rfl)
theorem dX8_nameOf_137 : decode cX8_nameOf 137 = .ok (.iaload, 1) := dk_46 (dk_at dksX8_nameOf_5 20 rfl rfl)
theorem dX8_nameOf_138 : decode cX8_nameOf 138 = .ok (.iload_n 2, 1) := dk_28 (dk_at dksX8_nameOf_5 21 rfl rfl)
theorem dX8_nameOf_139 : decode cX8_nameOf 139 = .ok (.iadd, 1) := dk_96 (dk_at dksX8_nameOf_5 22 rfl rfl)
theorem dX8_nameOf_140 : decode cX8_nameOf 140 = .ok (.aload_n 0, 1) := dk_42 (dk_at dksX8_nameOf_5 23 rfl rfl)
theorem dX8_nameOf_141 : decode cX8_nameOf 141 = .ok (.getfield 9, 3) := dk_180 0 9 (dk_at dksX8_nameOf_6 0 rfl rfl)
theorem dX8_nameOf_144 : decode cX8_nameOf 144 = .ok (.aload_n 0, 1) := dk_42 (dk_at dksX8_nameOf_6 3 rfl rfl)
theorem dX8_nameOf_145 : decode cX8_nameOf 145 = .ok (.getfield 22, 3) := dk_180 0 22 (dk_at dksX8_nameOf_6 4 rfl rfl)
theorem dX8_nameOf_148 : decode cX8_nameOf 148 = .ok (.iload_n 1, 1) := dk_27 (dk_at dksX8_nameOf_6 7 rfl rfl)
theorem dX8_nameOf_149 : decode cX8_nameOf 149 = .ok (.iaload, 1) := dk_46 (dk_at dksX8_nameOf_6 8 rfl rfl)
theorem dX8_nameOf_150 : decode cX8_nameOf 150 = .ok (.iload_n 2, 1) := dk_28 (dk_at dksX8_nameOf_6 9 rfl rfl)
theorem dX8_nameOf_151 : decode cX8_nameOf 151 = .ok (.iadd, 1) := dk_96 (dk_at dksX8_nameOf_6 10 rfl rfl)
theorem dX8_nameOf_152 : decode cX8_nameOf 152 = .ok (.iaload, 1) := dk_46 (dk_at dksX8_nameOf_6 11 rfl rfl)
theorem dX8_nameOf_153 : decode cX8_nameOf 153 = .ok (.iastore, 1) := dk_79 (dk_at dksX8_nameOf_6 12 rfl rfl)
theorem dX8_nameOf_154 : decode cX8_nameOf 154 = .ok (.iinc 2 1, 3) := dk_132 2 1 (dk_at dksX8_nameOf_6 13 rfl rfl)
theorem dX8_nameOf_157 : decode cX8_nameOf 157 = .ok (.goto (-42), 3) := dk_167 255 214 (dk_at dksX8_nameOf_6 16 rfl rfl)
theorem dX8_nameOf_160 : decode cX8_nameOf 160 = .ok (.aload_n 0, 1) := dk_42 (dk_at dksX8_nameOf_6 19 rfl rfl)
theorem dX8_nameOf_161 : decode cX8_nameOf 161 = .ok (.dup, 1) := dk_89 (dk_at dksX8_nameOf_6 20 rfl rfl)
theorem dX8_nameOf_162 : decode cX8_nameOf 162 = .ok (.getfield 223, 3) := dk_180 0 223 (dk_at dksX8_nameOf_6 21 rfl rfl)
theorem dX8_nameOf_165 : decode cX8_nameOf 165 = .ok (.iconst 1, 1) := dk_4 (dk_at dksX8_nameOf_7 0 rfl rfl)
theorem dX8_nameOf_166 : decode cX8_nameOf 166 = .ok (.iadd, 1) := dk_96 (dk_at dksX8_nameOf_7 1 rfl rfl)
theorem dX8_nameOf_167 : decode cX8_nameOf 167 = .ok (.putfield 223, 3) := dk_181 0 223 (dk_at dksX8_nameOf_7 2 rfl rfl)
theorem dX8_nameOf_170 : decode cX8_nameOf 170 = .ok (.aload_n 0, 1) := dk_42 (dk_at dksX8_nameOf_7 5 rfl rfl)
theorem dX8_nameOf_171 : decode cX8_nameOf 171 = .ok (.getfield 74, 3) := dk_180 0 74 (dk_at dksX8_nameOf_7 6 rfl rfl)
theorem dX8_nameOf_174 : decode cX8_nameOf 174 = .ok (.aload_n 0, 1) := dk_42 (dk_at dksX8_nameOf_7 9 rfl rfl)
theorem dX8_nameOf_175 : decode cX8_nameOf 175 = .ok (.getfield 223, 3) := dk_180 0 223 (dk_at dksX8_nameOf_7 10 rfl rfl)
theorem dX8_nameOf_178 : decode cX8_nameOf 178 = .ok (.aload_n 0, 1) := dk_42 (dk_at dksX8_nameOf_7 13 rfl rfl)
theorem dX8_nameOf_179 : decode cX8_nameOf 179 = .ok (.getfield 74, 3) := dk_180 0 74 (dk_at dksX8_nameOf_7 14 rfl rfl)
theorem dX8_nameOf_182 : decode cX8_nameOf 182 = .ok (.aload_n 0, 1) := dk_42 (dk_at dksX8_nameOf_7 17 rfl rfl)
theorem dX8_nameOf_183 : decode cX8_nameOf 183 = .ok (.getfield 223, 3) := dk_180 0 223 (dk_at dksX8_nameOf_7 18 rfl rfl)
theorem dX8_nameOf_186 : decode cX8_nameOf 186 = .ok (.iconst 1, 1) := dk_4 (dk_at dksX8_nameOf_7 21 rfl rfl)
theorem dX8_nameOf_187 : decode cX8_nameOf 187 = .ok (.isub, 1) := dk_100 (dk_at dksX8_nameOf_7 22 rfl rfl)
theorem dX8_nameOf_188 : decode cX8_nameOf 188 = .ok (.iaload, 1) := dk_46 (dk_at dksX8_nameOf_7 23 rfl rfl)
theorem dX8_nameOf_189 : decode cX8_nameOf 189 = .ok (.aload_n 0, 1) := dk_42 (dk_at dksX8_nameOf_8 0 rfl rfl)
theorem dX8_nameOf_190 : decode cX8_nameOf 190 = .ok (.getfield 25, 3) := dk_180 0 25 (dk_at dksX8_nameOf_8 1 rfl rfl)
theorem dX8_nameOf_193 : decode cX8_nameOf 193 = .ok (.iload_n 1, 1) := dk_27 (dk_at dksX8_nameOf_8 4 rfl rfl)
theorem dX8_nameOf_194 : decode cX8_nameOf 194 = .ok (.iaload, 1) := dk_46 (dk_at dksX8_nameOf_8 5 rfl rfl)
theorem dX8_nameOf_195 : decode cX8_nameOf 195 = .ok (.iadd, 1) := dk_96 (dk_at dksX8_nameOf_8 6 rfl rfl)
theorem dX8_nameOf_196 : decode cX8_nameOf 196 = .ok (.iastore, 1) := dk_79 (dk_at dksX8_nameOf_8 7 rfl rfl)
theorem dX8_nameOf_197 : decode cX8_nameOf 197 = .ok (.aload_n 0, 1) := dk_42 (dk_at dksX8_nameOf_8 8 rfl rfl)
theorem dX8_nameOf_198 : decode cX8_nameOf 198 = .ok (.getfield 223, 3) := dk_180 0 223 (dk_at dksX8_nameOf_8 9 rfl rfl)
theorem dX8_nameOf_201 : decode cX8_nameOf 201 = .ok (.iconst 1, 1) := dk_4 (dk_at dksX8_nameOf_8 12 rfl rfl)
theorem dX8_nameOf_202 : decode cX8_nameOf 202 = .ok (.isub, 1) := dk_100 (dk_at dksX8_nameOf_8 13 rfl rfl)
theorem dX8_nameOf_203 : decode cX8_nameOf 203 = .ok (.ireturn, 1) := dk_172 (dk_at dksX8_nameOf_8 14 rfl rfl)
abbrev cX8_nodes : ByteArray := prog_10_method_36_code
def yX8_nodes : MethodName := ⟨RX8, "nodes", "(I)I"⟩
def dkwX8_nodes_0 : List UInt8 := [27, 155, 0, 8, 27, 4, 164, 0, 7, 3, 167, 0, 9, 42, 180, 0, 68, 27, 46, 172]
abbrev dktX8_nodes_0 : List UInt8 := dkwX8_nodes_0 ++ []
theorem dksX8_nodes_0 : cX8_nodes.data.toList.drop 0 = dktX8_nodes_0 := by decide +kernel
theorem dX8_nodes_0 : decode cX8_nodes 0 = .ok (.iload_n 1, 1) := dk_27 (dk_at dksX8_nodes_0 0 rfl rfl)
theorem dX8_nodes_1 : decode cX8_nodes 1 = .ok (.ifCond .lt 8, 3) := dk_155 0 8 (dk_at dksX8_nodes_0 1 rfl rfl)
theorem dX8_nodes_4 : decode cX8_nodes 4 = .ok (.iload_n 1, 1) := dk_27 (dk_at dksX8_nodes_0 4 rfl rfl)
theorem dX8_nodes_5 : decode cX8_nodes 5 = .ok (.iconst 1, 1) := dk_4 (dk_at dksX8_nodes_0 5 rfl rfl)
theorem dX8_nodes_6 : decode cX8_nodes 6 = .ok (.if_icmp .le 7, 3) := dk_164 0 7 (dk_at dksX8_nodes_0 6 rfl rfl)
theorem dX8_nodes_9 : decode cX8_nodes 9 = .ok (.iconst 0, 1) := dk_3 (dk_at dksX8_nodes_0 9 rfl rfl)
theorem dX8_nodes_10 : decode cX8_nodes 10 = .ok (.goto 9, 3) := dk_167 0 9 (dk_at dksX8_nodes_0 10 rfl rfl)
theorem dX8_nodes_13 : decode cX8_nodes 13 = .ok (.aload_n 0, 1) := dk_42 (dk_at dksX8_nodes_0 13 rfl rfl)
theorem dX8_nodes_14 : decode cX8_nodes 14 = .ok (.getfield 68, 3) := dk_180 0 68 (dk_at dksX8_nodes_0 14 rfl rfl)
theorem dX8_nodes_17 : decode cX8_nodes 17 = .ok (.iload_n 1, 1) := dk_27 (dk_at dksX8_nodes_0 17 rfl rfl)
theorem dX8_nodes_18 : decode cX8_nodes 18 = .ok (.iaload, 1) := dk_46 (dk_at dksX8_nodes_0 18 rfl rfl)
theorem dX8_nodes_19 : decode cX8_nodes 19 = .ok (.ireturn, 1) := dk_172 (dk_at dksX8_nodes_0 19 rfl rfl)
abbrev cX8_part : ByteArray := prog_10_method_38_code
def yX8_part : MethodName := ⟨RX8, "part", "(III)I"⟩
def dkwX8_part_3 : List UInt8 := [96, 54, 5, 167, 255, 207, 2, 172]
abbrev dktX8_part_3 : List UInt8 := dkwX8_part_3 ++ []
def dkwX8_part_2 : List UInt8 := [160, 0, 6, 21, 5, 172, 132, 4, 1, 21, 5, 42, 180, 0, 65, 17, 50, 200, 27, 104, 21, 5, 96, 46]
abbrev dktX8_part_2 : List UInt8 := dkwX8_part_2 ++ dktX8_part_3
def dkwX8_part_1 : List UInt8 := [21, 5, 28, 42, 180, 0, 65, 17, 50, 200, 27, 104, 28, 96, 46, 96, 162, 0, 36, 21, 4, 29]
abbrev dktX8_part_1 : List UInt8 := dkwX8_part_1 ++ dktX8_part_2
def dkwX8_part_0 : List UInt8 := [42, 27, 28, 182, 0, 238, 153, 0, 7, 29, 156, 0, 5, 2, 172, 3, 54, 4, 28, 4, 96, 54, 5]
abbrev dktX8_part_0 : List UInt8 := dkwX8_part_0 ++ dktX8_part_1
theorem dksX8_part_0 : cX8_part.data.toList.drop 0 = dktX8_part_0 := by decide +kernel
theorem dksX8_part_1 : cX8_part.data.toList.drop 23 = dktX8_part_1 := dk_seg dksX8_part_0 23 rfl rfl
theorem dksX8_part_2 : cX8_part.data.toList.drop 45 = dktX8_part_2 := dk_seg dksX8_part_1 22 rfl rfl
theorem dksX8_part_3 : cX8_part.data.toList.drop 69 = dktX8_part_3 := dk_seg dksX8_part_2 24 rfl rfl
theorem dX8_part_0 : decode cX8_part 0 = .ok (.aload_n 0, 1) := dk_42 (dk_at dksX8_part_0 0 rfl rfl)
theorem dX8_part_1 : decode cX8_part 1 = .ok (.iload_n 1, 1) := dk_27 (dk_at dksX8_part_0 1 rfl rfl)
theorem dX8_part_2 : decode cX8_part 2 = .ok (.iload_n 2, 1) := dk_28 (dk_at dksX8_part_0 2 rfl rfl)
theorem dX8_part_3 : decode cX8_part 3 = .ok (.invokevirtual 238, 3) := dk_182 0 238 (dk_at dksX8_part_0 3 rfl rfl)
theorem dX8_part_6 : decode cX8_part 6 = .ok (.ifCond .eq 7, 3) := dk_153 0 7 (dk_at dksX8_part_0 6 rfl rfl)
theorem dX8_part_9 : decode cX8_part 9 = .ok (.iload_n 3, 1) := dk_29 (dk_at dksX8_part_0 9 rfl rfl)
theorem dX8_part_10 : decode cX8_part 10 = .ok (.ifCond .ge 5, 3) := dk_156 0 5 (dk_at dksX8_part_0 10 rfl rfl)
theorem dX8_part_13 : decode cX8_part 13 = .ok (.iconst (-1), 1) := dk_2 (dk_at dksX8_part_0 13 rfl rfl)
theorem dX8_part_14 : decode cX8_part 14 = .ok (.ireturn, 1) := dk_172 (dk_at dksX8_part_0 14 rfl rfl)
theorem dX8_part_15 : decode cX8_part 15 = .ok (.iconst 0, 1) := dk_3 (dk_at dksX8_part_0 15 rfl rfl)
theorem dX8_part_16 : decode cX8_part 16 = .ok (.istore 4, 2) := dk_54 4 (dk_at dksX8_part_0 16 rfl rfl)
theorem dX8_part_18 : decode cX8_part 18 = .ok (.iload_n 2, 1) := dk_28 (dk_at dksX8_part_0 18 rfl rfl)
theorem dX8_part_19 : decode cX8_part 19 = .ok (.iconst 1, 1) := dk_4 (dk_at dksX8_part_0 19 rfl rfl)
theorem dX8_part_20 : decode cX8_part 20 = .ok (.iadd, 1) := dk_96 (dk_at dksX8_part_0 20 rfl rfl)
theorem dX8_part_21 : decode cX8_part 21 = .ok (.istore 5, 2) := dk_54 5 (dk_at dksX8_part_0 21 rfl rfl)
theorem dX8_part_23 : decode cX8_part 23 = .ok (.iload 5, 2) := dk_21 5 (dk_at dksX8_part_1 0 rfl rfl)
theorem dX8_part_25 : decode cX8_part 25 = .ok (.iload_n 2, 1) := dk_28 (dk_at dksX8_part_1 2 rfl rfl)
theorem dX8_part_26 : decode cX8_part 26 = .ok (.aload_n 0, 1) := dk_42 (dk_at dksX8_part_1 3 rfl rfl)
theorem dX8_part_27 : decode cX8_part 27 = .ok (.getfield 65, 3) := dk_180 0 65 (dk_at dksX8_part_1 4 rfl rfl)
theorem dX8_part_30 : decode cX8_part 30 = .ok (.sipush 13000, 3) := dk_17 50 200 (dk_at dksX8_part_1 7 rfl rfl)
theorem dX8_part_33 : decode cX8_part 33 = .ok (.iload_n 1, 1) := dk_27 (dk_at dksX8_part_1 10 rfl rfl)
theorem dX8_part_34 : decode cX8_part 34 = .ok (.imul, 1) := dk_104 (dk_at dksX8_part_1 11 rfl rfl)
theorem dX8_part_35 : decode cX8_part 35 = .ok (.iload_n 2, 1) := dk_28 (dk_at dksX8_part_1 12 rfl rfl)
theorem dX8_part_36 : decode cX8_part 36 = .ok (.iadd, 1) := dk_96 (dk_at dksX8_part_1 13 rfl rfl)
theorem dX8_part_37 : decode cX8_part 37 = .ok (.iaload, 1) := dk_46 (dk_at dksX8_part_1 14 rfl rfl)
theorem dX8_part_38 : decode cX8_part 38 = .ok (.iadd, 1) := dk_96 (dk_at dksX8_part_1 15 rfl rfl)
theorem dX8_part_39 : decode cX8_part 39 = .ok (.if_icmp .ge 36, 3) := dk_162 0 36 (dk_at dksX8_part_1 16 rfl rfl)
theorem dX8_part_42 : decode cX8_part 42 = .ok (.iload 4, 2) := dk_21 4 (dk_at dksX8_part_1 19 rfl rfl)
theorem dX8_part_44 : decode cX8_part 44 = .ok (.iload_n 3, 1) := dk_29 (dk_at dksX8_part_1 21 rfl rfl)
theorem dX8_part_45 : decode cX8_part 45 = .ok (.if_icmp .ne 6, 3) := dk_160 0 6 (dk_at dksX8_part_2 0 rfl rfl)
theorem dX8_part_48 : decode cX8_part 48 = .ok (.iload 5, 2) := dk_21 5 (dk_at dksX8_part_2 3 rfl rfl)
theorem dX8_part_50 : decode cX8_part 50 = .ok (.ireturn, 1) := dk_172 (dk_at dksX8_part_2 5 rfl rfl)
theorem dX8_part_51 : decode cX8_part 51 = .ok (.iinc 4 1, 3) := dk_132 4 1 (dk_at dksX8_part_2 6 rfl rfl)
theorem dX8_part_54 : decode cX8_part 54 = .ok (.iload 5, 2) := dk_21 5 (dk_at dksX8_part_2 9 rfl rfl)
theorem dX8_part_56 : decode cX8_part 56 = .ok (.aload_n 0, 1) := dk_42 (dk_at dksX8_part_2 11 rfl rfl)
theorem dX8_part_57 : decode cX8_part 57 = .ok (.getfield 65, 3) := dk_180 0 65 (dk_at dksX8_part_2 12 rfl rfl)
theorem dX8_part_60 : decode cX8_part 60 = .ok (.sipush 13000, 3) := dk_17 50 200 (dk_at dksX8_part_2 15 rfl rfl)
theorem dX8_part_63 : decode cX8_part 63 = .ok (.iload_n 1, 1) := dk_27 (dk_at dksX8_part_2 18 rfl rfl)
theorem dX8_part_64 : decode cX8_part 64 = .ok (.imul, 1) := dk_104 (dk_at dksX8_part_2 19 rfl rfl)
theorem dX8_part_65 : decode cX8_part 65 = .ok (.iload 5, 2) := dk_21 5 (dk_at dksX8_part_2 20 rfl rfl)
theorem dX8_part_67 : decode cX8_part 67 = .ok (.iadd, 1) := dk_96 (dk_at dksX8_part_2 22 rfl rfl)
theorem dX8_part_68 : decode cX8_part 68 = .ok (.iaload, 1) := dk_46 (dk_at dksX8_part_2 23 rfl rfl)
theorem dX8_part_69 : decode cX8_part 69 = .ok (.iadd, 1) := dk_96 (dk_at dksX8_part_3 0 rfl rfl)
theorem dX8_part_70 : decode cX8_part 70 = .ok (.istore 5, 2) := dk_54 5 (dk_at dksX8_part_3 1 rfl rfl)
theorem dX8_part_72 : decode cX8_part 72 = .ok (.goto (-49), 3) := dk_167 255 207 (dk_at dksX8_part_3 3 rfl rfl)
theorem dX8_part_75 : decode cX8_part 75 = .ok (.iconst (-1), 1) := dk_2 (dk_at dksX8_part_3 6 rfl rfl)
theorem dX8_part_76 : decode cX8_part 76 = .ok (.ireturn, 1) := dk_172 (dk_at dksX8_part_3 7 rfl rfl)
abbrev cX8_has : ByteArray := prog_10_method_35_code
def yX8_has : MethodName := ⟨RX8, "has", "(II)Z"⟩
def dkwX8_has_1 : List UInt8 := [167, 0, 4, 3, 172]
abbrev dktX8_has_1 : List UInt8 := dkwX8_has_1 ++ []
def dkwX8_has_0 : List UInt8 := [27, 155, 0, 26, 27, 5, 162, 0, 21, 28, 155, 0, 17, 28, 42, 180, 0, 68, 27, 46, 162, 0, 7, 4]
abbrev dktX8_has_0 : List UInt8 := dkwX8_has_0 ++ dktX8_has_1
theorem dksX8_has_0 : cX8_has.data.toList.drop 0 = dktX8_has_0 := by decide +kernel
theorem dksX8_has_1 : cX8_has.data.toList.drop 24 = dktX8_has_1 := dk_seg dksX8_has_0 24 rfl rfl
theorem dX8_has_0 : decode cX8_has 0 = .ok (.iload_n 1, 1) := dk_27 (dk_at dksX8_has_0 0 rfl rfl)
theorem dX8_has_1 : decode cX8_has 1 = .ok (.ifCond .lt 26, 3) := dk_155 0 26 (dk_at dksX8_has_0 1 rfl rfl)
theorem dX8_has_4 : decode cX8_has 4 = .ok (.iload_n 1, 1) := dk_27 (dk_at dksX8_has_0 4 rfl rfl)
theorem dX8_has_5 : decode cX8_has 5 = .ok (.iconst 2, 1) := dk_5 (dk_at dksX8_has_0 5 rfl rfl)
theorem dX8_has_6 : decode cX8_has 6 = .ok (.if_icmp .ge 21, 3) := dk_162 0 21 (dk_at dksX8_has_0 6 rfl rfl)
theorem dX8_has_9 : decode cX8_has 9 = .ok (.iload_n 2, 1) := dk_28 (dk_at dksX8_has_0 9 rfl rfl)
theorem dX8_has_10 : decode cX8_has 10 = .ok (.ifCond .lt 17, 3) := dk_155 0 17 (dk_at dksX8_has_0 10 rfl rfl)
theorem dX8_has_13 : decode cX8_has 13 = .ok (.iload_n 2, 1) := dk_28 (dk_at dksX8_has_0 13 rfl rfl)
theorem dX8_has_14 : decode cX8_has 14 = .ok (.aload_n 0, 1) := dk_42 (dk_at dksX8_has_0 14 rfl rfl)
theorem dX8_has_15 : decode cX8_has 15 = .ok (.getfield 68, 3) := dk_180 0 68 (dk_at dksX8_has_0 15 rfl rfl)
theorem dX8_has_18 : decode cX8_has 18 = .ok (.iload_n 1, 1) := dk_27 (dk_at dksX8_has_0 18 rfl rfl)
theorem dX8_has_19 : decode cX8_has 19 = .ok (.iaload, 1) := dk_46 (dk_at dksX8_has_0 19 rfl rfl)
theorem dX8_has_20 : decode cX8_has 20 = .ok (.if_icmp .ge 7, 3) := dk_162 0 7 (dk_at dksX8_has_0 20 rfl rfl)
theorem dX8_has_23 : decode cX8_has 23 = .ok (.iconst 1, 1) := dk_4 (dk_at dksX8_has_0 23 rfl rfl)
theorem dX8_has_24 : decode cX8_has 24 = .ok (.goto 4, 3) := dk_167 0 4 (dk_at dksX8_has_1 0 rfl rfl)
theorem dX8_has_27 : decode cX8_has 27 = .ok (.iconst 0, 1) := dk_3 (dk_at dksX8_has_1 3 rfl rfl)
theorem dX8_has_28 : decode cX8_has 28 = .ok (.ireturn, 1) := dk_172 (dk_at dksX8_has_1 4 rfl rfl)
abbrev cX8_node : ByteArray := prog_10_method_39_code
def yX8_node : MethodName := ⟨RX8, "node", "(III)I"⟩
def dkwX8_node_4 : List UInt8 := [16, 254, 172]
abbrev dktX8_node_4 : List UInt8 := dkwX8_node_4 ++ []
def dkwX8_node_3 : List UInt8 := [42, 180, 0, 65, 21, 4, 46, 167, 0, 19, 29, 7, 160, 0, 12, 42, 27, 28, 182, 0, 241, 167, 0, 5]
abbrev dktX8_node_3 : List UInt8 := dkwX8_node_3 ++ dktX8_node_4
def dkwX8_node_2 : List UInt8 := [46, 167, 0, 49, 29, 5, 160, 0, 13, 42, 180, 0, 59, 21, 4, 46, 167, 0, 34, 29, 6, 160, 0, 13]
abbrev dktX8_node_2 : List UInt8 := dkwX8_node_2 ++ dktX8_node_3
def dkwX8_node_1 : List UInt8 := [154, 0, 13, 42, 180, 0, 53, 21, 4, 46, 167, 0, 64, 29, 4, 160, 0, 13, 42, 180, 0, 56, 21, 4]
abbrev dktX8_node_1 : List UInt8 := dkwX8_node_1 ++ dktX8_node_2
def dkwX8_node_0 : List UInt8 := [42, 27, 28, 182, 0, 238, 154, 0, 6, 16, 254, 172, 17, 50, 200, 27, 104, 28, 96, 54, 4, 29]
abbrev dktX8_node_0 : List UInt8 := dkwX8_node_0 ++ dktX8_node_1
theorem dksX8_node_0 : cX8_node.data.toList.drop 0 = dktX8_node_0 := by decide +kernel
theorem dksX8_node_1 : cX8_node.data.toList.drop 22 = dktX8_node_1 := dk_seg dksX8_node_0 22 rfl rfl
theorem dksX8_node_2 : cX8_node.data.toList.drop 46 = dktX8_node_2 := dk_seg dksX8_node_1 24 rfl rfl
theorem dksX8_node_3 : cX8_node.data.toList.drop 70 = dktX8_node_3 := dk_seg dksX8_node_2 24 rfl rfl
theorem dksX8_node_4 : cX8_node.data.toList.drop 94 = dktX8_node_4 := dk_seg dksX8_node_3 24 rfl rfl
theorem dX8_node_0 : decode cX8_node 0 = .ok (.aload_n 0, 1) := dk_42 (dk_at dksX8_node_0 0 rfl rfl)
theorem dX8_node_1 : decode cX8_node 1 = .ok (.iload_n 1, 1) := dk_27 (dk_at dksX8_node_0 1 rfl rfl)
theorem dX8_node_2 : decode cX8_node 2 = .ok (.iload_n 2, 1) := dk_28 (dk_at dksX8_node_0 2 rfl rfl)
theorem dX8_node_3 : decode cX8_node 3 = .ok (.invokevirtual 238, 3) := dk_182 0 238 (dk_at dksX8_node_0 3 rfl rfl)
theorem dX8_node_6 : decode cX8_node 6 = .ok (.ifCond .ne 6, 3) := dk_154 0 6 (dk_at dksX8_node_0 6 rfl rfl)
theorem dX8_node_9 : decode cX8_node 9 = .ok (.bipush (-2), 2) := dk_16 254 (dk_at dksX8_node_0 9 rfl rfl)
theorem dX8_node_11 : decode cX8_node 11 = .ok (.ireturn, 1) := dk_172 (dk_at dksX8_node_0 11 rfl rfl)
theorem dX8_node_12 : decode cX8_node 12 = .ok (.sipush 13000, 3) := dk_17 50 200 (dk_at dksX8_node_0 12 rfl rfl)
theorem dX8_node_15 : decode cX8_node 15 = .ok (.iload_n 1, 1) := dk_27 (dk_at dksX8_node_0 15 rfl rfl)
theorem dX8_node_16 : decode cX8_node 16 = .ok (.imul, 1) := dk_104 (dk_at dksX8_node_0 16 rfl rfl)
theorem dX8_node_17 : decode cX8_node 17 = .ok (.iload_n 2, 1) := dk_28 (dk_at dksX8_node_0 17 rfl rfl)
theorem dX8_node_18 : decode cX8_node 18 = .ok (.iadd, 1) := dk_96 (dk_at dksX8_node_0 18 rfl rfl)
theorem dX8_node_19 : decode cX8_node 19 = .ok (.istore 4, 2) := dk_54 4 (dk_at dksX8_node_0 19 rfl rfl)
theorem dX8_node_21 : decode cX8_node 21 = .ok (.iload_n 3, 1) := dk_29 (dk_at dksX8_node_0 21 rfl rfl)
theorem dX8_node_22 : decode cX8_node 22 = .ok (.ifCond .ne 13, 3) := dk_154 0 13 (dk_at dksX8_node_1 0 rfl rfl)
theorem dX8_node_25 : decode cX8_node 25 = .ok (.aload_n 0, 1) := dk_42 (dk_at dksX8_node_1 3 rfl rfl)
theorem dX8_node_26 : decode cX8_node 26 = .ok (.getfield 53, 3) := dk_180 0 53 (dk_at dksX8_node_1 4 rfl rfl)
theorem dX8_node_29 : decode cX8_node 29 = .ok (.iload 4, 2) := dk_21 4 (dk_at dksX8_node_1 7 rfl rfl)
theorem dX8_node_31 : decode cX8_node 31 = .ok (.iaload, 1) := dk_46 (dk_at dksX8_node_1 9 rfl rfl)
theorem dX8_node_32 : decode cX8_node 32 = .ok (.goto 64, 3) := dk_167 0 64 (dk_at dksX8_node_1 10 rfl rfl)
theorem dX8_node_35 : decode cX8_node 35 = .ok (.iload_n 3, 1) := dk_29 (dk_at dksX8_node_1 13 rfl rfl)
theorem dX8_node_36 : decode cX8_node 36 = .ok (.iconst 1, 1) := dk_4 (dk_at dksX8_node_1 14 rfl rfl)
theorem dX8_node_37 : decode cX8_node 37 = .ok (.if_icmp .ne 13, 3) := dk_160 0 13 (dk_at dksX8_node_1 15 rfl rfl)
theorem dX8_node_40 : decode cX8_node 40 = .ok (.aload_n 0, 1) := dk_42 (dk_at dksX8_node_1 18 rfl rfl)
theorem dX8_node_41 : decode cX8_node 41 = .ok (.getfield 56, 3) := dk_180 0 56 (dk_at dksX8_node_1 19 rfl rfl)
theorem dX8_node_44 : decode cX8_node 44 = .ok (.iload 4, 2) := dk_21 4 (dk_at dksX8_node_1 22 rfl rfl)
theorem dX8_node_46 : decode cX8_node 46 = .ok (.iaload, 1) := dk_46 (dk_at dksX8_node_2 0 rfl rfl)
theorem dX8_node_47 : decode cX8_node 47 = .ok (.goto 49, 3) := dk_167 0 49 (dk_at dksX8_node_2 1 rfl rfl)
theorem dX8_node_50 : decode cX8_node 50 = .ok (.iload_n 3, 1) := dk_29 (dk_at dksX8_node_2 4 rfl rfl)
theorem dX8_node_51 : decode cX8_node 51 = .ok (.iconst 2, 1) := dk_5 (dk_at dksX8_node_2 5 rfl rfl)
theorem dX8_node_52 : decode cX8_node 52 = .ok (.if_icmp .ne 13, 3) := dk_160 0 13 (dk_at dksX8_node_2 6 rfl rfl)
theorem dX8_node_55 : decode cX8_node 55 = .ok (.aload_n 0, 1) := dk_42 (dk_at dksX8_node_2 9 rfl rfl)
theorem dX8_node_56 : decode cX8_node 56 = .ok (.getfield 59, 3) := dk_180 0 59 (dk_at dksX8_node_2 10 rfl rfl)
theorem dX8_node_59 : decode cX8_node 59 = .ok (.iload 4, 2) := dk_21 4 (dk_at dksX8_node_2 13 rfl rfl)
theorem dX8_node_61 : decode cX8_node 61 = .ok (.iaload, 1) := dk_46 (dk_at dksX8_node_2 15 rfl rfl)
theorem dX8_node_62 : decode cX8_node 62 = .ok (.goto 34, 3) := dk_167 0 34 (dk_at dksX8_node_2 16 rfl rfl)
theorem dX8_node_65 : decode cX8_node 65 = .ok (.iload_n 3, 1) := dk_29 (dk_at dksX8_node_2 19 rfl rfl)
theorem dX8_node_66 : decode cX8_node 66 = .ok (.iconst 3, 1) := dk_6 (dk_at dksX8_node_2 20 rfl rfl)
theorem dX8_node_67 : decode cX8_node 67 = .ok (.if_icmp .ne 13, 3) := dk_160 0 13 (dk_at dksX8_node_2 21 rfl rfl)
theorem dX8_node_70 : decode cX8_node 70 = .ok (.aload_n 0, 1) := dk_42 (dk_at dksX8_node_3 0 rfl rfl)
theorem dX8_node_71 : decode cX8_node 71 = .ok (.getfield 65, 3) := dk_180 0 65 (dk_at dksX8_node_3 1 rfl rfl)
theorem dX8_node_74 : decode cX8_node 74 = .ok (.iload 4, 2) := dk_21 4 (dk_at dksX8_node_3 4 rfl rfl)
theorem dX8_node_76 : decode cX8_node 76 = .ok (.iaload, 1) := dk_46 (dk_at dksX8_node_3 6 rfl rfl)
theorem dX8_node_77 : decode cX8_node 77 = .ok (.goto 19, 3) := dk_167 0 19 (dk_at dksX8_node_3 7 rfl rfl)
theorem dX8_node_80 : decode cX8_node 80 = .ok (.iload_n 3, 1) := dk_29 (dk_at dksX8_node_3 10 rfl rfl)
theorem dX8_node_81 : decode cX8_node 81 = .ok (.iconst 4, 1) := dk_7 (dk_at dksX8_node_3 11 rfl rfl)
theorem dX8_node_82 : decode cX8_node 82 = .ok (.if_icmp .ne 12, 3) := dk_160 0 12 (dk_at dksX8_node_3 12 rfl rfl)
theorem dX8_node_85 : decode cX8_node 85 = .ok (.aload_n 0, 1) := dk_42 (dk_at dksX8_node_3 15 rfl rfl)
theorem dX8_node_86 : decode cX8_node 86 = .ok (.iload_n 1, 1) := dk_27 (dk_at dksX8_node_3 16 rfl rfl)
theorem dX8_node_87 : decode cX8_node 87 = .ok (.iload_n 2, 1) := dk_28 (dk_at dksX8_node_3 17 rfl rfl)
theorem dX8_node_88 : decode cX8_node 88 = .ok (.invokevirtual 241, 3) := dk_182 0 241 (dk_at dksX8_node_3 18 rfl rfl)
theorem dX8_node_91 : decode cX8_node 91 = .ok (.goto 5, 3) := dk_167 0 5 (dk_at dksX8_node_3 21 rfl rfl)
theorem dX8_node_94 : decode cX8_node 94 = .ok (.bipush (-2), 2) := dk_16 254 (dk_at dksX8_node_4 0 rfl rfl)
theorem dX8_node_96 : decode cX8_node 96 = .ok (.ireturn, 1) := dk_172 (dk_at dksX8_node_4 2 rfl rfl)
abbrev cX8_parts : ByteArray := prog_10_method_37_code
def yX8_parts : MethodName := ⟨RX8, "parts", "(II)I"⟩
def dkwX8_parts_2 : List UInt8 := [167, 255, 216, 29, 172]
abbrev dktX8_parts_2 : List UInt8 := dkwX8_parts_2 ++ []
def dkwX8_parts_1 : List UInt8 := [162, 0, 27, 132, 3, 1, 21, 4, 42, 180, 0, 65, 17, 50, 200, 27, 104, 21, 4, 96, 46, 96, 54, 4]
abbrev dktX8_parts_1 : List UInt8 := dkwX8_parts_1 ++ dktX8_parts_2
def dkwX8_parts_0 : List UInt8 := [3, 62, 28, 4, 96, 54, 4, 21, 4, 28, 42, 180, 0, 65, 17, 50, 200, 27, 104, 28, 96, 46, 96]
abbrev dktX8_parts_0 : List UInt8 := dkwX8_parts_0 ++ dktX8_parts_1
theorem dksX8_parts_0 : cX8_parts.data.toList.drop 0 = dktX8_parts_0 := by decide +kernel
theorem dksX8_parts_1 : cX8_parts.data.toList.drop 23 = dktX8_parts_1 := dk_seg dksX8_parts_0 23 rfl rfl
theorem dksX8_parts_2 : cX8_parts.data.toList.drop 47 = dktX8_parts_2 := dk_seg dksX8_parts_1 24 rfl rfl
theorem dX8_parts_0 : decode cX8_parts 0 = .ok (.iconst 0, 1) := dk_3 (dk_at dksX8_parts_0 0 rfl rfl)
theorem dX8_parts_1 : decode cX8_parts 1 = .ok (.istore_n 3, 1) := dk_62 (dk_at dksX8_parts_0 1 rfl rfl)
theorem dX8_parts_2 : decode cX8_parts 2 = .ok (.iload_n 2, 1) := dk_28 (dk_at dksX8_parts_0 2 rfl rfl)
theorem dX8_parts_3 : decode cX8_parts 3 = .ok (.iconst 1, 1) := dk_4 (dk_at dksX8_parts_0 3 rfl rfl)
theorem dX8_parts_4 : decode cX8_parts 4 = .ok (.iadd, 1) := dk_96 (dk_at dksX8_parts_0 4 rfl rfl)
theorem dX8_parts_5 : decode cX8_parts 5 = .ok (.istore 4, 2) := dk_54 4 (dk_at dksX8_parts_0 5 rfl rfl)
theorem dX8_parts_7 : decode cX8_parts 7 = .ok (.iload 4, 2) := dk_21 4 (dk_at dksX8_parts_0 7 rfl rfl)
theorem dX8_parts_9 : decode cX8_parts 9 = .ok (.iload_n 2, 1) := dk_28 (dk_at dksX8_parts_0 9 rfl rfl)
theorem dX8_parts_10 : decode cX8_parts 10 = .ok (.aload_n 0, 1) := dk_42 (dk_at dksX8_parts_0 10 rfl rfl)
theorem dX8_parts_11 : decode cX8_parts 11 = .ok (.getfield 65, 3) := dk_180 0 65 (dk_at dksX8_parts_0 11 rfl rfl)
theorem dX8_parts_14 : decode cX8_parts 14 = .ok (.sipush 13000, 3) := dk_17 50 200 (dk_at dksX8_parts_0 14 rfl rfl)
theorem dX8_parts_17 : decode cX8_parts 17 = .ok (.iload_n 1, 1) := dk_27 (dk_at dksX8_parts_0 17 rfl rfl)
theorem dX8_parts_18 : decode cX8_parts 18 = .ok (.imul, 1) := dk_104 (dk_at dksX8_parts_0 18 rfl rfl)
theorem dX8_parts_19 : decode cX8_parts 19 = .ok (.iload_n 2, 1) := dk_28 (dk_at dksX8_parts_0 19 rfl rfl)
theorem dX8_parts_20 : decode cX8_parts 20 = .ok (.iadd, 1) := dk_96 (dk_at dksX8_parts_0 20 rfl rfl)
theorem dX8_parts_21 : decode cX8_parts 21 = .ok (.iaload, 1) := dk_46 (dk_at dksX8_parts_0 21 rfl rfl)
theorem dX8_parts_22 : decode cX8_parts 22 = .ok (.iadd, 1) := dk_96 (dk_at dksX8_parts_0 22 rfl rfl)
theorem dX8_parts_23 : decode cX8_parts 23 = .ok (.if_icmp .ge 27, 3) := dk_162 0 27 (dk_at dksX8_parts_1 0 rfl rfl)
theorem dX8_parts_26 : decode cX8_parts 26 = .ok (.iinc 3 1, 3) := dk_132 3 1 (dk_at dksX8_parts_1 3 rfl rfl)
theorem dX8_parts_29 : decode cX8_parts 29 = .ok (.iload 4, 2) := dk_21 4 (dk_at dksX8_parts_1 6 rfl rfl)
theorem dX8_parts_31 : decode cX8_parts 31 = .ok (.aload_n 0, 1) := dk_42 (dk_at dksX8_parts_1 8 rfl rfl)
theorem dX8_parts_32 : decode cX8_parts 32 = .ok (.getfield 65, 3) := dk_180 0 65 (dk_at dksX8_parts_1 9 rfl rfl)
theorem dX8_parts_35 : decode cX8_parts 35 = .ok (.sipush 13000, 3) := dk_17 50 200 (dk_at dksX8_parts_1 12 rfl rfl)
theorem dX8_parts_38 : decode cX8_parts 38 = .ok (.iload_n 1, 1) := dk_27 (dk_at dksX8_parts_1 15 rfl rfl)
theorem dX8_parts_39 : decode cX8_parts 39 = .ok (.imul, 1) := dk_104 (dk_at dksX8_parts_1 16 rfl rfl)
theorem dX8_parts_40 : decode cX8_parts 40 = .ok (.iload 4, 2) := dk_21 4 (dk_at dksX8_parts_1 17 rfl rfl)
theorem dX8_parts_42 : decode cX8_parts 42 = .ok (.iadd, 1) := dk_96 (dk_at dksX8_parts_1 19 rfl rfl)
theorem dX8_parts_43 : decode cX8_parts 43 = .ok (.iaload, 1) := dk_46 (dk_at dksX8_parts_1 20 rfl rfl)
theorem dX8_parts_44 : decode cX8_parts 44 = .ok (.iadd, 1) := dk_96 (dk_at dksX8_parts_1 21 rfl rfl)
theorem dX8_parts_45 : decode cX8_parts 45 = .ok (.istore 4, 2) := dk_54 4 (dk_at dksX8_parts_1 22 rfl rfl)
theorem dX8_parts_47 : decode cX8_parts 47 = .ok (.goto (-40), 3) := dk_167 255 216 (dk_at dksX8_parts_2 0 rfl rfl)
theorem dX8_parts_50 : decode cX8_parts 50 = .ok (.iload_n 3, 1) := dk_29 (dk_at dksX8_parts_2 3 rfl rfl)
theorem dX8_parts_51 : decode cX8_parts 51 = .ok (.ireturn, 1) := dk_172 (dk_at dksX8_parts_2 4 rfl rfl)
abbrev cX8_whole : ByteArray := prog_10_method_40_code
def yX8_whole : MethodName := ⟨RX8, "whole", "(II)I"⟩
def dkwX8_whole_1 : List UInt8 := [2, 172]
abbrev dktX8_whole_1 : List UInt8 := dkwX8_whole_1 ++ []
def dkwX8_whole_0 : List UInt8 := [42, 27, 28, 182, 0, 238, 153, 0, 18, 42, 180, 0, 62, 17, 50, 200, 27, 104, 28, 96, 46, 167, 0, 4]
abbrev dktX8_whole_0 : List UInt8 := dkwX8_whole_0 ++ dktX8_whole_1
theorem dksX8_whole_0 : cX8_whole.data.toList.drop 0 = dktX8_whole_0 := by decide +kernel
theorem dksX8_whole_1 : cX8_whole.data.toList.drop 24 = dktX8_whole_1 := dk_seg dksX8_whole_0 24 rfl rfl
theorem dX8_whole_0 : decode cX8_whole 0 = .ok (.aload_n 0, 1) := dk_42 (dk_at dksX8_whole_0 0 rfl rfl)
theorem dX8_whole_1 : decode cX8_whole 1 = .ok (.iload_n 1, 1) := dk_27 (dk_at dksX8_whole_0 1 rfl rfl)
theorem dX8_whole_2 : decode cX8_whole 2 = .ok (.iload_n 2, 1) := dk_28 (dk_at dksX8_whole_0 2 rfl rfl)
theorem dX8_whole_3 : decode cX8_whole 3 = .ok (.invokevirtual 238, 3) := dk_182 0 238 (dk_at dksX8_whole_0 3 rfl rfl)
theorem dX8_whole_6 : decode cX8_whole 6 = .ok (.ifCond .eq 18, 3) := dk_153 0 18 (dk_at dksX8_whole_0 6 rfl rfl)
theorem dX8_whole_9 : decode cX8_whole 9 = .ok (.aload_n 0, 1) := dk_42 (dk_at dksX8_whole_0 9 rfl rfl)
theorem dX8_whole_10 : decode cX8_whole 10 = .ok (.getfield 62, 3) := dk_180 0 62 (dk_at dksX8_whole_0 10 rfl rfl)
theorem dX8_whole_13 : decode cX8_whole 13 = .ok (.sipush 13000, 3) := dk_17 50 200 (dk_at dksX8_whole_0 13 rfl rfl)
theorem dX8_whole_16 : decode cX8_whole 16 = .ok (.iload_n 1, 1) := dk_27 (dk_at dksX8_whole_0 16 rfl rfl)
theorem dX8_whole_17 : decode cX8_whole 17 = .ok (.imul, 1) := dk_104 (dk_at dksX8_whole_0 17 rfl rfl)
theorem dX8_whole_18 : decode cX8_whole 18 = .ok (.iload_n 2, 1) := dk_28 (dk_at dksX8_whole_0 18 rfl rfl)
theorem dX8_whole_19 : decode cX8_whole 19 = .ok (.iadd, 1) := dk_96 (dk_at dksX8_whole_0 19 rfl rfl)
theorem dX8_whole_20 : decode cX8_whole 20 = .ok (.iaload, 1) := dk_46 (dk_at dksX8_whole_0 20 rfl rfl)
theorem dX8_whole_21 : decode cX8_whole 21 = .ok (.goto 4, 3) := dk_167 0 4 (dk_at dksX8_whole_0 21 rfl rfl)
theorem dX8_whole_24 : decode cX8_whole 24 = .ok (.iconst (-1), 1) := dk_2 (dk_at dksX8_whole_1 0 rfl rfl)
theorem dX8_whole_25 : decode cX8_whole 25 = .ok (.ireturn, 1) := dk_172 (dk_at dksX8_whole_1 1 rfl rfl)
abbrev cX8_names : ByteArray := prog_10_method_41_code
def yX8_names : MethodName := ⟨RX8, "names", "()I"⟩
theorem dX8_names_0 : decode cX8_names 0 = .ok (.aload_n 0, 1) := by decide +kernel
theorem dX8_names_1 : decode cX8_names 1 = .ok (.getfield 223, 3) := by decide +kernel
theorem dX8_names_4 : decode cX8_names 4 = .ok (.ireturn, 1) := by decide +kernel
abbrev cX8_spelt : ByteArray := prog_10_method_42_code
def yX8_spelt : MethodName := ⟨RX8, "spelt", "(II)I"⟩
def dkwX8_spelt_2 : List UInt8 := [46, 28, 96, 46, 172]
abbrev dktX8_spelt_2 : List UInt8 := dkwX8_spelt_2 ++ []
def dkwX8_spelt_1 : List UInt8 := [46, 42, 180, 0, 74, 27, 46, 100, 161, 0, 7, 2, 167, 0, 16, 42, 180, 0, 71, 42, 180, 0, 74, 27]
abbrev dktX8_spelt_1 : List UInt8 := dkwX8_spelt_1 ++ dktX8_spelt_2
def dkwX8_spelt_0 : List UInt8 := [27, 155, 0, 34, 27, 42, 180, 0, 223, 162, 0, 26, 28, 155, 0, 22, 28, 42, 180, 0, 74, 27, 4, 96]
abbrev dktX8_spelt_0 : List UInt8 := dkwX8_spelt_0 ++ dktX8_spelt_1
theorem dksX8_spelt_0 : cX8_spelt.data.toList.drop 0 = dktX8_spelt_0 := by decide +kernel
theorem dksX8_spelt_1 : cX8_spelt.data.toList.drop 24 = dktX8_spelt_1 := dk_seg dksX8_spelt_0 24 rfl rfl
theorem dksX8_spelt_2 : cX8_spelt.data.toList.drop 48 = dktX8_spelt_2 := dk_seg dksX8_spelt_1 24 rfl rfl
theorem dX8_spelt_0 : decode cX8_spelt 0 = .ok (.iload_n 1, 1) := dk_27 (dk_at dksX8_spelt_0 0 rfl rfl)
theorem dX8_spelt_1 : decode cX8_spelt 1 = .ok (.ifCond .lt 34, 3) := dk_155 0 34 (dk_at dksX8_spelt_0 1 rfl rfl)
theorem dX8_spelt_4 : decode cX8_spelt 4 = .ok (.iload_n 1, 1) := dk_27 (dk_at dksX8_spelt_0 4 rfl rfl)
theorem dX8_spelt_5 : decode cX8_spelt 5 = .ok (.aload_n 0, 1) := dk_42 (dk_at dksX8_spelt_0 5 rfl rfl)
theorem dX8_spelt_6 : decode cX8_spelt 6 = .ok (.getfield 223, 3) := dk_180 0 223 (dk_at dksX8_spelt_0 6 rfl rfl)
theorem dX8_spelt_9 : decode cX8_spelt 9 = .ok (.if_icmp .ge 26, 3) := dk_162 0 26 (dk_at dksX8_spelt_0 9 rfl rfl)
theorem dX8_spelt_12 : decode cX8_spelt 12 = .ok (.iload_n 2, 1) := dk_28 (dk_at dksX8_spelt_0 12 rfl rfl)
theorem dX8_spelt_13 : decode cX8_spelt 13 = .ok (.ifCond .lt 22, 3) := dk_155 0 22 (dk_at dksX8_spelt_0 13 rfl rfl)
theorem dX8_spelt_16 : decode cX8_spelt 16 = .ok (.iload_n 2, 1) := dk_28 (dk_at dksX8_spelt_0 16 rfl rfl)
theorem dX8_spelt_17 : decode cX8_spelt 17 = .ok (.aload_n 0, 1) := dk_42 (dk_at dksX8_spelt_0 17 rfl rfl)
theorem dX8_spelt_18 : decode cX8_spelt 18 = .ok (.getfield 74, 3) := dk_180 0 74 (dk_at dksX8_spelt_0 18 rfl rfl)
theorem dX8_spelt_21 : decode cX8_spelt 21 = .ok (.iload_n 1, 1) := dk_27 (dk_at dksX8_spelt_0 21 rfl rfl)
theorem dX8_spelt_22 : decode cX8_spelt 22 = .ok (.iconst 1, 1) := dk_4 (dk_at dksX8_spelt_0 22 rfl rfl)
theorem dX8_spelt_23 : decode cX8_spelt 23 = .ok (.iadd, 1) := dk_96 (dk_at dksX8_spelt_0 23 rfl rfl)
theorem dX8_spelt_24 : decode cX8_spelt 24 = .ok (.iaload, 1) := dk_46 (dk_at dksX8_spelt_1 0 rfl rfl)
theorem dX8_spelt_25 : decode cX8_spelt 25 = .ok (.aload_n 0, 1) := dk_42 (dk_at dksX8_spelt_1 1 rfl rfl)
theorem dX8_spelt_26 : decode cX8_spelt 26 = .ok (.getfield 74, 3) := dk_180 0 74 (dk_at dksX8_spelt_1 2 rfl rfl)
theorem dX8_spelt_29 : decode cX8_spelt 29 = .ok (.iload_n 1, 1) := dk_27 (dk_at dksX8_spelt_1 5 rfl rfl)
theorem dX8_spelt_30 : decode cX8_spelt 30 = .ok (.iaload, 1) := dk_46 (dk_at dksX8_spelt_1 6 rfl rfl)
theorem dX8_spelt_31 : decode cX8_spelt 31 = .ok (.isub, 1) := dk_100 (dk_at dksX8_spelt_1 7 rfl rfl)
theorem dX8_spelt_32 : decode cX8_spelt 32 = .ok (.if_icmp .lt 7, 3) := dk_161 0 7 (dk_at dksX8_spelt_1 8 rfl rfl)
theorem dX8_spelt_35 : decode cX8_spelt 35 = .ok (.iconst (-1), 1) := dk_2 (dk_at dksX8_spelt_1 11 rfl rfl)
theorem dX8_spelt_36 : decode cX8_spelt 36 = .ok (.goto 16, 3) := dk_167 0 16 (dk_at dksX8_spelt_1 12 rfl rfl)
theorem dX8_spelt_39 : decode cX8_spelt 39 = .ok (.aload_n 0, 1) := dk_42 (dk_at dksX8_spelt_1 15 rfl rfl)
theorem dX8_spelt_40 : decode cX8_spelt 40 = .ok (.getfield 71, 3) := dk_180 0 71 (dk_at dksX8_spelt_1 16 rfl rfl)
theorem dX8_spelt_43 : decode cX8_spelt 43 = .ok (.aload_n 0, 1) := dk_42 (dk_at dksX8_spelt_1 19 rfl rfl)
theorem dX8_spelt_44 : decode cX8_spelt 44 = .ok (.getfield 74, 3) := dk_180 0 74 (dk_at dksX8_spelt_1 20 rfl rfl)
theorem dX8_spelt_47 : decode cX8_spelt 47 = .ok (.iload_n 1, 1) := dk_27 (dk_at dksX8_spelt_1 23 rfl rfl)
theorem dX8_spelt_48 : decode cX8_spelt 48 = .ok (.iaload, 1) := dk_46 (dk_at dksX8_spelt_2 0 rfl rfl)
theorem dX8_spelt_49 : decode cX8_spelt 49 = .ok (.iload_n 2, 1) := dk_28 (dk_at dksX8_spelt_2 1 rfl rfl)
theorem dX8_spelt_50 : decode cX8_spelt 50 = .ok (.iadd, 1) := dk_96 (dk_at dksX8_spelt_2 2 rfl rfl)
theorem dX8_spelt_51 : decode cX8_spelt 51 = .ok (.iaload, 1) := dk_46 (dk_at dksX8_spelt_2 3 rfl rfl)
theorem dX8_spelt_52 : decode cX8_spelt 52 = .ok (.ireturn, 1) := dk_172 (dk_at dksX8_spelt_2 4 rfl rfl)
abbrev cX8_same : ByteArray := prog_10_method_43_code
def yX8_same : MethodName := ⟨RX8, "same", "()Z"⟩
def dkwX8_same_4 : List UInt8 := [167, 0, 4, 3, 60, 132, 2, 1, 167, 255, 176, 27, 172]
abbrev dktX8_same_4 : List UInt8 := dkwX8_same_4 ++ []
def dkwX8_same_3 : List UInt8 := [46, 160, 0, 26, 42, 180, 0, 62, 28, 46, 42, 180, 0, 62, 17, 50, 200, 28, 96, 46, 160, 0, 7, 4]
abbrev dktX8_same_3 : List UInt8 := dkwX8_same_3 ++ dktX8_same_4
def dkwX8_same_2 : List UInt8 := [17, 50, 200, 28, 96, 46, 160, 0, 45, 42, 180, 0, 59, 28, 46, 42, 180, 0, 59, 17, 50, 200, 28, 96]
abbrev dktX8_same_2 : List UInt8 := dkwX8_same_2 ++ dktX8_same_3
def dkwX8_same_1 : List UInt8 := [42, 180, 0, 68, 3, 46, 162, 0, 76, 27, 153, 0, 72, 42, 180, 0, 53, 28, 46, 42, 180, 0, 53]
abbrev dktX8_same_1 : List UInt8 := dkwX8_same_1 ++ dktX8_same_2
def dkwX8_same_0 : List UInt8 := [42, 180, 0, 68, 3, 46, 42, 180, 0, 68, 4, 46, 160, 0, 7, 4, 167, 0, 4, 3, 60, 3, 61, 28]
abbrev dktX8_same_0 : List UInt8 := dkwX8_same_0 ++ dktX8_same_1
theorem dksX8_same_0 : cX8_same.data.toList.drop 0 = dktX8_same_0 := by decide +kernel
theorem dksX8_same_1 : cX8_same.data.toList.drop 24 = dktX8_same_1 := dk_seg dksX8_same_0 24 rfl rfl
theorem dksX8_same_2 : cX8_same.data.toList.drop 47 = dktX8_same_2 := dk_seg dksX8_same_1 23 rfl rfl
theorem dksX8_same_3 : cX8_same.data.toList.drop 71 = dktX8_same_3 := dk_seg dksX8_same_2 24 rfl rfl
theorem dksX8_same_4 : cX8_same.data.toList.drop 95 = dktX8_same_4 := dk_seg dksX8_same_3 24 rfl rfl
theorem dX8_same_0 : decode cX8_same 0 = .ok (.aload_n 0, 1) := dk_42 (dk_at dksX8_same_0 0 rfl rfl)
theorem dX8_same_1 : decode cX8_same 1 = .ok (.getfield 68, 3) := dk_180 0 68 (dk_at dksX8_same_0 1 rfl rfl)
theorem dX8_same_4 : decode cX8_same 4 = .ok (.iconst 0, 1) := dk_3 (dk_at dksX8_same_0 4 rfl rfl)
theorem dX8_same_5 : decode cX8_same 5 = .ok (.iaload, 1) := dk_46 (dk_at dksX8_same_0 5 rfl rfl)
theorem dX8_same_6 : decode cX8_same 6 = .ok (.aload_n 0, 1) := dk_42 (dk_at dksX8_same_0 6 rfl rfl)
theorem dX8_same_7 : decode cX8_same 7 = .ok (.getfield 68, 3) := dk_180 0 68 (dk_at dksX8_same_0 7 rfl rfl)
theorem dX8_same_10 : decode cX8_same 10 = .ok (.iconst 1, 1) := dk_4 (dk_at dksX8_same_0 10 rfl rfl)
theorem dX8_same_11 : decode cX8_same 11 = .ok (.iaload, 1) := dk_46 (dk_at dksX8_same_0 11 rfl rfl)
theorem dX8_same_12 : decode cX8_same 12 = .ok (.if_icmp .ne 7, 3) := dk_160 0 7 (dk_at dksX8_same_0 12 rfl rfl)
theorem dX8_same_15 : decode cX8_same 15 = .ok (.iconst 1, 1) := dk_4 (dk_at dksX8_same_0 15 rfl rfl)
theorem dX8_same_16 : decode cX8_same 16 = .ok (.goto 4, 3) := dk_167 0 4 (dk_at dksX8_same_0 16 rfl rfl)
theorem dX8_same_19 : decode cX8_same 19 = .ok (.iconst 0, 1) := dk_3 (dk_at dksX8_same_0 19 rfl rfl)
theorem dX8_same_20 : decode cX8_same 20 = .ok (.istore_n 1, 1) := dk_60 (dk_at dksX8_same_0 20 rfl rfl)
theorem dX8_same_21 : decode cX8_same 21 = .ok (.iconst 0, 1) := dk_3 (dk_at dksX8_same_0 21 rfl rfl)
theorem dX8_same_22 : decode cX8_same 22 = .ok (.istore_n 2, 1) := dk_61 (dk_at dksX8_same_0 22 rfl rfl)
theorem dX8_same_23 : decode cX8_same 23 = .ok (.iload_n 2, 1) := dk_28 (dk_at dksX8_same_0 23 rfl rfl)
theorem dX8_same_24 : decode cX8_same 24 = .ok (.aload_n 0, 1) := dk_42 (dk_at dksX8_same_1 0 rfl rfl)
theorem dX8_same_25 : decode cX8_same 25 = .ok (.getfield 68, 3) := dk_180 0 68 (dk_at dksX8_same_1 1 rfl rfl)
theorem dX8_same_28 : decode cX8_same 28 = .ok (.iconst 0, 1) := dk_3 (dk_at dksX8_same_1 4 rfl rfl)
theorem dX8_same_29 : decode cX8_same 29 = .ok (.iaload, 1) := dk_46 (dk_at dksX8_same_1 5 rfl rfl)
theorem dX8_same_30 : decode cX8_same 30 = .ok (.if_icmp .ge 76, 3) := dk_162 0 76 (dk_at dksX8_same_1 6 rfl rfl)
theorem dX8_same_33 : decode cX8_same 33 = .ok (.iload_n 1, 1) := dk_27 (dk_at dksX8_same_1 9 rfl rfl)
theorem dX8_same_34 : decode cX8_same 34 = .ok (.ifCond .eq 72, 3) := dk_153 0 72 (dk_at dksX8_same_1 10 rfl rfl)
theorem dX8_same_37 : decode cX8_same 37 = .ok (.aload_n 0, 1) := dk_42 (dk_at dksX8_same_1 13 rfl rfl)
theorem dX8_same_38 : decode cX8_same 38 = .ok (.getfield 53, 3) := dk_180 0 53 (dk_at dksX8_same_1 14 rfl rfl)
theorem dX8_same_41 : decode cX8_same 41 = .ok (.iload_n 2, 1) := dk_28 (dk_at dksX8_same_1 17 rfl rfl)
theorem dX8_same_42 : decode cX8_same 42 = .ok (.iaload, 1) := dk_46 (dk_at dksX8_same_1 18 rfl rfl)
theorem dX8_same_43 : decode cX8_same 43 = .ok (.aload_n 0, 1) := dk_42 (dk_at dksX8_same_1 19 rfl rfl)
theorem dX8_same_44 : decode cX8_same 44 = .ok (.getfield 53, 3) := dk_180 0 53 (dk_at dksX8_same_1 20 rfl rfl)
theorem dX8_same_47 : decode cX8_same 47 = .ok (.sipush 13000, 3) := dk_17 50 200 (dk_at dksX8_same_2 0 rfl rfl)
theorem dX8_same_50 : decode cX8_same 50 = .ok (.iload_n 2, 1) := dk_28 (dk_at dksX8_same_2 3 rfl rfl)
theorem dX8_same_51 : decode cX8_same 51 = .ok (.iadd, 1) := dk_96 (dk_at dksX8_same_2 4 rfl rfl)
theorem dX8_same_52 : decode cX8_same 52 = .ok (.iaload, 1) := dk_46 (dk_at dksX8_same_2 5 rfl rfl)
theorem dX8_same_53 : decode cX8_same 53 = .ok (.if_icmp .ne 45, 3) := dk_160 0 45 (dk_at dksX8_same_2 6 rfl rfl)
theorem dX8_same_56 : decode cX8_same 56 = .ok (.aload_n 0, 1) := dk_42 (dk_at dksX8_same_2 9 rfl rfl)
theorem dX8_same_57 : decode cX8_same 57 = .ok (.getfield 59, 3) := dk_180 0 59 (dk_at dksX8_same_2 10 rfl rfl)
theorem dX8_same_60 : decode cX8_same 60 = .ok (.iload_n 2, 1) := dk_28 (dk_at dksX8_same_2 13 rfl rfl)
theorem dX8_same_61 : decode cX8_same 61 = .ok (.iaload, 1) := dk_46 (dk_at dksX8_same_2 14 rfl rfl)
theorem dX8_same_62 : decode cX8_same 62 = .ok (.aload_n 0, 1) := dk_42 (dk_at dksX8_same_2 15 rfl rfl)
theorem dX8_same_63 : decode cX8_same 63 = .ok (.getfield 59, 3) := dk_180 0 59 (dk_at dksX8_same_2 16 rfl rfl)
theorem dX8_same_66 : decode cX8_same 66 = .ok (.sipush 13000, 3) := dk_17 50 200 (dk_at dksX8_same_2 19 rfl rfl)
theorem dX8_same_69 : decode cX8_same 69 = .ok (.iload_n 2, 1) := dk_28 (dk_at dksX8_same_2 22 rfl rfl)
theorem dX8_same_70 : decode cX8_same 70 = .ok (.iadd, 1) := dk_96 (dk_at dksX8_same_2 23 rfl rfl)
theorem dX8_same_71 : decode cX8_same 71 = .ok (.iaload, 1) := dk_46 (dk_at dksX8_same_3 0 rfl rfl)
theorem dX8_same_72 : decode cX8_same 72 = .ok (.if_icmp .ne 26, 3) := dk_160 0 26 (dk_at dksX8_same_3 1 rfl rfl)
theorem dX8_same_75 : decode cX8_same 75 = .ok (.aload_n 0, 1) := dk_42 (dk_at dksX8_same_3 4 rfl rfl)
theorem dX8_same_76 : decode cX8_same 76 = .ok (.getfield 62, 3) := dk_180 0 62 (dk_at dksX8_same_3 5 rfl rfl)
theorem dX8_same_79 : decode cX8_same 79 = .ok (.iload_n 2, 1) := dk_28 (dk_at dksX8_same_3 8 rfl rfl)
theorem dX8_same_80 : decode cX8_same 80 = .ok (.iaload, 1) := dk_46 (dk_at dksX8_same_3 9 rfl rfl)
theorem dX8_same_81 : decode cX8_same 81 = .ok (.aload_n 0, 1) := dk_42 (dk_at dksX8_same_3 10 rfl rfl)
theorem dX8_same_82 : decode cX8_same 82 = .ok (.getfield 62, 3) := dk_180 0 62 (dk_at dksX8_same_3 11 rfl rfl)
theorem dX8_same_85 : decode cX8_same 85 = .ok (.sipush 13000, 3) := dk_17 50 200 (dk_at dksX8_same_3 14 rfl rfl)
theorem dX8_same_88 : decode cX8_same 88 = .ok (.iload_n 2, 1) := dk_28 (dk_at dksX8_same_3 17 rfl rfl)
theorem dX8_same_89 : decode cX8_same 89 = .ok (.iadd, 1) := dk_96 (dk_at dksX8_same_3 18 rfl rfl)
theorem dX8_same_90 : decode cX8_same 90 = .ok (.iaload, 1) := dk_46 (dk_at dksX8_same_3 19 rfl rfl)
theorem dX8_same_91 : decode cX8_same 91 = .ok (.if_icmp .ne 7, 3) := dk_160 0 7 (dk_at dksX8_same_3 20 rfl rfl)
theorem dX8_same_94 : decode cX8_same 94 = .ok (.iconst 1, 1) := dk_4 (dk_at dksX8_same_3 23 rfl rfl)
theorem dX8_same_95 : decode cX8_same 95 = .ok (.goto 4, 3) := dk_167 0 4 (dk_at dksX8_same_4 0 rfl rfl)
theorem dX8_same_98 : decode cX8_same 98 = .ok (.iconst 0, 1) := dk_3 (dk_at dksX8_same_4 3 rfl rfl)
theorem dX8_same_99 : decode cX8_same 99 = .ok (.istore_n 1, 1) := dk_60 (dk_at dksX8_same_4 4 rfl rfl)
theorem dX8_same_100 : decode cX8_same 100 = .ok (.iinc 2 1, 3) := dk_132 2 1 (dk_at dksX8_same_4 5 rfl rfl)
theorem dX8_same_103 : decode cX8_same 103 = .ok (.goto (-80), 3) := dk_167 255 176 (dk_at dksX8_same_4 8 rfl rfl)
theorem dX8_same_106 : decode cX8_same 106 = .ok (.iload_n 1, 1) := dk_27 (dk_at dksX8_same_4 11 rfl rfl)
theorem dX8_same_107 : decode cX8_same 107 = .ok (.ireturn, 1) := dk_172 (dk_at dksX8_same_4 12 rfl rfl)
abbrev cX8_write : ByteArray := prog_10_method_59_code
def yX8_write : MethodName := ⟨RX8, "write", "(II)I"⟩
def dkwX8_write_3 : List UInt8 := [42, 180, 1, 69, 172]
abbrev dktX8_write_3 : List UInt8 := dkwX8_write_3 ++ []
def dkwX8_write_2 : List UInt8 := [180, 0, 244, 162, 0, 21, 42, 180, 0, 13, 29, 42, 180, 0, 16, 29, 46, 79, 132, 3, 1, 167, 255, 233]
abbrev dktX8_write_2 : List UInt8 := dkwX8_write_2 ++ dktX8_write_3
def dkwX8_write_1 : List UInt8 := [180, 0, 244, 17, 31, 64, 164, 0, 5, 2, 172, 42, 42, 180, 0, 244, 181, 1, 69, 3, 62, 29, 42]
abbrev dktX8_write_1 : List UInt8 := dkwX8_write_1 ++ dktX8_write_2
def dkwX8_write_0 : List UInt8 := [42, 27, 28, 182, 0, 238, 154, 0, 5, 2, 172, 42, 3, 181, 0, 244, 42, 27, 28, 182, 1, 2, 42]
abbrev dktX8_write_0 : List UInt8 := dkwX8_write_0 ++ dktX8_write_1
theorem dksX8_write_0 : cX8_write.data.toList.drop 0 = dktX8_write_0 := by decide +kernel
theorem dksX8_write_1 : cX8_write.data.toList.drop 23 = dktX8_write_1 := dk_seg dksX8_write_0 23 rfl rfl
theorem dksX8_write_2 : cX8_write.data.toList.drop 46 = dktX8_write_2 := dk_seg dksX8_write_1 23 rfl rfl
theorem dksX8_write_3 : cX8_write.data.toList.drop 70 = dktX8_write_3 := dk_seg dksX8_write_2 24 rfl rfl
theorem dX8_write_0 : decode cX8_write 0 = .ok (.aload_n 0, 1) := dk_42 (dk_at dksX8_write_0 0 rfl rfl)
theorem dX8_write_1 : decode cX8_write 1 = .ok (.iload_n 1, 1) := dk_27 (dk_at dksX8_write_0 1 rfl rfl)
theorem dX8_write_2 : decode cX8_write 2 = .ok (.iload_n 2, 1) := dk_28 (dk_at dksX8_write_0 2 rfl rfl)
theorem dX8_write_3 : decode cX8_write 3 = .ok (.invokevirtual 238, 3) := dk_182 0 238 (dk_at dksX8_write_0 3 rfl rfl)
theorem dX8_write_6 : decode cX8_write 6 = .ok (.ifCond .ne 5, 3) := dk_154 0 5 (dk_at dksX8_write_0 6 rfl rfl)
theorem dX8_write_9 : decode cX8_write 9 = .ok (.iconst (-1), 1) := dk_2 (dk_at dksX8_write_0 9 rfl rfl)
theorem dX8_write_10 : decode cX8_write 10 = .ok (.ireturn, 1) := dk_172 (dk_at dksX8_write_0 10 rfl rfl)
theorem dX8_write_11 : decode cX8_write 11 = .ok (.aload_n 0, 1) := dk_42 (dk_at dksX8_write_0 11 rfl rfl)
theorem dX8_write_12 : decode cX8_write 12 = .ok (.iconst 0, 1) := dk_3 (dk_at dksX8_write_0 12 rfl rfl)
theorem dX8_write_13 : decode cX8_write 13 = .ok (.putfield 244, 3) := dk_181 0 244 (dk_at dksX8_write_0 13 rfl rfl)
theorem dX8_write_16 : decode cX8_write 16 = .ok (.aload_n 0, 1) := dk_42 (dk_at dksX8_write_0 16 rfl rfl)
theorem dX8_write_17 : decode cX8_write 17 = .ok (.iload_n 1, 1) := dk_27 (dk_at dksX8_write_0 17 rfl rfl)
theorem dX8_write_18 : decode cX8_write 18 = .ok (.iload_n 2, 1) := dk_28 (dk_at dksX8_write_0 18 rfl rfl)
theorem dX8_write_19 : decode cX8_write 19 = .ok (.invokevirtual 258, 3) := dk_182 1 2 (dk_at dksX8_write_0 19 rfl rfl)
theorem dX8_write_22 : decode cX8_write 22 = .ok (.aload_n 0, 1) := dk_42 (dk_at dksX8_write_0 22 rfl rfl)
theorem dX8_write_23 : decode cX8_write 23 = .ok (.getfield 244, 3) := dk_180 0 244 (dk_at dksX8_write_1 0 rfl rfl)
theorem dX8_write_26 : decode cX8_write 26 = .ok (.sipush 8000, 3) := dk_17 31 64 (dk_at dksX8_write_1 3 rfl rfl)
theorem dX8_write_29 : decode cX8_write 29 = .ok (.if_icmp .le 5, 3) := dk_164 0 5 (dk_at dksX8_write_1 6 rfl rfl)
theorem dX8_write_32 : decode cX8_write 32 = .ok (.iconst (-1), 1) := dk_2 (dk_at dksX8_write_1 9 rfl rfl)
theorem dX8_write_33 : decode cX8_write 33 = .ok (.ireturn, 1) := dk_172 (dk_at dksX8_write_1 10 rfl rfl)
theorem dX8_write_34 : decode cX8_write 34 = .ok (.aload_n 0, 1) := dk_42 (dk_at dksX8_write_1 11 rfl rfl)
theorem dX8_write_35 : decode cX8_write 35 = .ok (.aload_n 0, 1) := dk_42 (dk_at dksX8_write_1 12 rfl rfl)
theorem dX8_write_36 : decode cX8_write 36 = .ok (.getfield 244, 3) := dk_180 0 244 (dk_at dksX8_write_1 13 rfl rfl)
theorem dX8_write_39 : decode cX8_write 39 = .ok (.putfield 325, 3) := dk_181 1 69 (dk_at dksX8_write_1 16 rfl rfl)
theorem dX8_write_42 : decode cX8_write 42 = .ok (.iconst 0, 1) := dk_3 (dk_at dksX8_write_1 19 rfl rfl)
theorem dX8_write_43 : decode cX8_write 43 = .ok (.istore_n 3, 1) := dk_62 (dk_at dksX8_write_1 20 rfl rfl)
theorem dX8_write_44 : decode cX8_write 44 = .ok (.iload_n 3, 1) := dk_29 (dk_at dksX8_write_1 21 rfl rfl)
theorem dX8_write_45 : decode cX8_write 45 = .ok (.aload_n 0, 1) := dk_42 (dk_at dksX8_write_1 22 rfl rfl)
theorem dX8_write_46 : decode cX8_write 46 = .ok (.getfield 244, 3) := dk_180 0 244 (dk_at dksX8_write_2 0 rfl rfl)
theorem dX8_write_49 : decode cX8_write 49 = .ok (.if_icmp .ge 21, 3) := dk_162 0 21 (dk_at dksX8_write_2 3 rfl rfl)
theorem dX8_write_52 : decode cX8_write 52 = .ok (.aload_n 0, 1) := dk_42 (dk_at dksX8_write_2 6 rfl rfl)
theorem dX8_write_53 : decode cX8_write 53 = .ok (.getfield 13, 3) := dk_180 0 13 (dk_at dksX8_write_2 7 rfl rfl)
theorem dX8_write_56 : decode cX8_write 56 = .ok (.iload_n 3, 1) := dk_29 (dk_at dksX8_write_2 10 rfl rfl)
theorem dX8_write_57 : decode cX8_write 57 = .ok (.aload_n 0, 1) := dk_42 (dk_at dksX8_write_2 11 rfl rfl)
theorem dX8_write_58 : decode cX8_write 58 = .ok (.getfield 16, 3) := dk_180 0 16 (dk_at dksX8_write_2 12 rfl rfl)
theorem dX8_write_61 : decode cX8_write 61 = .ok (.iload_n 3, 1) := dk_29 (dk_at dksX8_write_2 15 rfl rfl)
theorem dX8_write_62 : decode cX8_write 62 = .ok (.iaload, 1) := dk_46 (dk_at dksX8_write_2 16 rfl rfl)
theorem dX8_write_63 : decode cX8_write 63 = .ok (.iastore, 1) := dk_79 (dk_at dksX8_write_2 17 rfl rfl)
theorem dX8_write_64 : decode cX8_write 64 = .ok (.iinc 3 1, 3) := dk_132 3 1 (dk_at dksX8_write_2 18 rfl rfl)
theorem dX8_write_67 : decode cX8_write 67 = .ok (.goto (-23), 3) := dk_167 255 233 (dk_at dksX8_write_2 21 rfl rfl)
theorem dX8_write_70 : decode cX8_write 70 = .ok (.aload_n 0, 1) := dk_42 (dk_at dksX8_write_3 0 rfl rfl)
theorem dX8_write_71 : decode cX8_write 71 = .ok (.getfield 325, 3) := dk_180 1 69 (dk_at dksX8_write_3 1 rfl rfl)
theorem dX8_write_74 : decode cX8_write 74 = .ok (.ireturn, 1) := dk_172 (dk_at dksX8_write_3 4 rfl rfl)
abbrev cX8_show : ByteArray := prog_10_method_58_code
def yX8_show : MethodName := ⟨RX8, "show", "(II)V"⟩
def dkwX8_show_23 : List UInt8 := [182, 1, 58, 182, 1, 37, 42, 27, 42, 27, 21, 4, 182, 1, 12, 182, 1, 2, 177]
abbrev dktX8_show_23 : List UInt8 := dkwX8_show_23 ++ []
def dkwX8_show_22 : List UInt8 := [3, 182, 1, 66, 167, 0, 37, 29, 16, 33, 162, 0, 31, 42, 27, 21, 4, 182, 1, 2, 42, 42, 29]
abbrev dktX8_show_22 : List UInt8 := dkwX8_show_22 ++ dktX8_show_23
def dkwX8_show_21 : List UInt8 := [54, 4, 167, 255, 196, 167, 0, 60, 29, 16, 26, 160, 0, 20, 42, 16, 33, 182, 0, 253, 42, 27, 21, 4]
abbrev dktX8_show_21 : List UInt8 := dkwX8_show_21 ++ dktX8_show_22
def dkwX8_show_20 : List UInt8 := [21, 4, 29, 16, 24, 160, 0, 7, 4, 167, 0, 4, 3, 182, 1, 66, 42, 27, 21, 4, 182, 1, 12]
abbrev dktX8_show_20 : List UInt8 := dkwX8_show_20 ++ dktX8_show_21
def dkwX8_show_19 : List UInt8 := [164, 0, 22, 42, 29, 16, 24, 160, 0, 9, 19, 1, 62, 167, 0, 6, 19, 1, 64, 182, 1, 37, 42, 27]
abbrev dktX8_show_19 : List UInt8 := dkwX8_show_19 ++ dktX8_show_20
def dkwX8_show_18 : List UInt8 := [159, 0, 9, 29, 16, 25, 160, 0, 73, 21, 4, 54, 6, 21, 4, 21, 5, 162, 0, 59, 21, 4, 21, 6]
abbrev dktX8_show_18 : List UInt8 := dkwX8_show_18 ++ dktX8_show_19
def dkwX8_show_17 : List UInt8 := [42, 27, 21, 4, 29, 16, 20, 162, 0, 7, 4, 167, 0, 4, 3, 182, 1, 54, 167, 0, 142, 29, 16, 24]
abbrev dktX8_show_17 : List UInt8 := dkwX8_show_17 ++ dktX8_show_18
def dkwX8_show_16 : List UInt8 := [159, 0, 15, 29, 16, 20, 164, 0, 39, 29, 16, 24, 162, 0, 33, 42, 42, 29, 182, 1, 58, 182, 1, 37]
abbrev dktX8_show_16 : List UInt8 := dkwX8_show_16 ++ dktX8_show_17
def dkwX8_show_15 : List UInt8 := [182, 1, 2, 42, 27, 21, 4, 182, 1, 12, 54, 4, 167, 255, 233, 29, 16, 18, 159, 0, 21, 29, 16, 19]
abbrev dktX8_show_15 : List UInt8 := dkwX8_show_15 ++ dktX8_show_16
def dkwX8_show_14 : List UInt8 := [182, 1, 54, 42, 27, 21, 4, 182, 1, 12, 54, 4, 21, 4, 21, 5, 162, 0, 215, 42, 27, 21, 4]
abbrev dktX8_show_14 : List UInt8 := dkwX8_show_14 ++ dktX8_show_15
def dkwX8_show_13 : List UInt8 := [159, 0, 9, 29, 16, 20, 160, 0, 56, 42, 27, 21, 4, 29, 16, 17, 160, 0, 7, 4, 167, 0, 4, 3]
abbrev dktX8_show_13 : List UInt8 := dkwX8_show_13 ++ dktX8_show_14
def dkwX8_show_12 : List UInt8 := [21, 4, 21, 5, 162, 1, 17, 42, 27, 21, 4, 21, 5, 182, 1, 41, 167, 1, 5, 29, 16, 17]
abbrev dktX8_show_12 : List UInt8 := dkwX8_show_12 ++ dktX8_show_13
def dkwX8_show_11 : List UInt8 := [42, 27, 21, 4, 3, 182, 1, 54, 167, 1, 36, 29, 16, 16, 160, 0, 28, 42, 18, 93, 182, 1, 37]
abbrev dktX8_show_11 : List UInt8 := dkwX8_show_11 ++ dktX8_show_12
def dkwX8_show_10 : List UInt8 := [182, 1, 2, 42, 16, 93, 182, 0, 253, 167, 1, 59, 29, 16, 15, 160, 0, 20, 42, 16, 45, 182, 0, 253]
abbrev dktX8_show_10 : List UInt8 := dkwX8_show_10 ++ dktX8_show_11
def dkwX8_show_9 : List UInt8 := [42, 27, 21, 4, 182, 1, 2, 42, 16, 91, 182, 0, 253, 42, 27, 42, 27, 21, 4, 182, 1, 12]
abbrev dktX8_show_9 : List UInt8 := dkwX8_show_9 ++ dktX8_show_10
def dkwX8_show_8 : List UInt8 := [42, 180, 0, 59, 17, 50, 200, 27, 104, 28, 96, 46, 182, 1, 51, 167, 1, 99, 29, 16, 14, 160, 0, 37]
abbrev dktX8_show_8 : List UInt8 := dkwX8_show_8 ++ dktX8_show_9
def dkwX8_show_7 : List UInt8 := [180, 0, 59, 17, 50, 200, 27, 104, 28, 96, 46, 182, 1, 48, 167, 1, 124, 29, 16, 13, 160, 0, 22, 42]
abbrev dktX8_show_7 : List UInt8 := dkwX8_show_7 ++ dktX8_show_8
def dkwX8_show_6 : List UInt8 := [29, 16, 12, 162, 0, 13, 42, 27, 28, 29, 182, 1, 45, 167, 1, 149, 29, 16, 12, 160, 0, 22, 42, 42]
abbrev dktX8_show_6 : List UInt8 := dkwX8_show_6 ++ dktX8_show_7
def dkwX8_show_5 : List UInt8 := [167, 255, 241, 42, 27, 21, 4, 4, 96, 21, 6, 182, 1, 41, 42, 27, 21, 6, 182, 1, 2, 167, 1, 165]
abbrev dktX8_show_5 : List UInt8 := dkwX8_show_5 ++ dktX8_show_6
def dkwX8_show_4 : List UInt8 := [182, 1, 2, 21, 4, 4, 96, 54, 6, 42, 27, 21, 6, 182, 1, 5, 16, 13, 160, 0, 9, 132, 6, 1]
abbrev dktX8_show_4 : List UInt8 := dkwX8_show_4 ++ dktX8_show_5
def dkwX8_show_3 : List UInt8 := [16, 125, 182, 0, 253, 167, 1, 228, 29, 4, 160, 0, 61, 42, 18, 79, 182, 1, 37, 42, 27, 21, 4]
abbrev dktX8_show_3 : List UInt8 := dkwX8_show_3 ++ dktX8_show_4
def dkwX8_show_2 : List UInt8 := [27, 21, 4, 182, 1, 2, 42, 27, 21, 4, 182, 1, 12, 54, 4, 167, 255, 233, 29, 5, 160, 1, 237, 42]
abbrev dktX8_show_2 : List UInt8 := dkwX8_show_2 ++ dktX8_show_3
def dkwX8_show_1 : List UInt8 := [29, 5, 160, 0, 54, 29, 5, 160, 0, 9, 42, 16, 123, 182, 0, 253, 21, 4, 21, 5, 162, 0, 22, 42]
abbrev dktX8_show_1 : List UInt8 := dkwX8_show_1 ++ dktX8_show_2
def dkwX8_show_0 : List UInt8 := [42, 27, 28, 182, 1, 5, 62, 28, 4, 96, 54, 4, 42, 27, 28, 182, 1, 12, 54, 5, 29, 153, 0, 8]
abbrev dktX8_show_0 : List UInt8 := dkwX8_show_0 ++ dktX8_show_1
theorem dksX8_show_0 : cX8_show.data.toList.drop 0 = dktX8_show_0 := by decide +kernel
theorem dksX8_show_1 : cX8_show.data.toList.drop 24 = dktX8_show_1 := dk_seg dksX8_show_0 24 rfl rfl
theorem dksX8_show_2 : cX8_show.data.toList.drop 48 = dktX8_show_2 := dk_seg dksX8_show_1 24 rfl rfl
theorem dksX8_show_3 : cX8_show.data.toList.drop 72 = dktX8_show_3 := dk_seg dksX8_show_2 24 rfl rfl
theorem dksX8_show_4 : cX8_show.data.toList.drop 95 = dktX8_show_4 := dk_seg dksX8_show_3 23 rfl rfl
theorem dksX8_show_5 : cX8_show.data.toList.drop 119 = dktX8_show_5 := dk_seg dksX8_show_4 24 rfl rfl
theorem dksX8_show_6 : cX8_show.data.toList.drop 143 = dktX8_show_6 := dk_seg dksX8_show_5 24 rfl rfl
theorem dksX8_show_7 : cX8_show.data.toList.drop 167 = dktX8_show_7 := dk_seg dksX8_show_6 24 rfl rfl
theorem dksX8_show_8 : cX8_show.data.toList.drop 191 = dktX8_show_8 := dk_seg dksX8_show_7 24 rfl rfl
theorem dksX8_show_9 : cX8_show.data.toList.drop 215 = dktX8_show_9 := dk_seg dksX8_show_8 24 rfl rfl
theorem dksX8_show_10 : cX8_show.data.toList.drop 237 = dktX8_show_10 := dk_seg dksX8_show_9 22 rfl rfl
theorem dksX8_show_11 : cX8_show.data.toList.drop 261 = dktX8_show_11 := dk_seg dksX8_show_10 24 rfl rfl
theorem dksX8_show_12 : cX8_show.data.toList.drop 284 = dktX8_show_12 := dk_seg dksX8_show_11 23 rfl rfl
theorem dksX8_show_13 : cX8_show.data.toList.drop 306 = dktX8_show_13 := dk_seg dksX8_show_12 22 rfl rfl
theorem dksX8_show_14 : cX8_show.data.toList.drop 330 = dktX8_show_14 := dk_seg dksX8_show_13 24 rfl rfl
theorem dksX8_show_15 : cX8_show.data.toList.drop 353 = dktX8_show_15 := dk_seg dksX8_show_14 23 rfl rfl
theorem dksX8_show_16 : cX8_show.data.toList.drop 377 = dktX8_show_16 := dk_seg dksX8_show_15 24 rfl rfl
theorem dksX8_show_17 : cX8_show.data.toList.drop 401 = dktX8_show_17 := dk_seg dksX8_show_16 24 rfl rfl
theorem dksX8_show_18 : cX8_show.data.toList.drop 425 = dktX8_show_18 := dk_seg dksX8_show_17 24 rfl rfl
theorem dksX8_show_19 : cX8_show.data.toList.drop 449 = dktX8_show_19 := dk_seg dksX8_show_18 24 rfl rfl
theorem dksX8_show_20 : cX8_show.data.toList.drop 473 = dktX8_show_20 := dk_seg dksX8_show_19 24 rfl rfl
theorem dksX8_show_21 : cX8_show.data.toList.drop 496 = dktX8_show_21 := dk_seg dksX8_show_20 23 rfl rfl
theorem dksX8_show_22 : cX8_show.data.toList.drop 520 = dktX8_show_22 := dk_seg dksX8_show_21 24 rfl rfl
theorem dksX8_show_23 : cX8_show.data.toList.drop 543 = dktX8_show_23 := dk_seg dksX8_show_22 23 rfl rfl
theorem dX8_show_0 : decode cX8_show 0 = .ok (.aload_n 0, 1) := dk_42 (dk_at dksX8_show_0 0 rfl rfl)
theorem dX8_show_1 : decode cX8_show 1 = .ok (.iload_n 1, 1) := dk_27 (dk_at dksX8_show_0 1 rfl rfl)
theorem dX8_show_2 : decode cX8_show 2 = .ok (.iload_n 2, 1) := dk_28 (dk_at dksX8_show_0 2 rfl rfl)
theorem dX8_show_3 : decode cX8_show 3 = .ok (.invokevirtual 261, 3) := dk_182 1 5 (dk_at dksX8_show_0 3 rfl rfl)
theorem dX8_show_6 : decode cX8_show 6 = .ok (.istore_n 3, 1) := dk_62 (dk_at dksX8_show_0 6 rfl rfl)
theorem dX8_show_7 : decode cX8_show 7 = .ok (.iload_n 2, 1) := dk_28 (dk_at dksX8_show_0 7 rfl rfl)
theorem dX8_show_8 : decode cX8_show 8 = .ok (.iconst 1, 1) := dk_4 (dk_at dksX8_show_0 8 rfl rfl)
theorem dX8_show_9 : decode cX8_show 9 = .ok (.iadd, 1) := dk_96 (dk_at dksX8_show_0 9 rfl rfl)
theorem dX8_show_10 : decode cX8_show 10 = .ok (.istore 4, 2) := dk_54 4 (dk_at dksX8_show_0 10 rfl rfl)
theorem dX8_show_12 : decode cX8_show 12 = .ok (.aload_n 0, 1) := dk_42 (dk_at dksX8_show_0 12 rfl rfl)
theorem dX8_show_13 : decode cX8_show 13 = .ok (.iload_n 1, 1) := dk_27 (dk_at dksX8_show_0 13 rfl rfl)
theorem dX8_show_14 : decode cX8_show 14 = .ok (.iload_n 2, 1) := dk_28 (dk_at dksX8_show_0 14 rfl rfl)
theorem dX8_show_15 : decode cX8_show 15 = .ok (.invokevirtual 268, 3) := dk_182 1 12 (dk_at dksX8_show_0 15 rfl rfl)
theorem dX8_show_18 : decode cX8_show 18 = .ok (.istore 5, 2) := dk_54 5 (dk_at dksX8_show_0 18 rfl rfl)
theorem dX8_show_20 : decode cX8_show 20 = .ok (.iload_n 3, 1) := dk_29 (dk_at dksX8_show_0 20 rfl rfl)
theorem dX8_show_21 : decode cX8_show 21 = .ok (.ifCond .eq 8, 3) := dk_153 0 8 (dk_at dksX8_show_0 21 rfl rfl)
theorem dX8_show_24 : decode cX8_show 24 = .ok (.iload_n 3, 1) := dk_29 (dk_at dksX8_show_1 0 rfl rfl)
theorem dX8_show_25 : decode cX8_show 25 = .ok (.iconst 2, 1) := dk_5 (dk_at dksX8_show_1 1 rfl rfl)
theorem dX8_show_26 : decode cX8_show 26 = .ok (.if_icmp .ne 54, 3) := dk_160 0 54 (dk_at dksX8_show_1 2 rfl rfl)
theorem dX8_show_29 : decode cX8_show 29 = .ok (.iload_n 3, 1) := dk_29 (dk_at dksX8_show_1 5 rfl rfl)
theorem dX8_show_30 : decode cX8_show 30 = .ok (.iconst 2, 1) := dk_5 (dk_at dksX8_show_1 6 rfl rfl)
theorem dX8_show_31 : decode cX8_show 31 = .ok (.if_icmp .ne 9, 3) := dk_160 0 9 (dk_at dksX8_show_1 7 rfl rfl)
theorem dX8_show_34 : decode cX8_show 34 = .ok (.aload_n 0, 1) := dk_42 (dk_at dksX8_show_1 10 rfl rfl)
theorem dX8_show_35 : decode cX8_show 35 = .ok (.bipush 123, 2) := dk_16 123 (dk_at dksX8_show_1 11 rfl rfl)
theorem dX8_show_37 : decode cX8_show 37 = .ok (.invokevirtual 253, 3) := dk_182 0 253 (dk_at dksX8_show_1 13 rfl rfl)
theorem dX8_show_40 : decode cX8_show 40 = .ok (.iload 4, 2) := dk_21 4 (dk_at dksX8_show_1 16 rfl rfl)
theorem dX8_show_42 : decode cX8_show 42 = .ok (.iload 5, 2) := dk_21 5 (dk_at dksX8_show_1 18 rfl rfl)
theorem dX8_show_44 : decode cX8_show 44 = .ok (.if_icmp .ge 22, 3) := dk_162 0 22 (dk_at dksX8_show_1 20 rfl rfl)
theorem dX8_show_47 : decode cX8_show 47 = .ok (.aload_n 0, 1) := dk_42 (dk_at dksX8_show_1 23 rfl rfl)
theorem dX8_show_48 : decode cX8_show 48 = .ok (.iload_n 1, 1) := dk_27 (dk_at dksX8_show_2 0 rfl rfl)
theorem dX8_show_49 : decode cX8_show 49 = .ok (.iload 4, 2) := dk_21 4 (dk_at dksX8_show_2 1 rfl rfl)
theorem dX8_show_51 : decode cX8_show 51 = .ok (.invokevirtual 258, 3) := dk_182 1 2 (dk_at dksX8_show_2 3 rfl rfl)
theorem dX8_show_54 : decode cX8_show 54 = .ok (.aload_n 0, 1) := dk_42 (dk_at dksX8_show_2 6 rfl rfl)
theorem dX8_show_55 : decode cX8_show 55 = .ok (.iload_n 1, 1) := dk_27 (dk_at dksX8_show_2 7 rfl rfl)
theorem dX8_show_56 : decode cX8_show 56 = .ok (.iload 4, 2) := dk_21 4 (dk_at dksX8_show_2 8 rfl rfl)
theorem dX8_show_58 : decode cX8_show 58 = .ok (.invokevirtual 268, 3) := dk_182 1 12 (dk_at dksX8_show_2 10 rfl rfl)
theorem dX8_show_61 : decode cX8_show 61 = .ok (.istore 4, 2) := dk_54 4 (dk_at dksX8_show_2 13 rfl rfl)
theorem dX8_show_63 : decode cX8_show 63 = .ok (.goto (-23), 3) := dk_167 255 233 (dk_at dksX8_show_2 15 rfl rfl)
theorem dX8_show_66 : decode cX8_show 66 = .ok (.iload_n 3, 1) := dk_29 (dk_at dksX8_show_2 18 rfl rfl)
theorem dX8_show_67 : decode cX8_show 67 = .ok (.iconst 2, 1) := dk_5 (dk_at dksX8_show_2 19 rfl rfl)
theorem dX8_show_68 : decode cX8_show 68 = .ok (.if_icmp .ne 493, 3) := dk_160 1 237 (dk_at dksX8_show_2 20 rfl rfl)
theorem dX8_show_71 : decode cX8_show 71 = .ok (.aload_n 0, 1) := dk_42 (dk_at dksX8_show_2 23 rfl rfl)
theorem dX8_show_72 : decode cX8_show 72 = .ok (.bipush 125, 2) := dk_16 125 (dk_at dksX8_show_3 0 rfl rfl)
theorem dX8_show_74 : decode cX8_show 74 = .ok (.invokevirtual 253, 3) := dk_182 0 253 (dk_at dksX8_show_3 2 rfl rfl)
theorem dX8_show_77 : decode cX8_show 77 = .ok (.goto 484, 3) := dk_167 1 228 (dk_at dksX8_show_3 5 rfl rfl)
theorem dX8_show_80 : decode cX8_show 80 = .ok (.iload_n 3, 1) := dk_29 (dk_at dksX8_show_3 8 rfl rfl)
theorem dX8_show_81 : decode cX8_show 81 = .ok (.iconst 1, 1) := dk_4 (dk_at dksX8_show_3 9 rfl rfl)
theorem dX8_show_82 : decode cX8_show 82 = .ok (.if_icmp .ne 61, 3) := dk_160 0 61 (dk_at dksX8_show_3 10 rfl rfl)
theorem dX8_show_85 : decode cX8_show 85 = .ok (.aload_n 0, 1) := dk_42 (dk_at dksX8_show_3 13 rfl rfl)
theorem dX8_show_86 : decode cX8_show 86 = .ok (.ldc 79, 2) := dk_18 79 (dk_at dksX8_show_3 14 rfl rfl)
theorem dX8_show_88 : decode cX8_show 88 = .ok (.invokevirtual 293, 3) := dk_182 1 37 (dk_at dksX8_show_3 16 rfl rfl)
theorem dX8_show_91 : decode cX8_show 91 = .ok (.aload_n 0, 1) := dk_42 (dk_at dksX8_show_3 19 rfl rfl)
theorem dX8_show_92 : decode cX8_show 92 = .ok (.iload_n 1, 1) := dk_27 (dk_at dksX8_show_3 20 rfl rfl)
theorem dX8_show_93 : decode cX8_show 93 = .ok (.iload 4, 2) := dk_21 4 (dk_at dksX8_show_3 21 rfl rfl)
theorem dX8_show_95 : decode cX8_show 95 = .ok (.invokevirtual 258, 3) := dk_182 1 2 (dk_at dksX8_show_4 0 rfl rfl)
theorem dX8_show_98 : decode cX8_show 98 = .ok (.iload 4, 2) := dk_21 4 (dk_at dksX8_show_4 3 rfl rfl)
theorem dX8_show_100 : decode cX8_show 100 = .ok (.iconst 1, 1) := dk_4 (dk_at dksX8_show_4 5 rfl rfl)
theorem dX8_show_101 : decode cX8_show 101 = .ok (.iadd, 1) := dk_96 (dk_at dksX8_show_4 6 rfl rfl)
theorem dX8_show_102 : decode cX8_show 102 = .ok (.istore 6, 2) := dk_54 6 (dk_at dksX8_show_4 7 rfl rfl)
theorem dX8_show_104 : decode cX8_show 104 = .ok (.aload_n 0, 1) := dk_42 (dk_at dksX8_show_4 9 rfl rfl)
theorem dX8_show_105 : decode cX8_show 105 = .ok (.iload_n 1, 1) := dk_27 (dk_at dksX8_show_4 10 rfl rfl)
theorem dX8_show_106 : decode cX8_show 106 = .ok (.iload 6, 2) := dk_21 6 (dk_at dksX8_show_4 11 rfl rfl)
theorem dX8_show_108 : decode cX8_show 108 = .ok (.invokevirtual 261, 3) := dk_182 1 5 (dk_at dksX8_show_4 13 rfl rfl)
theorem dX8_show_111 : decode cX8_show 111 = .ok (.bipush 13, 2) := dk_16 13 (dk_at dksX8_show_4 16 rfl rfl)
theorem dX8_show_113 : decode cX8_show 113 = .ok (.if_icmp .ne 9, 3) := dk_160 0 9 (dk_at dksX8_show_4 18 rfl rfl)
theorem dX8_show_116 : decode cX8_show 116 = .ok (.iinc 6 1, 3) := dk_132 6 1 (dk_at dksX8_show_4 21 rfl rfl)
theorem dX8_show_119 : decode cX8_show 119 = .ok (.goto (-15), 3) := dk_167 255 241 (dk_at dksX8_show_5 0 rfl rfl)
theorem dX8_show_122 : decode cX8_show 122 = .ok (.aload_n 0, 1) := dk_42 (dk_at dksX8_show_5 3 rfl rfl)
theorem dX8_show_123 : decode cX8_show 123 = .ok (.iload_n 1, 1) := dk_27 (dk_at dksX8_show_5 4 rfl rfl)
theorem dX8_show_124 : decode cX8_show 124 = .ok (.iload 4, 2) := dk_21 4 (dk_at dksX8_show_5 5 rfl rfl)
theorem dX8_show_126 : decode cX8_show 126 = .ok (.iconst 1, 1) := dk_4 (dk_at dksX8_show_5 7 rfl rfl)
theorem dX8_show_127 : decode cX8_show 127 = .ok (.iadd, 1) := dk_96 (dk_at dksX8_show_5 8 rfl rfl)
theorem dX8_show_128 : decode cX8_show 128 = .ok (.iload 6, 2) := dk_21 6 (dk_at dksX8_show_5 9 rfl rfl)
theorem dX8_show_130 : decode cX8_show 130 = .ok (.invokevirtual 297, 3) := dk_182 1 41 (dk_at dksX8_show_5 11 rfl rfl)
theorem dX8_show_133 : decode cX8_show 133 = .ok (.aload_n 0, 1) := dk_42 (dk_at dksX8_show_5 14 rfl rfl)
theorem dX8_show_134 : decode cX8_show 134 = .ok (.iload_n 1, 1) := dk_27 (dk_at dksX8_show_5 15 rfl rfl)
theorem dX8_show_135 : decode cX8_show 135 = .ok (.iload 6, 2) := dk_21 6 (dk_at dksX8_show_5 16 rfl rfl)
theorem dX8_show_137 : decode cX8_show 137 = .ok (.invokevirtual 258, 3) := dk_182 1 2 (dk_at dksX8_show_5 18 rfl rfl)
theorem dX8_show_140 : decode cX8_show 140 = .ok (.goto 421, 3) := dk_167 1 165 (dk_at dksX8_show_5 21 rfl rfl)
theorem dX8_show_143 : decode cX8_show 143 = .ok (.iload_n 3, 1) := dk_29 (dk_at dksX8_show_6 0 rfl rfl)
theorem dX8_show_144 : decode cX8_show 144 = .ok (.bipush 12, 2) := dk_16 12 (dk_at dksX8_show_6 1 rfl rfl)
theorem dX8_show_146 : decode cX8_show 146 = .ok (.if_icmp .ge 13, 3) := dk_162 0 13 (dk_at dksX8_show_6 3 rfl rfl)
theorem dX8_show_149 : decode cX8_show 149 = .ok (.aload_n 0, 1) := dk_42 (dk_at dksX8_show_6 6 rfl rfl)
theorem dX8_show_150 : decode cX8_show 150 = .ok (.iload_n 1, 1) := dk_27 (dk_at dksX8_show_6 7 rfl rfl)
theorem dX8_show_151 : decode cX8_show 151 = .ok (.iload_n 2, 1) := dk_28 (dk_at dksX8_show_6 8 rfl rfl)
theorem dX8_show_152 : decode cX8_show 152 = .ok (.iload_n 3, 1) := dk_29 (dk_at dksX8_show_6 9 rfl rfl)
theorem dX8_show_153 : decode cX8_show 153 = .ok (.invokevirtual 301, 3) := dk_182 1 45 (dk_at dksX8_show_6 10 rfl rfl)
theorem dX8_show_156 : decode cX8_show 156 = .ok (.goto 405, 3) := dk_167 1 149 (dk_at dksX8_show_6 13 rfl rfl)
theorem dX8_show_159 : decode cX8_show 159 = .ok (.iload_n 3, 1) := dk_29 (dk_at dksX8_show_6 16 rfl rfl)
theorem dX8_show_160 : decode cX8_show 160 = .ok (.bipush 12, 2) := dk_16 12 (dk_at dksX8_show_6 17 rfl rfl)
theorem dX8_show_162 : decode cX8_show 162 = .ok (.if_icmp .ne 22, 3) := dk_160 0 22 (dk_at dksX8_show_6 19 rfl rfl)
theorem dX8_show_165 : decode cX8_show 165 = .ok (.aload_n 0, 1) := dk_42 (dk_at dksX8_show_6 22 rfl rfl)
theorem dX8_show_166 : decode cX8_show 166 = .ok (.aload_n 0, 1) := dk_42 (dk_at dksX8_show_6 23 rfl rfl)
theorem dX8_show_167 : decode cX8_show 167 = .ok (.getfield 59, 3) := dk_180 0 59 (dk_at dksX8_show_7 0 rfl rfl)
theorem dX8_show_170 : decode cX8_show 170 = .ok (.sipush 13000, 3) := dk_17 50 200 (dk_at dksX8_show_7 3 rfl rfl)
theorem dX8_show_173 : decode cX8_show 173 = .ok (.iload_n 1, 1) := dk_27 (dk_at dksX8_show_7 6 rfl rfl)
theorem dX8_show_174 : decode cX8_show 174 = .ok (.imul, 1) := dk_104 (dk_at dksX8_show_7 7 rfl rfl)
theorem dX8_show_175 : decode cX8_show 175 = .ok (.iload_n 2, 1) := dk_28 (dk_at dksX8_show_7 8 rfl rfl)
theorem dX8_show_176 : decode cX8_show 176 = .ok (.iadd, 1) := dk_96 (dk_at dksX8_show_7 9 rfl rfl)
theorem dX8_show_177 : decode cX8_show 177 = .ok (.iaload, 1) := dk_46 (dk_at dksX8_show_7 10 rfl rfl)
theorem dX8_show_178 : decode cX8_show 178 = .ok (.invokevirtual 304, 3) := dk_182 1 48 (dk_at dksX8_show_7 11 rfl rfl)
theorem dX8_show_181 : decode cX8_show 181 = .ok (.goto 380, 3) := dk_167 1 124 (dk_at dksX8_show_7 14 rfl rfl)
theorem dX8_show_184 : decode cX8_show 184 = .ok (.iload_n 3, 1) := dk_29 (dk_at dksX8_show_7 17 rfl rfl)
theorem dX8_show_185 : decode cX8_show 185 = .ok (.bipush 13, 2) := dk_16 13 (dk_at dksX8_show_7 18 rfl rfl)
theorem dX8_show_187 : decode cX8_show 187 = .ok (.if_icmp .ne 22, 3) := dk_160 0 22 (dk_at dksX8_show_7 20 rfl rfl)
theorem dX8_show_190 : decode cX8_show 190 = .ok (.aload_n 0, 1) := dk_42 (dk_at dksX8_show_7 23 rfl rfl)
theorem dX8_show_191 : decode cX8_show 191 = .ok (.aload_n 0, 1) := dk_42 (dk_at dksX8_show_8 0 rfl rfl)
theorem dX8_show_192 : decode cX8_show 192 = .ok (.getfield 59, 3) := dk_180 0 59 (dk_at dksX8_show_8 1 rfl rfl)
theorem dX8_show_195 : decode cX8_show 195 = .ok (.sipush 13000, 3) := dk_17 50 200 (dk_at dksX8_show_8 4 rfl rfl)
theorem dX8_show_198 : decode cX8_show 198 = .ok (.iload_n 1, 1) := dk_27 (dk_at dksX8_show_8 7 rfl rfl)
theorem dX8_show_199 : decode cX8_show 199 = .ok (.imul, 1) := dk_104 (dk_at dksX8_show_8 8 rfl rfl)
theorem dX8_show_200 : decode cX8_show 200 = .ok (.iload_n 2, 1) := dk_28 (dk_at dksX8_show_8 9 rfl rfl)
theorem dX8_show_201 : decode cX8_show 201 = .ok (.iadd, 1) := dk_96 (dk_at dksX8_show_8 10 rfl rfl)
theorem dX8_show_202 : decode cX8_show 202 = .ok (.iaload, 1) := dk_46 (dk_at dksX8_show_8 11 rfl rfl)
theorem dX8_show_203 : decode cX8_show 203 = .ok (.invokevirtual 307, 3) := dk_182 1 51 (dk_at dksX8_show_8 12 rfl rfl)
theorem dX8_show_206 : decode cX8_show 206 = .ok (.goto 355, 3) := dk_167 1 99 (dk_at dksX8_show_8 15 rfl rfl)
theorem dX8_show_209 : decode cX8_show 209 = .ok (.iload_n 3, 1) := dk_29 (dk_at dksX8_show_8 18 rfl rfl)
theorem dX8_show_210 : decode cX8_show 210 = .ok (.bipush 14, 2) := dk_16 14 (dk_at dksX8_show_8 19 rfl rfl)
theorem dX8_show_212 : decode cX8_show 212 = .ok (.if_icmp .ne 37, 3) := dk_160 0 37 (dk_at dksX8_show_8 21 rfl rfl)
theorem dX8_show_215 : decode cX8_show 215 = .ok (.aload_n 0, 1) := dk_42 (dk_at dksX8_show_9 0 rfl rfl)
theorem dX8_show_216 : decode cX8_show 216 = .ok (.iload_n 1, 1) := dk_27 (dk_at dksX8_show_9 1 rfl rfl)
theorem dX8_show_217 : decode cX8_show 217 = .ok (.iload 4, 2) := dk_21 4 (dk_at dksX8_show_9 2 rfl rfl)
theorem dX8_show_219 : decode cX8_show 219 = .ok (.invokevirtual 258, 3) := dk_182 1 2 (dk_at dksX8_show_9 4 rfl rfl)
theorem dX8_show_222 : decode cX8_show 222 = .ok (.aload_n 0, 1) := dk_42 (dk_at dksX8_show_9 7 rfl rfl)
theorem dX8_show_223 : decode cX8_show 223 = .ok (.bipush 91, 2) := dk_16 91 (dk_at dksX8_show_9 8 rfl rfl)
theorem dX8_show_225 : decode cX8_show 225 = .ok (.invokevirtual 253, 3) := dk_182 0 253 (dk_at dksX8_show_9 10 rfl rfl)
theorem dX8_show_228 : decode cX8_show 228 = .ok (.aload_n 0, 1) := dk_42 (dk_at dksX8_show_9 13 rfl rfl)
theorem dX8_show_229 : decode cX8_show 229 = .ok (.iload_n 1, 1) := dk_27 (dk_at dksX8_show_9 14 rfl rfl)
theorem dX8_show_230 : decode cX8_show 230 = .ok (.aload_n 0, 1) := dk_42 (dk_at dksX8_show_9 15 rfl rfl)
theorem dX8_show_231 : decode cX8_show 231 = .ok (.iload_n 1, 1) := dk_27 (dk_at dksX8_show_9 16 rfl rfl)
theorem dX8_show_232 : decode cX8_show 232 = .ok (.iload 4, 2) := dk_21 4 (dk_at dksX8_show_9 17 rfl rfl)
theorem dX8_show_234 : decode cX8_show 234 = .ok (.invokevirtual 268, 3) := dk_182 1 12 (dk_at dksX8_show_9 19 rfl rfl)
theorem dX8_show_237 : decode cX8_show 237 = .ok (.invokevirtual 258, 3) := dk_182 1 2 (dk_at dksX8_show_10 0 rfl rfl)
theorem dX8_show_240 : decode cX8_show 240 = .ok (.aload_n 0, 1) := dk_42 (dk_at dksX8_show_10 3 rfl rfl)
theorem dX8_show_241 : decode cX8_show 241 = .ok (.bipush 93, 2) := dk_16 93 (dk_at dksX8_show_10 4 rfl rfl)
theorem dX8_show_243 : decode cX8_show 243 = .ok (.invokevirtual 253, 3) := dk_182 0 253 (dk_at dksX8_show_10 6 rfl rfl)
theorem dX8_show_246 : decode cX8_show 246 = .ok (.goto 315, 3) := dk_167 1 59 (dk_at dksX8_show_10 9 rfl rfl)
theorem dX8_show_249 : decode cX8_show 249 = .ok (.iload_n 3, 1) := dk_29 (dk_at dksX8_show_10 12 rfl rfl)
theorem dX8_show_250 : decode cX8_show 250 = .ok (.bipush 15, 2) := dk_16 15 (dk_at dksX8_show_10 13 rfl rfl)
theorem dX8_show_252 : decode cX8_show 252 = .ok (.if_icmp .ne 20, 3) := dk_160 0 20 (dk_at dksX8_show_10 15 rfl rfl)
theorem dX8_show_255 : decode cX8_show 255 = .ok (.aload_n 0, 1) := dk_42 (dk_at dksX8_show_10 18 rfl rfl)
theorem dX8_show_256 : decode cX8_show 256 = .ok (.bipush 45, 2) := dk_16 45 (dk_at dksX8_show_10 19 rfl rfl)
theorem dX8_show_258 : decode cX8_show 258 = .ok (.invokevirtual 253, 3) := dk_182 0 253 (dk_at dksX8_show_10 21 rfl rfl)
theorem dX8_show_261 : decode cX8_show 261 = .ok (.aload_n 0, 1) := dk_42 (dk_at dksX8_show_11 0 rfl rfl)
theorem dX8_show_262 : decode cX8_show 262 = .ok (.iload_n 1, 1) := dk_27 (dk_at dksX8_show_11 1 rfl rfl)
theorem dX8_show_263 : decode cX8_show 263 = .ok (.iload 4, 2) := dk_21 4 (dk_at dksX8_show_11 2 rfl rfl)
theorem dX8_show_265 : decode cX8_show 265 = .ok (.iconst 0, 1) := dk_3 (dk_at dksX8_show_11 4 rfl rfl)
theorem dX8_show_266 : decode cX8_show 266 = .ok (.invokevirtual 310, 3) := dk_182 1 54 (dk_at dksX8_show_11 5 rfl rfl)
theorem dX8_show_269 : decode cX8_show 269 = .ok (.goto 292, 3) := dk_167 1 36 (dk_at dksX8_show_11 8 rfl rfl)
theorem dX8_show_272 : decode cX8_show 272 = .ok (.iload_n 3, 1) := dk_29 (dk_at dksX8_show_11 11 rfl rfl)
theorem dX8_show_273 : decode cX8_show 273 = .ok (.bipush 16, 2) := dk_16 16 (dk_at dksX8_show_11 12 rfl rfl)
theorem dX8_show_275 : decode cX8_show 275 = .ok (.if_icmp .ne 28, 3) := dk_160 0 28 (dk_at dksX8_show_11 14 rfl rfl)
theorem dX8_show_278 : decode cX8_show 278 = .ok (.aload_n 0, 1) := dk_42 (dk_at dksX8_show_11 17 rfl rfl)
theorem dX8_show_279 : decode cX8_show 279 = .ok (.ldc 93, 2) := dk_18 93 (dk_at dksX8_show_11 18 rfl rfl)
theorem dX8_show_281 : decode cX8_show 281 = .ok (.invokevirtual 293, 3) := dk_182 1 37 (dk_at dksX8_show_11 20 rfl rfl)
theorem dX8_show_284 : decode cX8_show 284 = .ok (.iload 4, 2) := dk_21 4 (dk_at dksX8_show_12 0 rfl rfl)
theorem dX8_show_286 : decode cX8_show 286 = .ok (.iload 5, 2) := dk_21 5 (dk_at dksX8_show_12 2 rfl rfl)
theorem dX8_show_288 : decode cX8_show 288 = .ok (.if_icmp .ge 273, 3) := dk_162 1 17 (dk_at dksX8_show_12 4 rfl rfl)
theorem dX8_show_291 : decode cX8_show 291 = .ok (.aload_n 0, 1) := dk_42 (dk_at dksX8_show_12 7 rfl rfl)
theorem dX8_show_292 : decode cX8_show 292 = .ok (.iload_n 1, 1) := dk_27 (dk_at dksX8_show_12 8 rfl rfl)
theorem dX8_show_293 : decode cX8_show 293 = .ok (.iload 4, 2) := dk_21 4 (dk_at dksX8_show_12 9 rfl rfl)
theorem dX8_show_295 : decode cX8_show 295 = .ok (.iload 5, 2) := dk_21 5 (dk_at dksX8_show_12 11 rfl rfl)
theorem dX8_show_297 : decode cX8_show 297 = .ok (.invokevirtual 297, 3) := dk_182 1 41 (dk_at dksX8_show_12 13 rfl rfl)
theorem dX8_show_300 : decode cX8_show 300 = .ok (.goto 261, 3) := dk_167 1 5 (dk_at dksX8_show_12 16 rfl rfl)
theorem dX8_show_303 : decode cX8_show 303 = .ok (.iload_n 3, 1) := dk_29 (dk_at dksX8_show_12 19 rfl rfl)
theorem dX8_show_304 : decode cX8_show 304 = .ok (.bipush 17, 2) := dk_16 17 (dk_at dksX8_show_12 20 rfl rfl)
theorem dX8_show_306 : decode cX8_show 306 = .ok (.if_icmp .eq 9, 3) := dk_159 0 9 (dk_at dksX8_show_13 0 rfl rfl)
theorem dX8_show_309 : decode cX8_show 309 = .ok (.iload_n 3, 1) := dk_29 (dk_at dksX8_show_13 3 rfl rfl)
theorem dX8_show_310 : decode cX8_show 310 = .ok (.bipush 20, 2) := dk_16 20 (dk_at dksX8_show_13 4 rfl rfl)
theorem dX8_show_312 : decode cX8_show 312 = .ok (.if_icmp .ne 56, 3) := dk_160 0 56 (dk_at dksX8_show_13 6 rfl rfl)
theorem dX8_show_315 : decode cX8_show 315 = .ok (.aload_n 0, 1) := dk_42 (dk_at dksX8_show_13 9 rfl rfl)
theorem dX8_show_316 : decode cX8_show 316 = .ok (.iload_n 1, 1) := dk_27 (dk_at dksX8_show_13 10 rfl rfl)
theorem dX8_show_317 : decode cX8_show 317 = .ok (.iload 4, 2) := dk_21 4 (dk_at dksX8_show_13 11 rfl rfl)
theorem dX8_show_319 : decode cX8_show 319 = .ok (.iload_n 3, 1) := dk_29 (dk_at dksX8_show_13 13 rfl rfl)
theorem dX8_show_320 : decode cX8_show 320 = .ok (.bipush 17, 2) := dk_16 17 (dk_at dksX8_show_13 14 rfl rfl)
theorem dX8_show_322 : decode cX8_show 322 = .ok (.if_icmp .ne 7, 3) := dk_160 0 7 (dk_at dksX8_show_13 16 rfl rfl)
theorem dX8_show_325 : decode cX8_show 325 = .ok (.iconst 1, 1) := dk_4 (dk_at dksX8_show_13 19 rfl rfl)
theorem dX8_show_326 : decode cX8_show 326 = .ok (.goto 4, 3) := dk_167 0 4 (dk_at dksX8_show_13 20 rfl rfl)
theorem dX8_show_329 : decode cX8_show 329 = .ok (.iconst 0, 1) := dk_3 (dk_at dksX8_show_13 23 rfl rfl)
theorem dX8_show_330 : decode cX8_show 330 = .ok (.invokevirtual 310, 3) := dk_182 1 54 (dk_at dksX8_show_14 0 rfl rfl)
theorem dX8_show_333 : decode cX8_show 333 = .ok (.aload_n 0, 1) := dk_42 (dk_at dksX8_show_14 3 rfl rfl)
theorem dX8_show_334 : decode cX8_show 334 = .ok (.iload_n 1, 1) := dk_27 (dk_at dksX8_show_14 4 rfl rfl)
theorem dX8_show_335 : decode cX8_show 335 = .ok (.iload 4, 2) := dk_21 4 (dk_at dksX8_show_14 5 rfl rfl)
theorem dX8_show_337 : decode cX8_show 337 = .ok (.invokevirtual 268, 3) := dk_182 1 12 (dk_at dksX8_show_14 7 rfl rfl)
theorem dX8_show_340 : decode cX8_show 340 = .ok (.istore 4, 2) := dk_54 4 (dk_at dksX8_show_14 10 rfl rfl)
theorem dX8_show_342 : decode cX8_show 342 = .ok (.iload 4, 2) := dk_21 4 (dk_at dksX8_show_14 12 rfl rfl)
theorem dX8_show_344 : decode cX8_show 344 = .ok (.iload 5, 2) := dk_21 5 (dk_at dksX8_show_14 14 rfl rfl)
theorem dX8_show_346 : decode cX8_show 346 = .ok (.if_icmp .ge 215, 3) := dk_162 0 215 (dk_at dksX8_show_14 16 rfl rfl)
theorem dX8_show_349 : decode cX8_show 349 = .ok (.aload_n 0, 1) := dk_42 (dk_at dksX8_show_14 19 rfl rfl)
theorem dX8_show_350 : decode cX8_show 350 = .ok (.iload_n 1, 1) := dk_27 (dk_at dksX8_show_14 20 rfl rfl)
theorem dX8_show_351 : decode cX8_show 351 = .ok (.iload 4, 2) := dk_21 4 (dk_at dksX8_show_14 21 rfl rfl)
theorem dX8_show_353 : decode cX8_show 353 = .ok (.invokevirtual 258, 3) := dk_182 1 2 (dk_at dksX8_show_15 0 rfl rfl)
theorem dX8_show_356 : decode cX8_show 356 = .ok (.aload_n 0, 1) := dk_42 (dk_at dksX8_show_15 3 rfl rfl)
theorem dX8_show_357 : decode cX8_show 357 = .ok (.iload_n 1, 1) := dk_27 (dk_at dksX8_show_15 4 rfl rfl)
theorem dX8_show_358 : decode cX8_show 358 = .ok (.iload 4, 2) := dk_21 4 (dk_at dksX8_show_15 5 rfl rfl)
theorem dX8_show_360 : decode cX8_show 360 = .ok (.invokevirtual 268, 3) := dk_182 1 12 (dk_at dksX8_show_15 7 rfl rfl)
theorem dX8_show_363 : decode cX8_show 363 = .ok (.istore 4, 2) := dk_54 4 (dk_at dksX8_show_15 10 rfl rfl)
theorem dX8_show_365 : decode cX8_show 365 = .ok (.goto (-23), 3) := dk_167 255 233 (dk_at dksX8_show_15 12 rfl rfl)
theorem dX8_show_368 : decode cX8_show 368 = .ok (.iload_n 3, 1) := dk_29 (dk_at dksX8_show_15 15 rfl rfl)
theorem dX8_show_369 : decode cX8_show 369 = .ok (.bipush 18, 2) := dk_16 18 (dk_at dksX8_show_15 16 rfl rfl)
theorem dX8_show_371 : decode cX8_show 371 = .ok (.if_icmp .eq 21, 3) := dk_159 0 21 (dk_at dksX8_show_15 18 rfl rfl)
theorem dX8_show_374 : decode cX8_show 374 = .ok (.iload_n 3, 1) := dk_29 (dk_at dksX8_show_15 21 rfl rfl)
theorem dX8_show_375 : decode cX8_show 375 = .ok (.bipush 19, 2) := dk_16 19 (dk_at dksX8_show_15 22 rfl rfl)
theorem dX8_show_377 : decode cX8_show 377 = .ok (.if_icmp .eq 15, 3) := dk_159 0 15 (dk_at dksX8_show_16 0 rfl rfl)
theorem dX8_show_380 : decode cX8_show 380 = .ok (.iload_n 3, 1) := dk_29 (dk_at dksX8_show_16 3 rfl rfl)
theorem dX8_show_381 : decode cX8_show 381 = .ok (.bipush 20, 2) := dk_16 20 (dk_at dksX8_show_16 4 rfl rfl)
theorem dX8_show_383 : decode cX8_show 383 = .ok (.if_icmp .le 39, 3) := dk_164 0 39 (dk_at dksX8_show_16 6 rfl rfl)
theorem dX8_show_386 : decode cX8_show 386 = .ok (.iload_n 3, 1) := dk_29 (dk_at dksX8_show_16 9 rfl rfl)
theorem dX8_show_387 : decode cX8_show 387 = .ok (.bipush 24, 2) := dk_16 24 (dk_at dksX8_show_16 10 rfl rfl)
theorem dX8_show_389 : decode cX8_show 389 = .ok (.if_icmp .ge 33, 3) := dk_162 0 33 (dk_at dksX8_show_16 12 rfl rfl)
theorem dX8_show_392 : decode cX8_show 392 = .ok (.aload_n 0, 1) := dk_42 (dk_at dksX8_show_16 15 rfl rfl)
theorem dX8_show_393 : decode cX8_show 393 = .ok (.aload_n 0, 1) := dk_42 (dk_at dksX8_show_16 16 rfl rfl)
theorem dX8_show_394 : decode cX8_show 394 = .ok (.iload_n 3, 1) := dk_29 (dk_at dksX8_show_16 17 rfl rfl)
theorem dX8_show_395 : decode cX8_show 395 = .ok (.invokevirtual 314, 3) := dk_182 1 58 (dk_at dksX8_show_16 18 rfl rfl)
theorem dX8_show_398 : decode cX8_show 398 = .ok (.invokevirtual 293, 3) := dk_182 1 37 (dk_at dksX8_show_16 21 rfl rfl)
theorem dX8_show_401 : decode cX8_show 401 = .ok (.aload_n 0, 1) := dk_42 (dk_at dksX8_show_17 0 rfl rfl)
theorem dX8_show_402 : decode cX8_show 402 = .ok (.iload_n 1, 1) := dk_27 (dk_at dksX8_show_17 1 rfl rfl)
theorem dX8_show_403 : decode cX8_show 403 = .ok (.iload 4, 2) := dk_21 4 (dk_at dksX8_show_17 2 rfl rfl)
theorem dX8_show_405 : decode cX8_show 405 = .ok (.iload_n 3, 1) := dk_29 (dk_at dksX8_show_17 4 rfl rfl)
theorem dX8_show_406 : decode cX8_show 406 = .ok (.bipush 20, 2) := dk_16 20 (dk_at dksX8_show_17 5 rfl rfl)
theorem dX8_show_408 : decode cX8_show 408 = .ok (.if_icmp .ge 7, 3) := dk_162 0 7 (dk_at dksX8_show_17 7 rfl rfl)
theorem dX8_show_411 : decode cX8_show 411 = .ok (.iconst 1, 1) := dk_4 (dk_at dksX8_show_17 10 rfl rfl)
theorem dX8_show_412 : decode cX8_show 412 = .ok (.goto 4, 3) := dk_167 0 4 (dk_at dksX8_show_17 11 rfl rfl)
theorem dX8_show_415 : decode cX8_show 415 = .ok (.iconst 0, 1) := dk_3 (dk_at dksX8_show_17 14 rfl rfl)
theorem dX8_show_416 : decode cX8_show 416 = .ok (.invokevirtual 310, 3) := dk_182 1 54 (dk_at dksX8_show_17 15 rfl rfl)
theorem dX8_show_419 : decode cX8_show 419 = .ok (.goto 142, 3) := dk_167 0 142 (dk_at dksX8_show_17 18 rfl rfl)
theorem dX8_show_422 : decode cX8_show 422 = .ok (.iload_n 3, 1) := dk_29 (dk_at dksX8_show_17 21 rfl rfl)
theorem dX8_show_423 : decode cX8_show 423 = .ok (.bipush 24, 2) := dk_16 24 (dk_at dksX8_show_17 22 rfl rfl)
theorem dX8_show_425 : decode cX8_show 425 = .ok (.if_icmp .eq 9, 3) := dk_159 0 9 (dk_at dksX8_show_18 0 rfl rfl)
theorem dX8_show_428 : decode cX8_show 428 = .ok (.iload_n 3, 1) := dk_29 (dk_at dksX8_show_18 3 rfl rfl)
theorem dX8_show_429 : decode cX8_show 429 = .ok (.bipush 25, 2) := dk_16 25 (dk_at dksX8_show_18 4 rfl rfl)
theorem dX8_show_431 : decode cX8_show 431 = .ok (.if_icmp .ne 73, 3) := dk_160 0 73 (dk_at dksX8_show_18 6 rfl rfl)
theorem dX8_show_434 : decode cX8_show 434 = .ok (.iload 4, 2) := dk_21 4 (dk_at dksX8_show_18 9 rfl rfl)
theorem dX8_show_436 : decode cX8_show 436 = .ok (.istore 6, 2) := dk_54 6 (dk_at dksX8_show_18 11 rfl rfl)
theorem dX8_show_438 : decode cX8_show 438 = .ok (.iload 4, 2) := dk_21 4 (dk_at dksX8_show_18 13 rfl rfl)
theorem dX8_show_440 : decode cX8_show 440 = .ok (.iload 5, 2) := dk_21 5 (dk_at dksX8_show_18 15 rfl rfl)
theorem dX8_show_442 : decode cX8_show 442 = .ok (.if_icmp .ge 59, 3) := dk_162 0 59 (dk_at dksX8_show_18 17 rfl rfl)
theorem dX8_show_445 : decode cX8_show 445 = .ok (.iload 4, 2) := dk_21 4 (dk_at dksX8_show_18 20 rfl rfl)
theorem dX8_show_447 : decode cX8_show 447 = .ok (.iload 6, 2) := dk_21 6 (dk_at dksX8_show_18 22 rfl rfl)
theorem dX8_show_449 : decode cX8_show 449 = .ok (.if_icmp .le 22, 3) := dk_164 0 22 (dk_at dksX8_show_19 0 rfl rfl)
theorem dX8_show_452 : decode cX8_show 452 = .ok (.aload_n 0, 1) := dk_42 (dk_at dksX8_show_19 3 rfl rfl)
theorem dX8_show_453 : decode cX8_show 453 = .ok (.iload_n 3, 1) := dk_29 (dk_at dksX8_show_19 4 rfl rfl)
theorem dX8_show_454 : decode cX8_show 454 = .ok (.bipush 24, 2) := dk_16 24 (dk_at dksX8_show_19 5 rfl rfl)
theorem dX8_show_456 : decode cX8_show 456 = .ok (.if_icmp .ne 9, 3) := dk_160 0 9 (dk_at dksX8_show_19 7 rfl rfl)
theorem dX8_show_459 : decode cX8_show 459 = .ok (.ldc_w 318, 3) := dk_19 1 62 (dk_at dksX8_show_19 10 rfl rfl)
theorem dX8_show_462 : decode cX8_show 462 = .ok (.goto 6, 3) := dk_167 0 6 (dk_at dksX8_show_19 13 rfl rfl)
theorem dX8_show_465 : decode cX8_show 465 = .ok (.ldc_w 320, 3) := dk_19 1 64 (dk_at dksX8_show_19 16 rfl rfl)
theorem dX8_show_468 : decode cX8_show 468 = .ok (.invokevirtual 293, 3) := dk_182 1 37 (dk_at dksX8_show_19 19 rfl rfl)
theorem dX8_show_471 : decode cX8_show 471 = .ok (.aload_n 0, 1) := dk_42 (dk_at dksX8_show_19 22 rfl rfl)
theorem dX8_show_472 : decode cX8_show 472 = .ok (.iload_n 1, 1) := dk_27 (dk_at dksX8_show_19 23 rfl rfl)
theorem dX8_show_473 : decode cX8_show 473 = .ok (.iload 4, 2) := dk_21 4 (dk_at dksX8_show_20 0 rfl rfl)
theorem dX8_show_475 : decode cX8_show 475 = .ok (.iload_n 3, 1) := dk_29 (dk_at dksX8_show_20 2 rfl rfl)
theorem dX8_show_476 : decode cX8_show 476 = .ok (.bipush 24, 2) := dk_16 24 (dk_at dksX8_show_20 3 rfl rfl)
theorem dX8_show_478 : decode cX8_show 478 = .ok (.if_icmp .ne 7, 3) := dk_160 0 7 (dk_at dksX8_show_20 5 rfl rfl)
theorem dX8_show_481 : decode cX8_show 481 = .ok (.iconst 1, 1) := dk_4 (dk_at dksX8_show_20 8 rfl rfl)
theorem dX8_show_482 : decode cX8_show 482 = .ok (.goto 4, 3) := dk_167 0 4 (dk_at dksX8_show_20 9 rfl rfl)
theorem dX8_show_485 : decode cX8_show 485 = .ok (.iconst 0, 1) := dk_3 (dk_at dksX8_show_20 12 rfl rfl)
theorem dX8_show_486 : decode cX8_show 486 = .ok (.invokevirtual 322, 3) := dk_182 1 66 (dk_at dksX8_show_20 13 rfl rfl)
theorem dX8_show_489 : decode cX8_show 489 = .ok (.aload_n 0, 1) := dk_42 (dk_at dksX8_show_20 16 rfl rfl)
theorem dX8_show_490 : decode cX8_show 490 = .ok (.iload_n 1, 1) := dk_27 (dk_at dksX8_show_20 17 rfl rfl)
theorem dX8_show_491 : decode cX8_show 491 = .ok (.iload 4, 2) := dk_21 4 (dk_at dksX8_show_20 18 rfl rfl)
theorem dX8_show_493 : decode cX8_show 493 = .ok (.invokevirtual 268, 3) := dk_182 1 12 (dk_at dksX8_show_20 20 rfl rfl)
theorem dX8_show_496 : decode cX8_show 496 = .ok (.istore 4, 2) := dk_54 4 (dk_at dksX8_show_21 0 rfl rfl)
theorem dX8_show_498 : decode cX8_show 498 = .ok (.goto (-60), 3) := dk_167 255 196 (dk_at dksX8_show_21 2 rfl rfl)
theorem dX8_show_501 : decode cX8_show 501 = .ok (.goto 60, 3) := dk_167 0 60 (dk_at dksX8_show_21 5 rfl rfl)
theorem dX8_show_504 : decode cX8_show 504 = .ok (.iload_n 3, 1) := dk_29 (dk_at dksX8_show_21 8 rfl rfl)
theorem dX8_show_505 : decode cX8_show 505 = .ok (.bipush 26, 2) := dk_16 26 (dk_at dksX8_show_21 9 rfl rfl)
theorem dX8_show_507 : decode cX8_show 507 = .ok (.if_icmp .ne 20, 3) := dk_160 0 20 (dk_at dksX8_show_21 11 rfl rfl)
theorem dX8_show_510 : decode cX8_show 510 = .ok (.aload_n 0, 1) := dk_42 (dk_at dksX8_show_21 14 rfl rfl)
theorem dX8_show_511 : decode cX8_show 511 = .ok (.bipush 33, 2) := dk_16 33 (dk_at dksX8_show_21 15 rfl rfl)
theorem dX8_show_513 : decode cX8_show 513 = .ok (.invokevirtual 253, 3) := dk_182 0 253 (dk_at dksX8_show_21 17 rfl rfl)
theorem dX8_show_516 : decode cX8_show 516 = .ok (.aload_n 0, 1) := dk_42 (dk_at dksX8_show_21 20 rfl rfl)
theorem dX8_show_517 : decode cX8_show 517 = .ok (.iload_n 1, 1) := dk_27 (dk_at dksX8_show_21 21 rfl rfl)
theorem dX8_show_518 : decode cX8_show 518 = .ok (.iload 4, 2) := dk_21 4 (dk_at dksX8_show_21 22 rfl rfl)
theorem dX8_show_520 : decode cX8_show 520 = .ok (.iconst 0, 1) := dk_3 (dk_at dksX8_show_22 0 rfl rfl)
theorem dX8_show_521 : decode cX8_show 521 = .ok (.invokevirtual 322, 3) := dk_182 1 66 (dk_at dksX8_show_22 1 rfl rfl)
theorem dX8_show_524 : decode cX8_show 524 = .ok (.goto 37, 3) := dk_167 0 37 (dk_at dksX8_show_22 4 rfl rfl)
theorem dX8_show_527 : decode cX8_show 527 = .ok (.iload_n 3, 1) := dk_29 (dk_at dksX8_show_22 7 rfl rfl)
theorem dX8_show_528 : decode cX8_show 528 = .ok (.bipush 33, 2) := dk_16 33 (dk_at dksX8_show_22 8 rfl rfl)
theorem dX8_show_530 : decode cX8_show 530 = .ok (.if_icmp .ge 31, 3) := dk_162 0 31 (dk_at dksX8_show_22 10 rfl rfl)
theorem dX8_show_533 : decode cX8_show 533 = .ok (.aload_n 0, 1) := dk_42 (dk_at dksX8_show_22 13 rfl rfl)
theorem dX8_show_534 : decode cX8_show 534 = .ok (.iload_n 1, 1) := dk_27 (dk_at dksX8_show_22 14 rfl rfl)
theorem dX8_show_535 : decode cX8_show 535 = .ok (.iload 4, 2) := dk_21 4 (dk_at dksX8_show_22 15 rfl rfl)
theorem dX8_show_537 : decode cX8_show 537 = .ok (.invokevirtual 258, 3) := dk_182 1 2 (dk_at dksX8_show_22 17 rfl rfl)
theorem dX8_show_540 : decode cX8_show 540 = .ok (.aload_n 0, 1) := dk_42 (dk_at dksX8_show_22 20 rfl rfl)
theorem dX8_show_541 : decode cX8_show 541 = .ok (.aload_n 0, 1) := dk_42 (dk_at dksX8_show_22 21 rfl rfl)
theorem dX8_show_542 : decode cX8_show 542 = .ok (.iload_n 3, 1) := dk_29 (dk_at dksX8_show_22 22 rfl rfl)
theorem dX8_show_543 : decode cX8_show 543 = .ok (.invokevirtual 314, 3) := dk_182 1 58 (dk_at dksX8_show_23 0 rfl rfl)
theorem dX8_show_546 : decode cX8_show 546 = .ok (.invokevirtual 293, 3) := dk_182 1 37 (dk_at dksX8_show_23 3 rfl rfl)
theorem dX8_show_549 : decode cX8_show 549 = .ok (.aload_n 0, 1) := dk_42 (dk_at dksX8_show_23 6 rfl rfl)
theorem dX8_show_550 : decode cX8_show 550 = .ok (.iload_n 1, 1) := dk_27 (dk_at dksX8_show_23 7 rfl rfl)
theorem dX8_show_551 : decode cX8_show 551 = .ok (.aload_n 0, 1) := dk_42 (dk_at dksX8_show_23 8 rfl rfl)
theorem dX8_show_552 : decode cX8_show 552 = .ok (.iload_n 1, 1) := dk_27 (dk_at dksX8_show_23 9 rfl rfl)
theorem dX8_show_553 : decode cX8_show 553 = .ok (.iload 4, 2) := dk_21 4 (dk_at dksX8_show_23 10 rfl rfl)
theorem dX8_show_555 : decode cX8_show 555 = .ok (.invokevirtual 268, 3) := dk_182 1 12 (dk_at dksX8_show_23 12 rfl rfl)
theorem dX8_show_558 : decode cX8_show 558 = .ok (.invokevirtual 258, 3) := dk_182 1 2 (dk_at dksX8_show_23 15 rfl rfl)
theorem dX8_show_561 : decode cX8_show 561 = .ok (.return_, 1) := dk_177 (dk_at dksX8_show_23 18 rfl rfl)
abbrev cX8_kindAt : ByteArray := prog_10_method_50_code
def yX8_kindAt : MethodName := ⟨RX8, "kindAt", "(II)I"⟩
def dkwX8_kindAt_0 : List UInt8 := [42, 180, 0, 53, 17, 50, 200, 27, 104, 28, 96, 46, 172]
abbrev dktX8_kindAt_0 : List UInt8 := dkwX8_kindAt_0 ++ []
theorem dksX8_kindAt_0 : cX8_kindAt.data.toList.drop 0 = dktX8_kindAt_0 := by decide +kernel
theorem dX8_kindAt_0 : decode cX8_kindAt 0 = .ok (.aload_n 0, 1) := dk_42 (dk_at dksX8_kindAt_0 0 rfl rfl)
theorem dX8_kindAt_1 : decode cX8_kindAt 1 = .ok (.getfield 53, 3) := dk_180 0 53 (dk_at dksX8_kindAt_0 1 rfl rfl)
theorem dX8_kindAt_4 : decode cX8_kindAt 4 = .ok (.sipush 13000, 3) := dk_17 50 200 (dk_at dksX8_kindAt_0 4 rfl rfl)
theorem dX8_kindAt_7 : decode cX8_kindAt 7 = .ok (.iload_n 1, 1) := dk_27 (dk_at dksX8_kindAt_0 7 rfl rfl)
theorem dX8_kindAt_8 : decode cX8_kindAt 8 = .ok (.imul, 1) := dk_104 (dk_at dksX8_kindAt_0 8 rfl rfl)
theorem dX8_kindAt_9 : decode cX8_kindAt 9 = .ok (.iload_n 2, 1) := dk_28 (dk_at dksX8_kindAt_0 9 rfl rfl)
theorem dX8_kindAt_10 : decode cX8_kindAt 10 = .ok (.iadd, 1) := dk_96 (dk_at dksX8_kindAt_0 10 rfl rfl)
theorem dX8_kindAt_11 : decode cX8_kindAt 11 = .ok (.iaload, 1) := dk_46 (dk_at dksX8_kindAt_0 11 rfl rfl)
theorem dX8_kindAt_12 : decode cX8_kindAt 12 = .ok (.ireturn, 1) := dk_172 (dk_at dksX8_kindAt_0 12 rfl rfl)
abbrev cX8_behind : ByteArray := prog_10_method_51_code
def yX8_behind : MethodName := ⟨RX8, "behind", "(II)I"⟩
def dkwX8_behind_0 : List UInt8 := [28, 42, 180, 0, 65, 17, 50, 200, 27, 104, 28, 96, 46, 96, 172]
abbrev dktX8_behind_0 : List UInt8 := dkwX8_behind_0 ++ []
theorem dksX8_behind_0 : cX8_behind.data.toList.drop 0 = dktX8_behind_0 := by decide +kernel
theorem dX8_behind_0 : decode cX8_behind 0 = .ok (.iload_n 2, 1) := dk_28 (dk_at dksX8_behind_0 0 rfl rfl)
theorem dX8_behind_1 : decode cX8_behind 1 = .ok (.aload_n 0, 1) := dk_42 (dk_at dksX8_behind_0 1 rfl rfl)
theorem dX8_behind_2 : decode cX8_behind 2 = .ok (.getfield 65, 3) := dk_180 0 65 (dk_at dksX8_behind_0 2 rfl rfl)
theorem dX8_behind_5 : decode cX8_behind 5 = .ok (.sipush 13000, 3) := dk_17 50 200 (dk_at dksX8_behind_0 5 rfl rfl)
theorem dX8_behind_8 : decode cX8_behind 8 = .ok (.iload_n 1, 1) := dk_27 (dk_at dksX8_behind_0 8 rfl rfl)
theorem dX8_behind_9 : decode cX8_behind 9 = .ok (.imul, 1) := dk_104 (dk_at dksX8_behind_0 9 rfl rfl)
theorem dX8_behind_10 : decode cX8_behind 10 = .ok (.iload_n 2, 1) := dk_28 (dk_at dksX8_behind_0 10 rfl rfl)
theorem dX8_behind_11 : decode cX8_behind 11 = .ok (.iadd, 1) := dk_96 (dk_at dksX8_behind_0 11 rfl rfl)
theorem dX8_behind_12 : decode cX8_behind 12 = .ok (.iaload, 1) := dk_46 (dk_at dksX8_behind_0 12 rfl rfl)
theorem dX8_behind_13 : decode cX8_behind 13 = .ok (.iadd, 1) := dk_96 (dk_at dksX8_behind_0 13 rfl rfl)
theorem dX8_behind_14 : decode cX8_behind 14 = .ok (.ireturn, 1) := dk_172 (dk_at dksX8_behind_0 14 rfl rfl)
abbrev cX8_begin : ByteArray := prog_10_method_45_code
def yX8_begin : MethodName := ⟨RX8, "begin", "(I)V"⟩
def dkwX8_begin_1 : List UInt8 := [46, 184, 0, 247, 153, 0, 9, 42, 16, 32, 182, 0, 250, 42, 27, 182, 0, 250, 177]
abbrev dktX8_begin_1 : List UInt8 := dkwX8_begin_1 ++ []
def dkwX8_begin_0 : List UInt8 := [42, 180, 0, 244, 158, 0, 33, 27, 184, 0, 247, 153, 0, 26, 42, 180, 0, 16, 42, 180, 0, 244, 4, 100]
abbrev dktX8_begin_0 : List UInt8 := dkwX8_begin_0 ++ dktX8_begin_1
theorem dksX8_begin_0 : cX8_begin.data.toList.drop 0 = dktX8_begin_0 := by decide +kernel
theorem dksX8_begin_1 : cX8_begin.data.toList.drop 24 = dktX8_begin_1 := dk_seg dksX8_begin_0 24 rfl rfl
theorem dX8_begin_0 : decode cX8_begin 0 = .ok (.aload_n 0, 1) := dk_42 (dk_at dksX8_begin_0 0 rfl rfl)
theorem dX8_begin_1 : decode cX8_begin 1 = .ok (.getfield 244, 3) := dk_180 0 244 (dk_at dksX8_begin_0 1 rfl rfl)
theorem dX8_begin_4 : decode cX8_begin 4 = .ok (.ifCond .le 33, 3) := dk_158 0 33 (dk_at dksX8_begin_0 4 rfl rfl)
theorem dX8_begin_7 : decode cX8_begin 7 = .ok (.iload_n 1, 1) := dk_27 (dk_at dksX8_begin_0 7 rfl rfl)
theorem dX8_begin_8 : decode cX8_begin 8 = .ok (.invokestatic 247, 3) := dk_184 0 247 (dk_at dksX8_begin_0 8 rfl rfl)
theorem dX8_begin_11 : decode cX8_begin 11 = .ok (.ifCond .eq 26, 3) := dk_153 0 26 (dk_at dksX8_begin_0 11 rfl rfl)
theorem dX8_begin_14 : decode cX8_begin 14 = .ok (.aload_n 0, 1) := dk_42 (dk_at dksX8_begin_0 14 rfl rfl)
theorem dX8_begin_15 : decode cX8_begin 15 = .ok (.getfield 16, 3) := dk_180 0 16 (dk_at dksX8_begin_0 15 rfl rfl)
theorem dX8_begin_18 : decode cX8_begin 18 = .ok (.aload_n 0, 1) := dk_42 (dk_at dksX8_begin_0 18 rfl rfl)
theorem dX8_begin_19 : decode cX8_begin 19 = .ok (.getfield 244, 3) := dk_180 0 244 (dk_at dksX8_begin_0 19 rfl rfl)
theorem dX8_begin_22 : decode cX8_begin 22 = .ok (.iconst 1, 1) := dk_4 (dk_at dksX8_begin_0 22 rfl rfl)
theorem dX8_begin_23 : decode cX8_begin 23 = .ok (.isub, 1) := dk_100 (dk_at dksX8_begin_0 23 rfl rfl)
theorem dX8_begin_24 : decode cX8_begin 24 = .ok (.iaload, 1) := dk_46 (dk_at dksX8_begin_1 0 rfl rfl)
theorem dX8_begin_25 : decode cX8_begin 25 = .ok (.invokestatic 247, 3) := dk_184 0 247 (dk_at dksX8_begin_1 1 rfl rfl)
theorem dX8_begin_28 : decode cX8_begin 28 = .ok (.ifCond .eq 9, 3) := dk_153 0 9 (dk_at dksX8_begin_1 4 rfl rfl)
theorem dX8_begin_31 : decode cX8_begin 31 = .ok (.aload_n 0, 1) := dk_42 (dk_at dksX8_begin_1 7 rfl rfl)
theorem dX8_begin_32 : decode cX8_begin 32 = .ok (.bipush 32, 2) := dk_16 32 (dk_at dksX8_begin_1 8 rfl rfl)
theorem dX8_begin_34 : decode cX8_begin 34 = .ok (.invokevirtual 250, 3) := dk_182 0 250 (dk_at dksX8_begin_1 10 rfl rfl)
theorem dX8_begin_37 : decode cX8_begin 37 = .ok (.aload_n 0, 1) := dk_42 (dk_at dksX8_begin_1 13 rfl rfl)
theorem dX8_begin_38 : decode cX8_begin 38 = .ok (.iload_n 1, 1) := dk_27 (dk_at dksX8_begin_1 14 rfl rfl)
theorem dX8_begin_39 : decode cX8_begin 39 = .ok (.invokevirtual 250, 3) := dk_182 0 250 (dk_at dksX8_begin_1 15 rfl rfl)
theorem dX8_begin_42 : decode cX8_begin 42 = .ok (.return_, 1) := dk_177 (dk_at dksX8_begin_1 18 rfl rfl)
abbrev cX8_isWordByte : ByteArray := prog_10_method_44_code
def yX8_isWordByte : MethodName := ⟨RX8, "isWordByte", "(I)Z"⟩
def dkwX8_isWordByte_0 : List UInt8 := [26, 184, 0, 113, 154, 0, 10, 26, 184, 0, 117, 153, 0, 7, 4, 167, 0, 4, 3, 172]
abbrev dktX8_isWordByte_0 : List UInt8 := dkwX8_isWordByte_0 ++ []
theorem dksX8_isWordByte_0 : cX8_isWordByte.data.toList.drop 0 = dktX8_isWordByte_0 := by decide +kernel
theorem dX8_isWordByte_0 : decode cX8_isWordByte 0 = .ok (.iload_n 0, 1) := dk_26 (dk_at dksX8_isWordByte_0 0 rfl rfl)
theorem dX8_isWordByte_1 : decode cX8_isWordByte 1 = .ok (.invokestatic 113, 3) := dk_184 0 113 (dk_at dksX8_isWordByte_0 1 rfl rfl)
theorem dX8_isWordByte_4 : decode cX8_isWordByte 4 = .ok (.ifCond .ne 10, 3) := dk_154 0 10 (dk_at dksX8_isWordByte_0 4 rfl rfl)
theorem dX8_isWordByte_7 : decode cX8_isWordByte 7 = .ok (.iload_n 0, 1) := dk_26 (dk_at dksX8_isWordByte_0 7 rfl rfl)
theorem dX8_isWordByte_8 : decode cX8_isWordByte 8 = .ok (.invokestatic 117, 3) := dk_184 0 117 (dk_at dksX8_isWordByte_0 8 rfl rfl)
theorem dX8_isWordByte_11 : decode cX8_isWordByte 11 = .ok (.ifCond .eq 7, 3) := dk_153 0 7 (dk_at dksX8_isWordByte_0 11 rfl rfl)
theorem dX8_isWordByte_14 : decode cX8_isWordByte 14 = .ok (.iconst 1, 1) := dk_4 (dk_at dksX8_isWordByte_0 14 rfl rfl)
theorem dX8_isWordByte_15 : decode cX8_isWordByte 15 = .ok (.goto 4, 3) := dk_167 0 4 (dk_at dksX8_isWordByte_0 15 rfl rfl)
theorem dX8_isWordByte_18 : decode cX8_isWordByte 18 = .ok (.iconst 0, 1) := dk_3 (dk_at dksX8_isWordByte_0 18 rfl rfl)
theorem dX8_isWordByte_19 : decode cX8_isWordByte 19 = .ok (.ireturn, 1) := dk_172 (dk_at dksX8_isWordByte_0 19 rfl rfl)
abbrev cX8_put : ByteArray := prog_10_method_46_code
def yX8_put : MethodName := ⟨RX8, "put", "(I)V"⟩
def dkwX8_put_1 : List UInt8 := [180, 0, 244, 4, 96, 181, 0, 244, 177]
abbrev dktX8_put_1 : List UInt8 := dkwX8_put_1 ++ []
def dkwX8_put_0 : List UInt8 := [42, 180, 0, 244, 17, 31, 64, 163, 0, 23, 42, 180, 0, 16, 42, 180, 0, 244, 27, 79, 42, 89]
abbrev dktX8_put_0 : List UInt8 := dkwX8_put_0 ++ dktX8_put_1
theorem dksX8_put_0 : cX8_put.data.toList.drop 0 = dktX8_put_0 := by decide +kernel
theorem dksX8_put_1 : cX8_put.data.toList.drop 22 = dktX8_put_1 := dk_seg dksX8_put_0 22 rfl rfl
theorem dX8_put_0 : decode cX8_put 0 = .ok (.aload_n 0, 1) := dk_42 (dk_at dksX8_put_0 0 rfl rfl)
theorem dX8_put_1 : decode cX8_put 1 = .ok (.getfield 244, 3) := dk_180 0 244 (dk_at dksX8_put_0 1 rfl rfl)
theorem dX8_put_4 : decode cX8_put 4 = .ok (.sipush 8000, 3) := dk_17 31 64 (dk_at dksX8_put_0 4 rfl rfl)
theorem dX8_put_7 : decode cX8_put 7 = .ok (.if_icmp .gt 23, 3) := dk_163 0 23 (dk_at dksX8_put_0 7 rfl rfl)
theorem dX8_put_10 : decode cX8_put 10 = .ok (.aload_n 0, 1) := dk_42 (dk_at dksX8_put_0 10 rfl rfl)
theorem dX8_put_11 : decode cX8_put 11 = .ok (.getfield 16, 3) := dk_180 0 16 (dk_at dksX8_put_0 11 rfl rfl)
theorem dX8_put_14 : decode cX8_put 14 = .ok (.aload_n 0, 1) := dk_42 (dk_at dksX8_put_0 14 rfl rfl)
theorem dX8_put_15 : decode cX8_put 15 = .ok (.getfield 244, 3) := dk_180 0 244 (dk_at dksX8_put_0 15 rfl rfl)
theorem dX8_put_18 : decode cX8_put 18 = .ok (.iload_n 1, 1) := dk_27 (dk_at dksX8_put_0 18 rfl rfl)
theorem dX8_put_19 : decode cX8_put 19 = .ok (.iastore, 1) := dk_79 (dk_at dksX8_put_0 19 rfl rfl)
theorem dX8_put_20 : decode cX8_put 20 = .ok (.aload_n 0, 1) := dk_42 (dk_at dksX8_put_0 20 rfl rfl)
theorem dX8_put_21 : decode cX8_put 21 = .ok (.dup, 1) := dk_89 (dk_at dksX8_put_0 21 rfl rfl)
theorem dX8_put_22 : decode cX8_put 22 = .ok (.getfield 244, 3) := dk_180 0 244 (dk_at dksX8_put_1 0 rfl rfl)
theorem dX8_put_25 : decode cX8_put 25 = .ok (.iconst 1, 1) := dk_4 (dk_at dksX8_put_1 3 rfl rfl)
theorem dX8_put_26 : decode cX8_put 26 = .ok (.iadd, 1) := dk_96 (dk_at dksX8_put_1 4 rfl rfl)
theorem dX8_put_27 : decode cX8_put 27 = .ok (.putfield 244, 3) := dk_181 0 244 (dk_at dksX8_put_1 5 rfl rfl)
theorem dX8_put_30 : decode cX8_put 30 = .ok (.return_, 1) := dk_177 (dk_at dksX8_put_1 8 rfl rfl)
abbrev cX8_text : ByteArray := prog_10_method_47_code
def yX8_text : MethodName := ⟨RX8, "text", "(Ljava/lang/String;)V"⟩
def dkwX8_text_1 : List UInt8 := [182, 0, 127, 182, 0, 250, 132, 2, 1, 167, 255, 236, 177]
abbrev dktX8_text_1 : List UInt8 := dkwX8_text_1 ++ []
def dkwX8_text_0 : List UInt8 := [42, 43, 3, 182, 0, 127, 182, 0, 253, 4, 61, 28, 43, 182, 0, 124, 162, 0, 18, 42, 43, 28]
abbrev dktX8_text_0 : List UInt8 := dkwX8_text_0 ++ dktX8_text_1
theorem dksX8_text_0 : cX8_text.data.toList.drop 0 = dktX8_text_0 := by decide +kernel
theorem dksX8_text_1 : cX8_text.data.toList.drop 22 = dktX8_text_1 := dk_seg dksX8_text_0 22 rfl rfl
theorem dX8_text_0 : decode cX8_text 0 = .ok (.aload_n 0, 1) := dk_42 (dk_at dksX8_text_0 0 rfl rfl)
theorem dX8_text_1 : decode cX8_text 1 = .ok (.aload_n 1, 1) := dk_43 (dk_at dksX8_text_0 1 rfl rfl)
theorem dX8_text_2 : decode cX8_text 2 = .ok (.iconst 0, 1) := dk_3 (dk_at dksX8_text_0 2 rfl rfl)
theorem dX8_text_3 : decode cX8_text 3 = .ok (.invokevirtual 127, 3) := dk_182 0 127 (dk_at dksX8_text_0 3 rfl rfl)
theorem dX8_text_6 : decode cX8_text 6 = .ok (.invokevirtual 253, 3) := dk_182 0 253 (dk_at dksX8_text_0 6 rfl rfl)
theorem dX8_text_9 : decode cX8_text 9 = .ok (.iconst 1, 1) := dk_4 (dk_at dksX8_text_0 9 rfl rfl)
theorem dX8_text_10 : decode cX8_text 10 = .ok (.istore_n 2, 1) := dk_61 (dk_at dksX8_text_0 10 rfl rfl)
theorem dX8_text_11 : decode cX8_text 11 = .ok (.iload_n 2, 1) := dk_28 (dk_at dksX8_text_0 11 rfl rfl)
theorem dX8_text_12 : decode cX8_text 12 = .ok (.aload_n 1, 1) := dk_43 (dk_at dksX8_text_0 12 rfl rfl)
theorem dX8_text_13 : decode cX8_text 13 = .ok (.invokevirtual 124, 3) := dk_182 0 124 (dk_at dksX8_text_0 13 rfl rfl)
theorem dX8_text_16 : decode cX8_text 16 = .ok (.if_icmp .ge 18, 3) := dk_162 0 18 (dk_at dksX8_text_0 16 rfl rfl)
theorem dX8_text_19 : decode cX8_text 19 = .ok (.aload_n 0, 1) := dk_42 (dk_at dksX8_text_0 19 rfl rfl)
theorem dX8_text_20 : decode cX8_text 20 = .ok (.aload_n 1, 1) := dk_43 (dk_at dksX8_text_0 20 rfl rfl)
theorem dX8_text_21 : decode cX8_text 21 = .ok (.iload_n 2, 1) := dk_28 (dk_at dksX8_text_0 21 rfl rfl)
theorem dX8_text_22 : decode cX8_text 22 = .ok (.invokevirtual 127, 3) := dk_182 0 127 (dk_at dksX8_text_1 0 rfl rfl)
theorem dX8_text_25 : decode cX8_text 25 = .ok (.invokevirtual 250, 3) := dk_182 0 250 (dk_at dksX8_text_1 3 rfl rfl)
theorem dX8_text_28 : decode cX8_text 28 = .ok (.iinc 2 1, 3) := dk_132 2 1 (dk_at dksX8_text_1 6 rfl rfl)
theorem dX8_text_31 : decode cX8_text 31 = .ok (.goto (-20), 3) := dk_167 255 236 (dk_at dksX8_text_1 9 rfl rfl)
theorem dX8_text_34 : decode cX8_text 34 = .ok (.return_, 1) := dk_177 (dk_at dksX8_text_1 12 rfl rfl)
abbrev cX8_commas : ByteArray := prog_10_method_55_code
def yX8_commas : MethodName := ⟨RX8, "commas", "(III)V"⟩
def dkwX8_commas_2 : List UInt8 := [16, 41, 182, 0, 253, 177]
abbrev dktX8_commas_2 : List UInt8 := dkwX8_commas_2 ++ []
def dkwX8_commas_1 : List UInt8 := [182, 0, 253, 42, 27, 21, 4, 182, 1, 2, 42, 27, 21, 4, 182, 1, 12, 54, 4, 167, 255, 222, 42]
abbrev dktX8_commas_1 : List UInt8 := dkwX8_commas_1 ++ dktX8_commas_2
def dkwX8_commas_0 : List UInt8 := [42, 16, 40, 182, 0, 253, 28, 54, 4, 21, 4, 29, 162, 0, 34, 21, 4, 28, 164, 0, 9, 42, 16, 44]
abbrev dktX8_commas_0 : List UInt8 := dkwX8_commas_0 ++ dktX8_commas_1
theorem dksX8_commas_0 : cX8_commas.data.toList.drop 0 = dktX8_commas_0 := by decide +kernel
theorem dksX8_commas_1 : cX8_commas.data.toList.drop 24 = dktX8_commas_1 := dk_seg dksX8_commas_0 24 rfl rfl
theorem dksX8_commas_2 : cX8_commas.data.toList.drop 47 = dktX8_commas_2 := dk_seg dksX8_commas_1 23 rfl rfl
theorem dX8_commas_0 : decode cX8_commas 0 = .ok (.aload_n 0, 1) := dk_42 (dk_at dksX8_commas_0 0 rfl rfl)
theorem dX8_commas_1 : decode cX8_commas 1 = .ok (.bipush 40, 2) := dk_16 40 (dk_at dksX8_commas_0 1 rfl rfl)
theorem dX8_commas_3 : decode cX8_commas 3 = .ok (.invokevirtual 253, 3) := dk_182 0 253 (dk_at dksX8_commas_0 3 rfl rfl)
theorem dX8_commas_6 : decode cX8_commas 6 = .ok (.iload_n 2, 1) := dk_28 (dk_at dksX8_commas_0 6 rfl rfl)
theorem dX8_commas_7 : decode cX8_commas 7 = .ok (.istore 4, 2) := dk_54 4 (dk_at dksX8_commas_0 7 rfl rfl)
theorem dX8_commas_9 : decode cX8_commas 9 = .ok (.iload 4, 2) := dk_21 4 (dk_at dksX8_commas_0 9 rfl rfl)
theorem dX8_commas_11 : decode cX8_commas 11 = .ok (.iload_n 3, 1) := dk_29 (dk_at dksX8_commas_0 11 rfl rfl)
theorem dX8_commas_12 : decode cX8_commas 12 = .ok (.if_icmp .ge 34, 3) := dk_162 0 34 (dk_at dksX8_commas_0 12 rfl rfl)
theorem dX8_commas_15 : decode cX8_commas 15 = .ok (.iload 4, 2) := dk_21 4 (dk_at dksX8_commas_0 15 rfl rfl)
theorem dX8_commas_17 : decode cX8_commas 17 = .ok (.iload_n 2, 1) := dk_28 (dk_at dksX8_commas_0 17 rfl rfl)
theorem dX8_commas_18 : decode cX8_commas 18 = .ok (.if_icmp .le 9, 3) := dk_164 0 9 (dk_at dksX8_commas_0 18 rfl rfl)
theorem dX8_commas_21 : decode cX8_commas 21 = .ok (.aload_n 0, 1) := dk_42 (dk_at dksX8_commas_0 21 rfl rfl)
theorem dX8_commas_22 : decode cX8_commas 22 = .ok (.bipush 44, 2) := dk_16 44 (dk_at dksX8_commas_0 22 rfl rfl)
theorem dX8_commas_24 : decode cX8_commas 24 = .ok (.invokevirtual 253, 3) := dk_182 0 253 (dk_at dksX8_commas_1 0 rfl rfl)
theorem dX8_commas_27 : decode cX8_commas 27 = .ok (.aload_n 0, 1) := dk_42 (dk_at dksX8_commas_1 3 rfl rfl)
theorem dX8_commas_28 : decode cX8_commas 28 = .ok (.iload_n 1, 1) := dk_27 (dk_at dksX8_commas_1 4 rfl rfl)
theorem dX8_commas_29 : decode cX8_commas 29 = .ok (.iload 4, 2) := dk_21 4 (dk_at dksX8_commas_1 5 rfl rfl)
theorem dX8_commas_31 : decode cX8_commas 31 = .ok (.invokevirtual 258, 3) := dk_182 1 2 (dk_at dksX8_commas_1 7 rfl rfl)
theorem dX8_commas_34 : decode cX8_commas 34 = .ok (.aload_n 0, 1) := dk_42 (dk_at dksX8_commas_1 10 rfl rfl)
theorem dX8_commas_35 : decode cX8_commas 35 = .ok (.iload_n 1, 1) := dk_27 (dk_at dksX8_commas_1 11 rfl rfl)
theorem dX8_commas_36 : decode cX8_commas 36 = .ok (.iload 4, 2) := dk_21 4 (dk_at dksX8_commas_1 12 rfl rfl)
theorem dX8_commas_38 : decode cX8_commas 38 = .ok (.invokevirtual 268, 3) := dk_182 1 12 (dk_at dksX8_commas_1 14 rfl rfl)
theorem dX8_commas_41 : decode cX8_commas 41 = .ok (.istore 4, 2) := dk_54 4 (dk_at dksX8_commas_1 17 rfl rfl)
theorem dX8_commas_43 : decode cX8_commas 43 = .ok (.goto (-34), 3) := dk_167 255 222 (dk_at dksX8_commas_1 19 rfl rfl)
theorem dX8_commas_46 : decode cX8_commas 46 = .ok (.aload_n 0, 1) := dk_42 (dk_at dksX8_commas_1 22 rfl rfl)
theorem dX8_commas_47 : decode cX8_commas 47 = .ok (.bipush 41, 2) := dk_16 41 (dk_at dksX8_commas_2 0 rfl rfl)
theorem dX8_commas_49 : decode cX8_commas 49 = .ok (.invokevirtual 253, 3) := dk_182 0 253 (dk_at dksX8_commas_2 2 rfl rfl)
theorem dX8_commas_52 : decode cX8_commas 52 = .ok (.return_, 1) := dk_177 (dk_at dksX8_commas_2 5 rfl rfl)
abbrev cX8_statements : ByteArray := prog_10_method_57_code
def yX8_statements : MethodName := ⟨RX8, "statements", "(III)V"⟩
def dkwX8_statements_15 : List UInt8 := [16, 59, 182, 0, 253, 177]
abbrev dktX8_statements_15 : List UInt8 := dkwX8_statements_15 ++ []
def dkwX8_statements_14 : List UInt8 := [162, 0, 21, 42, 18, 85, 182, 1, 37, 42, 27, 42, 27, 21, 5, 182, 1, 12, 182, 1, 2, 177, 42]
abbrev dktX8_statements_14 : List UInt8 := dkwX8_statements_14 ++ dktX8_statements_15
def dkwX8_statements_13 : List UInt8 := [21, 5, 182, 1, 2, 29, 16, 8, 160, 0, 37, 42, 27, 21, 5, 182, 1, 12, 42, 27, 28, 182, 1, 12]
abbrev dktX8_statements_13 : List UInt8 := dkwX8_statements_13 ++ dktX8_statements_14
def dkwX8_statements_12 : List UInt8 := [182, 0, 253, 42, 27, 21, 4, 182, 1, 2, 42, 16, 41, 182, 0, 253, 29, 16, 10, 162, 0, 51, 42, 27]
abbrev dktX8_statements_12 : List UInt8 := dkwX8_statements_12 ++ dktX8_statements_13
def dkwX8_statements_11 : List UInt8 := [167, 0, 16, 29, 16, 9, 160, 0, 8, 18, 87, 167, 0, 5, 18, 89, 182, 1, 37, 42, 16, 40]
abbrev dktX8_statements_11 : List UInt8 := dkwX8_statements_11 ++ dktX8_statements_12
def dkwX8_statements_10 : List UInt8 := [182, 1, 37, 42, 27, 21, 4, 182, 1, 2, 167, 0, 104, 42, 29, 16, 8, 160, 0, 8, 18, 83]
abbrev dktX8_statements_10 : List UInt8 := dkwX8_statements_10 ++ dktX8_statements_11
def dkwX8_statements_9 : List UInt8 := [182, 1, 12, 42, 27, 28, 182, 1, 12, 182, 1, 41, 167, 0, 126, 29, 16, 11, 160, 0, 19, 42, 18, 91]
abbrev dktX8_statements_9 : List UInt8 := dkwX8_statements_9 ++ dktX8_statements_10
def dkwX8_statements_8 : List UInt8 := [21, 4, 182, 1, 2, 42, 16, 61, 182, 0, 253, 42, 27, 21, 5, 182, 1, 2, 42, 27, 42, 27, 21, 5]
abbrev dktX8_statements_8 : List UInt8 := dkwX8_statements_8 ++ dktX8_statements_9
def dkwX8_statements_7 : List UInt8 := [167, 0, 185, 29, 16, 7, 160, 0, 56, 42, 27, 21, 4, 182, 1, 5, 16, 33, 159, 0, 16, 42, 27]
abbrev dktX8_statements_7 : List UInt8 := dkwX8_statements_7 ++ dktX8_statements_8
def dkwX8_statements_6 : List UInt8 := [16, 93, 182, 0, 253, 42, 16, 61, 182, 0, 253, 42, 27, 42, 27, 21, 5, 182, 1, 12, 182, 1, 2]
abbrev dktX8_statements_6 : List UInt8 := dkwX8_statements_6 ++ dktX8_statements_7
def dkwX8_statements_5 : List UInt8 := [160, 0, 50, 42, 27, 21, 4, 182, 1, 2, 42, 16, 91, 182, 0, 253, 42, 27, 21, 5, 182, 1, 2, 42]
abbrev dktX8_statements_5 : List UInt8 := dkwX8_statements_5 ++ dktX8_statements_6
def dkwX8_statements_4 : List UInt8 := [182, 1, 2, 42, 16, 61, 182, 0, 253, 42, 27, 21, 5, 182, 1, 2, 167, 0, 238, 29, 16, 6]
abbrev dktX8_statements_4 : List UInt8 := dkwX8_statements_4 ++ dktX8_statements_5
def dkwX8_statements_3 : List UInt8 := [7, 160, 1, 19, 42, 16, 93, 182, 0, 253, 167, 1, 10, 29, 8, 160, 0, 26, 42, 27, 21, 4]
abbrev dktX8_statements_3 : List UInt8 := dkwX8_statements_3 ++ dktX8_statements_4
def dkwX8_statements_2 : List UInt8 := [42, 29, 6, 160, 0, 8, 16, 61, 167, 0, 5, 16, 91, 182, 0, 253, 42, 27, 21, 5, 182, 1, 2, 29]
abbrev dktX8_statements_2 : List UInt8 := dkwX8_statements_2 ++ dktX8_statements_3
def dkwX8_statements_1 : List UInt8 := [42, 18, 81, 182, 1, 37, 42, 27, 21, 4, 182, 1, 2, 21, 5, 42, 27, 28, 182, 1, 12, 162, 0, 26]
abbrev dktX8_statements_1 : List UInt8 := dkwX8_statements_1 ++ dktX8_statements_2
def dkwX8_statements_0 : List UInt8 := [28, 4, 96, 54, 4, 42, 27, 21, 4, 182, 1, 12, 54, 5, 29, 6, 159, 0, 8, 29, 7, 160, 0, 64]
abbrev dktX8_statements_0 : List UInt8 := dkwX8_statements_0 ++ dktX8_statements_1
theorem dksX8_statements_0 : cX8_statements.data.toList.drop 0 = dktX8_statements_0 := by decide +kernel
theorem dksX8_statements_1 : cX8_statements.data.toList.drop 24 = dktX8_statements_1 := dk_seg dksX8_statements_0 24 rfl rfl
theorem dksX8_statements_2 : cX8_statements.data.toList.drop 48 = dktX8_statements_2 := dk_seg dksX8_statements_1 24 rfl rfl
theorem dksX8_statements_3 : cX8_statements.data.toList.drop 72 = dktX8_statements_3 := dk_seg dksX8_statements_2 24 rfl rfl
theorem dksX8_statements_4 : cX8_statements.data.toList.drop 94 = dktX8_statements_4 := dk_seg dksX8_statements_3 22 rfl rfl
theorem dksX8_statements_5 : cX8_statements.data.toList.drop 116 = dktX8_statements_5 := dk_seg dksX8_statements_4 22 rfl rfl
theorem dksX8_statements_6 : cX8_statements.data.toList.drop 140 = dktX8_statements_6 := dk_seg dksX8_statements_5 24 rfl rfl
theorem dksX8_statements_7 : cX8_statements.data.toList.drop 163 = dktX8_statements_7 := dk_seg dksX8_statements_6 23 rfl rfl
theorem dksX8_statements_8 : cX8_statements.data.toList.drop 186 = dktX8_statements_8 := dk_seg dksX8_statements_7 23 rfl rfl
theorem dksX8_statements_9 : cX8_statements.data.toList.drop 210 = dktX8_statements_9 := dk_seg dksX8_statements_8 24 rfl rfl
theorem dksX8_statements_10 : cX8_statements.data.toList.drop 234 = dktX8_statements_10 := dk_seg dksX8_statements_9 24 rfl rfl
theorem dksX8_statements_11 : cX8_statements.data.toList.drop 256 = dktX8_statements_11 := dk_seg dksX8_statements_10 22 rfl rfl
theorem dksX8_statements_12 : cX8_statements.data.toList.drop 278 = dktX8_statements_12 := dk_seg dksX8_statements_11 22 rfl rfl
theorem dksX8_statements_13 : cX8_statements.data.toList.drop 302 = dktX8_statements_13 := dk_seg dksX8_statements_12 24 rfl rfl
theorem dksX8_statements_14 : cX8_statements.data.toList.drop 326 = dktX8_statements_14 := dk_seg dksX8_statements_13 24 rfl rfl
theorem dksX8_statements_15 : cX8_statements.data.toList.drop 349 = dktX8_statements_15 := dk_seg dksX8_statements_14 23 rfl rfl
theorem dX8_statements_0 : decode cX8_statements 0 = .ok (.iload_n 2, 1) := dk_28 (dk_at dksX8_statements_0 0 rfl rfl)
theorem dX8_statements_1 : decode cX8_statements 1 = .ok (.iconst 1, 1) := dk_4 (dk_at dksX8_statements_0 1 rfl rfl)
theorem dX8_statements_2 : decode cX8_statements 2 = .ok (.iadd, 1) := dk_96 (dk_at dksX8_statements_0 2 rfl rfl)
theorem dX8_statements_3 : decode cX8_statements 3 = .ok (.istore 4, 2) := dk_54 4 (dk_at dksX8_statements_0 3 rfl rfl)
theorem dX8_statements_5 : decode cX8_statements 5 = .ok (.aload_n 0, 1) := dk_42 (dk_at dksX8_statements_0 5 rfl rfl)
theorem dX8_statements_6 : decode cX8_statements 6 = .ok (.iload_n 1, 1) := dk_27 (dk_at dksX8_statements_0 6 rfl rfl)
theorem dX8_statements_7 : decode cX8_statements 7 = .ok (.iload 4, 2) := dk_21 4 (dk_at dksX8_statements_0 7 rfl rfl)
theorem dX8_statements_9 : decode cX8_statements 9 = .ok (.invokevirtual 268, 3) := dk_182 1 12 (dk_at dksX8_statements_0 9 rfl rfl)
theorem dX8_statements_12 : decode cX8_statements 12 = .ok (.istore 5, 2) := dk_54 5 (dk_at dksX8_statements_0 12 rfl rfl)
theorem dX8_statements_14 : decode cX8_statements 14 = .ok (.iload_n 3, 1) := dk_29 (dk_at dksX8_statements_0 14 rfl rfl)
theorem dX8_statements_15 : decode cX8_statements 15 = .ok (.iconst 3, 1) := dk_6 (dk_at dksX8_statements_0 15 rfl rfl)
theorem dX8_statements_16 : decode cX8_statements 16 = .ok (.if_icmp .eq 8, 3) := dk_159 0 8 (dk_at dksX8_statements_0 16 rfl rfl)
theorem dX8_statements_19 : decode cX8_statements 19 = .ok (.iload_n 3, 1) := dk_29 (dk_at dksX8_statements_0 19 rfl rfl)
theorem dX8_statements_20 : decode cX8_statements 20 = .ok (.iconst 4, 1) := dk_7 (dk_at dksX8_statements_0 20 rfl rfl)
theorem dX8_statements_21 : decode cX8_statements 21 = .ok (.if_icmp .ne 64, 3) := dk_160 0 64 (dk_at dksX8_statements_0 21 rfl rfl)
theorem dX8_statements_24 : decode cX8_statements 24 = .ok (.aload_n 0, 1) := dk_42 (dk_at dksX8_statements_1 0 rfl rfl)
theorem dX8_statements_25 : decode cX8_statements 25 = .ok (.ldc 81, 2) := dk_18 81 (dk_at dksX8_statements_1 1 rfl rfl)
theorem dX8_statements_27 : decode cX8_statements 27 = .ok (.invokevirtual 293, 3) := dk_182 1 37 (dk_at dksX8_statements_1 3 rfl rfl)
theorem dX8_statements_30 : decode cX8_statements 30 = .ok (.aload_n 0, 1) := dk_42 (dk_at dksX8_statements_1 6 rfl rfl)
theorem dX8_statements_31 : decode cX8_statements 31 = .ok (.iload_n 1, 1) := dk_27 (dk_at dksX8_statements_1 7 rfl rfl)
theorem dX8_statements_32 : decode cX8_statements 32 = .ok (.iload 4, 2) := dk_21 4 (dk_at dksX8_statements_1 8 rfl rfl)
theorem dX8_statements_34 : decode cX8_statements 34 = .ok (.invokevirtual 258, 3) := dk_182 1 2 (dk_at dksX8_statements_1 10 rfl rfl)
theorem dX8_statements_37 : decode cX8_statements 37 = .ok (.iload 5, 2) := dk_21 5 (dk_at dksX8_statements_1 13 rfl rfl)
theorem dX8_statements_39 : decode cX8_statements 39 = .ok (.aload_n 0, 1) := dk_42 (dk_at dksX8_statements_1 15 rfl rfl)
theorem dX8_statements_40 : decode cX8_statements 40 = .ok (.iload_n 1, 1) := dk_27 (dk_at dksX8_statements_1 16 rfl rfl)
theorem dX8_statements_41 : decode cX8_statements 41 = .ok (.iload_n 2, 1) := dk_28 (dk_at dksX8_statements_1 17 rfl rfl)
theorem dX8_statements_42 : decode cX8_statements 42 = .ok (.invokevirtual 268, 3) := dk_182 1 12 (dk_at dksX8_statements_1 18 rfl rfl)
theorem dX8_statements_45 : decode cX8_statements 45 = .ok (.if_icmp .ge 26, 3) := dk_162 0 26 (dk_at dksX8_statements_1 21 rfl rfl)
theorem dX8_statements_48 : decode cX8_statements 48 = .ok (.aload_n 0, 1) := dk_42 (dk_at dksX8_statements_2 0 rfl rfl)
theorem dX8_statements_49 : decode cX8_statements 49 = .ok (.iload_n 3, 1) := dk_29 (dk_at dksX8_statements_2 1 rfl rfl)
theorem dX8_statements_50 : decode cX8_statements 50 = .ok (.iconst 3, 1) := dk_6 (dk_at dksX8_statements_2 2 rfl rfl)
theorem dX8_statements_51 : decode cX8_statements 51 = .ok (.if_icmp .ne 8, 3) := dk_160 0 8 (dk_at dksX8_statements_2 3 rfl rfl)
theorem dX8_statements_54 : decode cX8_statements 54 = .ok (.bipush 61, 2) := dk_16 61 (dk_at dksX8_statements_2 6 rfl rfl)
theorem dX8_statements_56 : decode cX8_statements 56 = .ok (.goto 5, 3) := dk_167 0 5 (dk_at dksX8_statements_2 8 rfl rfl)
theorem dX8_statements_59 : decode cX8_statements 59 = .ok (.bipush 91, 2) := dk_16 91 (dk_at dksX8_statements_2 11 rfl rfl)
theorem dX8_statements_61 : decode cX8_statements 61 = .ok (.invokevirtual 253, 3) := dk_182 0 253 (dk_at dksX8_statements_2 13 rfl rfl)
theorem dX8_statements_64 : decode cX8_statements 64 = .ok (.aload_n 0, 1) := dk_42 (dk_at dksX8_statements_2 16 rfl rfl)
theorem dX8_statements_65 : decode cX8_statements 65 = .ok (.iload_n 1, 1) := dk_27 (dk_at dksX8_statements_2 17 rfl rfl)
theorem dX8_statements_66 : decode cX8_statements 66 = .ok (.iload 5, 2) := dk_21 5 (dk_at dksX8_statements_2 18 rfl rfl)
theorem dX8_statements_68 : decode cX8_statements 68 = .ok (.invokevirtual 258, 3) := dk_182 1 2 (dk_at dksX8_statements_2 20 rfl rfl)
theorem dX8_statements_71 : decode cX8_statements 71 = .ok (.iload_n 3, 1) := dk_29 (dk_at dksX8_statements_2 23 rfl rfl)
theorem dX8_statements_72 : decode cX8_statements 72 = .ok (.iconst 4, 1) := dk_7 (dk_at dksX8_statements_3 0 rfl rfl)
theorem dX8_statements_73 : decode cX8_statements 73 = .ok (.if_icmp .ne 275, 3) := dk_160 1 19 (dk_at dksX8_statements_3 1 rfl rfl)
theorem dX8_statements_76 : decode cX8_statements 76 = .ok (.aload_n 0, 1) := dk_42 (dk_at dksX8_statements_3 4 rfl rfl)
theorem dX8_statements_77 : decode cX8_statements 77 = .ok (.bipush 93, 2) := dk_16 93 (dk_at dksX8_statements_3 5 rfl rfl)
theorem dX8_statements_79 : decode cX8_statements 79 = .ok (.invokevirtual 253, 3) := dk_182 0 253 (dk_at dksX8_statements_3 7 rfl rfl)
theorem dX8_statements_82 : decode cX8_statements 82 = .ok (.goto 266, 3) := dk_167 1 10 (dk_at dksX8_statements_3 10 rfl rfl)
theorem dX8_statements_85 : decode cX8_statements 85 = .ok (.iload_n 3, 1) := dk_29 (dk_at dksX8_statements_3 13 rfl rfl)
theorem dX8_statements_86 : decode cX8_statements 86 = .ok (.iconst 5, 1) := dk_8 (dk_at dksX8_statements_3 14 rfl rfl)
theorem dX8_statements_87 : decode cX8_statements 87 = .ok (.if_icmp .ne 26, 3) := dk_160 0 26 (dk_at dksX8_statements_3 15 rfl rfl)
theorem dX8_statements_90 : decode cX8_statements 90 = .ok (.aload_n 0, 1) := dk_42 (dk_at dksX8_statements_3 18 rfl rfl)
theorem dX8_statements_91 : decode cX8_statements 91 = .ok (.iload_n 1, 1) := dk_27 (dk_at dksX8_statements_3 19 rfl rfl)
theorem dX8_statements_92 : decode cX8_statements 92 = .ok (.iload 4, 2) := dk_21 4 (dk_at dksX8_statements_3 20 rfl rfl)
theorem dX8_statements_94 : decode cX8_statements 94 = .ok (.invokevirtual 258, 3) := dk_182 1 2 (dk_at dksX8_statements_4 0 rfl rfl)
theorem dX8_statements_97 : decode cX8_statements 97 = .ok (.aload_n 0, 1) := dk_42 (dk_at dksX8_statements_4 3 rfl rfl)
theorem dX8_statements_98 : decode cX8_statements 98 = .ok (.bipush 61, 2) := dk_16 61 (dk_at dksX8_statements_4 4 rfl rfl)
theorem dX8_statements_100 : decode cX8_statements 100 = .ok (.invokevirtual 253, 3) := dk_182 0 253 (dk_at dksX8_statements_4 6 rfl rfl)
theorem dX8_statements_103 : decode cX8_statements 103 = .ok (.aload_n 0, 1) := dk_42 (dk_at dksX8_statements_4 9 rfl rfl)
theorem dX8_statements_104 : decode cX8_statements 104 = .ok (.iload_n 1, 1) := dk_27 (dk_at dksX8_statements_4 10 rfl rfl)
theorem dX8_statements_105 : decode cX8_statements 105 = .ok (.iload 5, 2) := dk_21 5 (dk_at dksX8_statements_4 11 rfl rfl)
theorem dX8_statements_107 : decode cX8_statements 107 = .ok (.invokevirtual 258, 3) := dk_182 1 2 (dk_at dksX8_statements_4 13 rfl rfl)
theorem dX8_statements_110 : decode cX8_statements 110 = .ok (.goto 238, 3) := dk_167 0 238 (dk_at dksX8_statements_4 16 rfl rfl)
theorem dX8_statements_113 : decode cX8_statements 113 = .ok (.iload_n 3, 1) := dk_29 (dk_at dksX8_statements_4 19 rfl rfl)
theorem dX8_statements_114 : decode cX8_statements 114 = .ok (.bipush 6, 2) := dk_16 6 (dk_at dksX8_statements_4 20 rfl rfl)
theorem dX8_statements_116 : decode cX8_statements 116 = .ok (.if_icmp .ne 50, 3) := dk_160 0 50 (dk_at dksX8_statements_5 0 rfl rfl)
theorem dX8_statements_119 : decode cX8_statements 119 = .ok (.aload_n 0, 1) := dk_42 (dk_at dksX8_statements_5 3 rfl rfl)
theorem dX8_statements_120 : decode cX8_statements 120 = .ok (.iload_n 1, 1) := dk_27 (dk_at dksX8_statements_5 4 rfl rfl)
theorem dX8_statements_121 : decode cX8_statements 121 = .ok (.iload 4, 2) := dk_21 4 (dk_at dksX8_statements_5 5 rfl rfl)
theorem dX8_statements_123 : decode cX8_statements 123 = .ok (.invokevirtual 258, 3) := dk_182 1 2 (dk_at dksX8_statements_5 7 rfl rfl)
theorem dX8_statements_126 : decode cX8_statements 126 = .ok (.aload_n 0, 1) := dk_42 (dk_at dksX8_statements_5 10 rfl rfl)
theorem dX8_statements_127 : decode cX8_statements 127 = .ok (.bipush 91, 2) := dk_16 91 (dk_at dksX8_statements_5 11 rfl rfl)
theorem dX8_statements_129 : decode cX8_statements 129 = .ok (.invokevirtual 253, 3) := dk_182 0 253 (dk_at dksX8_statements_5 13 rfl rfl)
theorem dX8_statements_132 : decode cX8_statements 132 = .ok (.aload_n 0, 1) := dk_42 (dk_at dksX8_statements_5 16 rfl rfl)
theorem dX8_statements_133 : decode cX8_statements 133 = .ok (.iload_n 1, 1) := dk_27 (dk_at dksX8_statements_5 17 rfl rfl)
theorem dX8_statements_134 : decode cX8_statements 134 = .ok (.iload 5, 2) := dk_21 5 (dk_at dksX8_statements_5 18 rfl rfl)
theorem dX8_statements_136 : decode cX8_statements 136 = .ok (.invokevirtual 258, 3) := dk_182 1 2 (dk_at dksX8_statements_5 20 rfl rfl)
theorem dX8_statements_139 : decode cX8_statements 139 = .ok (.aload_n 0, 1) := dk_42 (dk_at dksX8_statements_5 23 rfl rfl)
theorem dX8_statements_140 : decode cX8_statements 140 = .ok (.bipush 93, 2) := dk_16 93 (dk_at dksX8_statements_6 0 rfl rfl)
theorem dX8_statements_142 : decode cX8_statements 142 = .ok (.invokevirtual 253, 3) := dk_182 0 253 (dk_at dksX8_statements_6 2 rfl rfl)
theorem dX8_statements_145 : decode cX8_statements 145 = .ok (.aload_n 0, 1) := dk_42 (dk_at dksX8_statements_6 5 rfl rfl)
theorem dX8_statements_146 : decode cX8_statements 146 = .ok (.bipush 61, 2) := dk_16 61 (dk_at dksX8_statements_6 6 rfl rfl)
theorem dX8_statements_148 : decode cX8_statements 148 = .ok (.invokevirtual 253, 3) := dk_182 0 253 (dk_at dksX8_statements_6 8 rfl rfl)
theorem dX8_statements_151 : decode cX8_statements 151 = .ok (.aload_n 0, 1) := dk_42 (dk_at dksX8_statements_6 11 rfl rfl)
theorem dX8_statements_152 : decode cX8_statements 152 = .ok (.iload_n 1, 1) := dk_27 (dk_at dksX8_statements_6 12 rfl rfl)
theorem dX8_statements_153 : decode cX8_statements 153 = .ok (.aload_n 0, 1) := dk_42 (dk_at dksX8_statements_6 13 rfl rfl)
theorem dX8_statements_154 : decode cX8_statements 154 = .ok (.iload_n 1, 1) := dk_27 (dk_at dksX8_statements_6 14 rfl rfl)
theorem dX8_statements_155 : decode cX8_statements 155 = .ok (.iload 5, 2) := dk_21 5 (dk_at dksX8_statements_6 15 rfl rfl)
theorem dX8_statements_157 : decode cX8_statements 157 = .ok (.invokevirtual 268, 3) := dk_182 1 12 (dk_at dksX8_statements_6 17 rfl rfl)
theorem dX8_statements_160 : decode cX8_statements 160 = .ok (.invokevirtual 258, 3) := dk_182 1 2 (dk_at dksX8_statements_6 20 rfl rfl)
theorem dX8_statements_163 : decode cX8_statements 163 = .ok (.goto 185, 3) := dk_167 0 185 (dk_at dksX8_statements_7 0 rfl rfl)
theorem dX8_statements_166 : decode cX8_statements 166 = .ok (.iload_n 3, 1) := dk_29 (dk_at dksX8_statements_7 3 rfl rfl)
theorem dX8_statements_167 : decode cX8_statements 167 = .ok (.bipush 7, 2) := dk_16 7 (dk_at dksX8_statements_7 4 rfl rfl)
theorem dX8_statements_169 : decode cX8_statements 169 = .ok (.if_icmp .ne 56, 3) := dk_160 0 56 (dk_at dksX8_statements_7 6 rfl rfl)
theorem dX8_statements_172 : decode cX8_statements 172 = .ok (.aload_n 0, 1) := dk_42 (dk_at dksX8_statements_7 9 rfl rfl)
theorem dX8_statements_173 : decode cX8_statements 173 = .ok (.iload_n 1, 1) := dk_27 (dk_at dksX8_statements_7 10 rfl rfl)
theorem dX8_statements_174 : decode cX8_statements 174 = .ok (.iload 4, 2) := dk_21 4 (dk_at dksX8_statements_7 11 rfl rfl)
theorem dX8_statements_176 : decode cX8_statements 176 = .ok (.invokevirtual 261, 3) := dk_182 1 5 (dk_at dksX8_statements_7 13 rfl rfl)
theorem dX8_statements_179 : decode cX8_statements 179 = .ok (.bipush 33, 2) := dk_16 33 (dk_at dksX8_statements_7 16 rfl rfl)
theorem dX8_statements_181 : decode cX8_statements 181 = .ok (.if_icmp .eq 16, 3) := dk_159 0 16 (dk_at dksX8_statements_7 18 rfl rfl)
theorem dX8_statements_184 : decode cX8_statements 184 = .ok (.aload_n 0, 1) := dk_42 (dk_at dksX8_statements_7 21 rfl rfl)
theorem dX8_statements_185 : decode cX8_statements 185 = .ok (.iload_n 1, 1) := dk_27 (dk_at dksX8_statements_7 22 rfl rfl)
theorem dX8_statements_186 : decode cX8_statements 186 = .ok (.iload 4, 2) := dk_21 4 (dk_at dksX8_statements_8 0 rfl rfl)
theorem dX8_statements_188 : decode cX8_statements 188 = .ok (.invokevirtual 258, 3) := dk_182 1 2 (dk_at dksX8_statements_8 2 rfl rfl)
theorem dX8_statements_191 : decode cX8_statements 191 = .ok (.aload_n 0, 1) := dk_42 (dk_at dksX8_statements_8 5 rfl rfl)
theorem dX8_statements_192 : decode cX8_statements 192 = .ok (.bipush 61, 2) := dk_16 61 (dk_at dksX8_statements_8 6 rfl rfl)
theorem dX8_statements_194 : decode cX8_statements 194 = .ok (.invokevirtual 253, 3) := dk_182 0 253 (dk_at dksX8_statements_8 8 rfl rfl)
theorem dX8_statements_197 : decode cX8_statements 197 = .ok (.aload_n 0, 1) := dk_42 (dk_at dksX8_statements_8 11 rfl rfl)
theorem dX8_statements_198 : decode cX8_statements 198 = .ok (.iload_n 1, 1) := dk_27 (dk_at dksX8_statements_8 12 rfl rfl)
theorem dX8_statements_199 : decode cX8_statements 199 = .ok (.iload 5, 2) := dk_21 5 (dk_at dksX8_statements_8 13 rfl rfl)
theorem dX8_statements_201 : decode cX8_statements 201 = .ok (.invokevirtual 258, 3) := dk_182 1 2 (dk_at dksX8_statements_8 15 rfl rfl)
theorem dX8_statements_204 : decode cX8_statements 204 = .ok (.aload_n 0, 1) := dk_42 (dk_at dksX8_statements_8 18 rfl rfl)
theorem dX8_statements_205 : decode cX8_statements 205 = .ok (.iload_n 1, 1) := dk_27 (dk_at dksX8_statements_8 19 rfl rfl)
theorem dX8_statements_206 : decode cX8_statements 206 = .ok (.aload_n 0, 1) := dk_42 (dk_at dksX8_statements_8 20 rfl rfl)
theorem dX8_statements_207 : decode cX8_statements 207 = .ok (.iload_n 1, 1) := dk_27 (dk_at dksX8_statements_8 21 rfl rfl)
theorem dX8_statements_208 : decode cX8_statements 208 = .ok (.iload 5, 2) := dk_21 5 (dk_at dksX8_statements_8 22 rfl rfl)
theorem dX8_statements_210 : decode cX8_statements 210 = .ok (.invokevirtual 268, 3) := dk_182 1 12 (dk_at dksX8_statements_9 0 rfl rfl)
theorem dX8_statements_213 : decode cX8_statements 213 = .ok (.aload_n 0, 1) := dk_42 (dk_at dksX8_statements_9 3 rfl rfl)
theorem dX8_statements_214 : decode cX8_statements 214 = .ok (.iload_n 1, 1) := dk_27 (dk_at dksX8_statements_9 4 rfl rfl)
theorem dX8_statements_215 : decode cX8_statements 215 = .ok (.iload_n 2, 1) := dk_28 (dk_at dksX8_statements_9 5 rfl rfl)
theorem dX8_statements_216 : decode cX8_statements 216 = .ok (.invokevirtual 268, 3) := dk_182 1 12 (dk_at dksX8_statements_9 6 rfl rfl)
theorem dX8_statements_219 : decode cX8_statements 219 = .ok (.invokevirtual 297, 3) := dk_182 1 41 (dk_at dksX8_statements_9 9 rfl rfl)
theorem dX8_statements_222 : decode cX8_statements 222 = .ok (.goto 126, 3) := dk_167 0 126 (dk_at dksX8_statements_9 12 rfl rfl)
theorem dX8_statements_225 : decode cX8_statements 225 = .ok (.iload_n 3, 1) := dk_29 (dk_at dksX8_statements_9 15 rfl rfl)
theorem dX8_statements_226 : decode cX8_statements 226 = .ok (.bipush 11, 2) := dk_16 11 (dk_at dksX8_statements_9 16 rfl rfl)
theorem dX8_statements_228 : decode cX8_statements 228 = .ok (.if_icmp .ne 19, 3) := dk_160 0 19 (dk_at dksX8_statements_9 18 rfl rfl)
theorem dX8_statements_231 : decode cX8_statements 231 = .ok (.aload_n 0, 1) := dk_42 (dk_at dksX8_statements_9 21 rfl rfl)
theorem dX8_statements_232 : decode cX8_statements 232 = .ok (.ldc 91, 2) := dk_18 91 (dk_at dksX8_statements_9 22 rfl rfl)
theorem dX8_statements_234 : decode cX8_statements 234 = .ok (.invokevirtual 293, 3) := dk_182 1 37 (dk_at dksX8_statements_10 0 rfl rfl)
theorem dX8_statements_237 : decode cX8_statements 237 = .ok (.aload_n 0, 1) := dk_42 (dk_at dksX8_statements_10 3 rfl rfl)
theorem dX8_statements_238 : decode cX8_statements 238 = .ok (.iload_n 1, 1) := dk_27 (dk_at dksX8_statements_10 4 rfl rfl)
theorem dX8_statements_239 : decode cX8_statements 239 = .ok (.iload 4, 2) := dk_21 4 (dk_at dksX8_statements_10 5 rfl rfl)
theorem dX8_statements_241 : decode cX8_statements 241 = .ok (.invokevirtual 258, 3) := dk_182 1 2 (dk_at dksX8_statements_10 7 rfl rfl)
theorem dX8_statements_244 : decode cX8_statements 244 = .ok (.goto 104, 3) := dk_167 0 104 (dk_at dksX8_statements_10 10 rfl rfl)
theorem dX8_statements_247 : decode cX8_statements 247 = .ok (.aload_n 0, 1) := dk_42 (dk_at dksX8_statements_10 13 rfl rfl)
theorem dX8_statements_248 : decode cX8_statements 248 = .ok (.iload_n 3, 1) := dk_29 (dk_at dksX8_statements_10 14 rfl rfl)
theorem dX8_statements_249 : decode cX8_statements 249 = .ok (.bipush 8, 2) := dk_16 8 (dk_at dksX8_statements_10 15 rfl rfl)
theorem dX8_statements_251 : decode cX8_statements 251 = .ok (.if_icmp .ne 8, 3) := dk_160 0 8 (dk_at dksX8_statements_10 17 rfl rfl)
theorem dX8_statements_254 : decode cX8_statements 254 = .ok (.ldc 83, 2) := dk_18 83 (dk_at dksX8_statements_10 20 rfl rfl)
theorem dX8_statements_256 : decode cX8_statements 256 = .ok (.goto 16, 3) := dk_167 0 16 (dk_at dksX8_statements_11 0 rfl rfl)
theorem dX8_statements_259 : decode cX8_statements 259 = .ok (.iload_n 3, 1) := dk_29 (dk_at dksX8_statements_11 3 rfl rfl)
theorem dX8_statements_260 : decode cX8_statements 260 = .ok (.bipush 9, 2) := dk_16 9 (dk_at dksX8_statements_11 4 rfl rfl)
theorem dX8_statements_262 : decode cX8_statements 262 = .ok (.if_icmp .ne 8, 3) := dk_160 0 8 (dk_at dksX8_statements_11 6 rfl rfl)
theorem dX8_statements_265 : decode cX8_statements 265 = .ok (.ldc 87, 2) := dk_18 87 (dk_at dksX8_statements_11 9 rfl rfl)
theorem dX8_statements_267 : decode cX8_statements 267 = .ok (.goto 5, 3) := dk_167 0 5 (dk_at dksX8_statements_11 11 rfl rfl)
theorem dX8_statements_270 : decode cX8_statements 270 = .ok (.ldc 89, 2) := dk_18 89 (dk_at dksX8_statements_11 14 rfl rfl)
theorem dX8_statements_272 : decode cX8_statements 272 = .ok (.invokevirtual 293, 3) := dk_182 1 37 (dk_at dksX8_statements_11 16 rfl rfl)
theorem dX8_statements_275 : decode cX8_statements 275 = .ok (.aload_n 0, 1) := dk_42 (dk_at dksX8_statements_11 19 rfl rfl)
theorem dX8_statements_276 : decode cX8_statements 276 = .ok (.bipush 40, 2) := dk_16 40 (dk_at dksX8_statements_11 20 rfl rfl)
theorem dX8_statements_278 : decode cX8_statements 278 = .ok (.invokevirtual 253, 3) := dk_182 0 253 (dk_at dksX8_statements_12 0 rfl rfl)
theorem dX8_statements_281 : decode cX8_statements 281 = .ok (.aload_n 0, 1) := dk_42 (dk_at dksX8_statements_12 3 rfl rfl)
theorem dX8_statements_282 : decode cX8_statements 282 = .ok (.iload_n 1, 1) := dk_27 (dk_at dksX8_statements_12 4 rfl rfl)
theorem dX8_statements_283 : decode cX8_statements 283 = .ok (.iload 4, 2) := dk_21 4 (dk_at dksX8_statements_12 5 rfl rfl)
theorem dX8_statements_285 : decode cX8_statements 285 = .ok (.invokevirtual 258, 3) := dk_182 1 2 (dk_at dksX8_statements_12 7 rfl rfl)
theorem dX8_statements_288 : decode cX8_statements 288 = .ok (.aload_n 0, 1) := dk_42 (dk_at dksX8_statements_12 10 rfl rfl)
theorem dX8_statements_289 : decode cX8_statements 289 = .ok (.bipush 41, 2) := dk_16 41 (dk_at dksX8_statements_12 11 rfl rfl)
theorem dX8_statements_291 : decode cX8_statements 291 = .ok (.invokevirtual 253, 3) := dk_182 0 253 (dk_at dksX8_statements_12 13 rfl rfl)
theorem dX8_statements_294 : decode cX8_statements 294 = .ok (.iload_n 3, 1) := dk_29 (dk_at dksX8_statements_12 16 rfl rfl)
theorem dX8_statements_295 : decode cX8_statements 295 = .ok (.bipush 10, 2) := dk_16 10 (dk_at dksX8_statements_12 17 rfl rfl)
theorem dX8_statements_297 : decode cX8_statements 297 = .ok (.if_icmp .ge 51, 3) := dk_162 0 51 (dk_at dksX8_statements_12 19 rfl rfl)
theorem dX8_statements_300 : decode cX8_statements 300 = .ok (.aload_n 0, 1) := dk_42 (dk_at dksX8_statements_12 22 rfl rfl)
theorem dX8_statements_301 : decode cX8_statements 301 = .ok (.iload_n 1, 1) := dk_27 (dk_at dksX8_statements_12 23 rfl rfl)
theorem dX8_statements_302 : decode cX8_statements 302 = .ok (.iload 5, 2) := dk_21 5 (dk_at dksX8_statements_13 0 rfl rfl)
theorem dX8_statements_304 : decode cX8_statements 304 = .ok (.invokevirtual 258, 3) := dk_182 1 2 (dk_at dksX8_statements_13 2 rfl rfl)
theorem dX8_statements_307 : decode cX8_statements 307 = .ok (.iload_n 3, 1) := dk_29 (dk_at dksX8_statements_13 5 rfl rfl)
theorem dX8_statements_308 : decode cX8_statements 308 = .ok (.bipush 8, 2) := dk_16 8 (dk_at dksX8_statements_13 6 rfl rfl)
theorem dX8_statements_310 : decode cX8_statements 310 = .ok (.if_icmp .ne 37, 3) := dk_160 0 37 (dk_at dksX8_statements_13 8 rfl rfl)
theorem dX8_statements_313 : decode cX8_statements 313 = .ok (.aload_n 0, 1) := dk_42 (dk_at dksX8_statements_13 11 rfl rfl)
theorem dX8_statements_314 : decode cX8_statements 314 = .ok (.iload_n 1, 1) := dk_27 (dk_at dksX8_statements_13 12 rfl rfl)
theorem dX8_statements_315 : decode cX8_statements 315 = .ok (.iload 5, 2) := dk_21 5 (dk_at dksX8_statements_13 13 rfl rfl)
theorem dX8_statements_317 : decode cX8_statements 317 = .ok (.invokevirtual 268, 3) := dk_182 1 12 (dk_at dksX8_statements_13 15 rfl rfl)
theorem dX8_statements_320 : decode cX8_statements 320 = .ok (.aload_n 0, 1) := dk_42 (dk_at dksX8_statements_13 18 rfl rfl)
theorem dX8_statements_321 : decode cX8_statements 321 = .ok (.iload_n 1, 1) := dk_27 (dk_at dksX8_statements_13 19 rfl rfl)
theorem dX8_statements_322 : decode cX8_statements 322 = .ok (.iload_n 2, 1) := dk_28 (dk_at dksX8_statements_13 20 rfl rfl)
theorem dX8_statements_323 : decode cX8_statements 323 = .ok (.invokevirtual 268, 3) := dk_182 1 12 (dk_at dksX8_statements_13 21 rfl rfl)
theorem dX8_statements_326 : decode cX8_statements 326 = .ok (.if_icmp .ge 21, 3) := dk_162 0 21 (dk_at dksX8_statements_14 0 rfl rfl)
theorem dX8_statements_329 : decode cX8_statements 329 = .ok (.aload_n 0, 1) := dk_42 (dk_at dksX8_statements_14 3 rfl rfl)
theorem dX8_statements_330 : decode cX8_statements 330 = .ok (.ldc 85, 2) := dk_18 85 (dk_at dksX8_statements_14 4 rfl rfl)
theorem dX8_statements_332 : decode cX8_statements 332 = .ok (.invokevirtual 293, 3) := dk_182 1 37 (dk_at dksX8_statements_14 6 rfl rfl)
theorem dX8_statements_335 : decode cX8_statements 335 = .ok (.aload_n 0, 1) := dk_42 (dk_at dksX8_statements_14 9 rfl rfl)
theorem dX8_statements_336 : decode cX8_statements 336 = .ok (.iload_n 1, 1) := dk_27 (dk_at dksX8_statements_14 10 rfl rfl)
theorem dX8_statements_337 : decode cX8_statements 337 = .ok (.aload_n 0, 1) := dk_42 (dk_at dksX8_statements_14 11 rfl rfl)
theorem dX8_statements_338 : decode cX8_statements 338 = .ok (.iload_n 1, 1) := dk_27 (dk_at dksX8_statements_14 12 rfl rfl)
theorem dX8_statements_339 : decode cX8_statements 339 = .ok (.iload 5, 2) := dk_21 5 (dk_at dksX8_statements_14 13 rfl rfl)
theorem dX8_statements_341 : decode cX8_statements 341 = .ok (.invokevirtual 268, 3) := dk_182 1 12 (dk_at dksX8_statements_14 15 rfl rfl)
theorem dX8_statements_344 : decode cX8_statements 344 = .ok (.invokevirtual 258, 3) := dk_182 1 2 (dk_at dksX8_statements_14 18 rfl rfl)
theorem dX8_statements_347 : decode cX8_statements 347 = .ok (.return_, 1) := dk_177 (dk_at dksX8_statements_14 21 rfl rfl)
theorem dX8_statements_348 : decode cX8_statements 348 = .ok (.aload_n 0, 1) := dk_42 (dk_at dksX8_statements_14 22 rfl rfl)
theorem dX8_statements_349 : decode cX8_statements 349 = .ok (.bipush 59, 2) := dk_16 59 (dk_at dksX8_statements_15 0 rfl rfl)
theorem dX8_statements_351 : decode cX8_statements 351 = .ok (.invokevirtual 253, 3) := dk_182 0 253 (dk_at dksX8_statements_15 2 rfl rfl)
theorem dX8_statements_354 : decode cX8_statements 354 = .ok (.return_, 1) := dk_177 (dk_at dksX8_statements_15 5 rfl rfl)
abbrev cX8_sayNumber : ByteArray := prog_10_method_49_code
def yX8_sayNumber : MethodName := ⟨RX8, "sayNumber", "(I)V"⟩
def dkwX8_sayNumber_4 : List UInt8 := [21, 7, 182, 0, 250, 3, 54, 6, 22, 4, 20, 0, 133, 109, 55, 4, 167, 255, 203, 177]
abbrev dktX8_sayNumber_4 : List UInt8 := dkwX8_sayNumber_4 ++ []
def dkwX8_sayNumber_3 : List UInt8 := [109, 20, 0, 133, 113, 97, 136, 54, 7, 21, 6, 153, 0, 12, 42, 21, 7, 182, 0, 253, 167, 0, 9, 42]
abbrev dktX8_sayNumber_3 : List UInt8 := dkwX8_sayNumber_3 ++ dktX8_sayNumber_4
def dkwX8_sayNumber_2 : List UInt8 := [27, 155, 0, 7, 4, 167, 0, 4, 3, 54, 6, 22, 4, 9, 148, 158, 0, 52, 20, 0, 135, 32, 22, 4]
abbrev dktX8_sayNumber_2 : List UInt8 := dkwX8_sayNumber_2 ++ dktX8_sayNumber_3
def dkwX8_sayNumber_1 : List UInt8 := [55, 4, 32, 22, 4, 109, 20, 1, 0, 148, 158, 0, 14, 20, 0, 133, 22, 4, 105, 55, 4, 167, 255, 237]
abbrev dktX8_sayNumber_1 : List UInt8 := dkwX8_sayNumber_1 ++ dktX8_sayNumber_2
def dkwX8_sayNumber_0 : List UInt8 := [27, 156, 0, 9, 42, 16, 45, 182, 0, 253, 27, 156, 0, 9, 27, 133, 117, 167, 0, 5, 27, 133, 65, 10]
abbrev dktX8_sayNumber_0 : List UInt8 := dkwX8_sayNumber_0 ++ dktX8_sayNumber_1
theorem dksX8_sayNumber_0 : cX8_sayNumber.data.toList.drop 0 = dktX8_sayNumber_0 := by decide +kernel
theorem dksX8_sayNumber_1 : cX8_sayNumber.data.toList.drop 24 = dktX8_sayNumber_1 := dk_seg dksX8_sayNumber_0 24 rfl rfl
theorem dksX8_sayNumber_2 : cX8_sayNumber.data.toList.drop 48 = dktX8_sayNumber_2 := dk_seg dksX8_sayNumber_1 24 rfl rfl
theorem dksX8_sayNumber_3 : cX8_sayNumber.data.toList.drop 72 = dktX8_sayNumber_3 := dk_seg dksX8_sayNumber_2 24 rfl rfl
theorem dksX8_sayNumber_4 : cX8_sayNumber.data.toList.drop 96 = dktX8_sayNumber_4 := dk_seg dksX8_sayNumber_3 24 rfl rfl
theorem dX8_sayNumber_0 : decode cX8_sayNumber 0 = .ok (.iload_n 1, 1) := dk_27 (dk_at dksX8_sayNumber_0 0 rfl rfl)
theorem dX8_sayNumber_1 : decode cX8_sayNumber 1 = .ok (.ifCond .ge 9, 3) := dk_156 0 9 (dk_at dksX8_sayNumber_0 1 rfl rfl)
theorem dX8_sayNumber_4 : decode cX8_sayNumber 4 = .ok (.aload_n 0, 1) := dk_42 (dk_at dksX8_sayNumber_0 4 rfl rfl)
theorem dX8_sayNumber_5 : decode cX8_sayNumber 5 = .ok (.bipush 45, 2) := dk_16 45 (dk_at dksX8_sayNumber_0 5 rfl rfl)
theorem dX8_sayNumber_7 : decode cX8_sayNumber 7 = .ok (.invokevirtual 253, 3) := dk_182 0 253 (dk_at dksX8_sayNumber_0 7 rfl rfl)
theorem dX8_sayNumber_10 : decode cX8_sayNumber 10 = .ok (.iload_n 1, 1) := dk_27 (dk_at dksX8_sayNumber_0 10 rfl rfl)
theorem dX8_sayNumber_11 : decode cX8_sayNumber 11 = .ok (.ifCond .ge 9, 3) := dk_156 0 9 (dk_at dksX8_sayNumber_0 11 rfl rfl)
theorem dX8_sayNumber_14 : decode cX8_sayNumber 14 = .ok (.iload_n 1, 1) := dk_27 (dk_at dksX8_sayNumber_0 14 rfl rfl)
theorem dX8_sayNumber_15 : decode cX8_sayNumber 15 = .ok (.i2l, 1) := dk_133 (dk_at dksX8_sayNumber_0 15 rfl rfl)
theorem dX8_sayNumber_16 : decode cX8_sayNumber 16 = .ok (.lneg, 1) := dk_117 (dk_at dksX8_sayNumber_0 16 rfl rfl)
theorem dX8_sayNumber_17 : decode cX8_sayNumber 17 = .ok (.goto 5, 3) := dk_167 0 5 (dk_at dksX8_sayNumber_0 17 rfl rfl)
theorem dX8_sayNumber_20 : decode cX8_sayNumber 20 = .ok (.iload_n 1, 1) := dk_27 (dk_at dksX8_sayNumber_0 20 rfl rfl)
theorem dX8_sayNumber_21 : decode cX8_sayNumber 21 = .ok (.i2l, 1) := dk_133 (dk_at dksX8_sayNumber_0 21 rfl rfl)
theorem dX8_sayNumber_22 : decode cX8_sayNumber 22 = .ok (.lstore_n 2, 1) := dk_65 (dk_at dksX8_sayNumber_0 22 rfl rfl)
theorem dX8_sayNumber_23 : decode cX8_sayNumber 23 = .ok (.lconst 1, 1) := dk_10 (dk_at dksX8_sayNumber_0 23 rfl rfl)
theorem dX8_sayNumber_24 : decode cX8_sayNumber 24 = .ok (.lstore 4, 2) := dk_55 4 (dk_at dksX8_sayNumber_1 0 rfl rfl)
theorem dX8_sayNumber_26 : decode cX8_sayNumber 26 = .ok (.lload_n 2, 1) := dk_32 (dk_at dksX8_sayNumber_1 2 rfl rfl)
theorem dX8_sayNumber_27 : decode cX8_sayNumber 27 = .ok (.lload 4, 2) := dk_22 4 (dk_at dksX8_sayNumber_1 3 rfl rfl)
theorem dX8_sayNumber_29 : decode cX8_sayNumber 29 = .ok (.ldiv, 1) := dk_109 (dk_at dksX8_sayNumber_1 5 rfl rfl)
theorem dX8_sayNumber_30 : decode cX8_sayNumber 30 = .ok (.ldc2_w 256, 3) := dk_20 1 0 (dk_at dksX8_sayNumber_1 6 rfl rfl)
theorem dX8_sayNumber_33 : decode cX8_sayNumber 33 = .ok (.lcmp, 1) := dk_148 (dk_at dksX8_sayNumber_1 9 rfl rfl)
theorem dX8_sayNumber_34 : decode cX8_sayNumber 34 = .ok (.ifCond .le 14, 3) := dk_158 0 14 (dk_at dksX8_sayNumber_1 10 rfl rfl)
theorem dX8_sayNumber_37 : decode cX8_sayNumber 37 = .ok (.ldc2_w 133, 3) := dk_20 0 133 (dk_at dksX8_sayNumber_1 13 rfl rfl)
theorem dX8_sayNumber_40 : decode cX8_sayNumber 40 = .ok (.lload 4, 2) := dk_22 4 (dk_at dksX8_sayNumber_1 16 rfl rfl)
theorem dX8_sayNumber_42 : decode cX8_sayNumber 42 = .ok (.lmul, 1) := dk_105 (dk_at dksX8_sayNumber_1 18 rfl rfl)
theorem dX8_sayNumber_43 : decode cX8_sayNumber 43 = .ok (.lstore 4, 2) := dk_55 4 (dk_at dksX8_sayNumber_1 19 rfl rfl)
theorem dX8_sayNumber_45 : decode cX8_sayNumber 45 = .ok (.goto (-19), 3) := dk_167 255 237 (dk_at dksX8_sayNumber_1 21 rfl rfl)
theorem dX8_sayNumber_48 : decode cX8_sayNumber 48 = .ok (.iload_n 1, 1) := dk_27 (dk_at dksX8_sayNumber_2 0 rfl rfl)
theorem dX8_sayNumber_49 : decode cX8_sayNumber 49 = .ok (.ifCond .lt 7, 3) := dk_155 0 7 (dk_at dksX8_sayNumber_2 1 rfl rfl)
theorem dX8_sayNumber_52 : decode cX8_sayNumber 52 = .ok (.iconst 1, 1) := dk_4 (dk_at dksX8_sayNumber_2 4 rfl rfl)
theorem dX8_sayNumber_53 : decode cX8_sayNumber 53 = .ok (.goto 4, 3) := dk_167 0 4 (dk_at dksX8_sayNumber_2 5 rfl rfl)
theorem dX8_sayNumber_56 : decode cX8_sayNumber 56 = .ok (.iconst 0, 1) := dk_3 (dk_at dksX8_sayNumber_2 8 rfl rfl)
theorem dX8_sayNumber_57 : decode cX8_sayNumber 57 = .ok (.istore 6, 2) := dk_54 6 (dk_at dksX8_sayNumber_2 9 rfl rfl)
theorem dX8_sayNumber_59 : decode cX8_sayNumber 59 = .ok (.lload 4, 2) := dk_22 4 (dk_at dksX8_sayNumber_2 11 rfl rfl)
theorem dX8_sayNumber_61 : decode cX8_sayNumber 61 = .ok (.lconst 0, 1) := dk_9 (dk_at dksX8_sayNumber_2 13 rfl rfl)
theorem dX8_sayNumber_62 : decode cX8_sayNumber 62 = .ok (.lcmp, 1) := dk_148 (dk_at dksX8_sayNumber_2 14 rfl rfl)
theorem dX8_sayNumber_63 : decode cX8_sayNumber 63 = .ok (.ifCond .le 52, 3) := dk_158 0 52 (dk_at dksX8_sayNumber_2 15 rfl rfl)
theorem dX8_sayNumber_66 : decode cX8_sayNumber 66 = .ok (.ldc2_w 135, 3) := dk_20 0 135 (dk_at dksX8_sayNumber_2 18 rfl rfl)
theorem dX8_sayNumber_69 : decode cX8_sayNumber 69 = .ok (.lload_n 2, 1) := dk_32 (dk_at dksX8_sayNumber_2 21 rfl rfl)
theorem dX8_sayNumber_70 : decode cX8_sayNumber 70 = .ok (.lload 4, 2) := dk_22 4 (dk_at dksX8_sayNumber_2 22 rfl rfl)
theorem dX8_sayNumber_72 : decode cX8_sayNumber 72 = .ok (.ldiv, 1) := dk_109 (dk_at dksX8_sayNumber_3 0 rfl rfl)
theorem dX8_sayNumber_73 : decode cX8_sayNumber 73 = .ok (.ldc2_w 133, 3) := dk_20 0 133 (dk_at dksX8_sayNumber_3 1 rfl rfl)
theorem dX8_sayNumber_76 : decode cX8_sayNumber 76 = .ok (.lrem, 1) := dk_113 (dk_at dksX8_sayNumber_3 4 rfl rfl)
theorem dX8_sayNumber_77 : decode cX8_sayNumber 77 = .ok (.ladd, 1) := dk_97 (dk_at dksX8_sayNumber_3 5 rfl rfl)
theorem dX8_sayNumber_78 : decode cX8_sayNumber 78 = .ok (.l2i, 1) := dk_136 (dk_at dksX8_sayNumber_3 6 rfl rfl)
theorem dX8_sayNumber_79 : decode cX8_sayNumber 79 = .ok (.istore 7, 2) := dk_54 7 (dk_at dksX8_sayNumber_3 7 rfl rfl)
theorem dX8_sayNumber_81 : decode cX8_sayNumber 81 = .ok (.iload 6, 2) := dk_21 6 (dk_at dksX8_sayNumber_3 9 rfl rfl)
theorem dX8_sayNumber_83 : decode cX8_sayNumber 83 = .ok (.ifCond .eq 12, 3) := dk_153 0 12 (dk_at dksX8_sayNumber_3 11 rfl rfl)
theorem dX8_sayNumber_86 : decode cX8_sayNumber 86 = .ok (.aload_n 0, 1) := dk_42 (dk_at dksX8_sayNumber_3 14 rfl rfl)
theorem dX8_sayNumber_87 : decode cX8_sayNumber 87 = .ok (.iload 7, 2) := dk_21 7 (dk_at dksX8_sayNumber_3 15 rfl rfl)
theorem dX8_sayNumber_89 : decode cX8_sayNumber 89 = .ok (.invokevirtual 253, 3) := dk_182 0 253 (dk_at dksX8_sayNumber_3 17 rfl rfl)
theorem dX8_sayNumber_92 : decode cX8_sayNumber 92 = .ok (.goto 9, 3) := dk_167 0 9 (dk_at dksX8_sayNumber_3 20 rfl rfl)
theorem dX8_sayNumber_95 : decode cX8_sayNumber 95 = .ok (.aload_n 0, 1) := dk_42 (dk_at dksX8_sayNumber_3 23 rfl rfl)
theorem dX8_sayNumber_96 : decode cX8_sayNumber 96 = .ok (.iload 7, 2) := dk_21 7 (dk_at dksX8_sayNumber_4 0 rfl rfl)
theorem dX8_sayNumber_98 : decode cX8_sayNumber 98 = .ok (.invokevirtual 250, 3) := dk_182 0 250 (dk_at dksX8_sayNumber_4 2 rfl rfl)
theorem dX8_sayNumber_101 : decode cX8_sayNumber 101 = .ok (.iconst 0, 1) := dk_3 (dk_at dksX8_sayNumber_4 5 rfl rfl)
theorem dX8_sayNumber_102 : decode cX8_sayNumber 102 = .ok (.istore 6, 2) := dk_54 6 (dk_at dksX8_sayNumber_4 6 rfl rfl)
theorem dX8_sayNumber_104 : decode cX8_sayNumber 104 = .ok (.lload 4, 2) := dk_22 4 (dk_at dksX8_sayNumber_4 8 rfl rfl)
theorem dX8_sayNumber_106 : decode cX8_sayNumber 106 = .ok (.ldc2_w 133, 3) := dk_20 0 133 (dk_at dksX8_sayNumber_4 10 rfl rfl)
theorem dX8_sayNumber_109 : decode cX8_sayNumber 109 = .ok (.ldiv, 1) := dk_109 (dk_at dksX8_sayNumber_4 13 rfl rfl)
theorem dX8_sayNumber_110 : decode cX8_sayNumber 110 = .ok (.lstore 4, 2) := dk_55 4 (dk_at dksX8_sayNumber_4 14 rfl rfl)
theorem dX8_sayNumber_112 : decode cX8_sayNumber 112 = .ok (.goto (-53), 3) := dk_167 255 203 (dk_at dksX8_sayNumber_4 16 rfl rfl)
theorem dX8_sayNumber_115 : decode cX8_sayNumber 115 = .ok (.return_, 1) := dk_177 (dk_at dksX8_sayNumber_4 19 rfl rfl)
abbrev cX8_sayName : ByteArray := prog_10_method_48_code
def yX8_sayName : MethodName := ⟨RX8, "sayName", "(I)V"⟩
def dkwX8_sayName_2 : List UInt8 := [46, 182, 0, 250, 132, 2, 1, 167, 255, 208, 177]
abbrev dktX8_sayName_2 : List UInt8 := dkwX8_sayName_2 ++ []
def dkwX8_sayName_1 : List UInt8 := [27, 46, 160, 0, 16, 42, 42, 180, 0, 71, 28, 46, 182, 0, 253, 167, 0, 13, 42, 42, 180, 0, 71, 28]
abbrev dktX8_sayName_1 : List UInt8 := dkwX8_sayName_1 ++ dktX8_sayName_2
def dkwX8_sayName_0 : List UInt8 := [42, 180, 0, 74, 27, 46, 61, 28, 42, 180, 0, 74, 27, 4, 96, 46, 162, 0, 42, 28, 42, 180, 0, 74]
abbrev dktX8_sayName_0 : List UInt8 := dkwX8_sayName_0 ++ dktX8_sayName_1
theorem dksX8_sayName_0 : cX8_sayName.data.toList.drop 0 = dktX8_sayName_0 := by decide +kernel
theorem dksX8_sayName_1 : cX8_sayName.data.toList.drop 24 = dktX8_sayName_1 := dk_seg dksX8_sayName_0 24 rfl rfl
theorem dksX8_sayName_2 : cX8_sayName.data.toList.drop 48 = dktX8_sayName_2 := dk_seg dksX8_sayName_1 24 rfl rfl
theorem dX8_sayName_0 : decode cX8_sayName 0 = .ok (.aload_n 0, 1) := dk_42 (dk_at dksX8_sayName_0 0 rfl rfl)
theorem dX8_sayName_1 : decode cX8_sayName 1 = .ok (.getfield 74, 3) := dk_180 0 74 (dk_at dksX8_sayName_0 1 rfl rfl)
theorem dX8_sayName_4 : decode cX8_sayName 4 = .ok (.iload_n 1, 1) := dk_27 (dk_at dksX8_sayName_0 4 rfl rfl)
theorem dX8_sayName_5 : decode cX8_sayName 5 = .ok (.iaload, 1) := dk_46 (dk_at dksX8_sayName_0 5 rfl rfl)
theorem dX8_sayName_6 : decode cX8_sayName 6 = .ok (.istore_n 2, 1) := dk_61 (dk_at dksX8_sayName_0 6 rfl rfl)
theorem dX8_sayName_7 : decode cX8_sayName 7 = .ok (.iload_n 2, 1) := dk_28 (dk_at dksX8_sayName_0 7 rfl rfl)
theorem dX8_sayName_8 : decode cX8_sayName 8 = .ok (.aload_n 0, 1) := dk_42 (dk_at dksX8_sayName_0 8 rfl rfl)
theorem dX8_sayName_9 : decode cX8_sayName 9 = .ok (.getfield 74, 3) := dk_180 0 74 (dk_at dksX8_sayName_0 9 rfl rfl)
theorem dX8_sayName_12 : decode cX8_sayName 12 = .ok (.iload_n 1, 1) := dk_27 (dk_at dksX8_sayName_0 12 rfl rfl)
theorem dX8_sayName_13 : decode cX8_sayName 13 = .ok (.iconst 1, 1) := dk_4 (dk_at dksX8_sayName_0 13 rfl rfl)
theorem dX8_sayName_14 : decode cX8_sayName 14 = .ok (.iadd, 1) := dk_96 (dk_at dksX8_sayName_0 14 rfl rfl)
theorem dX8_sayName_15 : decode cX8_sayName 15 = .ok (.iaload, 1) := dk_46 (dk_at dksX8_sayName_0 15 rfl rfl)
theorem dX8_sayName_16 : decode cX8_sayName 16 = .ok (.if_icmp .ge 42, 3) := dk_162 0 42 (dk_at dksX8_sayName_0 16 rfl rfl)
theorem dX8_sayName_19 : decode cX8_sayName 19 = .ok (.iload_n 2, 1) := dk_28 (dk_at dksX8_sayName_0 19 rfl rfl)
theorem dX8_sayName_20 : decode cX8_sayName 20 = .ok (.aload_n 0, 1) := dk_42 (dk_at dksX8_sayName_0 20 rfl rfl)
theorem dX8_sayName_21 : decode cX8_sayName 21 = .ok (.getfield 74, 3) := dk_180 0 74 (dk_at dksX8_sayName_0 21 rfl rfl)
theorem dX8_sayName_24 : decode cX8_sayName 24 = .ok (.iload_n 1, 1) := dk_27 (dk_at dksX8_sayName_1 0 rfl rfl)
theorem dX8_sayName_25 : decode cX8_sayName 25 = .ok (.iaload, 1) := dk_46 (dk_at dksX8_sayName_1 1 rfl rfl)
theorem dX8_sayName_26 : decode cX8_sayName 26 = .ok (.if_icmp .ne 16, 3) := dk_160 0 16 (dk_at dksX8_sayName_1 2 rfl rfl)
theorem dX8_sayName_29 : decode cX8_sayName 29 = .ok (.aload_n 0, 1) := dk_42 (dk_at dksX8_sayName_1 5 rfl rfl)
theorem dX8_sayName_30 : decode cX8_sayName 30 = .ok (.aload_n 0, 1) := dk_42 (dk_at dksX8_sayName_1 6 rfl rfl)
theorem dX8_sayName_31 : decode cX8_sayName 31 = .ok (.getfield 71, 3) := dk_180 0 71 (dk_at dksX8_sayName_1 7 rfl rfl)
theorem dX8_sayName_34 : decode cX8_sayName 34 = .ok (.iload_n 2, 1) := dk_28 (dk_at dksX8_sayName_1 10 rfl rfl)
theorem dX8_sayName_35 : decode cX8_sayName 35 = .ok (.iaload, 1) := dk_46 (dk_at dksX8_sayName_1 11 rfl rfl)
theorem dX8_sayName_36 : decode cX8_sayName 36 = .ok (.invokevirtual 253, 3) := dk_182 0 253 (dk_at dksX8_sayName_1 12 rfl rfl)
theorem dX8_sayName_39 : decode cX8_sayName 39 = .ok (.goto 13, 3) := dk_167 0 13 (dk_at dksX8_sayName_1 15 rfl rfl)
theorem dX8_sayName_42 : decode cX8_sayName 42 = .ok (.aload_n 0, 1) := dk_42 (dk_at dksX8_sayName_1 18 rfl rfl)
theorem dX8_sayName_43 : decode cX8_sayName 43 = .ok (.aload_n 0, 1) := dk_42 (dk_at dksX8_sayName_1 19 rfl rfl)
theorem dX8_sayName_44 : decode cX8_sayName 44 = .ok (.getfield 71, 3) := dk_180 0 71 (dk_at dksX8_sayName_1 20 rfl rfl)
theorem dX8_sayName_47 : decode cX8_sayName 47 = .ok (.iload_n 2, 1) := dk_28 (dk_at dksX8_sayName_1 23 rfl rfl)
theorem dX8_sayName_48 : decode cX8_sayName 48 = .ok (.iaload, 1) := dk_46 (dk_at dksX8_sayName_2 0 rfl rfl)
theorem dX8_sayName_49 : decode cX8_sayName 49 = .ok (.invokevirtual 250, 3) := dk_182 0 250 (dk_at dksX8_sayName_2 1 rfl rfl)
theorem dX8_sayName_52 : decode cX8_sayName 52 = .ok (.iinc 2 1, 3) := dk_132 2 1 (dk_at dksX8_sayName_2 4 rfl rfl)
theorem dX8_sayName_55 : decode cX8_sayName 55 = .ok (.goto (-48), 3) := dk_167 255 208 (dk_at dksX8_sayName_2 7 rfl rfl)
theorem dX8_sayName_58 : decode cX8_sayName 58 = .ok (.return_, 1) := dk_177 (dk_at dksX8_sayName_2 10 rfl rfl)
abbrev cX8_sayFactor : ByteArray := prog_10_method_53_code
def yX8_sayFactor : MethodName := ⟨RX8, "sayFactor", "(IIZ)V"⟩
def dkwX8_sayFactor_1 : List UInt8 := [16, 20, 160, 0, 7, 4, 167, 0, 4, 3, 16, 40, 16, 41, 182, 1, 8, 177]
abbrev dktX8_sayFactor_1 : List UInt8 := dkwX8_sayFactor_1 ++ []
def dkwX8_sayFactor_0 : List UInt8 := [42, 27, 28, 182, 1, 5, 54, 4, 42, 27, 28, 21, 4, 16, 17, 159, 0, 14, 29, 154, 0, 14, 21, 4]
abbrev dktX8_sayFactor_0 : List UInt8 := dkwX8_sayFactor_0 ++ dktX8_sayFactor_1
theorem dksX8_sayFactor_0 : cX8_sayFactor.data.toList.drop 0 = dktX8_sayFactor_0 := by decide +kernel
theorem dksX8_sayFactor_1 : cX8_sayFactor.data.toList.drop 24 = dktX8_sayFactor_1 := dk_seg dksX8_sayFactor_0 24 rfl rfl
theorem dX8_sayFactor_0 : decode cX8_sayFactor 0 = .ok (.aload_n 0, 1) := dk_42 (dk_at dksX8_sayFactor_0 0 rfl rfl)
theorem dX8_sayFactor_1 : decode cX8_sayFactor 1 = .ok (.iload_n 1, 1) := dk_27 (dk_at dksX8_sayFactor_0 1 rfl rfl)
theorem dX8_sayFactor_2 : decode cX8_sayFactor 2 = .ok (.iload_n 2, 1) := dk_28 (dk_at dksX8_sayFactor_0 2 rfl rfl)
theorem dX8_sayFactor_3 : decode cX8_sayFactor 3 = .ok (.invokevirtual 261, 3) := dk_182 1 5 (dk_at dksX8_sayFactor_0 3 rfl rfl)
theorem dX8_sayFactor_6 : decode cX8_sayFactor 6 = .ok (.istore 4, 2) := dk_54 4 (dk_at dksX8_sayFactor_0 6 rfl rfl)
theorem dX8_sayFactor_8 : decode cX8_sayFactor 8 = .ok (.aload_n 0, 1) := dk_42 (dk_at dksX8_sayFactor_0 8 rfl rfl)
theorem dX8_sayFactor_9 : decode cX8_sayFactor 9 = .ok (.iload_n 1, 1) := dk_27 (dk_at dksX8_sayFactor_0 9 rfl rfl)
theorem dX8_sayFactor_10 : decode cX8_sayFactor 10 = .ok (.iload_n 2, 1) := dk_28 (dk_at dksX8_sayFactor_0 10 rfl rfl)
theorem dX8_sayFactor_11 : decode cX8_sayFactor 11 = .ok (.iload 4, 2) := dk_21 4 (dk_at dksX8_sayFactor_0 11 rfl rfl)
theorem dX8_sayFactor_13 : decode cX8_sayFactor 13 = .ok (.bipush 17, 2) := dk_16 17 (dk_at dksX8_sayFactor_0 13 rfl rfl)
theorem dX8_sayFactor_15 : decode cX8_sayFactor 15 = .ok (.if_icmp .eq 14, 3) := dk_159 0 14 (dk_at dksX8_sayFactor_0 15 rfl rfl)
theorem dX8_sayFactor_18 : decode cX8_sayFactor 18 = .ok (.iload_n 3, 1) := dk_29 (dk_at dksX8_sayFactor_0 18 rfl rfl)
theorem dX8_sayFactor_19 : decode cX8_sayFactor 19 = .ok (.ifCond .ne 14, 3) := dk_154 0 14 (dk_at dksX8_sayFactor_0 19 rfl rfl)
theorem dX8_sayFactor_22 : decode cX8_sayFactor 22 = .ok (.iload 4, 2) := dk_21 4 (dk_at dksX8_sayFactor_0 22 rfl rfl)
theorem dX8_sayFactor_24 : decode cX8_sayFactor 24 = .ok (.bipush 20, 2) := dk_16 20 (dk_at dksX8_sayFactor_1 0 rfl rfl)
theorem dX8_sayFactor_26 : decode cX8_sayFactor 26 = .ok (.if_icmp .ne 7, 3) := dk_160 0 7 (dk_at dksX8_sayFactor_1 2 rfl rfl)
theorem dX8_sayFactor_29 : decode cX8_sayFactor 29 = .ok (.iconst 1, 1) := dk_4 (dk_at dksX8_sayFactor_1 5 rfl rfl)
theorem dX8_sayFactor_30 : decode cX8_sayFactor 30 = .ok (.goto 4, 3) := dk_167 0 4 (dk_at dksX8_sayFactor_1 6 rfl rfl)
theorem dX8_sayFactor_33 : decode cX8_sayFactor 33 = .ok (.iconst 0, 1) := dk_3 (dk_at dksX8_sayFactor_1 9 rfl rfl)
theorem dX8_sayFactor_34 : decode cX8_sayFactor 34 = .ok (.bipush 40, 2) := dk_16 40 (dk_at dksX8_sayFactor_1 10 rfl rfl)
theorem dX8_sayFactor_36 : decode cX8_sayFactor 36 = .ok (.bipush 41, 2) := dk_16 41 (dk_at dksX8_sayFactor_1 12 rfl rfl)
theorem dX8_sayFactor_38 : decode cX8_sayFactor 38 = .ok (.invokevirtual 264, 3) := dk_182 1 8 (dk_at dksX8_sayFactor_1 14 rfl rfl)
theorem dX8_sayFactor_41 : decode cX8_sayFactor 41 = .ok (.return_, 1) := dk_177 (dk_at dksX8_sayFactor_1 17 rfl rfl)
abbrev cX8_inside : ByteArray := prog_10_method_52_code
def yX8_inside : MethodName := ⟨RX8, "inside", "(IIZII)V"⟩
def dkwX8_inside_1 : List UInt8 := [182, 0, 253, 177]
abbrev dktX8_inside_1 : List UInt8 := dkwX8_inside_1 ++ []
def dkwX8_inside_0 : List UInt8 := [29, 153, 0, 9, 42, 21, 4, 182, 0, 253, 42, 27, 28, 182, 1, 2, 29, 153, 0, 9, 42, 21, 5]
abbrev dktX8_inside_0 : List UInt8 := dkwX8_inside_0 ++ dktX8_inside_1
theorem dksX8_inside_0 : cX8_inside.data.toList.drop 0 = dktX8_inside_0 := by decide +kernel
theorem dksX8_inside_1 : cX8_inside.data.toList.drop 23 = dktX8_inside_1 := dk_seg dksX8_inside_0 23 rfl rfl
theorem dX8_inside_0 : decode cX8_inside 0 = .ok (.iload_n 3, 1) := dk_29 (dk_at dksX8_inside_0 0 rfl rfl)
theorem dX8_inside_1 : decode cX8_inside 1 = .ok (.ifCond .eq 9, 3) := dk_153 0 9 (dk_at dksX8_inside_0 1 rfl rfl)
theorem dX8_inside_4 : decode cX8_inside 4 = .ok (.aload_n 0, 1) := dk_42 (dk_at dksX8_inside_0 4 rfl rfl)
theorem dX8_inside_5 : decode cX8_inside 5 = .ok (.iload 4, 2) := dk_21 4 (dk_at dksX8_inside_0 5 rfl rfl)
theorem dX8_inside_7 : decode cX8_inside 7 = .ok (.invokevirtual 253, 3) := dk_182 0 253 (dk_at dksX8_inside_0 7 rfl rfl)
theorem dX8_inside_10 : decode cX8_inside 10 = .ok (.aload_n 0, 1) := dk_42 (dk_at dksX8_inside_0 10 rfl rfl)
theorem dX8_inside_11 : decode cX8_inside 11 = .ok (.iload_n 1, 1) := dk_27 (dk_at dksX8_inside_0 11 rfl rfl)
theorem dX8_inside_12 : decode cX8_inside 12 = .ok (.iload_n 2, 1) := dk_28 (dk_at dksX8_inside_0 12 rfl rfl)
theorem dX8_inside_13 : decode cX8_inside 13 = .ok (.invokevirtual 258, 3) := dk_182 1 2 (dk_at dksX8_inside_0 13 rfl rfl)
theorem dX8_inside_16 : decode cX8_inside 16 = .ok (.iload_n 3, 1) := dk_29 (dk_at dksX8_inside_0 16 rfl rfl)
theorem dX8_inside_17 : decode cX8_inside 17 = .ok (.ifCond .eq 9, 3) := dk_153 0 9 (dk_at dksX8_inside_0 17 rfl rfl)
theorem dX8_inside_20 : decode cX8_inside 20 = .ok (.aload_n 0, 1) := dk_42 (dk_at dksX8_inside_0 20 rfl rfl)
theorem dX8_inside_21 : decode cX8_inside 21 = .ok (.iload 5, 2) := dk_21 5 (dk_at dksX8_inside_0 21 rfl rfl)
theorem dX8_inside_23 : decode cX8_inside 23 = .ok (.invokevirtual 253, 3) := dk_182 0 253 (dk_at dksX8_inside_1 0 rfl rfl)
theorem dX8_inside_26 : decode cX8_inside 26 = .ok (.return_, 1) := dk_177 (dk_at dksX8_inside_1 3 rfl rfl)
abbrev cX8_sign : ByteArray := prog_10_method_56_code
def yX8_sign : MethodName := ⟨RX8, "sign", "(I)Ljava/lang/String;"⟩
def dkwX8_sign_5 : List UInt8 := [19, 1, 35, 176]
abbrev dktX8_sign_5 : List UInt8 := dkwX8_sign_5 ++ []
def dkwX8_sign_4 : List UInt8 := [27, 16, 30, 160, 0, 9, 19, 1, 31, 167, 0, 18, 27, 16, 31, 160, 0, 9, 19, 1, 33, 167, 0, 6]
abbrev dktX8_sign_4 : List UInt8 := dkwX8_sign_4 ++ dktX8_sign_5
def dkwX8_sign_3 : List UInt8 := [27, 16, 28, 160, 0, 9, 19, 1, 27, 167, 0, 42, 27, 16, 29, 160, 0, 9, 19, 1, 29, 167, 0, 30]
abbrev dktX8_sign_3 : List UInt8 := dkwX8_sign_3 ++ dktX8_sign_4
def dkwX8_sign_2 : List UInt8 := [27, 16, 23, 160, 0, 9, 19, 1, 23, 167, 0, 66, 27, 16, 27, 160, 0, 9, 19, 1, 25, 167, 0, 54]
abbrev dktX8_sign_2 : List UInt8 := dkwX8_sign_2 ++ dktX8_sign_3
def dkwX8_sign_1 : List UInt8 := [27, 16, 21, 160, 0, 9, 19, 1, 19, 167, 0, 90, 27, 16, 22, 160, 0, 9, 19, 1, 21, 167, 0, 78]
abbrev dktX8_sign_1 : List UInt8 := dkwX8_sign_1 ++ dktX8_sign_2
def dkwX8_sign_0 : List UInt8 := [27, 16, 18, 160, 0, 9, 19, 1, 15, 167, 0, 114, 27, 16, 19, 160, 0, 9, 19, 1, 17, 167, 0, 102]
abbrev dktX8_sign_0 : List UInt8 := dkwX8_sign_0 ++ dktX8_sign_1
theorem dksX8_sign_0 : cX8_sign.data.toList.drop 0 = dktX8_sign_0 := by decide +kernel
theorem dksX8_sign_1 : cX8_sign.data.toList.drop 24 = dktX8_sign_1 := dk_seg dksX8_sign_0 24 rfl rfl
theorem dksX8_sign_2 : cX8_sign.data.toList.drop 48 = dktX8_sign_2 := dk_seg dksX8_sign_1 24 rfl rfl
theorem dksX8_sign_3 : cX8_sign.data.toList.drop 72 = dktX8_sign_3 := dk_seg dksX8_sign_2 24 rfl rfl
theorem dksX8_sign_4 : cX8_sign.data.toList.drop 96 = dktX8_sign_4 := dk_seg dksX8_sign_3 24 rfl rfl
theorem dksX8_sign_5 : cX8_sign.data.toList.drop 120 = dktX8_sign_5 := dk_seg dksX8_sign_4 24 rfl rfl
theorem dX8_sign_0 : decode cX8_sign 0 = .ok (.iload_n 1, 1) := dk_27 (dk_at dksX8_sign_0 0 rfl rfl)
theorem dX8_sign_1 : decode cX8_sign 1 = .ok (.bipush 18, 2) := dk_16 18 (dk_at dksX8_sign_0 1 rfl rfl)
theorem dX8_sign_3 : decode cX8_sign 3 = .ok (.if_icmp .ne 9, 3) := dk_160 0 9 (dk_at dksX8_sign_0 3 rfl rfl)
theorem dX8_sign_6 : decode cX8_sign 6 = .ok (.ldc_w 271, 3) := dk_19 1 15 (dk_at dksX8_sign_0 6 rfl rfl)
theorem dX8_sign_9 : decode cX8_sign 9 = .ok (.goto 114, 3) := dk_167 0 114 (dk_at dksX8_sign_0 9 rfl rfl)
theorem dX8_sign_12 : decode cX8_sign 12 = .ok (.iload_n 1, 1) := dk_27 (dk_at dksX8_sign_0 12 rfl rfl)
theorem dX8_sign_13 : decode cX8_sign 13 = .ok (.bipush 19, 2) := dk_16 19 (dk_at dksX8_sign_0 13 rfl rfl)
theorem dX8_sign_15 : decode cX8_sign 15 = .ok (.if_icmp .ne 9, 3) := dk_160 0 9 (dk_at dksX8_sign_0 15 rfl rfl)
theorem dX8_sign_18 : decode cX8_sign 18 = .ok (.ldc_w 273, 3) := dk_19 1 17 (dk_at dksX8_sign_0 18 rfl rfl)
theorem dX8_sign_21 : decode cX8_sign 21 = .ok (.goto 102, 3) := dk_167 0 102 (dk_at dksX8_sign_0 21 rfl rfl)
theorem dX8_sign_24 : decode cX8_sign 24 = .ok (.iload_n 1, 1) := dk_27 (dk_at dksX8_sign_1 0 rfl rfl)
theorem dX8_sign_25 : decode cX8_sign 25 = .ok (.bipush 21, 2) := dk_16 21 (dk_at dksX8_sign_1 1 rfl rfl)
theorem dX8_sign_27 : decode cX8_sign 27 = .ok (.if_icmp .ne 9, 3) := dk_160 0 9 (dk_at dksX8_sign_1 3 rfl rfl)
theorem dX8_sign_30 : decode cX8_sign 30 = .ok (.ldc_w 275, 3) := dk_19 1 19 (dk_at dksX8_sign_1 6 rfl rfl)
theorem dX8_sign_33 : decode cX8_sign 33 = .ok (.goto 90, 3) := dk_167 0 90 (dk_at dksX8_sign_1 9 rfl rfl)
theorem dX8_sign_36 : decode cX8_sign 36 = .ok (.iload_n 1, 1) := dk_27 (dk_at dksX8_sign_1 12 rfl rfl)
theorem dX8_sign_37 : decode cX8_sign 37 = .ok (.bipush 22, 2) := dk_16 22 (dk_at dksX8_sign_1 13 rfl rfl)
theorem dX8_sign_39 : decode cX8_sign 39 = .ok (.if_icmp .ne 9, 3) := dk_160 0 9 (dk_at dksX8_sign_1 15 rfl rfl)
theorem dX8_sign_42 : decode cX8_sign 42 = .ok (.ldc_w 277, 3) := dk_19 1 21 (dk_at dksX8_sign_1 18 rfl rfl)
theorem dX8_sign_45 : decode cX8_sign 45 = .ok (.goto 78, 3) := dk_167 0 78 (dk_at dksX8_sign_1 21 rfl rfl)
theorem dX8_sign_48 : decode cX8_sign 48 = .ok (.iload_n 1, 1) := dk_27 (dk_at dksX8_sign_2 0 rfl rfl)
theorem dX8_sign_49 : decode cX8_sign 49 = .ok (.bipush 23, 2) := dk_16 23 (dk_at dksX8_sign_2 1 rfl rfl)
theorem dX8_sign_51 : decode cX8_sign 51 = .ok (.if_icmp .ne 9, 3) := dk_160 0 9 (dk_at dksX8_sign_2 3 rfl rfl)
theorem dX8_sign_54 : decode cX8_sign 54 = .ok (.ldc_w 279, 3) := dk_19 1 23 (dk_at dksX8_sign_2 6 rfl rfl)
theorem dX8_sign_57 : decode cX8_sign 57 = .ok (.goto 66, 3) := dk_167 0 66 (dk_at dksX8_sign_2 9 rfl rfl)
theorem dX8_sign_60 : decode cX8_sign 60 = .ok (.iload_n 1, 1) := dk_27 (dk_at dksX8_sign_2 12 rfl rfl)
theorem dX8_sign_61 : decode cX8_sign 61 = .ok (.bipush 27, 2) := dk_16 27 (dk_at dksX8_sign_2 13 rfl rfl)
theorem dX8_sign_63 : decode cX8_sign 63 = .ok (.if_icmp .ne 9, 3) := dk_160 0 9 (dk_at dksX8_sign_2 15 rfl rfl)
theorem dX8_sign_66 : decode cX8_sign 66 = .ok (.ldc_w 281, 3) := dk_19 1 25 (dk_at dksX8_sign_2 18 rfl rfl)
theorem dX8_sign_69 : decode cX8_sign 69 = .ok (.goto 54, 3) := dk_167 0 54 (dk_at dksX8_sign_2 21 rfl rfl)
theorem dX8_sign_72 : decode cX8_sign 72 = .ok (.iload_n 1, 1) := dk_27 (dk_at dksX8_sign_3 0 rfl rfl)
theorem dX8_sign_73 : decode cX8_sign 73 = .ok (.bipush 28, 2) := dk_16 28 (dk_at dksX8_sign_3 1 rfl rfl)
theorem dX8_sign_75 : decode cX8_sign 75 = .ok (.if_icmp .ne 9, 3) := dk_160 0 9 (dk_at dksX8_sign_3 3 rfl rfl)
theorem dX8_sign_78 : decode cX8_sign 78 = .ok (.ldc_w 283, 3) := dk_19 1 27 (dk_at dksX8_sign_3 6 rfl rfl)
theorem dX8_sign_81 : decode cX8_sign 81 = .ok (.goto 42, 3) := dk_167 0 42 (dk_at dksX8_sign_3 9 rfl rfl)
theorem dX8_sign_84 : decode cX8_sign 84 = .ok (.iload_n 1, 1) := dk_27 (dk_at dksX8_sign_3 12 rfl rfl)
theorem dX8_sign_85 : decode cX8_sign 85 = .ok (.bipush 29, 2) := dk_16 29 (dk_at dksX8_sign_3 13 rfl rfl)
theorem dX8_sign_87 : decode cX8_sign 87 = .ok (.if_icmp .ne 9, 3) := dk_160 0 9 (dk_at dksX8_sign_3 15 rfl rfl)
theorem dX8_sign_90 : decode cX8_sign 90 = .ok (.ldc_w 285, 3) := dk_19 1 29 (dk_at dksX8_sign_3 18 rfl rfl)
theorem dX8_sign_93 : decode cX8_sign 93 = .ok (.goto 30, 3) := dk_167 0 30 (dk_at dksX8_sign_3 21 rfl rfl)
theorem dX8_sign_96 : decode cX8_sign 96 = .ok (.iload_n 1, 1) := dk_27 (dk_at dksX8_sign_4 0 rfl rfl)
theorem dX8_sign_97 : decode cX8_sign 97 = .ok (.bipush 30, 2) := dk_16 30 (dk_at dksX8_sign_4 1 rfl rfl)
theorem dX8_sign_99 : decode cX8_sign 99 = .ok (.if_icmp .ne 9, 3) := dk_160 0 9 (dk_at dksX8_sign_4 3 rfl rfl)
theorem dX8_sign_102 : decode cX8_sign 102 = .ok (.ldc_w 287, 3) := dk_19 1 31 (dk_at dksX8_sign_4 6 rfl rfl)
theorem dX8_sign_105 : decode cX8_sign 105 = .ok (.goto 18, 3) := dk_167 0 18 (dk_at dksX8_sign_4 9 rfl rfl)
theorem dX8_sign_108 : decode cX8_sign 108 = .ok (.iload_n 1, 1) := dk_27 (dk_at dksX8_sign_4 12 rfl rfl)
theorem dX8_sign_109 : decode cX8_sign 109 = .ok (.bipush 31, 2) := dk_16 31 (dk_at dksX8_sign_4 13 rfl rfl)
theorem dX8_sign_111 : decode cX8_sign 111 = .ok (.if_icmp .ne 9, 3) := dk_160 0 9 (dk_at dksX8_sign_4 15 rfl rfl)
theorem dX8_sign_114 : decode cX8_sign 114 = .ok (.ldc_w 289, 3) := dk_19 1 33 (dk_at dksX8_sign_4 18 rfl rfl)
theorem dX8_sign_117 : decode cX8_sign 117 = .ok (.goto 6, 3) := dk_167 0 6 (dk_at dksX8_sign_4 21 rfl rfl)
theorem dX8_sign_120 : decode cX8_sign 120 = .ok (.ldc_w 291, 3) := dk_19 1 35 (dk_at dksX8_sign_5 0 rfl rfl)
theorem dX8_sign_123 : decode cX8_sign 123 = .ok (.areturn, 1) := dk_176 (dk_at dksX8_sign_5 3 rfl rfl)
abbrev cX8_sayTest : ByteArray := prog_10_method_54_code
def yX8_sayTest : MethodName := ⟨RX8, "sayTest", "(IIZ)V"⟩
def dkwX8_sayTest_1 : List UInt8 := [16, 25, 160, 0, 7, 4, 167, 0, 4, 3, 16, 91, 16, 93, 182, 1, 8, 177]
abbrev dktX8_sayTest_1 : List UInt8 := dkwX8_sayTest_1 ++ []
def dkwX8_sayTest_0 : List UInt8 := [42, 27, 28, 182, 1, 5, 54, 4, 42, 27, 28, 21, 4, 16, 24, 159, 0, 14, 29, 154, 0, 14, 21, 4]
abbrev dktX8_sayTest_0 : List UInt8 := dkwX8_sayTest_0 ++ dktX8_sayTest_1
theorem dksX8_sayTest_0 : cX8_sayTest.data.toList.drop 0 = dktX8_sayTest_0 := by decide +kernel
theorem dksX8_sayTest_1 : cX8_sayTest.data.toList.drop 24 = dktX8_sayTest_1 := dk_seg dksX8_sayTest_0 24 rfl rfl
theorem dX8_sayTest_0 : decode cX8_sayTest 0 = .ok (.aload_n 0, 1) := dk_42 (dk_at dksX8_sayTest_0 0 rfl rfl)
theorem dX8_sayTest_1 : decode cX8_sayTest 1 = .ok (.iload_n 1, 1) := dk_27 (dk_at dksX8_sayTest_0 1 rfl rfl)
theorem dX8_sayTest_2 : decode cX8_sayTest 2 = .ok (.iload_n 2, 1) := dk_28 (dk_at dksX8_sayTest_0 2 rfl rfl)
theorem dX8_sayTest_3 : decode cX8_sayTest 3 = .ok (.invokevirtual 261, 3) := dk_182 1 5 (dk_at dksX8_sayTest_0 3 rfl rfl)
theorem dX8_sayTest_6 : decode cX8_sayTest 6 = .ok (.istore 4, 2) := dk_54 4 (dk_at dksX8_sayTest_0 6 rfl rfl)
theorem dX8_sayTest_8 : decode cX8_sayTest 8 = .ok (.aload_n 0, 1) := dk_42 (dk_at dksX8_sayTest_0 8 rfl rfl)
theorem dX8_sayTest_9 : decode cX8_sayTest 9 = .ok (.iload_n 1, 1) := dk_27 (dk_at dksX8_sayTest_0 9 rfl rfl)
theorem dX8_sayTest_10 : decode cX8_sayTest 10 = .ok (.iload_n 2, 1) := dk_28 (dk_at dksX8_sayTest_0 10 rfl rfl)
theorem dX8_sayTest_11 : decode cX8_sayTest 11 = .ok (.iload 4, 2) := dk_21 4 (dk_at dksX8_sayTest_0 11 rfl rfl)
theorem dX8_sayTest_13 : decode cX8_sayTest 13 = .ok (.bipush 24, 2) := dk_16 24 (dk_at dksX8_sayTest_0 13 rfl rfl)
theorem dX8_sayTest_15 : decode cX8_sayTest 15 = .ok (.if_icmp .eq 14, 3) := dk_159 0 14 (dk_at dksX8_sayTest_0 15 rfl rfl)
theorem dX8_sayTest_18 : decode cX8_sayTest 18 = .ok (.iload_n 3, 1) := dk_29 (dk_at dksX8_sayTest_0 18 rfl rfl)
theorem dX8_sayTest_19 : decode cX8_sayTest 19 = .ok (.ifCond .ne 14, 3) := dk_154 0 14 (dk_at dksX8_sayTest_0 19 rfl rfl)
theorem dX8_sayTest_22 : decode cX8_sayTest 22 = .ok (.iload 4, 2) := dk_21 4 (dk_at dksX8_sayTest_0 22 rfl rfl)
theorem dX8_sayTest_24 : decode cX8_sayTest 24 = .ok (.bipush 25, 2) := dk_16 25 (dk_at dksX8_sayTest_1 0 rfl rfl)
theorem dX8_sayTest_26 : decode cX8_sayTest 26 = .ok (.if_icmp .ne 7, 3) := dk_160 0 7 (dk_at dksX8_sayTest_1 2 rfl rfl)
theorem dX8_sayTest_29 : decode cX8_sayTest 29 = .ok (.iconst 1, 1) := dk_4 (dk_at dksX8_sayTest_1 5 rfl rfl)
theorem dX8_sayTest_30 : decode cX8_sayTest 30 = .ok (.goto 4, 3) := dk_167 0 4 (dk_at dksX8_sayTest_1 6 rfl rfl)
theorem dX8_sayTest_33 : decode cX8_sayTest 33 = .ok (.iconst 0, 1) := dk_3 (dk_at dksX8_sayTest_1 9 rfl rfl)
theorem dX8_sayTest_34 : decode cX8_sayTest 34 = .ok (.bipush 91, 2) := dk_16 91 (dk_at dksX8_sayTest_1 10 rfl rfl)
theorem dX8_sayTest_36 : decode cX8_sayTest 36 = .ok (.bipush 93, 2) := dk_16 93 (dk_at dksX8_sayTest_1 12 rfl rfl)
theorem dX8_sayTest_38 : decode cX8_sayTest 38 = .ok (.invokevirtual 264, 3) := dk_182 1 8 (dk_at dksX8_sayTest_1 14 rfl rfl)
theorem dX8_sayTest_41 : decode cX8_sayTest 41 = .ok (.return_, 1) := dk_177 (dk_at dksX8_sayTest_1 17 rfl rfl)
abbrev cX8_written : ByteArray := prog_10_method_60_code
def yX8_written : MethodName := ⟨RX8, "written", "(I)I"⟩
def dkwX8_written_0 : List UInt8 := [27, 155, 0, 11, 27, 42, 180, 1, 69, 161, 0, 7, 2, 167, 0, 9, 42, 180, 0, 13, 27, 46, 172]
abbrev dktX8_written_0 : List UInt8 := dkwX8_written_0 ++ []
theorem dksX8_written_0 : cX8_written.data.toList.drop 0 = dktX8_written_0 := by decide +kernel
theorem dX8_written_0 : decode cX8_written 0 = .ok (.iload_n 1, 1) := dk_27 (dk_at dksX8_written_0 0 rfl rfl)
theorem dX8_written_1 : decode cX8_written 1 = .ok (.ifCond .lt 11, 3) := dk_155 0 11 (dk_at dksX8_written_0 1 rfl rfl)
theorem dX8_written_4 : decode cX8_written 4 = .ok (.iload_n 1, 1) := dk_27 (dk_at dksX8_written_0 4 rfl rfl)
theorem dX8_written_5 : decode cX8_written 5 = .ok (.aload_n 0, 1) := dk_42 (dk_at dksX8_written_0 5 rfl rfl)
theorem dX8_written_6 : decode cX8_written 6 = .ok (.getfield 325, 3) := dk_180 1 69 (dk_at dksX8_written_0 6 rfl rfl)
theorem dX8_written_9 : decode cX8_written 9 = .ok (.if_icmp .lt 7, 3) := dk_161 0 7 (dk_at dksX8_written_0 9 rfl rfl)
theorem dX8_written_12 : decode cX8_written 12 = .ok (.iconst (-1), 1) := dk_2 (dk_at dksX8_written_0 12 rfl rfl)
theorem dX8_written_13 : decode cX8_written 13 = .ok (.goto 9, 3) := dk_167 0 9 (dk_at dksX8_written_0 13 rfl rfl)
theorem dX8_written_16 : decode cX8_written 16 = .ok (.aload_n 0, 1) := dk_42 (dk_at dksX8_written_0 16 rfl rfl)
theorem dX8_written_17 : decode cX8_written 17 = .ok (.getfield 13, 3) := dk_180 0 13 (dk_at dksX8_written_0 17 rfl rfl)
theorem dX8_written_20 : decode cX8_written 20 = .ok (.iload_n 1, 1) := dk_27 (dk_at dksX8_written_0 20 rfl rfl)
theorem dX8_written_21 : decode cX8_written 21 = .ok (.iaload, 1) := dk_46 (dk_at dksX8_written_0 21 rfl rfl)
theorem dX8_written_22 : decode cX8_written 22 = .ok (.ireturn, 1) := dk_172 (dk_at dksX8_written_0 22 rfl rfl)
abbrev cX8_again : ByteArray := prog_10_method_61_code
def yX8_again : MethodName := ⟨RX8, "again", "()I"⟩
def dkwX8_again_1 : List UInt8 := [180, 0, 13, 27, 46, 79, 132, 1, 1, 167, 255, 233, 42, 180, 0, 107, 172]
abbrev dktX8_again_1 : List UInt8 := dkwX8_again_1 ++ []
def dkwX8_again_0 : List UInt8 := [42, 42, 180, 1, 69, 181, 0, 107, 3, 60, 27, 42, 180, 0, 107, 162, 0, 21, 42, 180, 0, 9, 27, 42]
abbrev dktX8_again_0 : List UInt8 := dkwX8_again_0 ++ dktX8_again_1
theorem dksX8_again_0 : cX8_again.data.toList.drop 0 = dktX8_again_0 := by decide +kernel
theorem dksX8_again_1 : cX8_again.data.toList.drop 24 = dktX8_again_1 := dk_seg dksX8_again_0 24 rfl rfl
theorem dX8_again_0 : decode cX8_again 0 = .ok (.aload_n 0, 1) := dk_42 (dk_at dksX8_again_0 0 rfl rfl)
theorem dX8_again_1 : decode cX8_again 1 = .ok (.aload_n 0, 1) := dk_42 (dk_at dksX8_again_0 1 rfl rfl)
theorem dX8_again_2 : decode cX8_again 2 = .ok (.getfield 325, 3) := dk_180 1 69 (dk_at dksX8_again_0 2 rfl rfl)
theorem dX8_again_5 : decode cX8_again 5 = .ok (.putfield 107, 3) := dk_181 0 107 (dk_at dksX8_again_0 5 rfl rfl)
theorem dX8_again_8 : decode cX8_again 8 = .ok (.iconst 0, 1) := dk_3 (dk_at dksX8_again_0 8 rfl rfl)
theorem dX8_again_9 : decode cX8_again 9 = .ok (.istore_n 1, 1) := dk_60 (dk_at dksX8_again_0 9 rfl rfl)
theorem dX8_again_10 : decode cX8_again 10 = .ok (.iload_n 1, 1) := dk_27 (dk_at dksX8_again_0 10 rfl rfl)
theorem dX8_again_11 : decode cX8_again 11 = .ok (.aload_n 0, 1) := dk_42 (dk_at dksX8_again_0 11 rfl rfl)
theorem dX8_again_12 : decode cX8_again 12 = .ok (.getfield 107, 3) := dk_180 0 107 (dk_at dksX8_again_0 12 rfl rfl)
theorem dX8_again_15 : decode cX8_again 15 = .ok (.if_icmp .ge 21, 3) := dk_162 0 21 (dk_at dksX8_again_0 15 rfl rfl)
theorem dX8_again_18 : decode cX8_again 18 = .ok (.aload_n 0, 1) := dk_42 (dk_at dksX8_again_0 18 rfl rfl)
theorem dX8_again_19 : decode cX8_again 19 = .ok (.getfield 9, 3) := dk_180 0 9 (dk_at dksX8_again_0 19 rfl rfl)
theorem dX8_again_22 : decode cX8_again 22 = .ok (.iload_n 1, 1) := dk_27 (dk_at dksX8_again_0 22 rfl rfl)
theorem dX8_again_23 : decode cX8_again 23 = .ok (.aload_n 0, 1) := dk_42 (dk_at dksX8_again_0 23 rfl rfl)
theorem dX8_again_24 : decode cX8_again 24 = .ok (.getfield 13, 3) := dk_180 0 13 (dk_at dksX8_again_1 0 rfl rfl)
theorem dX8_again_27 : decode cX8_again 27 = .ok (.iload_n 1, 1) := dk_27 (dk_at dksX8_again_1 3 rfl rfl)
theorem dX8_again_28 : decode cX8_again 28 = .ok (.iaload, 1) := dk_46 (dk_at dksX8_again_1 4 rfl rfl)
theorem dX8_again_29 : decode cX8_again 29 = .ok (.iastore, 1) := dk_79 (dk_at dksX8_again_1 5 rfl rfl)
theorem dX8_again_30 : decode cX8_again 30 = .ok (.iinc 1 1, 3) := dk_132 1 1 (dk_at dksX8_again_1 6 rfl rfl)
theorem dX8_again_33 : decode cX8_again 33 = .ok (.goto (-23), 3) := dk_167 255 233 (dk_at dksX8_again_1 9 rfl rfl)
theorem dX8_again_36 : decode cX8_again 36 = .ok (.aload_n 0, 1) := dk_42 (dk_at dksX8_again_1 12 rfl rfl)
theorem dX8_again_37 : decode cX8_again 37 = .ok (.getfield 107, 3) := dk_180 0 107 (dk_at dksX8_again_1 13 rfl rfl)
theorem dX8_again_40 : decode cX8_again 40 = .ok (.ireturn, 1) := dk_172 (dk_at dksX8_again_1 16 rfl rfl)
theorem q105 : (Jvm.Cond.initialized "ProgramReaderModel") ∈ lw_all := lw_g (lw_at lw_m1 11 rfl) rfl
theorem q890 : (Jvm.Cond.instantiable "ProgramReaderModel" (32 : Nat)) ∈ lw_all := lw_g (lw_at lw_m4 76 rfl) rfl
theorem q892 : (Jvm.Cond.instanceMethod ({ cls := "ProgramReaderModel", name := "<init>", desc := "()V" } : Jvm.MethodName)) ∈ lw_all := lw_g (lw_at lw_m4 78 rfl) rfl
theorem q893 : (Jvm.Cond.code ({ cls := "ProgramReaderModel", name := "<init>", desc := "()V" } : Jvm.MethodName) prog_10_method_1_code (1 : Nat) (Option.none : Option Jvm.ClassFile.FieldType)) ∈ lw_all := lw_g (lw_at lw_m4 79 rfl) rfl
theorem q894 : (Jvm.Cond.methodLink "ProgramReaderModel" (1 : Nat) ({ cls := "java/lang/Object", name := "<init>", desc := "()V" } : Jvm.MethodName)) ∈ lw_all := lw_g (lw_at lw_m4 80 rfl) rfl
theorem q895 : (Jvm.Cond.classLink "ProgramReaderModel" (77 : Nat) "java/lang/String") ∈ lw_all := lw_g (lw_at lw_m4 81 rfl) rfl
theorem q897 : (Jvm.Cond.stringRef "ProgramReaderModel" (79 : Nat) "fun") ∈ lw_tbl := lw_at lw_m4 83 rfl
theorem q898 : (Jvm.Cond.stringRef "ProgramReaderModel" (81 : Nat) "var") ∈ lw_tbl := lw_at lw_m4 84 rfl
theorem q899 : (Jvm.Cond.stringRef "ProgramReaderModel" (83 : Nat) "if") ∈ lw_tbl := lw_at lw_m4 85 rfl
theorem q900 : (Jvm.Cond.stringRef "ProgramReaderModel" (85 : Nat) "else") ∈ lw_tbl := lw_at lw_m4 86 rfl
theorem q901 : (Jvm.Cond.stringRef "ProgramReaderModel" (87 : Nat) "while") ∈ lw_tbl := lw_at lw_m4 87 rfl
theorem q902 : (Jvm.Cond.stringRef "ProgramReaderModel" (89 : Nat) "assert") ∈ lw_tbl := lw_at lw_m4 88 rfl
theorem q903 : (Jvm.Cond.stringRef "ProgramReaderModel" (91 : Nat) "return") ∈ lw_tbl := lw_at lw_m4 89 rfl
theorem q904 : (Jvm.Cond.stringRef "ProgramReaderModel" (93 : Nat) "any") ∈ lw_tbl := lw_at lw_m4 90 rfl
theorem q905 : (Jvm.Cond.methodLink "ProgramReaderModel" (99 : Nat) ({ cls := "ProgramReaderModel", name := "clear", desc := "(I)V" } : Jvm.MethodName)) ∈ lw_all := lw_g (lw_at lw_m4 91 rfl) rfl
theorem q906 : (Jvm.Cond.privateMethod ({ cls := "ProgramReaderModel", name := "clear", desc := "(I)V" } : Jvm.MethodName)) ∈ lw_tbl := lw_at lw_m4 92 rfl
theorem q907 : (Jvm.Cond.instanceMethod ({ cls := "ProgramReaderModel", name := "clear", desc := "(I)V" } : Jvm.MethodName)) ∈ lw_all := lw_g (lw_at lw_m4 93 rfl) rfl
theorem q908 : (Jvm.Cond.code ({ cls := "ProgramReaderModel", name := "clear", desc := "(I)V" } : Jvm.MethodName) prog_10_method_2_code (2 : Nat) (Option.none : Option Jvm.ClassFile.FieldType)) ∈ lw_all := lw_g (lw_at lw_m4 94 rfl) rfl
theorem q909 : (Jvm.Cond.methodLink "ProgramReaderModel" (103 : Nat) ({ cls := "ProgramReaderModel", name := "add", desc := "(IIIII)I" } : Jvm.MethodName)) ∈ lw_all := lw_g (lw_at lw_m4 95 rfl) rfl
theorem q910 : (Jvm.Cond.privateMethod ({ cls := "ProgramReaderModel", name := "add", desc := "(IIIII)I" } : Jvm.MethodName)) ∈ lw_tbl := lw_at lw_m4 96 rfl
theorem q911 : (Jvm.Cond.instanceMethod ({ cls := "ProgramReaderModel", name := "add", desc := "(IIIII)I" } : Jvm.MethodName)) ∈ lw_all := lw_g (lw_at lw_m4 97 rfl) rfl
theorem q912 : (Jvm.Cond.code ({ cls := "ProgramReaderModel", name := "add", desc := "(IIIII)I" } : Jvm.MethodName) prog_10_method_3_code (8 : Nat) (Option.some Jvm.ClassFile.FieldType.int)) ∈ lw_all := lw_g (lw_at lw_m4 98 rfl) rfl
theorem q913 : (Jvm.Cond.fieldLink "ProgramReaderModel" (95 : Nat) "ProgramReaderModel" "words" "[Ljava/lang/String;") ∈ lw_all := lw_g (lw_at lw_m4 99 rfl) rfl
theorem q914 : (Jvm.Cond.fieldLink "ProgramReaderModel" (9 : Nat) "ProgramReaderModel" "bytes" "[I") ∈ lw_all := lw_g (lw_at lw_m4 100 rfl) rfl
theorem q915 : (Jvm.Cond.fieldLink "ProgramReaderModel" (107 : Nat) "ProgramReaderModel" "size" "I") ∈ lw_all := lw_g (lw_at lw_m4 101 rfl) rfl
theorem q916 : (Jvm.Cond.fieldLink "ProgramReaderModel" (110 : Nat) "ProgramReaderModel" "end" "I") ∈ lw_all := lw_g (lw_at lw_m4 102 rfl) rfl
theorem q917 : (Jvm.Cond.fieldLink "ProgramReaderModel" (13 : Nat) "ProgramReaderModel" "written" "[I") ∈ lw_all := lw_g (lw_at lw_m4 103 rfl) rfl
theorem q918 : (Jvm.Cond.fieldLink "ProgramReaderModel" (325 : Nat) "ProgramReaderModel" "writtenSize" "I") ∈ lw_all := lw_g (lw_at lw_m4 104 rfl) rfl
theorem q919 : (Jvm.Cond.fieldLink "ProgramReaderModel" (16 : Nat) "ProgramReaderModel" "out" "[I") ∈ lw_all := lw_g (lw_at lw_m4 105 rfl) rfl
theorem q920 : (Jvm.Cond.fieldLink "ProgramReaderModel" (244 : Nat) "ProgramReaderModel" "outSize" "I") ∈ lw_all := lw_g (lw_at lw_m4 106 rfl) rfl
theorem q921 : (Jvm.Cond.fieldLink "ProgramReaderModel" (19 : Nat) "ProgramReaderModel" "token" "[I") ∈ lw_all := lw_g (lw_at lw_m4 107 rfl) rfl
theorem q922 : (Jvm.Cond.fieldLink "ProgramReaderModel" (22 : Nat) "ProgramReaderModel" "place" "[I") ∈ lw_all := lw_g (lw_at lw_m4 108 rfl) rfl
theorem q923 : (Jvm.Cond.fieldLink "ProgramReaderModel" (25 : Nat) "ProgramReaderModel" "length" "[I") ∈ lw_all := lw_g (lw_at lw_m4 109 rfl) rfl
theorem q924 : (Jvm.Cond.fieldLink "ProgramReaderModel" (140 : Nat) "ProgramReaderModel" "tokens" "I") ∈ lw_all := lw_g (lw_at lw_m4 110 rfl) rfl
theorem q925 : (Jvm.Cond.fieldLink "ProgramReaderModel" (159 : Nat) "ProgramReaderModel" "at" "I") ∈ lw_all := lw_g (lw_at lw_m4 111 rfl) rfl
theorem q926 : (Jvm.Cond.fieldLink "ProgramReaderModel" (155 : Nat) "ProgramReaderModel" "bad" "Z") ∈ lw_all := lw_g (lw_at lw_m4 112 rfl) rfl
theorem q927 : (Jvm.Cond.fieldLink "ProgramReaderModel" (28 : Nat) "ProgramReaderModel" "fault" "I") ∈ lw_all := lw_g (lw_at lw_m4 113 rfl) rfl
theorem q928 : (Jvm.Cond.fieldLink "ProgramReaderModel" (32 : Nat) "ProgramReaderModel" "kindOf" "[I") ∈ lw_all := lw_g (lw_at lw_m4 114 rfl) rfl
theorem q929 : (Jvm.Cond.fieldLink "ProgramReaderModel" (35 : Nat) "ProgramReaderModel" "placeOf" "[I") ∈ lw_all := lw_g (lw_at lw_m4 115 rfl) rfl
theorem q930 : (Jvm.Cond.fieldLink "ProgramReaderModel" (38 : Nat) "ProgramReaderModel" "valueOf" "[I") ∈ lw_all := lw_g (lw_at lw_m4 116 rfl) rfl
theorem q931 : (Jvm.Cond.fieldLink "ProgramReaderModel" (41 : Nat) "ProgramReaderModel" "firstOf" "[I") ∈ lw_all := lw_g (lw_at lw_m4 117 rfl) rfl
theorem q932 : (Jvm.Cond.fieldLink "ProgramReaderModel" (44 : Nat) "ProgramReaderModel" "lastOf" "[I") ∈ lw_all := lw_g (lw_at lw_m4 118 rfl) rfl
theorem q933 : (Jvm.Cond.fieldLink "ProgramReaderModel" (47 : Nat) "ProgramReaderModel" "nextOf" "[I") ∈ lw_all := lw_g (lw_at lw_m4 119 rfl) rfl
theorem q934 : (Jvm.Cond.fieldLink "ProgramReaderModel" (169 : Nat) "ProgramReaderModel" "drafts" "I") ∈ lw_all := lw_g (lw_at lw_m4 120 rfl) rfl
theorem q935 : (Jvm.Cond.fieldLink "ProgramReaderModel" (50 : Nat) "ProgramReaderModel" "pile" "[I") ∈ lw_all := lw_g (lw_at lw_m4 121 rfl) rfl
theorem q936 : (Jvm.Cond.fieldLink "ProgramReaderModel" (53 : Nat) "ProgramReaderModel" "kind" "[I") ∈ lw_all := lw_g (lw_at lw_m4 122 rfl) rfl
theorem q937 : (Jvm.Cond.fieldLink "ProgramReaderModel" (56 : Nat) "ProgramReaderModel" "where" "[I") ∈ lw_all := lw_g (lw_at lw_m4 123 rfl) rfl
theorem q938 : (Jvm.Cond.fieldLink "ProgramReaderModel" (59 : Nat) "ProgramReaderModel" "value" "[I") ∈ lw_all := lw_g (lw_at lw_m4 124 rfl) rfl
theorem q939 : (Jvm.Cond.fieldLink "ProgramReaderModel" (62 : Nat) "ProgramReaderModel" "whole" "[I") ∈ lw_all := lw_g (lw_at lw_m4 125 rfl) rfl
theorem q940 : (Jvm.Cond.fieldLink "ProgramReaderModel" (65 : Nat) "ProgramReaderModel" "sizes" "[I") ∈ lw_all := lw_g (lw_at lw_m4 126 rfl) rfl
theorem q941 : (Jvm.Cond.fieldLink "ProgramReaderModel" (68 : Nat) "ProgramReaderModel" "count" "[I") ∈ lw_all := lw_g (lw_at lw_m4 127 rfl) rfl
theorem q942 : (Jvm.Cond.fieldLink "ProgramReaderModel" (71 : Nat) "ProgramReaderModel" "letters" "[I") ∈ lw_all := lw_g (lw_at lw_m4 128 rfl) rfl
theorem q943 : (Jvm.Cond.fieldLink "ProgramReaderModel" (74 : Nat) "ProgramReaderModel" "starts" "[I") ∈ lw_all := lw_g (lw_at lw_m4 129 rfl) rfl
theorem q944 : (Jvm.Cond.fieldLink "ProgramReaderModel" (223 : Nat) "ProgramReaderModel" "names" "I") ∈ lw_all := lw_g (lw_at lw_m4 130 rfl) rfl
theorem q945 : (Jvm.Cond.laysFinal "ProgramReaderModel" "ProgramReaderModel" "words" "[Ljava/lang/String;") ∈ lw_all := lw_g (lw_at lw_m4 131 rfl) rfl
theorem q946 : (Jvm.Cond.soleField "ProgramReaderModel" "words") ∈ lw_all := lw_g (lw_at lw_m4 132 rfl) rfl
theorem q947 : (Jvm.Cond.laysFinal "ProgramReaderModel" "ProgramReaderModel" "bytes" "[I") ∈ lw_all := lw_g (lw_at lw_m4 133 rfl) rfl
theorem q948 : (Jvm.Cond.soleField "ProgramReaderModel" "bytes") ∈ lw_all := lw_g (lw_at lw_m4 134 rfl) rfl
theorem q949 : (Jvm.Cond.lays "ProgramReaderModel" "ProgramReaderModel" "size" "I") ∈ lw_all := lw_g (lw_at lw_m4 135 rfl) rfl
theorem q950 : (Jvm.Cond.soleField "ProgramReaderModel" "size") ∈ lw_all := lw_g (lw_at lw_m4 136 rfl) rfl
theorem q951 : (Jvm.Cond.lays "ProgramReaderModel" "ProgramReaderModel" "end" "I") ∈ lw_all := lw_g (lw_at lw_m4 137 rfl) rfl
theorem q952 : (Jvm.Cond.soleField "ProgramReaderModel" "end") ∈ lw_all := lw_g (lw_at lw_m4 138 rfl) rfl
theorem q953 : (Jvm.Cond.laysFinal "ProgramReaderModel" "ProgramReaderModel" "written" "[I") ∈ lw_all := lw_g (lw_at lw_m4 139 rfl) rfl
theorem q954 : (Jvm.Cond.soleField "ProgramReaderModel" "written") ∈ lw_all := lw_g (lw_at lw_m4 140 rfl) rfl
theorem q955 : (Jvm.Cond.lays "ProgramReaderModel" "ProgramReaderModel" "writtenSize" "I") ∈ lw_all := lw_g (lw_at lw_m4 141 rfl) rfl
theorem q956 : (Jvm.Cond.soleField "ProgramReaderModel" "writtenSize") ∈ lw_all := lw_g (lw_at lw_m4 142 rfl) rfl
theorem q957 : (Jvm.Cond.laysFinal "ProgramReaderModel" "ProgramReaderModel" "out" "[I") ∈ lw_all := lw_g (lw_at lw_m4 143 rfl) rfl
theorem q958 : (Jvm.Cond.soleField "ProgramReaderModel" "out") ∈ lw_all := lw_g (lw_at lw_m4 144 rfl) rfl
theorem q959 : (Jvm.Cond.lays "ProgramReaderModel" "ProgramReaderModel" "outSize" "I") ∈ lw_all := lw_g (lw_at lw_m4 145 rfl) rfl
theorem q960 : (Jvm.Cond.soleField "ProgramReaderModel" "outSize") ∈ lw_all := lw_g (lw_at lw_m4 146 rfl) rfl
theorem q961 : (Jvm.Cond.laysFinal "ProgramReaderModel" "ProgramReaderModel" "token" "[I") ∈ lw_all := lw_g (lw_at lw_m4 147 rfl) rfl
theorem q962 : (Jvm.Cond.soleField "ProgramReaderModel" "token") ∈ lw_all := lw_g (lw_at lw_m4 148 rfl) rfl
theorem q963 : (Jvm.Cond.laysFinal "ProgramReaderModel" "ProgramReaderModel" "place" "[I") ∈ lw_all := lw_g (lw_at lw_m4 149 rfl) rfl
theorem q964 : (Jvm.Cond.soleField "ProgramReaderModel" "place") ∈ lw_all := lw_g (lw_at lw_m4 150 rfl) rfl
theorem q965 : (Jvm.Cond.laysFinal "ProgramReaderModel" "ProgramReaderModel" "length" "[I") ∈ lw_all := lw_g (lw_at lw_m4 151 rfl) rfl
theorem q966 : (Jvm.Cond.soleField "ProgramReaderModel" "length") ∈ lw_all := lw_g (lw_at lw_m4 152 rfl) rfl
theorem q967 : (Jvm.Cond.lays "ProgramReaderModel" "ProgramReaderModel" "tokens" "I") ∈ lw_all := lw_g (lw_at lw_m4 153 rfl) rfl
theorem q968 : (Jvm.Cond.soleField "ProgramReaderModel" "tokens") ∈ lw_all := lw_g (lw_at lw_m4 154 rfl) rfl
theorem q969 : (Jvm.Cond.lays "ProgramReaderModel" "ProgramReaderModel" "at" "I") ∈ lw_all := lw_g (lw_at lw_m4 155 rfl) rfl
theorem q970 : (Jvm.Cond.soleField "ProgramReaderModel" "at") ∈ lw_all := lw_g (lw_at lw_m4 156 rfl) rfl
theorem q971 : (Jvm.Cond.lays "ProgramReaderModel" "ProgramReaderModel" "bad" "Z") ∈ lw_all := lw_g (lw_at lw_m4 157 rfl) rfl
theorem q972 : (Jvm.Cond.soleField "ProgramReaderModel" "bad") ∈ lw_all := lw_g (lw_at lw_m4 158 rfl) rfl
theorem q973 : (Jvm.Cond.lays "ProgramReaderModel" "ProgramReaderModel" "fault" "I") ∈ lw_all := lw_g (lw_at lw_m4 159 rfl) rfl
theorem q974 : (Jvm.Cond.soleField "ProgramReaderModel" "fault") ∈ lw_all := lw_g (lw_at lw_m4 160 rfl) rfl
theorem q975 : (Jvm.Cond.laysFinal "ProgramReaderModel" "ProgramReaderModel" "kindOf" "[I") ∈ lw_all := lw_g (lw_at lw_m4 161 rfl) rfl
theorem q976 : (Jvm.Cond.soleField "ProgramReaderModel" "kindOf") ∈ lw_all := lw_g (lw_at lw_m4 162 rfl) rfl
theorem q977 : (Jvm.Cond.laysFinal "ProgramReaderModel" "ProgramReaderModel" "placeOf" "[I") ∈ lw_all := lw_g (lw_at lw_m4 163 rfl) rfl
theorem q978 : (Jvm.Cond.soleField "ProgramReaderModel" "placeOf") ∈ lw_all := lw_g (lw_at lw_m4 164 rfl) rfl
theorem q979 : (Jvm.Cond.laysFinal "ProgramReaderModel" "ProgramReaderModel" "valueOf" "[I") ∈ lw_all := lw_g (lw_at lw_m4 165 rfl) rfl
theorem q980 : (Jvm.Cond.soleField "ProgramReaderModel" "valueOf") ∈ lw_all := lw_g (lw_at lw_m4 166 rfl) rfl
theorem q981 : (Jvm.Cond.laysFinal "ProgramReaderModel" "ProgramReaderModel" "firstOf" "[I") ∈ lw_all := lw_g (lw_at lw_m4 167 rfl) rfl
theorem q982 : (Jvm.Cond.soleField "ProgramReaderModel" "firstOf") ∈ lw_all := lw_g (lw_at lw_m4 168 rfl) rfl
theorem q983 : (Jvm.Cond.laysFinal "ProgramReaderModel" "ProgramReaderModel" "lastOf" "[I") ∈ lw_all := lw_g (lw_at lw_m4 169 rfl) rfl
theorem q984 : (Jvm.Cond.soleField "ProgramReaderModel" "lastOf") ∈ lw_all := lw_g (lw_at lw_m4 170 rfl) rfl
theorem q985 : (Jvm.Cond.laysFinal "ProgramReaderModel" "ProgramReaderModel" "nextOf" "[I") ∈ lw_all := lw_g (lw_at lw_m4 171 rfl) rfl
theorem q986 : (Jvm.Cond.soleField "ProgramReaderModel" "nextOf") ∈ lw_all := lw_g (lw_at lw_m4 172 rfl) rfl
theorem q987 : (Jvm.Cond.lays "ProgramReaderModel" "ProgramReaderModel" "drafts" "I") ∈ lw_all := lw_g (lw_at lw_m4 173 rfl) rfl
theorem q988 : (Jvm.Cond.soleField "ProgramReaderModel" "drafts") ∈ lw_all := lw_g (lw_at lw_m4 174 rfl) rfl
theorem q989 : (Jvm.Cond.laysFinal "ProgramReaderModel" "ProgramReaderModel" "pile" "[I") ∈ lw_all := lw_g (lw_at lw_m4 175 rfl) rfl
theorem q990 : (Jvm.Cond.soleField "ProgramReaderModel" "pile") ∈ lw_all := lw_g (lw_at lw_m4 176 rfl) rfl
theorem q991 : (Jvm.Cond.laysFinal "ProgramReaderModel" "ProgramReaderModel" "kind" "[I") ∈ lw_all := lw_g (lw_at lw_m4 177 rfl) rfl
theorem q992 : (Jvm.Cond.soleField "ProgramReaderModel" "kind") ∈ lw_all := lw_g (lw_at lw_m4 178 rfl) rfl
theorem q993 : (Jvm.Cond.laysFinal "ProgramReaderModel" "ProgramReaderModel" "where" "[I") ∈ lw_all := lw_g (lw_at lw_m4 179 rfl) rfl
theorem q994 : (Jvm.Cond.soleField "ProgramReaderModel" "where") ∈ lw_all := lw_g (lw_at lw_m4 180 rfl) rfl
theorem q995 : (Jvm.Cond.laysFinal "ProgramReaderModel" "ProgramReaderModel" "value" "[I") ∈ lw_all := lw_g (lw_at lw_m4 181 rfl) rfl
theorem q996 : (Jvm.Cond.soleField "ProgramReaderModel" "value") ∈ lw_all := lw_g (lw_at lw_m4 182 rfl) rfl
theorem q997 : (Jvm.Cond.laysFinal "ProgramReaderModel" "ProgramReaderModel" "whole" "[I") ∈ lw_all := lw_g (lw_at lw_m4 183 rfl) rfl
theorem q998 : (Jvm.Cond.soleField "ProgramReaderModel" "whole") ∈ lw_all := lw_g (lw_at lw_m4 184 rfl) rfl
theorem q999 : (Jvm.Cond.laysFinal "ProgramReaderModel" "ProgramReaderModel" "sizes" "[I") ∈ lw_all := lw_g (lw_at lw_m4 185 rfl) rfl
theorem q1000 : (Jvm.Cond.soleField "ProgramReaderModel" "sizes") ∈ lw_all := lw_g (lw_at lw_m4 186 rfl) rfl
theorem q1001 : (Jvm.Cond.laysFinal "ProgramReaderModel" "ProgramReaderModel" "count" "[I") ∈ lw_all := lw_g (lw_at lw_m4 187 rfl) rfl
theorem q1002 : (Jvm.Cond.soleField "ProgramReaderModel" "count") ∈ lw_all := lw_g (lw_at lw_m4 188 rfl) rfl
theorem q1003 : (Jvm.Cond.laysFinal "ProgramReaderModel" "ProgramReaderModel" "letters" "[I") ∈ lw_all := lw_g (lw_at lw_m4 189 rfl) rfl
theorem q1004 : (Jvm.Cond.soleField "ProgramReaderModel" "letters") ∈ lw_all := lw_g (lw_at lw_m4 190 rfl) rfl
theorem q1005 : (Jvm.Cond.laysFinal "ProgramReaderModel" "ProgramReaderModel" "starts" "[I") ∈ lw_all := lw_g (lw_at lw_m4 191 rfl) rfl
theorem q1006 : (Jvm.Cond.soleField "ProgramReaderModel" "starts") ∈ lw_all := lw_g (lw_at lw_m4 192 rfl) rfl
theorem q1007 : (Jvm.Cond.lays "ProgramReaderModel" "ProgramReaderModel" "names" "I") ∈ lw_all := lw_g (lw_at lw_m4 193 rfl) rfl
theorem q1008 : (Jvm.Cond.soleField "ProgramReaderModel" "names") ∈ lw_all := lw_g (lw_at lw_m4 194 rfl) rfl
theorem q1009 : (Jvm.Cond.superclass "ProgramReaderModel" "java/lang/Object") ∈ lw_all := lw_g (lw_at lw_m4 195 rfl) rfl
theorem q1011 : (Jvm.Cond.instanceMethod ({ cls := "ProgramReaderModel", name := "feed", desc := "(IIIII)I" } : Jvm.MethodName)) ∈ lw_all := lw_g (lw_at lw_m4 197 rfl) rfl
theorem q1012 : (Jvm.Cond.selects "ProgramReaderModel" ({ cls := "ProgramReaderModel", name := "feed", desc := "(IIIII)I" } : Jvm.MethodName) ({ cls := "ProgramReaderModel", name := "feed", desc := "(IIIII)I" } : Jvm.MethodName)) ∈ lw_all := lw_g (lw_at lw_m4 198 rfl) rfl
theorem q1013 : (Jvm.Cond.code ({ cls := "ProgramReaderModel", name := "feed", desc := "(IIIII)I" } : Jvm.MethodName) prog_10_method_4_code (8 : Nat) (Option.some Jvm.ClassFile.FieldType.int)) ∈ lw_all := lw_g (lw_at lw_m4 199 rfl) rfl
theorem q1015 : (Jvm.Cond.instanceMethod ({ cls := "ProgramReaderModel", name := "read", desc := "(II)I" } : Jvm.MethodName)) ∈ lw_all := lw_g (lw_at lw_m4 201 rfl) rfl
theorem q1016 : (Jvm.Cond.selects "ProgramReaderModel" ({ cls := "ProgramReaderModel", name := "read", desc := "(II)I" } : Jvm.MethodName) ({ cls := "ProgramReaderModel", name := "read", desc := "(II)I" } : Jvm.MethodName)) ∈ lw_all := lw_g (lw_at lw_m4 202 rfl) rfl
theorem q1017 : (Jvm.Cond.code ({ cls := "ProgramReaderModel", name := "read", desc := "(II)I" } : Jvm.MethodName) prog_10_method_34_code (4 : Nat) (Option.some Jvm.ClassFile.FieldType.int)) ∈ lw_all := lw_g (lw_at lw_m4 203 rfl) rfl
theorem q1018 : (Jvm.Cond.methodLink "ProgramReaderModel" (229 : Nat) ({ cls := "ProgramReaderModel", name := "scan", desc := "()V" } : Jvm.MethodName)) ∈ lw_all := lw_g (lw_at lw_m4 204 rfl) rfl
theorem q1019 : (Jvm.Cond.privateMethod ({ cls := "ProgramReaderModel", name := "scan", desc := "()V" } : Jvm.MethodName)) ∈ lw_tbl := lw_at lw_m4 205 rfl
theorem q1020 : (Jvm.Cond.instanceMethod ({ cls := "ProgramReaderModel", name := "scan", desc := "()V" } : Jvm.MethodName)) ∈ lw_all := lw_g (lw_at lw_m4 206 rfl) rfl
theorem q1021 : (Jvm.Cond.code ({ cls := "ProgramReaderModel", name := "scan", desc := "()V" } : Jvm.MethodName) prog_10_method_12_code (6 : Nat) (Option.none : Option Jvm.ClassFile.FieldType)) ∈ lw_all := lw_g (lw_at lw_m4 207 rfl) rfl
theorem q1022 : (Jvm.Cond.methodLink "ProgramReaderModel" (143 : Nat) ({ cls := "ProgramReaderModel", name := "behindBlanks", desc := "(I)I" } : Jvm.MethodName)) ∈ lw_all := lw_g (lw_at lw_m4 208 rfl) rfl
theorem q1023 : (Jvm.Cond.privateMethod ({ cls := "ProgramReaderModel", name := "behindBlanks", desc := "(I)I" } : Jvm.MethodName)) ∈ lw_tbl := lw_at lw_m4 209 rfl
theorem q1024 : (Jvm.Cond.instanceMethod ({ cls := "ProgramReaderModel", name := "behindBlanks", desc := "(I)I" } : Jvm.MethodName)) ∈ lw_all := lw_g (lw_at lw_m4 210 rfl) rfl
theorem q1025 : (Jvm.Cond.code ({ cls := "ProgramReaderModel", name := "behindBlanks", desc := "(I)I" } : Jvm.MethodName) prog_10_method_9_code (5 : Nat) (Option.some Jvm.ClassFile.FieldType.int)) ∈ lw_all := lw_g (lw_at lw_m4 211 rfl) rfl
theorem q1026 : (Jvm.Cond.methodLink "ProgramReaderModel" (120 : Nat) ({ cls := "ProgramReaderModel", name := "isAt", desc := "(III)Z" } : Jvm.MethodName)) ∈ lw_all := lw_g (lw_at lw_m4 212 rfl) rfl
theorem q1027 : (Jvm.Cond.privateMethod ({ cls := "ProgramReaderModel", name := "isAt", desc := "(III)Z" } : Jvm.MethodName)) ∈ lw_tbl := lw_at lw_m4 213 rfl
theorem q1028 : (Jvm.Cond.instanceMethod ({ cls := "ProgramReaderModel", name := "isAt", desc := "(III)Z" } : Jvm.MethodName)) ∈ lw_all := lw_g (lw_at lw_m4 214 rfl) rfl
theorem q1029 : (Jvm.Cond.code ({ cls := "ProgramReaderModel", name := "isAt", desc := "(III)Z" } : Jvm.MethodName) prog_10_method_5_code (4 : Nat) (Option.some Jvm.ClassFile.FieldType.boolean)) ∈ lw_all := lw_g (lw_at lw_m4 215 rfl) rfl
theorem q1030 : (Jvm.Cond.methodLink "ProgramReaderModel" (113 : Nat) ({ cls := "ProgramReaderModel", name := "isLetter", desc := "(I)Z" } : Jvm.MethodName)) ∈ lw_all := lw_g (lw_at lw_m4 216 rfl) rfl
theorem q1031 : (Jvm.Cond.static ({ cls := "ProgramReaderModel", name := "isLetter", desc := "(I)Z" } : Jvm.MethodName)) ∈ lw_all := lw_g (lw_at lw_m4 217 rfl) rfl
theorem q1032 : (Jvm.Cond.code ({ cls := "ProgramReaderModel", name := "isLetter", desc := "(I)Z" } : Jvm.MethodName) prog_10_method_6_code (1 : Nat) (Option.some Jvm.ClassFile.FieldType.boolean)) ∈ lw_all := lw_g (lw_at lw_m4 218 rfl) rfl
theorem q1033 : (Jvm.Cond.methodLink "ProgramReaderModel" (137 : Nat) ({ cls := "ProgramReaderModel", name := "isWord", desc := "(I)Z" } : Jvm.MethodName)) ∈ lw_all := lw_g (lw_at lw_m4 219 rfl) rfl
theorem q1034 : (Jvm.Cond.privateMethod ({ cls := "ProgramReaderModel", name := "isWord", desc := "(I)Z" } : Jvm.MethodName)) ∈ lw_tbl := lw_at lw_m4 220 rfl
theorem q1035 : (Jvm.Cond.instanceMethod ({ cls := "ProgramReaderModel", name := "isWord", desc := "(I)Z" } : Jvm.MethodName)) ∈ lw_all := lw_g (lw_at lw_m4 221 rfl) rfl
theorem q1036 : (Jvm.Cond.code ({ cls := "ProgramReaderModel", name := "isWord", desc := "(I)Z" } : Jvm.MethodName) prog_10_method_8_code (2 : Nat) (Option.some Jvm.ClassFile.FieldType.boolean)) ∈ lw_all := lw_g (lw_at lw_m4 222 rfl) rfl
theorem q1037 : (Jvm.Cond.methodLink "ProgramReaderModel" (117 : Nat) ({ cls := "ProgramReaderModel", name := "isDigit", desc := "(I)Z" } : Jvm.MethodName)) ∈ lw_all := lw_g (lw_at lw_m4 223 rfl) rfl
theorem q1038 : (Jvm.Cond.static ({ cls := "ProgramReaderModel", name := "isDigit", desc := "(I)Z" } : Jvm.MethodName)) ∈ lw_all := lw_g (lw_at lw_m4 224 rfl) rfl
theorem q1039 : (Jvm.Cond.code ({ cls := "ProgramReaderModel", name := "isDigit", desc := "(I)Z" } : Jvm.MethodName) prog_10_method_7_code (1 : Nat) (Option.some Jvm.ClassFile.FieldType.boolean)) ∈ lw_all := lw_g (lw_at lw_m4 225 rfl) rfl
theorem q1040 : (Jvm.Cond.methodLink "ProgramReaderModel" (147 : Nat) ({ cls := "ProgramReaderModel", name := "wordOf", desc := "(II)I" } : Jvm.MethodName)) ∈ lw_all := lw_g (lw_at lw_m4 226 rfl) rfl
theorem q1041 : (Jvm.Cond.privateMethod ({ cls := "ProgramReaderModel", name := "wordOf", desc := "(II)I" } : Jvm.MethodName)) ∈ lw_tbl := lw_at lw_m4 227 rfl
theorem q1042 : (Jvm.Cond.instanceMethod ({ cls := "ProgramReaderModel", name := "wordOf", desc := "(II)I" } : Jvm.MethodName)) ∈ lw_all := lw_g (lw_at lw_m4 228 rfl) rfl
theorem q1043 : (Jvm.Cond.code ({ cls := "ProgramReaderModel", name := "wordOf", desc := "(II)I" } : Jvm.MethodName) prog_10_method_10_code (6 : Nat) (Option.some Jvm.ClassFile.FieldType.int)) ∈ lw_all := lw_g (lw_at lw_m4 229 rfl) rfl
theorem q1044 : (Jvm.Cond.methodLink "ProgramReaderModel" (124 : Nat) ({ cls := "java/lang/String", name := "length", desc := "()I" } : Jvm.MethodName)) ∈ lw_all := lw_g (lw_at lw_m4 230 rfl) rfl
theorem q1045 : (Jvm.Cond.methodLink "ProgramReaderModel" (127 : Nat) ({ cls := "java/lang/String", name := "charAt", desc := "(I)C" } : Jvm.MethodName)) ∈ lw_all := lw_g (lw_at lw_m4 231 rfl) rfl
theorem q1046 : (Jvm.Cond.methodLink "ProgramReaderModel" (151 : Nat) ({ cls := "ProgramReaderModel", name := "isNumber", desc := "(II)Z" } : Jvm.MethodName)) ∈ lw_all := lw_g (lw_at lw_m4 232 rfl) rfl
theorem q1047 : (Jvm.Cond.privateMethod ({ cls := "ProgramReaderModel", name := "isNumber", desc := "(II)Z" } : Jvm.MethodName)) ∈ lw_tbl := lw_at lw_m4 233 rfl
theorem q1048 : (Jvm.Cond.instanceMethod ({ cls := "ProgramReaderModel", name := "isNumber", desc := "(II)Z" } : Jvm.MethodName)) ∈ lw_all := lw_g (lw_at lw_m4 234 rfl) rfl
theorem q1049 : (Jvm.Cond.code ({ cls := "ProgramReaderModel", name := "isNumber", desc := "(II)Z" } : Jvm.MethodName) prog_10_method_11_code (6 : Nat) (Option.some Jvm.ClassFile.FieldType.boolean)) ∈ lw_all := lw_g (lw_at lw_m4 235 rfl) rfl
theorem q1050 : (Jvm.Cond.constantLong "ProgramReaderModel" (131 : Nat) (2147483647 : Int64)) ∈ lw_all := lw_g (lw_at lw_m4 236 rfl) rfl
theorem q1051 : (Jvm.Cond.constantLong "ProgramReaderModel" (133 : Nat) (10 : Int64)) ∈ lw_all := lw_g (lw_at lw_m4 237 rfl) rfl
theorem q1052 : (Jvm.Cond.constantLong "ProgramReaderModel" (135 : Nat) (48 : Int64)) ∈ lw_all := lw_g (lw_at lw_m4 238 rfl) rfl
theorem q1053 : (Jvm.Cond.methodLink "ProgramReaderModel" (232 : Nat) ({ cls := "ProgramReaderModel", name := "function", desc := "()I" } : Jvm.MethodName)) ∈ lw_all := lw_g (lw_at lw_m4 239 rfl) rfl
theorem q1054 : (Jvm.Cond.privateMethod ({ cls := "ProgramReaderModel", name := "function", desc := "()I" } : Jvm.MethodName)) ∈ lw_tbl := lw_at lw_m5 0 rfl
theorem q1055 : (Jvm.Cond.instanceMethod ({ cls := "ProgramReaderModel", name := "function", desc := "()I" } : Jvm.MethodName)) ∈ lw_all := lw_g (lw_at lw_m5 1 rfl) rfl
theorem q1056 : (Jvm.Cond.code ({ cls := "ProgramReaderModel", name := "function", desc := "()I" } : Jvm.MethodName) prog_10_method_31_code (2 : Nat) (Option.some Jvm.ClassFile.FieldType.int)) ∈ lw_all := lw_g (lw_at lw_m5 2 rfl) rfl
theorem q1057 : (Jvm.Cond.methodLink "ProgramReaderModel" (172 : Nat) ({ cls := "ProgramReaderModel", name := "draft", desc := "(III)I" } : Jvm.MethodName)) ∈ lw_all := lw_g (lw_at lw_m5 3 rfl) rfl
theorem q1058 : (Jvm.Cond.privateMethod ({ cls := "ProgramReaderModel", name := "draft", desc := "(III)I" } : Jvm.MethodName)) ∈ lw_tbl := lw_at lw_m5 4 rfl
theorem q1059 : (Jvm.Cond.instanceMethod ({ cls := "ProgramReaderModel", name := "draft", desc := "(III)I" } : Jvm.MethodName)) ∈ lw_all := lw_g (lw_at lw_m5 5 rfl) rfl
theorem q1060 : (Jvm.Cond.code ({ cls := "ProgramReaderModel", name := "draft", desc := "(III)I" } : Jvm.MethodName) prog_10_method_16_code (4 : Nat) (Option.some Jvm.ClassFile.FieldType.int)) ∈ lw_all := lw_g (lw_at lw_m5 6 rfl) rfl
theorem q1061 : (Jvm.Cond.methodLink "ProgramReaderModel" (176 : Nat) ({ cls := "ProgramReaderModel", name := "take", desc := "(I)V" } : Jvm.MethodName)) ∈ lw_all := lw_g (lw_at lw_m5 7 rfl) rfl
theorem q1062 : (Jvm.Cond.privateMethod ({ cls := "ProgramReaderModel", name := "take", desc := "(I)V" } : Jvm.MethodName)) ∈ lw_tbl := lw_at lw_m5 8 rfl
theorem q1063 : (Jvm.Cond.instanceMethod ({ cls := "ProgramReaderModel", name := "take", desc := "(I)V" } : Jvm.MethodName)) ∈ lw_all := lw_g (lw_at lw_m5 9 rfl) rfl
theorem q1064 : (Jvm.Cond.code ({ cls := "ProgramReaderModel", name := "take", desc := "(I)V" } : Jvm.MethodName) prog_10_method_15_code (2 : Nat) (Option.none : Option Jvm.ClassFile.FieldType)) ∈ lw_all := lw_g (lw_at lw_m5 10 rfl) rfl
theorem q1065 : (Jvm.Cond.methodLink "ProgramReaderModel" (162 : Nat) ({ cls := "ProgramReaderModel", name := "look", desc := "()I" } : Jvm.MethodName)) ∈ lw_all := lw_g (lw_at lw_m5 11 rfl) rfl
theorem q1066 : (Jvm.Cond.privateMethod ({ cls := "ProgramReaderModel", name := "look", desc := "()I" } : Jvm.MethodName)) ∈ lw_tbl := lw_at lw_m5 12 rfl
theorem q1067 : (Jvm.Cond.instanceMethod ({ cls := "ProgramReaderModel", name := "look", desc := "()I" } : Jvm.MethodName)) ∈ lw_all := lw_g (lw_at lw_m5 13 rfl) rfl
theorem q1068 : (Jvm.Cond.code ({ cls := "ProgramReaderModel", name := "look", desc := "()I" } : Jvm.MethodName) prog_10_method_13_code (1 : Nat) (Option.some Jvm.ClassFile.FieldType.int)) ∈ lw_all := lw_g (lw_at lw_m5 14 rfl) rfl
theorem q1069 : (Jvm.Cond.methodLink "ProgramReaderModel" (165 : Nat) ({ cls := "ProgramReaderModel", name := "need", desc := "(Z)V" } : Jvm.MethodName)) ∈ lw_all := lw_g (lw_at lw_m5 15 rfl) rfl
theorem q1070 : (Jvm.Cond.privateMethod ({ cls := "ProgramReaderModel", name := "need", desc := "(Z)V" } : Jvm.MethodName)) ∈ lw_tbl := lw_at lw_m5 16 rfl
theorem q1071 : (Jvm.Cond.instanceMethod ({ cls := "ProgramReaderModel", name := "need", desc := "(Z)V" } : Jvm.MethodName)) ∈ lw_all := lw_g (lw_at lw_m5 17 rfl) rfl
theorem q1072 : (Jvm.Cond.code ({ cls := "ProgramReaderModel", name := "need", desc := "(Z)V" } : Jvm.MethodName) prog_10_method_14_code (2 : Nat) (Option.none : Option Jvm.ClassFile.FieldType)) ∈ lw_all := lw_g (lw_at lw_m5 18 rfl) rfl
theorem q1073 : (Jvm.Cond.methodLink "ProgramReaderModel" (196 : Nat) ({ cls := "ProgramReaderModel", name := "name", desc := "()I" } : Jvm.MethodName)) ∈ lw_all := lw_g (lw_at lw_m5 19 rfl) rfl
theorem q1074 : (Jvm.Cond.privateMethod ({ cls := "ProgramReaderModel", name := "name", desc := "()I" } : Jvm.MethodName)) ∈ lw_tbl := lw_at lw_m5 20 rfl
theorem q1075 : (Jvm.Cond.instanceMethod ({ cls := "ProgramReaderModel", name := "name", desc := "()I" } : Jvm.MethodName)) ∈ lw_all := lw_g (lw_at lw_m5 21 rfl) rfl
theorem q1076 : (Jvm.Cond.code ({ cls := "ProgramReaderModel", name := "name", desc := "()I" } : Jvm.MethodName) prog_10_method_18_code (2 : Nat) (Option.some Jvm.ClassFile.FieldType.int)) ∈ lw_all := lw_g (lw_at lw_m5 22 rfl) rfl
theorem q1077 : (Jvm.Cond.methodLink "ProgramReaderModel" (185 : Nat) ({ cls := "ProgramReaderModel", name := "join", desc := "(II)V" } : Jvm.MethodName)) ∈ lw_all := lw_g (lw_at lw_m5 23 rfl) rfl
theorem q1078 : (Jvm.Cond.privateMethod ({ cls := "ProgramReaderModel", name := "join", desc := "(II)V" } : Jvm.MethodName)) ∈ lw_tbl := lw_at lw_m5 24 rfl
theorem q1079 : (Jvm.Cond.instanceMethod ({ cls := "ProgramReaderModel", name := "join", desc := "(II)V" } : Jvm.MethodName)) ∈ lw_all := lw_g (lw_at lw_m5 25 rfl) rfl
theorem q1080 : (Jvm.Cond.code ({ cls := "ProgramReaderModel", name := "join", desc := "(II)V" } : Jvm.MethodName) prog_10_method_17_code (3 : Nat) (Option.none : Option Jvm.ClassFile.FieldType)) ∈ lw_all := lw_g (lw_at lw_m5 26 rfl) rfl
theorem q1081 : (Jvm.Cond.methodLink "ProgramReaderModel" (217 : Nat) ({ cls := "ProgramReaderModel", name := "block", desc := "(I)I" } : Jvm.MethodName)) ∈ lw_all := lw_g (lw_at lw_m5 27 rfl) rfl
theorem q1082 : (Jvm.Cond.privateMethod ({ cls := "ProgramReaderModel", name := "block", desc := "(I)I" } : Jvm.MethodName)) ∈ lw_tbl := lw_at lw_m5 28 rfl
theorem q1083 : (Jvm.Cond.instanceMethod ({ cls := "ProgramReaderModel", name := "block", desc := "(I)I" } : Jvm.MethodName)) ∈ lw_all := lw_g (lw_at lw_m5 29 rfl) rfl
theorem q1084 : (Jvm.Cond.code ({ cls := "ProgramReaderModel", name := "block", desc := "(I)I" } : Jvm.MethodName) prog_10_method_27_code (3 : Nat) (Option.some Jvm.ClassFile.FieldType.int)) ∈ lw_all := lw_g (lw_at lw_m5 30 rfl) rfl
theorem q1085 : (Jvm.Cond.methodLink "ProgramReaderModel" (179 : Nat) ({ cls := "ProgramReaderModel", name := "deep", desc := "(I)V" } : Jvm.MethodName)) ∈ lw_all := lw_g (lw_at lw_m5 31 rfl) rfl
theorem q1086 : (Jvm.Cond.privateMethod ({ cls := "ProgramReaderModel", name := "deep", desc := "(I)V" } : Jvm.MethodName)) ∈ lw_tbl := lw_at lw_m5 32 rfl
theorem q1087 : (Jvm.Cond.instanceMethod ({ cls := "ProgramReaderModel", name := "deep", desc := "(I)V" } : Jvm.MethodName)) ∈ lw_all := lw_g (lw_at lw_m5 33 rfl) rfl
theorem q1088 : (Jvm.Cond.code ({ cls := "ProgramReaderModel", name := "deep", desc := "(I)V" } : Jvm.MethodName) prog_10_method_20_code (2 : Nat) (Option.none : Option Jvm.ClassFile.FieldType)) ∈ lw_all := lw_g (lw_at lw_m5 34 rfl) rfl
theorem q1089 : (Jvm.Cond.methodLink "ProgramReaderModel" (211 : Nat) ({ cls := "ProgramReaderModel", name := "statement", desc := "(I)I" } : Jvm.MethodName)) ∈ lw_all := lw_g (lw_at lw_m5 35 rfl) rfl
theorem q1090 : (Jvm.Cond.privateMethod ({ cls := "ProgramReaderModel", name := "statement", desc := "(I)I" } : Jvm.MethodName)) ∈ lw_tbl := lw_at lw_m5 36 rfl
theorem q1091 : (Jvm.Cond.instanceMethod ({ cls := "ProgramReaderModel", name := "statement", desc := "(I)I" } : Jvm.MethodName)) ∈ lw_all := lw_g (lw_at lw_m5 37 rfl) rfl
theorem q1092 : (Jvm.Cond.code ({ cls := "ProgramReaderModel", name := "statement", desc := "(I)I" } : Jvm.MethodName) prog_10_method_29_code (6 : Nat) (Option.some Jvm.ClassFile.FieldType.int)) ∈ lw_all := lw_g (lw_at lw_m5 38 rfl) rfl
theorem q1093 : (Jvm.Cond.methodLink "ProgramReaderModel" (192 : Nat) ({ cls := "ProgramReaderModel", name := "number", desc := "(Z)I" } : Jvm.MethodName)) ∈ lw_all := lw_g (lw_at lw_m5 39 rfl) rfl
theorem q1094 : (Jvm.Cond.privateMethod ({ cls := "ProgramReaderModel", name := "number", desc := "(Z)I" } : Jvm.MethodName)) ∈ lw_tbl := lw_at lw_m5 40 rfl
theorem q1095 : (Jvm.Cond.instanceMethod ({ cls := "ProgramReaderModel", name := "number", desc := "(Z)I" } : Jvm.MethodName)) ∈ lw_all := lw_g (lw_at lw_m5 41 rfl) rfl
theorem q1096 : (Jvm.Cond.code ({ cls := "ProgramReaderModel", name := "number", desc := "(Z)I" } : Jvm.MethodName) prog_10_method_19_code (6 : Nat) (Option.some Jvm.ClassFile.FieldType.int)) ∈ lw_all := lw_g (lw_at lw_m5 42 rfl) rfl
theorem q1097 : (Jvm.Cond.methodLink "ProgramReaderModel" (199 : Nat) ({ cls := "ProgramReaderModel", name := "sum", desc := "(I)I" } : Jvm.MethodName)) ∈ lw_all := lw_g (lw_at lw_m5 43 rfl) rfl
theorem q1098 : (Jvm.Cond.privateMethod ({ cls := "ProgramReaderModel", name := "sum", desc := "(I)I" } : Jvm.MethodName)) ∈ lw_tbl := lw_at lw_m5 44 rfl
theorem q1099 : (Jvm.Cond.instanceMethod ({ cls := "ProgramReaderModel", name := "sum", desc := "(I)I" } : Jvm.MethodName)) ∈ lw_all := lw_g (lw_at lw_m5 45 rfl) rfl
theorem q1100 : (Jvm.Cond.code ({ cls := "ProgramReaderModel", name := "sum", desc := "(I)I" } : Jvm.MethodName) prog_10_method_21_code (5 : Nat) (Option.some Jvm.ClassFile.FieldType.int)) ∈ lw_all := lw_g (lw_at lw_m5 46 rfl) rfl
theorem q1101 : (Jvm.Cond.methodLink "ProgramReaderModel" (182 : Nat) ({ cls := "ProgramReaderModel", name := "term", desc := "(I)I" } : Jvm.MethodName)) ∈ lw_all := lw_g (lw_at lw_m5 47 rfl) rfl
theorem q1102 : (Jvm.Cond.privateMethod ({ cls := "ProgramReaderModel", name := "term", desc := "(I)I" } : Jvm.MethodName)) ∈ lw_tbl := lw_at lw_m5 48 rfl
theorem q1103 : (Jvm.Cond.instanceMethod ({ cls := "ProgramReaderModel", name := "term", desc := "(I)I" } : Jvm.MethodName)) ∈ lw_all := lw_g (lw_at lw_m5 49 rfl) rfl
theorem q1104 : (Jvm.Cond.code ({ cls := "ProgramReaderModel", name := "term", desc := "(I)I" } : Jvm.MethodName) prog_10_method_22_code (5 : Nat) (Option.some Jvm.ClassFile.FieldType.int)) ∈ lw_all := lw_g (lw_at lw_m5 50 rfl) rfl
theorem q1105 : (Jvm.Cond.methodLink "ProgramReaderModel" (189 : Nat) ({ cls := "ProgramReaderModel", name := "factor", desc := "(I)I" } : Jvm.MethodName)) ∈ lw_all := lw_g (lw_at lw_m5 51 rfl) rfl
theorem q1106 : (Jvm.Cond.privateMethod ({ cls := "ProgramReaderModel", name := "factor", desc := "(I)I" } : Jvm.MethodName)) ∈ lw_tbl := lw_at lw_m5 52 rfl
theorem q1107 : (Jvm.Cond.instanceMethod ({ cls := "ProgramReaderModel", name := "factor", desc := "(I)I" } : Jvm.MethodName)) ∈ lw_all := lw_g (lw_at lw_m5 53 rfl) rfl
theorem q1108 : (Jvm.Cond.code ({ cls := "ProgramReaderModel", name := "factor", desc := "(I)I" } : Jvm.MethodName) prog_10_method_23_code (6 : Nat) (Option.some Jvm.ClassFile.FieldType.int)) ∈ lw_all := lw_g (lw_at lw_m5 54 rfl) rfl
theorem q1109 : (Jvm.Cond.methodLink "ProgramReaderModel" (214 : Nat) ({ cls := "ProgramReaderModel", name := "named", desc := "(II)I" } : Jvm.MethodName)) ∈ lw_all := lw_g (lw_at lw_m5 55 rfl) rfl
theorem q1110 : (Jvm.Cond.privateMethod ({ cls := "ProgramReaderModel", name := "named", desc := "(II)I" } : Jvm.MethodName)) ∈ lw_tbl := lw_at lw_m5 56 rfl
theorem q1111 : (Jvm.Cond.instanceMethod ({ cls := "ProgramReaderModel", name := "named", desc := "(II)I" } : Jvm.MethodName)) ∈ lw_all := lw_g (lw_at lw_m5 57 rfl) rfl
theorem q1112 : (Jvm.Cond.code ({ cls := "ProgramReaderModel", name := "named", desc := "(II)I" } : Jvm.MethodName) prog_10_method_30_code (5 : Nat) (Option.some Jvm.ClassFile.FieldType.int)) ∈ lw_all := lw_g (lw_at lw_m5 58 rfl) rfl
theorem q1113 : (Jvm.Cond.methodLink "ProgramReaderModel" (220 : Nat) ({ cls := "ProgramReaderModel", name := "sums", desc := "(II)V" } : Jvm.MethodName)) ∈ lw_all := lw_g (lw_at lw_m5 59 rfl) rfl
theorem q1114 : (Jvm.Cond.privateMethod ({ cls := "ProgramReaderModel", name := "sums", desc := "(II)V" } : Jvm.MethodName)) ∈ lw_tbl := lw_at lw_m5 60 rfl
theorem q1115 : (Jvm.Cond.instanceMethod ({ cls := "ProgramReaderModel", name := "sums", desc := "(II)V" } : Jvm.MethodName)) ∈ lw_all := lw_g (lw_at lw_m5 61 rfl) rfl
theorem q1116 : (Jvm.Cond.code ({ cls := "ProgramReaderModel", name := "sums", desc := "(II)V" } : Jvm.MethodName) prog_10_method_28_code (3 : Nat) (Option.none : Option Jvm.ClassFile.FieldType)) ∈ lw_all := lw_g (lw_at lw_m5 62 rfl) rfl
theorem q1117 : (Jvm.Cond.methodLink "ProgramReaderModel" (208 : Nat) ({ cls := "ProgramReaderModel", name := "cond", desc := "(I)I" } : Jvm.MethodName)) ∈ lw_all := lw_g (lw_at lw_m5 63 rfl) rfl
theorem q1118 : (Jvm.Cond.privateMethod ({ cls := "ProgramReaderModel", name := "cond", desc := "(I)I" } : Jvm.MethodName)) ∈ lw_tbl := lw_at lw_m5 64 rfl
theorem q1119 : (Jvm.Cond.instanceMethod ({ cls := "ProgramReaderModel", name := "cond", desc := "(I)I" } : Jvm.MethodName)) ∈ lw_all := lw_g (lw_at lw_m5 65 rfl) rfl
theorem q1120 : (Jvm.Cond.code ({ cls := "ProgramReaderModel", name := "cond", desc := "(I)I" } : Jvm.MethodName) prog_10_method_24_code (2 : Nat) (Option.some Jvm.ClassFile.FieldType.int)) ∈ lw_all := lw_g (lw_at lw_m5 66 rfl) rfl
theorem q1121 : (Jvm.Cond.methodLink "ProgramReaderModel" (202 : Nat) ({ cls := "ProgramReaderModel", name := "tests", desc := "(II)I" } : Jvm.MethodName)) ∈ lw_all := lw_g (lw_at lw_m5 67 rfl) rfl
theorem q1122 : (Jvm.Cond.privateMethod ({ cls := "ProgramReaderModel", name := "tests", desc := "(II)I" } : Jvm.MethodName)) ∈ lw_tbl := lw_at lw_m5 68 rfl
theorem q1123 : (Jvm.Cond.instanceMethod ({ cls := "ProgramReaderModel", name := "tests", desc := "(II)I" } : Jvm.MethodName)) ∈ lw_all := lw_g (lw_at lw_m5 69 rfl) rfl
theorem q1124 : (Jvm.Cond.code ({ cls := "ProgramReaderModel", name := "tests", desc := "(II)I" } : Jvm.MethodName) prog_10_method_25_code (6 : Nat) (Option.some Jvm.ClassFile.FieldType.int)) ∈ lw_all := lw_g (lw_at lw_m5 70 rfl) rfl
theorem q1125 : (Jvm.Cond.methodLink "ProgramReaderModel" (205 : Nat) ({ cls := "ProgramReaderModel", name := "test", desc := "(I)I" } : Jvm.MethodName)) ∈ lw_all := lw_g (lw_at lw_m5 71 rfl) rfl
theorem q1126 : (Jvm.Cond.privateMethod ({ cls := "ProgramReaderModel", name := "test", desc := "(I)I" } : Jvm.MethodName)) ∈ lw_tbl := lw_at lw_m5 72 rfl
theorem q1127 : (Jvm.Cond.instanceMethod ({ cls := "ProgramReaderModel", name := "test", desc := "(I)I" } : Jvm.MethodName)) ∈ lw_all := lw_g (lw_at lw_m5 73 rfl) rfl
theorem q1128 : (Jvm.Cond.code ({ cls := "ProgramReaderModel", name := "test", desc := "(I)I" } : Jvm.MethodName) prog_10_method_26_code (6 : Nat) (Option.some Jvm.ClassFile.FieldType.int)) ∈ lw_all := lw_g (lw_at lw_m5 74 rfl) rfl
theorem q1129 : (Jvm.Cond.methodLink "ProgramReaderModel" (235 : Nat) ({ cls := "ProgramReaderModel", name := "keep", desc := "(II)V" } : Jvm.MethodName)) ∈ lw_all := lw_g (lw_at lw_m5 75 rfl) rfl
theorem q1130 : (Jvm.Cond.privateMethod ({ cls := "ProgramReaderModel", name := "keep", desc := "(II)V" } : Jvm.MethodName)) ∈ lw_tbl := lw_at lw_m5 76 rfl
theorem q1131 : (Jvm.Cond.instanceMethod ({ cls := "ProgramReaderModel", name := "keep", desc := "(II)V" } : Jvm.MethodName)) ∈ lw_all := lw_g (lw_at lw_m5 77 rfl) rfl
theorem q1132 : (Jvm.Cond.code ({ cls := "ProgramReaderModel", name := "keep", desc := "(II)V" } : Jvm.MethodName) prog_10_method_33_code (7 : Nat) (Option.none : Option Jvm.ClassFile.FieldType)) ∈ lw_all := lw_g (lw_at lw_m5 78 rfl) rfl
theorem q1133 : (Jvm.Cond.methodLink "ProgramReaderModel" (226 : Nat) ({ cls := "ProgramReaderModel", name := "nameOf", desc := "(I)I" } : Jvm.MethodName)) ∈ lw_all := lw_g (lw_at lw_m5 79 rfl) rfl
theorem q1134 : (Jvm.Cond.privateMethod ({ cls := "ProgramReaderModel", name := "nameOf", desc := "(I)I" } : Jvm.MethodName)) ∈ lw_tbl := lw_at lw_m5 80 rfl
theorem q1135 : (Jvm.Cond.instanceMethod ({ cls := "ProgramReaderModel", name := "nameOf", desc := "(I)I" } : Jvm.MethodName)) ∈ lw_all := lw_g (lw_at lw_m5 81 rfl) rfl
theorem q1136 : (Jvm.Cond.code ({ cls := "ProgramReaderModel", name := "nameOf", desc := "(I)I" } : Jvm.MethodName) prog_10_method_32_code (5 : Nat) (Option.some Jvm.ClassFile.FieldType.int)) ∈ lw_all := lw_g (lw_at lw_m5 82 rfl) rfl
theorem q1138 : (Jvm.Cond.instanceMethod ({ cls := "ProgramReaderModel", name := "nodes", desc := "(I)I" } : Jvm.MethodName)) ∈ lw_all := lw_g (lw_at lw_m5 84 rfl) rfl
theorem q1139 : (Jvm.Cond.selects "ProgramReaderModel" ({ cls := "ProgramReaderModel", name := "nodes", desc := "(I)I" } : Jvm.MethodName) ({ cls := "ProgramReaderModel", name := "nodes", desc := "(I)I" } : Jvm.MethodName)) ∈ lw_all := lw_g (lw_at lw_m5 85 rfl) rfl
theorem q1140 : (Jvm.Cond.code ({ cls := "ProgramReaderModel", name := "nodes", desc := "(I)I" } : Jvm.MethodName) prog_10_method_36_code (2 : Nat) (Option.some Jvm.ClassFile.FieldType.int)) ∈ lw_all := lw_g (lw_at lw_m5 86 rfl) rfl
theorem q1142 : (Jvm.Cond.instanceMethod ({ cls := "ProgramReaderModel", name := "part", desc := "(III)I" } : Jvm.MethodName)) ∈ lw_all := lw_g (lw_at lw_m5 88 rfl) rfl
theorem q1143 : (Jvm.Cond.selects "ProgramReaderModel" ({ cls := "ProgramReaderModel", name := "part", desc := "(III)I" } : Jvm.MethodName) ({ cls := "ProgramReaderModel", name := "part", desc := "(III)I" } : Jvm.MethodName)) ∈ lw_all := lw_g (lw_at lw_m5 89 rfl) rfl
theorem q1144 : (Jvm.Cond.code ({ cls := "ProgramReaderModel", name := "part", desc := "(III)I" } : Jvm.MethodName) prog_10_method_38_code (6 : Nat) (Option.some Jvm.ClassFile.FieldType.int)) ∈ lw_all := lw_g (lw_at lw_m5 90 rfl) rfl
theorem q1145 : (Jvm.Cond.methodLink "ProgramReaderModel" (238 : Nat) ({ cls := "ProgramReaderModel", name := "has", desc := "(II)Z" } : Jvm.MethodName)) ∈ lw_all := lw_g (lw_at lw_m5 91 rfl) rfl
theorem q1146 : (Jvm.Cond.privateMethod ({ cls := "ProgramReaderModel", name := "has", desc := "(II)Z" } : Jvm.MethodName)) ∈ lw_tbl := lw_at lw_m5 92 rfl
theorem q1147 : (Jvm.Cond.instanceMethod ({ cls := "ProgramReaderModel", name := "has", desc := "(II)Z" } : Jvm.MethodName)) ∈ lw_all := lw_g (lw_at lw_m5 93 rfl) rfl
theorem q1148 : (Jvm.Cond.code ({ cls := "ProgramReaderModel", name := "has", desc := "(II)Z" } : Jvm.MethodName) prog_10_method_35_code (3 : Nat) (Option.some Jvm.ClassFile.FieldType.boolean)) ∈ lw_all := lw_g (lw_at lw_m5 94 rfl) rfl
theorem q1150 : (Jvm.Cond.instanceMethod ({ cls := "ProgramReaderModel", name := "node", desc := "(III)I" } : Jvm.MethodName)) ∈ lw_all := lw_g (lw_at lw_m5 96 rfl) rfl
theorem q1151 : (Jvm.Cond.selects "ProgramReaderModel" ({ cls := "ProgramReaderModel", name := "node", desc := "(III)I" } : Jvm.MethodName) ({ cls := "ProgramReaderModel", name := "node", desc := "(III)I" } : Jvm.MethodName)) ∈ lw_all := lw_g (lw_at lw_m5 97 rfl) rfl
theorem q1152 : (Jvm.Cond.code ({ cls := "ProgramReaderModel", name := "node", desc := "(III)I" } : Jvm.MethodName) prog_10_method_39_code (5 : Nat) (Option.some Jvm.ClassFile.FieldType.int)) ∈ lw_all := lw_g (lw_at lw_m5 98 rfl) rfl
theorem q1153 : (Jvm.Cond.methodLink "ProgramReaderModel" (241 : Nat) ({ cls := "ProgramReaderModel", name := "parts", desc := "(II)I" } : Jvm.MethodName)) ∈ lw_all := lw_g (lw_at lw_m5 99 rfl) rfl
theorem q1154 : (Jvm.Cond.privateMethod ({ cls := "ProgramReaderModel", name := "parts", desc := "(II)I" } : Jvm.MethodName)) ∈ lw_tbl := lw_at lw_m5 100 rfl
theorem q1155 : (Jvm.Cond.instanceMethod ({ cls := "ProgramReaderModel", name := "parts", desc := "(II)I" } : Jvm.MethodName)) ∈ lw_all := lw_g (lw_at lw_m5 101 rfl) rfl
theorem q1156 : (Jvm.Cond.code ({ cls := "ProgramReaderModel", name := "parts", desc := "(II)I" } : Jvm.MethodName) prog_10_method_37_code (5 : Nat) (Option.some Jvm.ClassFile.FieldType.int)) ∈ lw_all := lw_g (lw_at lw_m5 102 rfl) rfl
theorem q1158 : (Jvm.Cond.instanceMethod ({ cls := "ProgramReaderModel", name := "whole", desc := "(II)I" } : Jvm.MethodName)) ∈ lw_all := lw_g (lw_at lw_m5 104 rfl) rfl
theorem q1159 : (Jvm.Cond.selects "ProgramReaderModel" ({ cls := "ProgramReaderModel", name := "whole", desc := "(II)I" } : Jvm.MethodName) ({ cls := "ProgramReaderModel", name := "whole", desc := "(II)I" } : Jvm.MethodName)) ∈ lw_all := lw_g (lw_at lw_m5 105 rfl) rfl
theorem q1160 : (Jvm.Cond.code ({ cls := "ProgramReaderModel", name := "whole", desc := "(II)I" } : Jvm.MethodName) prog_10_method_40_code (3 : Nat) (Option.some Jvm.ClassFile.FieldType.int)) ∈ lw_all := lw_g (lw_at lw_m5 106 rfl) rfl
theorem q1162 : (Jvm.Cond.instanceMethod ({ cls := "ProgramReaderModel", name := "names", desc := "()I" } : Jvm.MethodName)) ∈ lw_all := lw_g (lw_at lw_m5 108 rfl) rfl
theorem q1163 : (Jvm.Cond.selects "ProgramReaderModel" ({ cls := "ProgramReaderModel", name := "names", desc := "()I" } : Jvm.MethodName) ({ cls := "ProgramReaderModel", name := "names", desc := "()I" } : Jvm.MethodName)) ∈ lw_all := lw_g (lw_at lw_m5 109 rfl) rfl
theorem q1164 : (Jvm.Cond.code ({ cls := "ProgramReaderModel", name := "names", desc := "()I" } : Jvm.MethodName) prog_10_method_41_code (1 : Nat) (Option.some Jvm.ClassFile.FieldType.int)) ∈ lw_all := lw_g (lw_at lw_m5 110 rfl) rfl
theorem q1166 : (Jvm.Cond.instanceMethod ({ cls := "ProgramReaderModel", name := "spelt", desc := "(II)I" } : Jvm.MethodName)) ∈ lw_all := lw_g (lw_at lw_m5 112 rfl) rfl
theorem q1167 : (Jvm.Cond.selects "ProgramReaderModel" ({ cls := "ProgramReaderModel", name := "spelt", desc := "(II)I" } : Jvm.MethodName) ({ cls := "ProgramReaderModel", name := "spelt", desc := "(II)I" } : Jvm.MethodName)) ∈ lw_all := lw_g (lw_at lw_m5 113 rfl) rfl
theorem q1168 : (Jvm.Cond.code ({ cls := "ProgramReaderModel", name := "spelt", desc := "(II)I" } : Jvm.MethodName) prog_10_method_42_code (3 : Nat) (Option.some Jvm.ClassFile.FieldType.int)) ∈ lw_all := lw_g (lw_at lw_m5 114 rfl) rfl
theorem q1170 : (Jvm.Cond.instanceMethod ({ cls := "ProgramReaderModel", name := "same", desc := "()Z" } : Jvm.MethodName)) ∈ lw_all := lw_g (lw_at lw_m5 116 rfl) rfl
theorem q1171 : (Jvm.Cond.selects "ProgramReaderModel" ({ cls := "ProgramReaderModel", name := "same", desc := "()Z" } : Jvm.MethodName) ({ cls := "ProgramReaderModel", name := "same", desc := "()Z" } : Jvm.MethodName)) ∈ lw_all := lw_g (lw_at lw_m5 117 rfl) rfl
theorem q1172 : (Jvm.Cond.code ({ cls := "ProgramReaderModel", name := "same", desc := "()Z" } : Jvm.MethodName) prog_10_method_43_code (3 : Nat) (Option.some Jvm.ClassFile.FieldType.boolean)) ∈ lw_all := lw_g (lw_at lw_m5 118 rfl) rfl
theorem q1174 : (Jvm.Cond.instanceMethod ({ cls := "ProgramReaderModel", name := "write", desc := "(II)I" } : Jvm.MethodName)) ∈ lw_all := lw_g (lw_at lw_m5 120 rfl) rfl
theorem q1175 : (Jvm.Cond.selects "ProgramReaderModel" ({ cls := "ProgramReaderModel", name := "write", desc := "(II)I" } : Jvm.MethodName) ({ cls := "ProgramReaderModel", name := "write", desc := "(II)I" } : Jvm.MethodName)) ∈ lw_all := lw_g (lw_at lw_m5 121 rfl) rfl
theorem q1176 : (Jvm.Cond.code ({ cls := "ProgramReaderModel", name := "write", desc := "(II)I" } : Jvm.MethodName) prog_10_method_59_code (4 : Nat) (Option.some Jvm.ClassFile.FieldType.int)) ∈ lw_all := lw_g (lw_at lw_m5 122 rfl) rfl
theorem q1177 : (Jvm.Cond.methodLink "ProgramReaderModel" (258 : Nat) ({ cls := "ProgramReaderModel", name := "show", desc := "(II)V" } : Jvm.MethodName)) ∈ lw_all := lw_g (lw_at lw_m5 123 rfl) rfl
theorem q1178 : (Jvm.Cond.privateMethod ({ cls := "ProgramReaderModel", name := "show", desc := "(II)V" } : Jvm.MethodName)) ∈ lw_tbl := lw_at lw_m5 124 rfl
theorem q1179 : (Jvm.Cond.instanceMethod ({ cls := "ProgramReaderModel", name := "show", desc := "(II)V" } : Jvm.MethodName)) ∈ lw_all := lw_g (lw_at lw_m5 125 rfl) rfl
theorem q1180 : (Jvm.Cond.code ({ cls := "ProgramReaderModel", name := "show", desc := "(II)V" } : Jvm.MethodName) prog_10_method_58_code (7 : Nat) (Option.none : Option Jvm.ClassFile.FieldType)) ∈ lw_all := lw_g (lw_at lw_m5 126 rfl) rfl
theorem q1181 : (Jvm.Cond.methodLink "ProgramReaderModel" (261 : Nat) ({ cls := "ProgramReaderModel", name := "kindAt", desc := "(II)I" } : Jvm.MethodName)) ∈ lw_all := lw_g (lw_at lw_m5 127 rfl) rfl
theorem q1182 : (Jvm.Cond.privateMethod ({ cls := "ProgramReaderModel", name := "kindAt", desc := "(II)I" } : Jvm.MethodName)) ∈ lw_tbl := lw_at lw_m5 128 rfl
theorem q1183 : (Jvm.Cond.instanceMethod ({ cls := "ProgramReaderModel", name := "kindAt", desc := "(II)I" } : Jvm.MethodName)) ∈ lw_all := lw_g (lw_at lw_m5 129 rfl) rfl
theorem q1184 : (Jvm.Cond.code ({ cls := "ProgramReaderModel", name := "kindAt", desc := "(II)I" } : Jvm.MethodName) prog_10_method_50_code (3 : Nat) (Option.some Jvm.ClassFile.FieldType.int)) ∈ lw_all := lw_g (lw_at lw_m5 130 rfl) rfl
theorem q1185 : (Jvm.Cond.methodLink "ProgramReaderModel" (268 : Nat) ({ cls := "ProgramReaderModel", name := "behind", desc := "(II)I" } : Jvm.MethodName)) ∈ lw_all := lw_g (lw_at lw_m5 131 rfl) rfl
theorem q1186 : (Jvm.Cond.privateMethod ({ cls := "ProgramReaderModel", name := "behind", desc := "(II)I" } : Jvm.MethodName)) ∈ lw_tbl := lw_at lw_m5 132 rfl
theorem q1187 : (Jvm.Cond.instanceMethod ({ cls := "ProgramReaderModel", name := "behind", desc := "(II)I" } : Jvm.MethodName)) ∈ lw_all := lw_g (lw_at lw_m5 133 rfl) rfl
theorem q1188 : (Jvm.Cond.code ({ cls := "ProgramReaderModel", name := "behind", desc := "(II)I" } : Jvm.MethodName) prog_10_method_51_code (3 : Nat) (Option.some Jvm.ClassFile.FieldType.int)) ∈ lw_all := lw_g (lw_at lw_m5 134 rfl) rfl
theorem q1189 : (Jvm.Cond.methodLink "ProgramReaderModel" (253 : Nat) ({ cls := "ProgramReaderModel", name := "begin", desc := "(I)V" } : Jvm.MethodName)) ∈ lw_all := lw_g (lw_at lw_m5 135 rfl) rfl
theorem q1190 : (Jvm.Cond.privateMethod ({ cls := "ProgramReaderModel", name := "begin", desc := "(I)V" } : Jvm.MethodName)) ∈ lw_tbl := lw_at lw_m5 136 rfl
theorem q1191 : (Jvm.Cond.instanceMethod ({ cls := "ProgramReaderModel", name := "begin", desc := "(I)V" } : Jvm.MethodName)) ∈ lw_all := lw_g (lw_at lw_m5 137 rfl) rfl
theorem q1192 : (Jvm.Cond.code ({ cls := "ProgramReaderModel", name := "begin", desc := "(I)V" } : Jvm.MethodName) prog_10_method_45_code (2 : Nat) (Option.none : Option Jvm.ClassFile.FieldType)) ∈ lw_all := lw_g (lw_at lw_m5 138 rfl) rfl
theorem q1193 : (Jvm.Cond.methodLink "ProgramReaderModel" (247 : Nat) ({ cls := "ProgramReaderModel", name := "isWordByte", desc := "(I)Z" } : Jvm.MethodName)) ∈ lw_all := lw_g (lw_at lw_m5 139 rfl) rfl
theorem q1194 : (Jvm.Cond.static ({ cls := "ProgramReaderModel", name := "isWordByte", desc := "(I)Z" } : Jvm.MethodName)) ∈ lw_all := lw_g (lw_at lw_m5 140 rfl) rfl
theorem q1195 : (Jvm.Cond.code ({ cls := "ProgramReaderModel", name := "isWordByte", desc := "(I)Z" } : Jvm.MethodName) prog_10_method_44_code (1 : Nat) (Option.some Jvm.ClassFile.FieldType.boolean)) ∈ lw_all := lw_g (lw_at lw_m5 141 rfl) rfl
theorem q1196 : (Jvm.Cond.methodLink "ProgramReaderModel" (250 : Nat) ({ cls := "ProgramReaderModel", name := "put", desc := "(I)V" } : Jvm.MethodName)) ∈ lw_all := lw_g (lw_at lw_m5 142 rfl) rfl
theorem q1197 : (Jvm.Cond.privateMethod ({ cls := "ProgramReaderModel", name := "put", desc := "(I)V" } : Jvm.MethodName)) ∈ lw_tbl := lw_at lw_m5 143 rfl
theorem q1198 : (Jvm.Cond.instanceMethod ({ cls := "ProgramReaderModel", name := "put", desc := "(I)V" } : Jvm.MethodName)) ∈ lw_all := lw_g (lw_at lw_m5 144 rfl) rfl
theorem q1199 : (Jvm.Cond.code ({ cls := "ProgramReaderModel", name := "put", desc := "(I)V" } : Jvm.MethodName) prog_10_method_46_code (2 : Nat) (Option.none : Option Jvm.ClassFile.FieldType)) ∈ lw_all := lw_g (lw_at lw_m5 145 rfl) rfl
theorem q1200 : (Jvm.Cond.methodLink "ProgramReaderModel" (293 : Nat) ({ cls := "ProgramReaderModel", name := "text", desc := "(Ljava/lang/String;)V" } : Jvm.MethodName)) ∈ lw_all := lw_g (lw_at lw_m5 146 rfl) rfl
theorem q1201 : (Jvm.Cond.privateMethod ({ cls := "ProgramReaderModel", name := "text", desc := "(Ljava/lang/String;)V" } : Jvm.MethodName)) ∈ lw_tbl := lw_at lw_m5 147 rfl
theorem q1202 : (Jvm.Cond.instanceMethod ({ cls := "ProgramReaderModel", name := "text", desc := "(Ljava/lang/String;)V" } : Jvm.MethodName)) ∈ lw_all := lw_g (lw_at lw_m5 148 rfl) rfl
theorem q1203 : (Jvm.Cond.code ({ cls := "ProgramReaderModel", name := "text", desc := "(Ljava/lang/String;)V" } : Jvm.MethodName) prog_10_method_47_code (3 : Nat) (Option.none : Option Jvm.ClassFile.FieldType)) ∈ lw_all := lw_g (lw_at lw_m5 149 rfl) rfl
theorem q1204 : (Jvm.Cond.methodLink "ProgramReaderModel" (297 : Nat) ({ cls := "ProgramReaderModel", name := "commas", desc := "(III)V" } : Jvm.MethodName)) ∈ lw_all := lw_g (lw_at lw_m5 150 rfl) rfl
theorem q1205 : (Jvm.Cond.privateMethod ({ cls := "ProgramReaderModel", name := "commas", desc := "(III)V" } : Jvm.MethodName)) ∈ lw_tbl := lw_at lw_m5 151 rfl
theorem q1206 : (Jvm.Cond.instanceMethod ({ cls := "ProgramReaderModel", name := "commas", desc := "(III)V" } : Jvm.MethodName)) ∈ lw_all := lw_g (lw_at lw_m5 152 rfl) rfl
theorem q1207 : (Jvm.Cond.code ({ cls := "ProgramReaderModel", name := "commas", desc := "(III)V" } : Jvm.MethodName) prog_10_method_55_code (5 : Nat) (Option.none : Option Jvm.ClassFile.FieldType)) ∈ lw_all := lw_g (lw_at lw_m5 153 rfl) rfl
theorem q1208 : (Jvm.Cond.methodLink "ProgramReaderModel" (301 : Nat) ({ cls := "ProgramReaderModel", name := "statements", desc := "(III)V" } : Jvm.MethodName)) ∈ lw_all := lw_g (lw_at lw_m5 154 rfl) rfl
theorem q1209 : (Jvm.Cond.privateMethod ({ cls := "ProgramReaderModel", name := "statements", desc := "(III)V" } : Jvm.MethodName)) ∈ lw_tbl := lw_at lw_m5 155 rfl
theorem q1210 : (Jvm.Cond.instanceMethod ({ cls := "ProgramReaderModel", name := "statements", desc := "(III)V" } : Jvm.MethodName)) ∈ lw_all := lw_g (lw_at lw_m5 156 rfl) rfl
theorem q1211 : (Jvm.Cond.code ({ cls := "ProgramReaderModel", name := "statements", desc := "(III)V" } : Jvm.MethodName) prog_10_method_57_code (6 : Nat) (Option.none : Option Jvm.ClassFile.FieldType)) ∈ lw_all := lw_g (lw_at lw_m5 157 rfl) rfl
theorem q1212 : (Jvm.Cond.methodLink "ProgramReaderModel" (304 : Nat) ({ cls := "ProgramReaderModel", name := "sayNumber", desc := "(I)V" } : Jvm.MethodName)) ∈ lw_all := lw_g (lw_at lw_m5 158 rfl) rfl
theorem q1213 : (Jvm.Cond.privateMethod ({ cls := "ProgramReaderModel", name := "sayNumber", desc := "(I)V" } : Jvm.MethodName)) ∈ lw_tbl := lw_at lw_m5 159 rfl
theorem q1214 : (Jvm.Cond.instanceMethod ({ cls := "ProgramReaderModel", name := "sayNumber", desc := "(I)V" } : Jvm.MethodName)) ∈ lw_all := lw_g (lw_at lw_m5 160 rfl) rfl
theorem q1215 : (Jvm.Cond.code ({ cls := "ProgramReaderModel", name := "sayNumber", desc := "(I)V" } : Jvm.MethodName) prog_10_method_49_code (8 : Nat) (Option.none : Option Jvm.ClassFile.FieldType)) ∈ lw_all := lw_g (lw_at lw_m5 161 rfl) rfl
theorem q1216 : (Jvm.Cond.constantLong "ProgramReaderModel" (256 : Nat) (9 : Int64)) ∈ lw_all := lw_g (lw_at lw_m5 162 rfl) rfl
theorem q1217 : (Jvm.Cond.methodLink "ProgramReaderModel" (307 : Nat) ({ cls := "ProgramReaderModel", name := "sayName", desc := "(I)V" } : Jvm.MethodName)) ∈ lw_all := lw_g (lw_at lw_m5 163 rfl) rfl
theorem q1218 : (Jvm.Cond.privateMethod ({ cls := "ProgramReaderModel", name := "sayName", desc := "(I)V" } : Jvm.MethodName)) ∈ lw_tbl := lw_at lw_m5 164 rfl
theorem q1219 : (Jvm.Cond.instanceMethod ({ cls := "ProgramReaderModel", name := "sayName", desc := "(I)V" } : Jvm.MethodName)) ∈ lw_all := lw_g (lw_at lw_m5 165 rfl) rfl
theorem q1220 : (Jvm.Cond.code ({ cls := "ProgramReaderModel", name := "sayName", desc := "(I)V" } : Jvm.MethodName) prog_10_method_48_code (3 : Nat) (Option.none : Option Jvm.ClassFile.FieldType)) ∈ lw_all := lw_g (lw_at lw_m5 166 rfl) rfl
theorem q1221 : (Jvm.Cond.methodLink "ProgramReaderModel" (310 : Nat) ({ cls := "ProgramReaderModel", name := "sayFactor", desc := "(IIZ)V" } : Jvm.MethodName)) ∈ lw_all := lw_g (lw_at lw_m5 167 rfl) rfl
theorem q1222 : (Jvm.Cond.privateMethod ({ cls := "ProgramReaderModel", name := "sayFactor", desc := "(IIZ)V" } : Jvm.MethodName)) ∈ lw_tbl := lw_at lw_m5 168 rfl
theorem q1223 : (Jvm.Cond.instanceMethod ({ cls := "ProgramReaderModel", name := "sayFactor", desc := "(IIZ)V" } : Jvm.MethodName)) ∈ lw_all := lw_g (lw_at lw_m5 169 rfl) rfl
theorem q1224 : (Jvm.Cond.code ({ cls := "ProgramReaderModel", name := "sayFactor", desc := "(IIZ)V" } : Jvm.MethodName) prog_10_method_53_code (5 : Nat) (Option.none : Option Jvm.ClassFile.FieldType)) ∈ lw_all := lw_g (lw_at lw_m5 170 rfl) rfl
theorem q1225 : (Jvm.Cond.methodLink "ProgramReaderModel" (264 : Nat) ({ cls := "ProgramReaderModel", name := "inside", desc := "(IIZII)V" } : Jvm.MethodName)) ∈ lw_all := lw_g (lw_at lw_m5 171 rfl) rfl
theorem q1226 : (Jvm.Cond.privateMethod ({ cls := "ProgramReaderModel", name := "inside", desc := "(IIZII)V" } : Jvm.MethodName)) ∈ lw_tbl := lw_at lw_m5 172 rfl
theorem q1227 : (Jvm.Cond.instanceMethod ({ cls := "ProgramReaderModel", name := "inside", desc := "(IIZII)V" } : Jvm.MethodName)) ∈ lw_all := lw_g (lw_at lw_m5 173 rfl) rfl
theorem q1228 : (Jvm.Cond.code ({ cls := "ProgramReaderModel", name := "inside", desc := "(IIZII)V" } : Jvm.MethodName) prog_10_method_52_code (6 : Nat) (Option.none : Option Jvm.ClassFile.FieldType)) ∈ lw_all := lw_g (lw_at lw_m5 174 rfl) rfl
theorem q1229 : (Jvm.Cond.methodLink "ProgramReaderModel" (314 : Nat) ({ cls := "ProgramReaderModel", name := "sign", desc := "(I)Ljava/lang/String;" } : Jvm.MethodName)) ∈ lw_all := lw_g (lw_at lw_m5 175 rfl) rfl
theorem q1230 : (Jvm.Cond.privateMethod ({ cls := "ProgramReaderModel", name := "sign", desc := "(I)Ljava/lang/String;" } : Jvm.MethodName)) ∈ lw_tbl := lw_at lw_m5 176 rfl
theorem q1231 : (Jvm.Cond.instanceMethod ({ cls := "ProgramReaderModel", name := "sign", desc := "(I)Ljava/lang/String;" } : Jvm.MethodName)) ∈ lw_all := lw_g (lw_at lw_m5 177 rfl) rfl
theorem q1232 : (Jvm.Cond.code ({ cls := "ProgramReaderModel", name := "sign", desc := "(I)Ljava/lang/String;" } : Jvm.MethodName) prog_10_method_56_code (2 : Nat) (Option.some (Jvm.ClassFile.FieldType.object "java/lang/String"))) ∈ lw_all := lw_g (lw_at lw_m5 178 rfl) rfl
theorem q1233 : (Jvm.Cond.stringRef "ProgramReaderModel" (271 : Nat) "+") ∈ lw_tbl := lw_at lw_m5 179 rfl
theorem q1234 : (Jvm.Cond.stringRef "ProgramReaderModel" (273 : Nat) "-") ∈ lw_tbl := lw_at lw_m5 180 rfl
theorem q1235 : (Jvm.Cond.stringRef "ProgramReaderModel" (275 : Nat) "*") ∈ lw_tbl := lw_at lw_m5 181 rfl
theorem q1236 : (Jvm.Cond.stringRef "ProgramReaderModel" (277 : Nat) "/") ∈ lw_tbl := lw_at lw_m5 182 rfl
theorem q1237 : (Jvm.Cond.stringRef "ProgramReaderModel" (279 : Nat) "%") ∈ lw_tbl := lw_at lw_m5 183 rfl
theorem q1238 : (Jvm.Cond.stringRef "ProgramReaderModel" (281 : Nat) "<") ∈ lw_tbl := lw_at lw_m5 184 rfl
theorem q1239 : (Jvm.Cond.stringRef "ProgramReaderModel" (283 : Nat) "<=") ∈ lw_tbl := lw_at lw_m5 185 rfl
theorem q1240 : (Jvm.Cond.stringRef "ProgramReaderModel" (285 : Nat) ">") ∈ lw_tbl := lw_at lw_m5 186 rfl
theorem q1241 : (Jvm.Cond.stringRef "ProgramReaderModel" (287 : Nat) ">=") ∈ lw_tbl := lw_at lw_m5 187 rfl
theorem q1242 : (Jvm.Cond.stringRef "ProgramReaderModel" (289 : Nat) "==") ∈ lw_tbl := lw_at lw_m5 188 rfl
theorem q1243 : (Jvm.Cond.stringRef "ProgramReaderModel" (291 : Nat) "!=") ∈ lw_tbl := lw_at lw_m5 189 rfl
theorem q1244 : (Jvm.Cond.stringRef "ProgramReaderModel" (318 : Nat) "||") ∈ lw_tbl := lw_at lw_m5 190 rfl
theorem q1245 : (Jvm.Cond.stringRef "ProgramReaderModel" (320 : Nat) "&&") ∈ lw_tbl := lw_at lw_m5 191 rfl
theorem q1246 : (Jvm.Cond.methodLink "ProgramReaderModel" (322 : Nat) ({ cls := "ProgramReaderModel", name := "sayTest", desc := "(IIZ)V" } : Jvm.MethodName)) ∈ lw_all := lw_g (lw_at lw_m5 192 rfl) rfl
theorem q1247 : (Jvm.Cond.privateMethod ({ cls := "ProgramReaderModel", name := "sayTest", desc := "(IIZ)V" } : Jvm.MethodName)) ∈ lw_tbl := lw_at lw_m5 193 rfl
theorem q1248 : (Jvm.Cond.instanceMethod ({ cls := "ProgramReaderModel", name := "sayTest", desc := "(IIZ)V" } : Jvm.MethodName)) ∈ lw_all := lw_g (lw_at lw_m5 194 rfl) rfl
theorem q1249 : (Jvm.Cond.code ({ cls := "ProgramReaderModel", name := "sayTest", desc := "(IIZ)V" } : Jvm.MethodName) prog_10_method_54_code (5 : Nat) (Option.none : Option Jvm.ClassFile.FieldType)) ∈ lw_all := lw_g (lw_at lw_m5 195 rfl) rfl
theorem q1251 : (Jvm.Cond.instanceMethod ({ cls := "ProgramReaderModel", name := "written", desc := "(I)I" } : Jvm.MethodName)) ∈ lw_all := lw_g (lw_at lw_m5 197 rfl) rfl
theorem q1252 : (Jvm.Cond.selects "ProgramReaderModel" ({ cls := "ProgramReaderModel", name := "written", desc := "(I)I" } : Jvm.MethodName) ({ cls := "ProgramReaderModel", name := "written", desc := "(I)I" } : Jvm.MethodName)) ∈ lw_all := lw_g (lw_at lw_m5 198 rfl) rfl
theorem q1253 : (Jvm.Cond.code ({ cls := "ProgramReaderModel", name := "written", desc := "(I)I" } : Jvm.MethodName) prog_10_method_60_code (2 : Nat) (Option.some Jvm.ClassFile.FieldType.int)) ∈ lw_all := lw_g (lw_at lw_m5 199 rfl) rfl
theorem q1255 : (Jvm.Cond.instanceMethod ({ cls := "ProgramReaderModel", name := "again", desc := "()I" } : Jvm.MethodName)) ∈ lw_all := lw_g (lw_at lw_m5 201 rfl) rfl
theorem q1256 : (Jvm.Cond.selects "ProgramReaderModel" ({ cls := "ProgramReaderModel", name := "again", desc := "()I" } : Jvm.MethodName) ({ cls := "ProgramReaderModel", name := "again", desc := "()I" } : Jvm.MethodName)) ∈ lw_all := lw_g (lw_at lw_m5 202 rfl) rfl
theorem q1257 : (Jvm.Cond.code ({ cls := "ProgramReaderModel", name := "again", desc := "()I" } : Jvm.MethodName) prog_10_method_61_code (2 : Nat) (Option.some Jvm.ClassFile.FieldType.int)) ∈ lw_all := lw_g (lw_at lw_m5 203 rfl) rfl
theorem in_X8 : ∀ w ∈ wsX80, w ∈ lw_all := lw_in wsX80 [945, 947, 949, 951, 953, 955, 957, 959, 961, 963, 965, 967, 969, 971, 973, 975, 977, 979, 981, 983, 985, 987, 989, 991, 993, 995, 997, 999, 1001, 1003, 1005, 1007] (by decide +kernel) (by decide +kernel)
