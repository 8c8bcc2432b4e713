/-! ObjectForgeModel -/
set_option maxRecDepth 100000
def RX2 : String := "ObjectForgeModel"
def TX2 : u_T := fun k => match k with
  | 0 => ("ObjectForgeModel", "thrown", "I", false)
  | 1 => ("ObjectForgeModel", "length", "I", false)
  | 2 => ("ObjectForgeModel", "text", "[B", true)
  | 3 => ("ObjectForgeModel", "objects", "I", false)
  | 4 => ("ObjectForgeModel", "linked", "I", false)
  | 5 => ("ObjectForgeModel", "bytes", "[B", true)
  | 6 => ("ObjectForgeModel", "sizes", "[I", true)
  | 7 => ("ObjectForgeModel", "symbolCount", "[I", true)
  | 8 => ("ObjectForgeModel", "referenceCount", "[I", true)
  | 9 => ("ObjectForgeModel", "nameA", "[J", true)
  | 10 => ("ObjectForgeModel", "nameB", "[J", true)
  | 11 => ("ObjectForgeModel", "nameC", "[J", true)
  | 12 => ("ObjectForgeModel", "nameLength", "[I", true)
  | 13 => ("ObjectForgeModel", "section", "[I", true)
  | 14 => ("ObjectForgeModel", "value", "[I", true)
  | 15 => ("ObjectForgeModel", "global", "[Z", true)
  | 16 => ("ObjectForgeModel", "refSection", "[I", true)
  | 17 => ("ObjectForgeModel", "refPlace", "[I", true)
  | 18 => ("ObjectForgeModel", "refKind", "[I", true)
  | 19 => ("ObjectForgeModel", "refSymbol", "[I", true)
  | 20 => ("ObjectForgeModel", "refAddend", "[I", true)
  | 21 => ("ObjectForgeModel", "refLine", "[I", true)
  | 22 => ("ObjectForgeModel", "fault", "I", false)
  | 23 => ("ObjectForgeModel", "faultLine", "I", false)
  | 24 => ("ObjectForgeModel", "linkFault", "I", false)
  | 25 => ("ObjectForgeModel", "linkObject", "I", false)
  | 26 => ("ObjectForgeModel", "linkWhich", "I", false)
  | 27 => ("ObjectForgeModel", "hasImage", "Z", false)
  | 28 => ("ObjectForgeModel", "base", "I", false)
  | 29 => ("ObjectForgeModel", "imageSize", "I", false)
  | 30 => ("ObjectForgeModel", "image", "[B", true)
  | 31 => ("ObjectForgeModel", "starts", "[I", true)
  | 32 => ("ObjectForgeModel", "addresses", "[I", true)
  | 33 => ("ObjectForgeModel", "at", "I", false)
  | 34 => ("ObjectForgeModel", "stop", "I", false)
  | 35 => ("ObjectForgeModel", "kind", "I", false)
  | 36 => ("ObjectForgeModel", "sign", "I", false)
  | 37 => ("ObjectForgeModel", "register", "I", false)
  | 38 => ("ObjectForgeModel", "nameSize", "I", false)
  | 39 => ("ObjectForgeModel", "stringSize", "I", false)
  | 40 => ("ObjectForgeModel", "number", "J", false)
  | 41 => ("ObjectForgeModel", "code", "J", false)
  | 42 => ("ObjectForgeModel", "first", "J", false)
  | 43 => ("ObjectForgeModel", "second", "J", false)
  | 44 => ("ObjectForgeModel", "third", "J", false)
  | 45 => ("ObjectForgeModel", "string", "[B", true)
  | 46 => ("ObjectForgeModel", "whose", "I", false)
  | 47 => ("ObjectForgeModel", "more", "I", false)
  | 48 => ("ObjectForgeModel", "half", "I", false)
  | 49 => ("ObjectForgeModel", "halfKind", "I", false)
  | 50 => ("ObjectForgeModel", "here", "I", false)
  | _ => ("ObjectForgeModel", "line", "I", false)
def tyX2 : Nat → FieldType := fun k => match k with
  | 0 => .int
  | 1 => .int
  | 2 => .array .byte
  | 3 => .int
  | 4 => .int
  | 5 => .array .byte
  | 6 => .array .int
  | 7 => .array .int
  | 8 => .array .int
  | 9 => .array .long
  | 10 => .array .long
  | 11 => .array .long
  | 12 => .array .int
  | 13 => .array .int
  | 14 => .array .int
  | 15 => .array .boolean
  | 16 => .array .int
  | 17 => .array .int
  | 18 => .array .int
  | 19 => .array .int
  | 20 => .array .int
  | 21 => .array .int
  | 22 => .int
  | 23 => .int
  | 24 => .int
  | 25 => .int
  | 26 => .int
  | 27 => .boolean
  | 28 => .int
  | 29 => .int
  | 30 => .array .byte
  | 31 => .array .int
  | 32 => .array .int
  | 33 => .int
  | 34 => .int
  | 35 => .int
  | 36 => .int
  | 37 => .int
  | 38 => .int
  | 39 => .int
  | 40 => .long
  | 41 => .long
  | 42 => .long
  | 43 => .long
  | 44 => .long
  | 45 => .array .byte
  | 46 => .int
  | 47 => .int
  | 48 => .int
  | 49 => .int
  | 50 => .int
  | _ => .int
abbrev wsX20 : List Cond := u_ws RX2 TX2 52
set_option maxRecDepth 100000 in
theorem nmX2 : ∀ a, a < 52 → ∀ b, b < 52 → a ≠ b → (TX2 a).2.1 ≠ (TX2 b).2.1 := by decide +kernel
set_option maxRecDepth 100000 in
theorem tyX2_ok : ∀ k, k < 52 → parseFieldDescriptor (TX2 k).2.2.1 = some (tyX2 k) := by decide +kernel
abbrev cX2_init : ByteArray := prog_4_method_1_code
def yX2_init : MethodName := ⟨RX2, "<init>", "()V"⟩
def dkwX2_init_8 : List UInt8 := [188, 10, 181, 0, 79, 42, 17, 2, 0, 188, 10, 181, 0, 82, 42, 17, 32, 0, 188, 8, 181, 0, 85, 177]
abbrev dktX2_init_8 : List UInt8 := dkwX2_init_8 ++ []
def dkwX2_init_7 : List UInt8 := [181, 0, 65, 42, 2, 181, 0, 68, 42, 2, 181, 0, 72, 42, 18, 75, 188, 8, 181, 0, 76, 42, 16, 24]
abbrev dktX2_init_7 : List UInt8 := dkwX2_init_7 ++ dktX2_init_8
def dkwX2_init_6 : List UInt8 := [17, 8, 0, 188, 10, 181, 0, 59, 42, 17, 8, 0, 188, 10, 181, 0, 62, 42, 17, 1, 0, 188, 10]
abbrev dktX2_init_6 : List UInt8 := dkwX2_init_6 ++ dktX2_init_7
def dkwX2_init_5 : List UInt8 := [181, 0, 50, 42, 17, 8, 0, 188, 10, 181, 0, 53, 42, 17, 8, 0, 188, 10, 181, 0, 56, 42]
abbrev dktX2_init_5 : List UInt8 := dkwX2_init_5 ++ dktX2_init_6
def dkwX2_init_4 : List UInt8 := [17, 2, 0, 188, 10, 181, 0, 43, 42, 17, 2, 0, 188, 4, 181, 0, 46, 42, 17, 8, 0, 188, 10]
abbrev dktX2_init_4 : List UInt8 := dkwX2_init_4 ++ dktX2_init_5
def dkwX2_init_3 : List UInt8 := [181, 0, 34, 42, 17, 2, 0, 188, 10, 181, 0, 37, 42, 17, 2, 0, 188, 10, 181, 0, 40, 42]
abbrev dktX2_init_3 : List UInt8 := dkwX2_init_3 ++ dktX2_init_4
def dkwX2_init_2 : List UInt8 := [17, 2, 0, 188, 11, 181, 0, 27, 42, 17, 2, 0, 188, 11, 181, 0, 31, 42, 17, 2, 0, 188, 11]
abbrev dktX2_init_2 : List UInt8 := dkwX2_init_2 ++ dktX2_init_3
def dkwX2_init_1 : List UInt8 := [188, 10, 181, 0, 17, 42, 16, 8, 188, 10, 181, 0, 21, 42, 16, 8, 188, 10, 181, 0, 24, 42]
abbrev dktX2_init_1 : List UInt8 := dkwX2_init_1 ++ dktX2_init_2
def dkwX2_init_0 : List UInt8 := [42, 183, 0, 1, 42, 17, 32, 0, 188, 8, 181, 0, 7, 42, 18, 13, 188, 8, 181, 0, 14, 42, 16, 24]
abbrev dktX2_init_0 : List UInt8 := dkwX2_init_0 ++ dktX2_init_1
theorem dksX2_init_0 : cX2_init.data.toList.drop 0 = dktX2_init_0 := by decide +kernel
theorem dksX2_init_1 : cX2_init.data.toList.drop 24 = dktX2_init_1 := dk_seg dksX2_init_0 24 rfl rfl
theorem dksX2_init_2 : cX2_init.data.toList.drop 46 = dktX2_init_2 := dk_seg dksX2_init_1 22 rfl rfl
theorem dksX2_init_3 : cX2_init.data.toList.drop 69 = dktX2_init_3 := dk_seg dksX2_init_2 23 rfl rfl
theorem dksX2_init_4 : cX2_init.data.toList.drop 91 = dktX2_init_4 := dk_seg dksX2_init_3 22 rfl rfl
theorem dksX2_init_5 : cX2_init.data.toList.drop 114 = dktX2_init_5 := dk_seg dksX2_init_4 23 rfl rfl
theorem dksX2_init_6 : cX2_init.data.toList.drop 136 = dktX2_init_6 := dk_seg dksX2_init_5 22 rfl rfl
theorem dksX2_init_7 : cX2_init.data.toList.drop 159 = dktX2_init_7 := dk_seg dksX2_init_6 23 rfl rfl
theorem dksX2_init_8 : cX2_init.data.toList.drop 183 = dktX2_init_8 := dk_seg dksX2_init_7 24 rfl rfl
theorem dX2_init_0 : decode cX2_init 0 = .ok (.aload_n 0, 1) := dk_42 (dk_at dksX2_init_0 0 rfl rfl)
theorem dX2_init_1 : decode cX2_init 1 = .ok (.invokespecial 1, 3) := dk_183 0 1 (dk_at dksX2_init_0 1 rfl rfl)
theorem dX2_init_4 : decode cX2_init 4 = .ok (.aload_n 0, 1) := dk_42 (dk_at dksX2_init_0 4 rfl rfl)
theorem dX2_init_5 : decode cX2_init 5 = .ok (.sipush 8192, 3) := dk_17 32 0 (dk_at dksX2_init_0 5 rfl rfl)
theorem dX2_init_8 : decode cX2_init 8 = .ok (.newarray .byte, 2) := dk_188_8 (dk_at dksX2_init_0 8 rfl rfl)
theorem dX2_init_10 : decode cX2_init 10 = .ok (.putfield 7, 3) := dk_181 0 7 (dk_at dksX2_init_0 10 rfl rfl)
theorem dX2_init_13 : decode cX2_init 13 = .ok (.aload_n 0, 1) := dk_42 (dk_at dksX2_init_0 13 rfl rfl)
theorem dX2_init_14 : decode cX2_init 14 = .ok (.ldc 13, 2) := dk_18 13 (dk_at dksX2_init_0 14 rfl rfl)
theorem dX2_init_16 : decode cX2_init 16 = .ok (.newarray .byte, 2) := dk_188_8 (dk_at dksX2_init_0 16 rfl rfl)
theorem dX2_init_18 : decode cX2_init 18 = .ok (.putfield 14, 3) := dk_181 0 14 (dk_at dksX2_init_0 18 rfl rfl)
theorem dX2_init_21 : decode cX2_init 21 = .ok (.aload_n 0, 1) := dk_42 (dk_at dksX2_init_0 21 rfl rfl)
theorem dX2_init_22 : decode cX2_init 22 = .ok (.bipush 24, 2) := dk_16 24 (dk_at dksX2_init_0 22 rfl rfl)
theorem dX2_init_24 : decode cX2_init 24 = .ok (.newarray .int, 2) := dk_188_10 (dk_at dksX2_init_1 0 rfl rfl)
theorem dX2_init_26 : decode cX2_init 26 = .ok (.putfield 17, 3) := dk_181 0 17 (dk_at dksX2_init_1 2 rfl rfl)
theorem dX2_init_29 : decode cX2_init 29 = .ok (.aload_n 0, 1) := dk_42 (dk_at dksX2_init_1 5 rfl rfl)
theorem dX2_init_30 : decode cX2_init 30 = .ok (.bipush 8, 2) := dk_16 8 (dk_at dksX2_init_1 6 rfl rfl)
theorem dX2_init_32 : decode cX2_init 32 = .ok (.newarray .int, 2) := dk_188_10 (dk_at dksX2_init_1 8 rfl rfl)
theorem dX2_init_34 : decode cX2_init 34 = .ok (.putfield 21, 3) := dk_181 0 21 (dk_at dksX2_init_1 10 rfl rfl)
theorem dX2_init_37 : decode cX2_init 37 = .ok (.aload_n 0, 1) := dk_42 (dk_at dksX2_init_1 13 rfl rfl)
theorem dX2_init_38 : decode cX2_init 38 = .ok (.bipush 8, 2) := dk_16 8 (dk_at dksX2_init_1 14 rfl rfl)
theorem dX2_init_40 : decode cX2_init 40 = .ok (.newarray .int, 2) := dk_188_10 (dk_at dksX2_init_1 16 rfl rfl)
theorem dX2_init_42 : decode cX2_init 42 = .ok (.putfield 24, 3) := dk_181 0 24 (dk_at dksX2_init_1 18 rfl rfl)
theorem dX2_init_45 : decode cX2_init 45 = .ok (.aload_n 0, 1) := dk_42 (dk_at dksX2_init_1 21 rfl rfl)
theorem dX2_init_46 : decode cX2_init 46 = .ok (.sipush 512, 3) := dk_17 2 0 (dk_at dksX2_init_2 0 rfl rfl)
theorem dX2_init_49 : decode cX2_init 49 = .ok (.newarray .long, 2) := dk_188_11 (dk_at dksX2_init_2 3 rfl rfl)
theorem dX2_init_51 : decode cX2_init 51 = .ok (.putfield 27, 3) := dk_181 0 27 (dk_at dksX2_init_2 5 rfl rfl)
theorem dX2_init_54 : decode cX2_init 54 = .ok (.aload_n 0, 1) := dk_42 (dk_at dksX2_init_2 8 rfl rfl)
theorem dX2_init_55 : decode cX2_init 55 = .ok (.sipush 512, 3) := dk_17 2 0 (dk_at dksX2_init_2 9 rfl rfl)
theorem dX2_init_58 : decode cX2_init 58 = .ok (.newarray .long, 2) := dk_188_11 (dk_at dksX2_init_2 12 rfl rfl)
theorem dX2_init_60 : decode cX2_init 60 = .ok (.putfield 31, 3) := dk_181 0 31 (dk_at dksX2_init_2 14 rfl rfl)
theorem dX2_init_63 : decode cX2_init 63 = .ok (.aload_n 0, 1) := dk_42 (dk_at dksX2_init_2 17 rfl rfl)
theorem dX2_init_64 : decode cX2_init 64 = .ok (.sipush 512, 3) := dk_17 2 0 (dk_at dksX2_init_2 18 rfl rfl)
theorem dX2_init_67 : decode cX2_init 67 = .ok (.newarray .long, 2) := dk_188_11 (dk_at dksX2_init_2 21 rfl rfl)
theorem dX2_init_69 : decode cX2_init 69 = .ok (.putfield 34, 3) := dk_181 0 34 (dk_at dksX2_init_3 0 rfl rfl)
theorem dX2_init_72 : decode cX2_init 72 = .ok (.aload_n 0, 1) := dk_42 (dk_at dksX2_init_3 3 rfl rfl)
theorem dX2_init_73 : decode cX2_init 73 = .ok (.sipush 512, 3) := dk_17 2 0 (dk_at dksX2_init_3 4 rfl rfl)
theorem dX2_init_76 : decode cX2_init 76 = .ok (.newarray .int, 2) := dk_188_10 (dk_at dksX2_init_3 7 rfl rfl)
theorem dX2_init_78 : decode cX2_init 78 = .ok (.putfield 37, 3) := dk_181 0 37 (dk_at dksX2_init_3 9 rfl rfl)
theorem dX2_init_81 : decode cX2_init 81 = .ok (.aload_n 0, 1) := dk_42 (dk_at dksX2_init_3 12 rfl rfl)
theorem dX2_init_82 : decode cX2_init 82 = .ok (.sipush 512, 3) := dk_17 2 0 (dk_at dksX2_init_3 13 rfl rfl)
theorem dX2_init_85 : decode cX2_init 85 = .ok (.newarray .int, 2) := dk_188_10 (dk_at dksX2_init_3 16 rfl rfl)
theorem dX2_init_87 : decode cX2_init 87 = .ok (.putfield 40, 3) := dk_181 0 40 (dk_at dksX2_init_3 18 rfl rfl)
theorem dX2_init_90 : decode cX2_init 90 = .ok (.aload_n 0, 1) := dk_42 (dk_at dksX2_init_3 21 rfl rfl)
theorem dX2_init_91 : decode cX2_init 91 = .ok (.sipush 512, 3) := dk_17 2 0 (dk_at dksX2_init_4 0 rfl rfl)
theorem dX2_init_94 : decode cX2_init 94 = .ok (.newarray .int, 2) := dk_188_10 (dk_at dksX2_init_4 3 rfl rfl)
theorem dX2_init_96 : decode cX2_init 96 = .ok (.putfield 43, 3) := dk_181 0 43 (dk_at dksX2_init_4 5 rfl rfl)
theorem dX2_init_99 : decode cX2_init 99 = .ok (.aload_n 0, 1) := dk_42 (dk_at dksX2_init_4 8 rfl rfl)
theorem dX2_init_100 : decode cX2_init 100 = .ok (.sipush 512, 3) := dk_17 2 0 (dk_at dksX2_init_4 9 rfl rfl)
theorem dX2_init_103 : decode cX2_init 103 = .ok (.newarray .boolean, 2) := dk_188_4 (dk_at dksX2_init_4 12 rfl rfl)
theorem dX2_init_105 : decode cX2_init 105 = .ok (.putfield 46, 3) := dk_181 0 46 (dk_at dksX2_init_4 14 rfl rfl)
theorem dX2_init_108 : decode cX2_init 108 = .ok (.aload_n 0, 1) := dk_42 (dk_at dksX2_init_4 17 rfl rfl)
theorem dX2_init_109 : decode cX2_init 109 = .ok (.sipush 2048, 3) := dk_17 8 0 (dk_at dksX2_init_4 18 rfl rfl)
theorem dX2_init_112 : decode cX2_init 112 = .ok (.newarray .int, 2) := dk_188_10 (dk_at dksX2_init_4 21 rfl rfl)
theorem dX2_init_114 : decode cX2_init 114 = .ok (.putfield 50, 3) := dk_181 0 50 (dk_at dksX2_init_5 0 rfl rfl)
theorem dX2_init_117 : decode cX2_init 117 = .ok (.aload_n 0, 1) := dk_42 (dk_at dksX2_init_5 3 rfl rfl)
theorem dX2_init_118 : decode cX2_init 118 = .ok (.sipush 2048, 3) := dk_17 8 0 (dk_at dksX2_init_5 4 rfl rfl)
theorem dX2_init_121 : decode cX2_init 121 = .ok (.newarray .int, 2) := dk_188_10 (dk_at dksX2_init_5 7 rfl rfl)
theorem dX2_init_123 : decode cX2_init 123 = .ok (.putfield 53, 3) := dk_181 0 53 (dk_at dksX2_init_5 9 rfl rfl)
theorem dX2_init_126 : decode cX2_init 126 = .ok (.aload_n 0, 1) := dk_42 (dk_at dksX2_init_5 12 rfl rfl)
theorem dX2_init_127 : decode cX2_init 127 = .ok (.sipush 2048, 3) := dk_17 8 0 (dk_at dksX2_init_5 13 rfl rfl)
theorem dX2_init_130 : decode cX2_init 130 = .ok (.newarray .int, 2) := dk_188_10 (dk_at dksX2_init_5 16 rfl rfl)
theorem dX2_init_132 : decode cX2_init 132 = .ok (.putfield 56, 3) := dk_181 0 56 (dk_at dksX2_init_5 18 rfl rfl)
theorem dX2_init_135 : decode cX2_init 135 = .ok (.aload_n 0, 1) := dk_42 (dk_at dksX2_init_5 21 rfl rfl)
theorem dX2_init_136 : decode cX2_init 136 = .ok (.sipush 2048, 3) := dk_17 8 0 (dk_at dksX2_init_6 0 rfl rfl)
theorem dX2_init_139 : decode cX2_init 139 = .ok (.newarray .int, 2) := dk_188_10 (dk_at dksX2_init_6 3 rfl rfl)
theorem dX2_init_141 : decode cX2_init 141 = .ok (.putfield 59, 3) := dk_181 0 59 (dk_at dksX2_init_6 5 rfl rfl)
theorem dX2_init_144 : decode cX2_init 144 = .ok (.aload_n 0, 1) := dk_42 (dk_at dksX2_init_6 8 rfl rfl)
theorem dX2_init_145 : decode cX2_init 145 = .ok (.sipush 2048, 3) := dk_17 8 0 (dk_at dksX2_init_6 9 rfl rfl)
theorem dX2_init_148 : decode cX2_init 148 = .ok (.newarray .int, 2) := dk_188_10 (dk_at dksX2_init_6 12 rfl rfl)
theorem dX2_init_150 : decode cX2_init 150 = .ok (.putfield 62, 3) := dk_181 0 62 (dk_at dksX2_init_6 14 rfl rfl)
theorem dX2_init_153 : decode cX2_init 153 = .ok (.aload_n 0, 1) := dk_42 (dk_at dksX2_init_6 17 rfl rfl)
theorem dX2_init_154 : decode cX2_init 154 = .ok (.sipush 256, 3) := dk_17 1 0 (dk_at dksX2_init_6 18 rfl rfl)
theorem dX2_init_157 : decode cX2_init 157 = .ok (.newarray .int, 2) := dk_188_10 (dk_at dksX2_init_6 21 rfl rfl)
theorem dX2_init_159 : decode cX2_init 159 = .ok (.putfield 65, 3) := dk_181 0 65 (dk_at dksX2_init_7 0 rfl rfl)
theorem dX2_init_162 : decode cX2_init 162 = .ok (.aload_n 0, 1) := dk_42 (dk_at dksX2_init_7 3 rfl rfl)
theorem dX2_init_163 : decode cX2_init 163 = .ok (.iconst (-1), 1) := dk_2 (dk_at dksX2_init_7 4 rfl rfl)
theorem dX2_init_164 : decode cX2_init 164 = .ok (.putfield 68, 3) := dk_181 0 68 (dk_at dksX2_init_7 5 rfl rfl)
theorem dX2_init_167 : decode cX2_init 167 = .ok (.aload_n 0, 1) := dk_42 (dk_at dksX2_init_7 8 rfl rfl)
theorem dX2_init_168 : decode cX2_init 168 = .ok (.iconst (-1), 1) := dk_2 (dk_at dksX2_init_7 9 rfl rfl)
theorem dX2_init_169 : decode cX2_init 169 = .ok (.putfield 72, 3) := dk_181 0 72 (dk_at dksX2_init_7 10 rfl rfl)
theorem dX2_init_172 : decode cX2_init 172 = .ok (.aload_n 0, 1) := dk_42 (dk_at dksX2_init_7 13 rfl rfl)
theorem dX2_init_173 : decode cX2_init 173 = .ok (.ldc 75, 2) := dk_18 75 (dk_at dksX2_init_7 14 rfl rfl)
theorem dX2_init_175 : decode cX2_init 175 = .ok (.newarray .byte, 2) := dk_188_8 (dk_at dksX2_init_7 16 rfl rfl)
theorem dX2_init_177 : decode cX2_init 177 = .ok (.putfield 76, 3) := dk_181 0 76 (dk_at dksX2_init_7 18 rfl rfl)
theorem dX2_init_180 : decode cX2_init 180 = .ok (.aload_n 0, 1) := dk_42 (dk_at dksX2_init_7 21 rfl rfl)
theorem dX2_init_181 : decode cX2_init 181 = .ok (.bipush 24, 2) := dk_16 24 (dk_at dksX2_init_7 22 rfl rfl)
theorem dX2_init_183 : decode cX2_init 183 = .ok (.newarray .int, 2) := dk_188_10 (dk_at dksX2_init_8 0 rfl rfl)
theorem dX2_init_185 : decode cX2_init 185 = .ok (.putfield 79, 3) := dk_181 0 79 (dk_at dksX2_init_8 2 rfl rfl)
theorem dX2_init_188 : decode cX2_init 188 = .ok (.aload_n 0, 1) := dk_42 (dk_at dksX2_init_8 5 rfl rfl)
theorem dX2_init_189 : decode cX2_init 189 = .ok (.sipush 512, 3) := dk_17 2 0 (dk_at dksX2_init_8 6 rfl rfl)
theorem dX2_init_192 : decode cX2_init 192 = .ok (.newarray .int, 2) := dk_188_10 (dk_at dksX2_init_8 9 rfl rfl)
theorem dX2_init_194 : decode cX2_init 194 = .ok (.putfield 82, 3) := dk_181 0 82 (dk_at dksX2_init_8 11 rfl rfl)
theorem dX2_init_197 : decode cX2_init 197 = .ok (.aload_n 0, 1) := dk_42 (dk_at dksX2_init_8 14 rfl rfl)
theorem dX2_init_198 : decode cX2_init 198 = .ok (.sipush 8192, 3) := dk_17 32 0 (dk_at dksX2_init_8 15 rfl rfl)
theorem dX2_init_201 : decode cX2_init 201 = .ok (.newarray .byte, 2) := dk_188_8 (dk_at dksX2_init_8 18 rfl rfl)
theorem dX2_init_203 : decode cX2_init 203 = .ok (.putfield 85, 3) := dk_181 0 85 (dk_at dksX2_init_8 20 rfl rfl)
theorem dX2_init_206 : decode cX2_init 206 = .ok (.return_, 1) := dk_177 (dk_at dksX2_init_8 23 rfl rfl)
abbrev cX2_thrown : ByteArray := prog_4_method_2_code
def yX2_thrown : MethodName := ⟨RX2, "thrown", "()I"⟩
theorem dX2_thrown_0 : decode cX2_thrown 0 = .ok (.aload_n 0, 1) := by decide +kernel
theorem dX2_thrown_1 : decode cX2_thrown 1 = .ok (.getfield 88, 3) := by decide +kernel
theorem dX2_thrown_4 : decode cX2_thrown 4 = .ok (.ireturn, 1) := by decide +kernel
abbrev cX2_feed : ByteArray := prog_4_method_5_code
def yX2_feed : MethodName := ⟨RX2, "feed", "(IIII)I"⟩
def dkwX2_feed_2 : List UInt8 := [180, 0, 91, 172]
abbrev dktX2_feed_2 : List UInt8 := dkwX2_feed_2 ++ []
def dkwX2_feed_1 : List UInt8 := [42, 27, 182, 0, 98, 42, 28, 182, 0, 98, 42, 29, 182, 0, 98, 42, 21, 4, 182, 0, 98, 42]
abbrev dktX2_feed_1 : List UInt8 := dkwX2_feed_1 ++ dktX2_feed_2
def dkwX2_feed_0 : List UInt8 := [42, 3, 181, 0, 88, 42, 180, 0, 91, 16, 16, 96, 17, 32, 0, 164, 0, 9, 42, 4, 182, 0, 94, 172]
abbrev dktX2_feed_0 : List UInt8 := dkwX2_feed_0 ++ dktX2_feed_1
theorem dksX2_feed_0 : cX2_feed.data.toList.drop 0 = dktX2_feed_0 := by decide +kernel
theorem dksX2_feed_1 : cX2_feed.data.toList.drop 24 = dktX2_feed_1 := dk_seg dksX2_feed_0 24 rfl rfl
theorem dksX2_feed_2 : cX2_feed.data.toList.drop 46 = dktX2_feed_2 := dk_seg dksX2_feed_1 22 rfl rfl
theorem dX2_feed_0 : decode cX2_feed 0 = .ok (.aload_n 0, 1) := dk_42 (dk_at dksX2_feed_0 0 rfl rfl)
theorem dX2_feed_1 : decode cX2_feed 1 = .ok (.iconst 0, 1) := dk_3 (dk_at dksX2_feed_0 1 rfl rfl)
theorem dX2_feed_2 : decode cX2_feed 2 = .ok (.putfield 88, 3) := dk_181 0 88 (dk_at dksX2_feed_0 2 rfl rfl)
theorem dX2_feed_5 : decode cX2_feed 5 = .ok (.aload_n 0, 1) := dk_42 (dk_at dksX2_feed_0 5 rfl rfl)
theorem dX2_feed_6 : decode cX2_feed 6 = .ok (.getfield 91, 3) := dk_180 0 91 (dk_at dksX2_feed_0 6 rfl rfl)
theorem dX2_feed_9 : decode cX2_feed 9 = .ok (.bipush 16, 2) := dk_16 16 (dk_at dksX2_feed_0 9 rfl rfl)
theorem dX2_feed_11 : decode cX2_feed 11 = .ok (.iadd, 1) := dk_96 (dk_at dksX2_feed_0 11 rfl rfl)
theorem dX2_feed_12 : decode cX2_feed 12 = .ok (.sipush 8192, 3) := dk_17 32 0 (dk_at dksX2_feed_0 12 rfl rfl)
theorem dX2_feed_15 : decode cX2_feed 15 = .ok (.if_icmp .le 9, 3) := dk_164 0 9 (dk_at dksX2_feed_0 15 rfl rfl)
theorem dX2_feed_18 : decode cX2_feed 18 = .ok (.aload_n 0, 1) := dk_42 (dk_at dksX2_feed_0 18 rfl rfl)
theorem dX2_feed_19 : decode cX2_feed 19 = .ok (.iconst 1, 1) := dk_4 (dk_at dksX2_feed_0 19 rfl rfl)
theorem dX2_feed_20 : decode cX2_feed 20 = .ok (.invokevirtual 94, 3) := dk_182 0 94 (dk_at dksX2_feed_0 20 rfl rfl)
theorem dX2_feed_23 : decode cX2_feed 23 = .ok (.ireturn, 1) := dk_172 (dk_at dksX2_feed_0 23 rfl rfl)
theorem dX2_feed_24 : decode cX2_feed 24 = .ok (.aload_n 0, 1) := dk_42 (dk_at dksX2_feed_1 0 rfl rfl)
theorem dX2_feed_25 : decode cX2_feed 25 = .ok (.iload_n 1, 1) := dk_27 (dk_at dksX2_feed_1 1 rfl rfl)
theorem dX2_feed_26 : decode cX2_feed 26 = .ok (.invokevirtual 98, 3) := dk_182 0 98 (dk_at dksX2_feed_1 2 rfl rfl)
theorem dX2_feed_29 : decode cX2_feed 29 = .ok (.aload_n 0, 1) := dk_42 (dk_at dksX2_feed_1 5 rfl rfl)
theorem dX2_feed_30 : decode cX2_feed 30 = .ok (.iload_n 2, 1) := dk_28 (dk_at dksX2_feed_1 6 rfl rfl)
theorem dX2_feed_31 : decode cX2_feed 31 = .ok (.invokevirtual 98, 3) := dk_182 0 98 (dk_at dksX2_feed_1 7 rfl rfl)
theorem dX2_feed_34 : decode cX2_feed 34 = .ok (.aload_n 0, 1) := dk_42 (dk_at dksX2_feed_1 10 rfl rfl)
theorem dX2_feed_35 : decode cX2_feed 35 = .ok (.iload_n 3, 1) := dk_29 (dk_at dksX2_feed_1 11 rfl rfl)
theorem dX2_feed_36 : decode cX2_feed 36 = .ok (.invokevirtual 98, 3) := dk_182 0 98 (dk_at dksX2_feed_1 12 rfl rfl)
theorem dX2_feed_39 : decode cX2_feed 39 = .ok (.aload_n 0, 1) := dk_42 (dk_at dksX2_feed_1 15 rfl rfl)
theorem dX2_feed_40 : decode cX2_feed 40 = .ok (.iload 4, 2) := dk_21 4 (dk_at dksX2_feed_1 16 rfl rfl)
theorem dX2_feed_42 : decode cX2_feed 42 = .ok (.invokevirtual 98, 3) := dk_182 0 98 (dk_at dksX2_feed_1 18 rfl rfl)
theorem dX2_feed_45 : decode cX2_feed 45 = .ok (.aload_n 0, 1) := dk_42 (dk_at dksX2_feed_1 21 rfl rfl)
theorem dX2_feed_46 : decode cX2_feed 46 = .ok (.getfield 91, 3) := dk_180 0 91 (dk_at dksX2_feed_2 0 rfl rfl)
theorem dX2_feed_49 : decode cX2_feed 49 = .ok (.ireturn, 1) := dk_172 (dk_at dksX2_feed_2 3 rfl rfl)
abbrev cX2_refuse : ByteArray := prog_4_method_3_code
def yX2_refuse : MethodName := ⟨RX2, "refuse", "(I)I"⟩
def dkwX2_refuse_0 : List UInt8 := [42, 27, 181, 0, 88, 3, 172]
abbrev dktX2_refuse_0 : List UInt8 := dkwX2_refuse_0 ++ []
theorem dksX2_refuse_0 : cX2_refuse.data.toList.drop 0 = dktX2_refuse_0 := by decide +kernel
theorem dX2_refuse_0 : decode cX2_refuse 0 = .ok (.aload_n 0, 1) := dk_42 (dk_at dksX2_refuse_0 0 rfl rfl)
theorem dX2_refuse_1 : decode cX2_refuse 1 = .ok (.iload_n 1, 1) := dk_27 (dk_at dksX2_refuse_0 1 rfl rfl)
theorem dX2_refuse_2 : decode cX2_refuse 2 = .ok (.putfield 88, 3) := dk_181 0 88 (dk_at dksX2_refuse_0 2 rfl rfl)
theorem dX2_refuse_5 : decode cX2_refuse 5 = .ok (.iconst 0, 1) := dk_3 (dk_at dksX2_refuse_0 5 rfl rfl)
theorem dX2_refuse_6 : decode cX2_refuse 6 = .ok (.ireturn, 1) := dk_172 (dk_at dksX2_refuse_0 6 rfl rfl)
abbrev cX2_four : ByteArray := prog_4_method_4_code
def yX2_four : MethodName := ⟨RX2, "four", "(I)V"⟩
def dkwX2_four_1 : List UInt8 := [180, 0, 91, 4, 96, 181, 0, 91, 132, 2, 248, 167, 255, 226, 177]
abbrev dktX2_four_1 : List UInt8 := dkwX2_four_1 ++ []
def dkwX2_four_0 : List UInt8 := [16, 24, 61, 28, 155, 0, 32, 42, 180, 0, 7, 42, 180, 0, 91, 27, 28, 122, 145, 84, 42, 89]
abbrev dktX2_four_0 : List UInt8 := dkwX2_four_0 ++ dktX2_four_1
theorem dksX2_four_0 : cX2_four.data.toList.drop 0 = dktX2_four_0 := by decide +kernel
theorem dksX2_four_1 : cX2_four.data.toList.drop 22 = dktX2_four_1 := dk_seg dksX2_four_0 22 rfl rfl
theorem dX2_four_0 : decode cX2_four 0 = .ok (.bipush 24, 2) := dk_16 24 (dk_at dksX2_four_0 0 rfl rfl)
theorem dX2_four_2 : decode cX2_four 2 = .ok (.istore_n 2, 1) := dk_61 (dk_at dksX2_four_0 2 rfl rfl)
theorem dX2_four_3 : decode cX2_four 3 = .ok (.iload_n 2, 1) := dk_28 (dk_at dksX2_four_0 3 rfl rfl)
theorem dX2_four_4 : decode cX2_four 4 = .ok (.ifCond .lt 32, 3) := dk_155 0 32 (dk_at dksX2_four_0 4 rfl rfl)
theorem dX2_four_7 : decode cX2_four 7 = .ok (.aload_n 0, 1) := dk_42 (dk_at dksX2_four_0 7 rfl rfl)
theorem dX2_four_8 : decode cX2_four 8 = .ok (.getfield 7, 3) := dk_180 0 7 (dk_at dksX2_four_0 8 rfl rfl)
theorem dX2_four_11 : decode cX2_four 11 = .ok (.aload_n 0, 1) := dk_42 (dk_at dksX2_four_0 11 rfl rfl)
theorem dX2_four_12 : decode cX2_four 12 = .ok (.getfield 91, 3) := dk_180 0 91 (dk_at dksX2_four_0 12 rfl rfl)
theorem dX2_four_15 : decode cX2_four 15 = .ok (.iload_n 1, 1) := dk_27 (dk_at dksX2_four_0 15 rfl rfl)
theorem dX2_four_16 : decode cX2_four 16 = .ok (.iload_n 2, 1) := dk_28 (dk_at dksX2_four_0 16 rfl rfl)
theorem dX2_four_17 : decode cX2_four 17 = .ok (.ishr, 1) := dk_122 (dk_at dksX2_four_0 17 rfl rfl)
theorem dX2_four_18 : decode cX2_four 18 = .ok (.i2b, 1) := dk_145 (dk_at dksX2_four_0 18 rfl rfl)
theorem dX2_four_19 : decode cX2_four 19 = .ok (.bastore, 1) := dk_84 (dk_at dksX2_four_0 19 rfl rfl)
theorem dX2_four_20 : decode cX2_four 20 = .ok (.aload_n 0, 1) := dk_42 (dk_at dksX2_four_0 20 rfl rfl)
theorem dX2_four_21 : decode cX2_four 21 = .ok (.dup, 1) := dk_89 (dk_at dksX2_four_0 21 rfl rfl)
theorem dX2_four_22 : decode cX2_four 22 = .ok (.getfield 91, 3) := dk_180 0 91 (dk_at dksX2_four_1 0 rfl rfl)
theorem dX2_four_25 : decode cX2_four 25 = .ok (.iconst 1, 1) := dk_4 (dk_at dksX2_four_1 3 rfl rfl)
theorem dX2_four_26 : decode cX2_four 26 = .ok (.iadd, 1) := dk_96 (dk_at dksX2_four_1 4 rfl rfl)
theorem dX2_four_27 : decode cX2_four 27 = .ok (.putfield 91, 3) := dk_181 0 91 (dk_at dksX2_four_1 5 rfl rfl)
theorem dX2_four_30 : decode cX2_four 30 = .ok (.iinc 2 (-8), 3) := dk_132 2 248 (dk_at dksX2_four_1 8 rfl rfl)
theorem dX2_four_33 : decode cX2_four 33 = .ok (.goto (-30), 3) := dk_167 255 226 (dk_at dksX2_four_1 11 rfl rfl)
theorem dX2_four_36 : decode cX2_four 36 = .ok (.return_, 1) := dk_177 (dk_at dksX2_four_1 14 rfl rfl)
abbrev cX2_end : ByteArray := prog_4_method_6_code
def yX2_end : MethodName := ⟨RX2, "end", "(I)I"⟩
def dkwX2_end_1 : List UInt8 := [4, 182, 0, 94, 172, 42, 89, 180, 0, 91, 27, 100, 181, 0, 91, 42, 180, 0, 91, 172]
abbrev dktX2_end_1 : List UInt8 := dkwX2_end_1 ++ []
def dkwX2_end_0 : List UInt8 := [42, 3, 181, 0, 88, 27, 155, 0, 17, 27, 16, 15, 163, 0, 11, 27, 42, 180, 0, 91, 164, 0, 9, 42]
abbrev dktX2_end_0 : List UInt8 := dkwX2_end_0 ++ dktX2_end_1
theorem dksX2_end_0 : cX2_end.data.toList.drop 0 = dktX2_end_0 := by decide +kernel
theorem dksX2_end_1 : cX2_end.data.toList.drop 24 = dktX2_end_1 := dk_seg dksX2_end_0 24 rfl rfl
theorem dX2_end_0 : decode cX2_end 0 = .ok (.aload_n 0, 1) := dk_42 (dk_at dksX2_end_0 0 rfl rfl)
theorem dX2_end_1 : decode cX2_end 1 = .ok (.iconst 0, 1) := dk_3 (dk_at dksX2_end_0 1 rfl rfl)
theorem dX2_end_2 : decode cX2_end 2 = .ok (.putfield 88, 3) := dk_181 0 88 (dk_at dksX2_end_0 2 rfl rfl)
theorem dX2_end_5 : decode cX2_end 5 = .ok (.iload_n 1, 1) := dk_27 (dk_at dksX2_end_0 5 rfl rfl)
theorem dX2_end_6 : decode cX2_end 6 = .ok (.ifCond .lt 17, 3) := dk_155 0 17 (dk_at dksX2_end_0 6 rfl rfl)
theorem dX2_end_9 : decode cX2_end 9 = .ok (.iload_n 1, 1) := dk_27 (dk_at dksX2_end_0 9 rfl rfl)
theorem dX2_end_10 : decode cX2_end 10 = .ok (.bipush 15, 2) := dk_16 15 (dk_at dksX2_end_0 10 rfl rfl)
theorem dX2_end_12 : decode cX2_end 12 = .ok (.if_icmp .gt 11, 3) := dk_163 0 11 (dk_at dksX2_end_0 12 rfl rfl)
theorem dX2_end_15 : decode cX2_end 15 = .ok (.iload_n 1, 1) := dk_27 (dk_at dksX2_end_0 15 rfl rfl)
theorem dX2_end_16 : decode cX2_end 16 = .ok (.aload_n 0, 1) := dk_42 (dk_at dksX2_end_0 16 rfl rfl)
theorem dX2_end_17 : decode cX2_end 17 = .ok (.getfield 91, 3) := dk_180 0 91 (dk_at dksX2_end_0 17 rfl rfl)
theorem dX2_end_20 : decode cX2_end 20 = .ok (.if_icmp .le 9, 3) := dk_164 0 9 (dk_at dksX2_end_0 20 rfl rfl)
theorem dX2_end_23 : decode cX2_end 23 = .ok (.aload_n 0, 1) := dk_42 (dk_at dksX2_end_0 23 rfl rfl)
theorem dX2_end_24 : decode cX2_end 24 = .ok (.iconst 1, 1) := dk_4 (dk_at dksX2_end_1 0 rfl rfl)
theorem dX2_end_25 : decode cX2_end 25 = .ok (.invokevirtual 94, 3) := dk_182 0 94 (dk_at dksX2_end_1 1 rfl rfl)
theorem dX2_end_28 : decode cX2_end 28 = .ok (.ireturn, 1) := dk_172 (dk_at dksX2_end_1 4 rfl rfl)
theorem dX2_end_29 : decode cX2_end 29 = .ok (.aload_n 0, 1) := dk_42 (dk_at dksX2_end_1 5 rfl rfl)
theorem dX2_end_30 : decode cX2_end 30 = .ok (.dup, 1) := dk_89 (dk_at dksX2_end_1 6 rfl rfl)
theorem dX2_end_31 : decode cX2_end 31 = .ok (.getfield 91, 3) := dk_180 0 91 (dk_at dksX2_end_1 7 rfl rfl)
theorem dX2_end_34 : decode cX2_end 34 = .ok (.iload_n 1, 1) := dk_27 (dk_at dksX2_end_1 10 rfl rfl)
theorem dX2_end_35 : decode cX2_end 35 = .ok (.isub, 1) := dk_100 (dk_at dksX2_end_1 11 rfl rfl)
theorem dX2_end_36 : decode cX2_end 36 = .ok (.putfield 91, 3) := dk_181 0 91 (dk_at dksX2_end_1 12 rfl rfl)
theorem dX2_end_39 : decode cX2_end 39 = .ok (.aload_n 0, 1) := dk_42 (dk_at dksX2_end_1 15 rfl rfl)
theorem dX2_end_40 : decode cX2_end 40 = .ok (.getfield 91, 3) := dk_180 0 91 (dk_at dksX2_end_1 16 rfl rfl)
theorem dX2_end_43 : decode cX2_end 43 = .ok (.ireturn, 1) := dk_172 (dk_at dksX2_end_1 19 rfl rfl)
abbrev cX2_assemble : ByteArray := prog_4_method_72_code
def yX2_assemble : MethodName := ⟨RX2, "assemble", "()I"⟩
def dkwX2_assemble_8 : List UInt8 := [154, 0, 5, 2, 172, 42, 89, 180, 3, 242, 4, 96, 181, 3, 242, 42, 180, 3, 242, 4, 100, 172]
abbrev dktX2_assemble_8 : List UInt8 := dkwX2_assemble_8 ++ []
def dkwX2_assemble_7 : List UInt8 := [42, 182, 3, 217, 153, 0, 7, 3, 167, 0, 7, 42, 180, 4, 31, 181, 4, 151, 42, 182, 3, 217]
abbrev dktX2_assemble_7 : List UInt8 := dkwX2_assemble_7 ++ dktX2_assemble_8
def dkwX2_assemble_6 : List UInt8 := [28, 29, 182, 4, 145, 29, 4, 96, 61, 167, 255, 200, 42, 182, 3, 217, 153, 0, 7, 42, 182, 4, 148, 42]
abbrev dktX2_assemble_6 : List UInt8 := dkwX2_assemble_6 ++ dktX2_assemble_7
def dkwX2_assemble_5 : List UInt8 := [29, 51, 16, 10, 159, 0, 9, 132, 3, 1, 167, 255, 237, 42, 89, 180, 4, 31, 4, 96, 181, 4, 31, 42]
abbrev dktX2_assemble_5 : List UInt8 := dkwX2_assemble_5 ++ dktX2_assemble_6
def dkwX2_assemble_4 : List UInt8 := [61, 28, 27, 163, 0, 57, 42, 182, 3, 217, 153, 0, 50, 28, 62, 29, 27, 162, 0, 20, 42, 180, 0, 7]
abbrev dktX2_assemble_4 : List UInt8 := dkwX2_assemble_4 ++ dktX2_assemble_5
def dkwX2_assemble_3 : List UInt8 := [162, 0, 23, 42, 180, 0, 17, 6, 42, 180, 3, 242, 104, 28, 96, 3, 79, 132, 2, 1, 167, 255, 234, 3]
abbrev dktX2_assemble_3 : List UInt8 := dkwX2_assemble_3 ++ dktX2_assemble_4
def dkwX2_assemble_2 : List UInt8 := [180, 0, 21, 42, 180, 3, 242, 3, 79, 42, 180, 0, 24, 42, 180, 3, 242, 3, 79, 3, 61, 28, 6]
abbrev dktX2_assemble_2 : List UInt8 := dkwX2_assemble_2 ++ dktX2_assemble_3
def dkwX2_assemble_1 : List UInt8 := [42, 4, 182, 0, 94, 172, 42, 3, 181, 3, 214, 42, 3, 181, 4, 31, 42, 3, 181, 4, 26, 42]
abbrev dktX2_assemble_1 : List UInt8 := dkwX2_assemble_1 ++ dktX2_assemble_2
def dkwX2_assemble_0 : List UInt8 := [42, 3, 181, 0, 88, 42, 180, 0, 91, 60, 42, 3, 181, 0, 91, 42, 180, 3, 242, 16, 8, 160, 0, 9]
abbrev dktX2_assemble_0 : List UInt8 := dkwX2_assemble_0 ++ dktX2_assemble_1
theorem dksX2_assemble_0 : cX2_assemble.data.toList.drop 0 = dktX2_assemble_0 := by decide +kernel
theorem dksX2_assemble_1 : cX2_assemble.data.toList.drop 24 = dktX2_assemble_1 := dk_seg dksX2_assemble_0 24 rfl rfl
theorem dksX2_assemble_2 : cX2_assemble.data.toList.drop 46 = dktX2_assemble_2 := dk_seg dksX2_assemble_1 22 rfl rfl
theorem dksX2_assemble_3 : cX2_assemble.data.toList.drop 69 = dktX2_assemble_3 := dk_seg dksX2_assemble_2 23 rfl rfl
theorem dksX2_assemble_4 : cX2_assemble.data.toList.drop 93 = dktX2_assemble_4 := dk_seg dksX2_assemble_3 24 rfl rfl
theorem dksX2_assemble_5 : cX2_assemble.data.toList.drop 117 = dktX2_assemble_5 := dk_seg dksX2_assemble_4 24 rfl rfl
theorem dksX2_assemble_6 : cX2_assemble.data.toList.drop 141 = dktX2_assemble_6 := dk_seg dksX2_assemble_5 24 rfl rfl
theorem dksX2_assemble_7 : cX2_assemble.data.toList.drop 165 = dktX2_assemble_7 := dk_seg dksX2_assemble_6 24 rfl rfl
theorem dksX2_assemble_8 : cX2_assemble.data.toList.drop 187 = dktX2_assemble_8 := dk_seg dksX2_assemble_7 22 rfl rfl
theorem dX2_assemble_0 : decode cX2_assemble 0 = .ok (.aload_n 0, 1) := dk_42 (dk_at dksX2_assemble_0 0 rfl rfl)
theorem dX2_assemble_1 : decode cX2_assemble 1 = .ok (.iconst 0, 1) := dk_3 (dk_at dksX2_assemble_0 1 rfl rfl)
theorem dX2_assemble_2 : decode cX2_assemble 2 = .ok (.putfield 88, 3) := dk_181 0 88 (dk_at dksX2_assemble_0 2 rfl rfl)
theorem dX2_assemble_5 : decode cX2_assemble 5 = .ok (.aload_n 0, 1) := dk_42 (dk_at dksX2_assemble_0 5 rfl rfl)
theorem dX2_assemble_6 : decode cX2_assemble 6 = .ok (.getfield 91, 3) := dk_180 0 91 (dk_at dksX2_assemble_0 6 rfl rfl)
theorem dX2_assemble_9 : decode cX2_assemble 9 = .ok (.istore_n 1, 1) := dk_60 (dk_at dksX2_assemble_0 9 rfl rfl)
theorem dX2_assemble_10 : decode cX2_assemble 10 = .ok (.aload_n 0, 1) := dk_42 (dk_at dksX2_assemble_0 10 rfl rfl)
theorem dX2_assemble_11 : decode cX2_assemble 11 = .ok (.iconst 0, 1) := dk_3 (dk_at dksX2_assemble_0 11 rfl rfl)
theorem dX2_assemble_12 : decode cX2_assemble 12 = .ok (.putfield 91, 3) := dk_181 0 91 (dk_at dksX2_assemble_0 12 rfl rfl)
theorem dX2_assemble_15 : decode cX2_assemble 15 = .ok (.aload_n 0, 1) := dk_42 (dk_at dksX2_assemble_0 15 rfl rfl)
theorem dX2_assemble_16 : decode cX2_assemble 16 = .ok (.getfield 1010, 3) := dk_180 3 242 (dk_at dksX2_assemble_0 16 rfl rfl)
theorem dX2_assemble_19 : decode cX2_assemble 19 = .ok (.bipush 8, 2) := dk_16 8 (dk_at dksX2_assemble_0 19 rfl rfl)
theorem dX2_assemble_21 : decode cX2_assemble 21 = .ok (.if_icmp .ne 9, 3) := dk_160 0 9 (dk_at dksX2_assemble_0 21 rfl rfl)
theorem dX2_assemble_24 : decode cX2_assemble 24 = .ok (.aload_n 0, 1) := dk_42 (dk_at dksX2_assemble_1 0 rfl rfl)
theorem dX2_assemble_25 : decode cX2_assemble 25 = .ok (.iconst 1, 1) := dk_4 (dk_at dksX2_assemble_1 1 rfl rfl)
theorem dX2_assemble_26 : decode cX2_assemble 26 = .ok (.invokevirtual 94, 3) := dk_182 0 94 (dk_at dksX2_assemble_1 2 rfl rfl)
theorem dX2_assemble_29 : decode cX2_assemble 29 = .ok (.ireturn, 1) := dk_172 (dk_at dksX2_assemble_1 5 rfl rfl)
theorem dX2_assemble_30 : decode cX2_assemble 30 = .ok (.aload_n 0, 1) := dk_42 (dk_at dksX2_assemble_1 6 rfl rfl)
theorem dX2_assemble_31 : decode cX2_assemble 31 = .ok (.iconst 0, 1) := dk_3 (dk_at dksX2_assemble_1 7 rfl rfl)
theorem dX2_assemble_32 : decode cX2_assemble 32 = .ok (.putfield 982, 3) := dk_181 3 214 (dk_at dksX2_assemble_1 8 rfl rfl)
theorem dX2_assemble_35 : decode cX2_assemble 35 = .ok (.aload_n 0, 1) := dk_42 (dk_at dksX2_assemble_1 11 rfl rfl)
theorem dX2_assemble_36 : decode cX2_assemble 36 = .ok (.iconst 0, 1) := dk_3 (dk_at dksX2_assemble_1 12 rfl rfl)
theorem dX2_assemble_37 : decode cX2_assemble 37 = .ok (.putfield 1055, 3) := dk_181 4 31 (dk_at dksX2_assemble_1 13 rfl rfl)
theorem dX2_assemble_40 : decode cX2_assemble 40 = .ok (.aload_n 0, 1) := dk_42 (dk_at dksX2_assemble_1 16 rfl rfl)
theorem dX2_assemble_41 : decode cX2_assemble 41 = .ok (.iconst 0, 1) := dk_3 (dk_at dksX2_assemble_1 17 rfl rfl)
theorem dX2_assemble_42 : decode cX2_assemble 42 = .ok (.putfield 1050, 3) := dk_181 4 26 (dk_at dksX2_assemble_1 18 rfl rfl)
theorem dX2_assemble_45 : decode cX2_assemble 45 = .ok (.aload_n 0, 1) := dk_42 (dk_at dksX2_assemble_1 21 rfl rfl)
theorem dX2_assemble_46 : decode cX2_assemble 46 = .ok (.getfield 21, 3) := dk_180 0 21 (dk_at dksX2_assemble_2 0 rfl rfl)
theorem dX2_assemble_49 : decode cX2_assemble 49 = .ok (.aload_n 0, 1) := dk_42 (dk_at dksX2_assemble_2 3 rfl rfl)
theorem dX2_assemble_50 : decode cX2_assemble 50 = .ok (.getfield 1010, 3) := dk_180 3 242 (dk_at dksX2_assemble_2 4 rfl rfl)
theorem dX2_assemble_53 : decode cX2_assemble 53 = .ok (.iconst 0, 1) := dk_3 (dk_at dksX2_assemble_2 7 rfl rfl)
theorem dX2_assemble_54 : decode cX2_assemble 54 = .ok (.iastore, 1) := dk_79 (dk_at dksX2_assemble_2 8 rfl rfl)
theorem dX2_assemble_55 : decode cX2_assemble 55 = .ok (.aload_n 0, 1) := dk_42 (dk_at dksX2_assemble_2 9 rfl rfl)
theorem dX2_assemble_56 : decode cX2_assemble 56 = .ok (.getfield 24, 3) := dk_180 0 24 (dk_at dksX2_assemble_2 10 rfl rfl)
theorem dX2_assemble_59 : decode cX2_assemble 59 = .ok (.aload_n 0, 1) := dk_42 (dk_at dksX2_assemble_2 13 rfl rfl)
theorem dX2_assemble_60 : decode cX2_assemble 60 = .ok (.getfield 1010, 3) := dk_180 3 242 (dk_at dksX2_assemble_2 14 rfl rfl)
theorem dX2_assemble_63 : decode cX2_assemble 63 = .ok (.iconst 0, 1) := dk_3 (dk_at dksX2_assemble_2 17 rfl rfl)
theorem dX2_assemble_64 : decode cX2_assemble 64 = .ok (.iastore, 1) := dk_79 (dk_at dksX2_assemble_2 18 rfl rfl)
theorem dX2_assemble_65 : decode cX2_assemble 65 = .ok (.iconst 0, 1) := dk_3 (dk_at dksX2_assemble_2 19 rfl rfl)
theorem dX2_assemble_66 : decode cX2_assemble 66 = .ok (.istore_n 2, 1) := dk_61 (dk_at dksX2_assemble_2 20 rfl rfl)
theorem dX2_assemble_67 : decode cX2_assemble 67 = .ok (.iload_n 2, 1) := dk_28 (dk_at dksX2_assemble_2 21 rfl rfl)
theorem dX2_assemble_68 : decode cX2_assemble 68 = .ok (.iconst 3, 1) := dk_6 (dk_at dksX2_assemble_2 22 rfl rfl)
theorem dX2_assemble_69 : decode cX2_assemble 69 = .ok (.if_icmp .ge 23, 3) := dk_162 0 23 (dk_at dksX2_assemble_3 0 rfl rfl)
theorem dX2_assemble_72 : decode cX2_assemble 72 = .ok (.aload_n 0, 1) := dk_42 (dk_at dksX2_assemble_3 3 rfl rfl)
theorem dX2_assemble_73 : decode cX2_assemble 73 = .ok (.getfield 17, 3) := dk_180 0 17 (dk_at dksX2_assemble_3 4 rfl rfl)
theorem dX2_assemble_76 : decode cX2_assemble 76 = .ok (.iconst 3, 1) := dk_6 (dk_at dksX2_assemble_3 7 rfl rfl)
theorem dX2_assemble_77 : decode cX2_assemble 77 = .ok (.aload_n 0, 1) := dk_42 (dk_at dksX2_assemble_3 8 rfl rfl)
theorem dX2_assemble_78 : decode cX2_assemble 78 = .ok (.getfield 1010, 3) := dk_180 3 242 (dk_at dksX2_assemble_3 9 rfl rfl)
theorem dX2_assemble_81 : decode cX2_assemble 81 = .ok (.imul, 1) := dk_104 (dk_at dksX2_assemble_3 12 rfl rfl)
theorem dX2_assemble_82 : decode cX2_assemble 82 = .ok (.iload_n 2, 1) := dk_28 (dk_at dksX2_assemble_3 13 rfl rfl)
theorem dX2_assemble_83 : decode cX2_assemble 83 = .ok (.iadd, 1) := dk_96 (dk_at dksX2_assemble_3 14 rfl rfl)
theorem dX2_assemble_84 : decode cX2_assemble 84 = .ok (.iconst 0, 1) := dk_3 (dk_at dksX2_assemble_3 15 rfl rfl)
theorem dX2_assemble_85 : decode cX2_assemble 85 = .ok (.iastore, 1) := dk_79 (dk_at dksX2_assemble_3 16 rfl rfl)
theorem dX2_assemble_86 : decode cX2_assemble 86 = .ok (.iinc 2 1, 3) := dk_132 2 1 (dk_at dksX2_assemble_3 17 rfl rfl)
theorem dX2_assemble_89 : decode cX2_assemble 89 = .ok (.goto (-22), 3) := dk_167 255 234 (dk_at dksX2_assemble_3 20 rfl rfl)
theorem dX2_assemble_92 : decode cX2_assemble 92 = .ok (.iconst 0, 1) := dk_3 (dk_at dksX2_assemble_3 23 rfl rfl)
theorem dX2_assemble_93 : decode cX2_assemble 93 = .ok (.istore_n 2, 1) := dk_61 (dk_at dksX2_assemble_4 0 rfl rfl)
theorem dX2_assemble_94 : decode cX2_assemble 94 = .ok (.iload_n 2, 1) := dk_28 (dk_at dksX2_assemble_4 1 rfl rfl)
theorem dX2_assemble_95 : decode cX2_assemble 95 = .ok (.iload_n 1, 1) := dk_27 (dk_at dksX2_assemble_4 2 rfl rfl)
theorem dX2_assemble_96 : decode cX2_assemble 96 = .ok (.if_icmp .gt 57, 3) := dk_163 0 57 (dk_at dksX2_assemble_4 3 rfl rfl)
theorem dX2_assemble_99 : decode cX2_assemble 99 = .ok (.aload_n 0, 1) := dk_42 (dk_at dksX2_assemble_4 6 rfl rfl)
theorem dX2_assemble_100 : decode cX2_assemble 100 = .ok (.invokevirtual 985, 3) := dk_182 3 217 (dk_at dksX2_assemble_4 7 rfl rfl)
theorem dX2_assemble_103 : decode cX2_assemble 103 = .ok (.ifCond .eq 50, 3) := dk_153 0 50 (dk_at dksX2_assemble_4 10 rfl rfl)
theorem dX2_assemble_106 : decode cX2_assemble 106 = .ok (.iload_n 2, 1) := dk_28 (dk_at dksX2_assemble_4 13 rfl rfl)
theorem dX2_assemble_107 : decode cX2_assemble 107 = .ok (.istore_n 3, 1) := dk_62 (dk_at dksX2_assemble_4 14 rfl rfl)
theorem dX2_assemble_108 : decode cX2_assemble 108 = .ok (.iload_n 3, 1) := dk_29 (dk_at dksX2_assemble_4 15 rfl rfl)
theorem dX2_assemble_109 : decode cX2_assemble 109 = .ok (.iload_n 1, 1) := dk_27 (dk_at dksX2_assemble_4 16 rfl rfl)
theorem dX2_assemble_110 : decode cX2_assemble 110 = .ok (.if_icmp .ge 20, 3) := dk_162 0 20 (dk_at dksX2_assemble_4 17 rfl rfl)
theorem dX2_assemble_113 : decode cX2_assemble 113 = .ok (.aload_n 0, 1) := dk_42 (dk_at dksX2_assemble_4 20 rfl rfl)
theorem dX2_assemble_114 : decode cX2_assemble 114 = .ok (.getfield 7, 3) := dk_180 0 7 (dk_at dksX2_assemble_4 21 rfl rfl)
theorem dX2_assemble_117 : decode cX2_assemble 117 = .ok (.iload_n 3, 1) := dk_29 (dk_at dksX2_assemble_5 0 rfl rfl)
theorem dX2_assemble_118 : decode cX2_assemble 118 = .ok (.baload, 1) := dk_51 (dk_at dksX2_assemble_5 1 rfl rfl)
theorem dX2_assemble_119 : decode cX2_assemble 119 = .ok (.bipush 10, 2) := dk_16 10 (dk_at dksX2_assemble_5 2 rfl rfl)
theorem dX2_assemble_121 : decode cX2_assemble 121 = .ok (.if_icmp .eq 9, 3) := dk_159 0 9 (dk_at dksX2_assemble_5 4 rfl rfl)
theorem dX2_assemble_124 : decode cX2_assemble 124 = .ok (.iinc 3 1, 3) := dk_132 3 1 (dk_at dksX2_assemble_5 7 rfl rfl)
theorem dX2_assemble_127 : decode cX2_assemble 127 = .ok (.goto (-19), 3) := dk_167 255 237 (dk_at dksX2_assemble_5 10 rfl rfl)
theorem dX2_assemble_130 : decode cX2_assemble 130 = .ok (.aload_n 0, 1) := dk_42 (dk_at dksX2_assemble_5 13 rfl rfl)
theorem dX2_assemble_131 : decode cX2_assemble 131 = .ok (.dup, 1) := dk_89 (dk_at dksX2_assemble_5 14 rfl rfl)
theorem dX2_assemble_132 : decode cX2_assemble 132 = .ok (.getfield 1055, 3) := dk_180 4 31 (dk_at dksX2_assemble_5 15 rfl rfl)
theorem dX2_assemble_135 : decode cX2_assemble 135 = .ok (.iconst 1, 1) := dk_4 (dk_at dksX2_assemble_5 18 rfl rfl)
theorem dX2_assemble_136 : decode cX2_assemble 136 = .ok (.iadd, 1) := dk_96 (dk_at dksX2_assemble_5 19 rfl rfl)
theorem dX2_assemble_137 : decode cX2_assemble 137 = .ok (.putfield 1055, 3) := dk_181 4 31 (dk_at dksX2_assemble_5 20 rfl rfl)
theorem dX2_assemble_140 : decode cX2_assemble 140 = .ok (.aload_n 0, 1) := dk_42 (dk_at dksX2_assemble_5 23 rfl rfl)
theorem dX2_assemble_141 : decode cX2_assemble 141 = .ok (.iload_n 2, 1) := dk_28 (dk_at dksX2_assemble_6 0 rfl rfl)
theorem dX2_assemble_142 : decode cX2_assemble 142 = .ok (.iload_n 3, 1) := dk_29 (dk_at dksX2_assemble_6 1 rfl rfl)
theorem dX2_assemble_143 : decode cX2_assemble 143 = .ok (.invokevirtual 1169, 3) := dk_182 4 145 (dk_at dksX2_assemble_6 2 rfl rfl)
theorem dX2_assemble_146 : decode cX2_assemble 146 = .ok (.iload_n 3, 1) := dk_29 (dk_at dksX2_assemble_6 5 rfl rfl)
theorem dX2_assemble_147 : decode cX2_assemble 147 = .ok (.iconst 1, 1) := dk_4 (dk_at dksX2_assemble_6 6 rfl rfl)
theorem dX2_assemble_148 : decode cX2_assemble 148 = .ok (.iadd, 1) := dk_96 (dk_at dksX2_assemble_6 7 rfl rfl)
theorem dX2_assemble_149 : decode cX2_assemble 149 = .ok (.istore_n 2, 1) := dk_61 (dk_at dksX2_assemble_6 8 rfl rfl)
theorem dX2_assemble_150 : decode cX2_assemble 150 = .ok (.goto (-56), 3) := dk_167 255 200 (dk_at dksX2_assemble_6 9 rfl rfl)
theorem dX2_assemble_153 : decode cX2_assemble 153 = .ok (.aload_n 0, 1) := dk_42 (dk_at dksX2_assemble_6 12 rfl rfl)
theorem dX2_assemble_154 : decode cX2_assemble 154 = .ok (.invokevirtual 985, 3) := dk_182 3 217 (dk_at dksX2_assemble_6 13 rfl rfl)
theorem dX2_assemble_157 : decode cX2_assemble 157 = .ok (.ifCond .eq 7, 3) := dk_153 0 7 (dk_at dksX2_assemble_6 16 rfl rfl)
theorem dX2_assemble_160 : decode cX2_assemble 160 = .ok (.aload_n 0, 1) := dk_42 (dk_at dksX2_assemble_6 19 rfl rfl)
theorem dX2_assemble_161 : decode cX2_assemble 161 = .ok (.invokevirtual 1172, 3) := dk_182 4 148 (dk_at dksX2_assemble_6 20 rfl rfl)
theorem dX2_assemble_164 : decode cX2_assemble 164 = .ok (.aload_n 0, 1) := dk_42 (dk_at dksX2_assemble_6 23 rfl rfl)
theorem dX2_assemble_165 : decode cX2_assemble 165 = .ok (.aload_n 0, 1) := dk_42 (dk_at dksX2_assemble_7 0 rfl rfl)
theorem dX2_assemble_166 : decode cX2_assemble 166 = .ok (.invokevirtual 985, 3) := dk_182 3 217 (dk_at dksX2_assemble_7 1 rfl rfl)
theorem dX2_assemble_169 : decode cX2_assemble 169 = .ok (.ifCond .eq 7, 3) := dk_153 0 7 (dk_at dksX2_assemble_7 4 rfl rfl)
theorem dX2_assemble_172 : decode cX2_assemble 172 = .ok (.iconst 0, 1) := dk_3 (dk_at dksX2_assemble_7 7 rfl rfl)
theorem dX2_assemble_173 : decode cX2_assemble 173 = .ok (.goto 7, 3) := dk_167 0 7 (dk_at dksX2_assemble_7 8 rfl rfl)
theorem dX2_assemble_176 : decode cX2_assemble 176 = .ok (.aload_n 0, 1) := dk_42 (dk_at dksX2_assemble_7 11 rfl rfl)
theorem dX2_assemble_177 : decode cX2_assemble 177 = .ok (.getfield 1055, 3) := dk_180 4 31 (dk_at dksX2_assemble_7 12 rfl rfl)
theorem dX2_assemble_180 : decode cX2_assemble 180 = .ok (.putfield 1175, 3) := dk_181 4 151 (dk_at dksX2_assemble_7 15 rfl rfl)
theorem dX2_assemble_183 : decode cX2_assemble 183 = .ok (.aload_n 0, 1) := dk_42 (dk_at dksX2_assemble_7 18 rfl rfl)
theorem dX2_assemble_184 : decode cX2_assemble 184 = .ok (.invokevirtual 985, 3) := dk_182 3 217 (dk_at dksX2_assemble_7 19 rfl rfl)
theorem dX2_assemble_187 : decode cX2_assemble 187 = .ok (.ifCond .ne 5, 3) := dk_154 0 5 (dk_at dksX2_assemble_8 0 rfl rfl)
theorem dX2_assemble_190 : decode cX2_assemble 190 = .ok (.iconst (-1), 1) := dk_2 (dk_at dksX2_assemble_8 3 rfl rfl)
theorem dX2_assemble_191 : decode cX2_assemble 191 = .ok (.ireturn, 1) := dk_172 (dk_at dksX2_assemble_8 4 rfl rfl)
theorem dX2_assemble_192 : decode cX2_assemble 192 = .ok (.aload_n 0, 1) := dk_42 (dk_at dksX2_assemble_8 5 rfl rfl)
theorem dX2_assemble_193 : decode cX2_assemble 193 = .ok (.dup, 1) := dk_89 (dk_at dksX2_assemble_8 6 rfl rfl)
theorem dX2_assemble_194 : decode cX2_assemble 194 = .ok (.getfield 1010, 3) := dk_180 3 242 (dk_at dksX2_assemble_8 7 rfl rfl)
theorem dX2_assemble_197 : decode cX2_assemble 197 = .ok (.iconst 1, 1) := dk_4 (dk_at dksX2_assemble_8 10 rfl rfl)
theorem dX2_assemble_198 : decode cX2_assemble 198 = .ok (.iadd, 1) := dk_96 (dk_at dksX2_assemble_8 11 rfl rfl)
theorem dX2_assemble_199 : decode cX2_assemble 199 = .ok (.putfield 1010, 3) := dk_181 3 242 (dk_at dksX2_assemble_8 12 rfl rfl)
theorem dX2_assemble_202 : decode cX2_assemble 202 = .ok (.aload_n 0, 1) := dk_42 (dk_at dksX2_assemble_8 15 rfl rfl)
theorem dX2_assemble_203 : decode cX2_assemble 203 = .ok (.getfield 1010, 3) := dk_180 3 242 (dk_at dksX2_assemble_8 16 rfl rfl)
theorem dX2_assemble_206 : decode cX2_assemble 206 = .ok (.iconst 1, 1) := dk_4 (dk_at dksX2_assemble_8 19 rfl rfl)
theorem dX2_assemble_207 : decode cX2_assemble 207 = .ok (.isub, 1) := dk_100 (dk_at dksX2_assemble_8 20 rfl rfl)
theorem dX2_assemble_208 : decode cX2_assemble 208 = .ok (.ireturn, 1) := dk_172 (dk_at dksX2_assemble_8 21 rfl rfl)
abbrev cX2_fine : ByteArray := prog_4_method_33_code
def yX2_fine : MethodName := ⟨RX2, "fine", "()Z"⟩
def dkwX2_fine_0 : List UInt8 := [42, 180, 3, 214, 154, 0, 7, 4, 167, 0, 4, 3, 172]
abbrev dktX2_fine_0 : List UInt8 := dkwX2_fine_0 ++ []
theorem dksX2_fine_0 : cX2_fine.data.toList.drop 0 = dktX2_fine_0 := by decide +kernel
theorem dX2_fine_0 : decode cX2_fine 0 = .ok (.aload_n 0, 1) := dk_42 (dk_at dksX2_fine_0 0 rfl rfl)
theorem dX2_fine_1 : decode cX2_fine 1 = .ok (.getfield 982, 3) := dk_180 3 214 (dk_at dksX2_fine_0 1 rfl rfl)
theorem dX2_fine_4 : decode cX2_fine 4 = .ok (.ifCond .ne 7, 3) := dk_154 0 7 (dk_at dksX2_fine_0 4 rfl rfl)
theorem dX2_fine_7 : decode cX2_fine 7 = .ok (.iconst 1, 1) := dk_4 (dk_at dksX2_fine_0 7 rfl rfl)
theorem dX2_fine_8 : decode cX2_fine 8 = .ok (.goto 4, 3) := dk_167 0 4 (dk_at dksX2_fine_0 8 rfl rfl)
theorem dX2_fine_11 : decode cX2_fine 11 = .ok (.iconst 0, 1) := dk_3 (dk_at dksX2_fine_0 11 rfl rfl)
theorem dX2_fine_12 : decode cX2_fine 12 = .ok (.ireturn, 1) := dk_172 (dk_at dksX2_fine_0 12 rfl rfl)
abbrev cX2_read : ByteArray := prog_4_method_69_code
def yX2_read : MethodName := ⟨RX2, "read", "(II)V"⟩
def dkwX2_read_10 : List UInt8 := [22, 13, 16, 32, 123, 136, 182, 4, 140, 167, 255, 29, 177]
abbrev dktX2_read_10 : List UInt8 := dkwX2_read_10 ++ []
def dkwX2_read_9 : List UInt8 := [22, 13, 16, 32, 123, 136, 22, 13, 136, 182, 4, 137, 167, 0, 20, 42, 182, 3, 217, 153, 0, 13, 42]
abbrev dktX2_read_9 : List UInt8 := dkwX2_read_9 ++ dktX2_read_10
def dkwX2_read_8 : List UInt8 := [182, 3, 220, 42, 182, 3, 217, 153, 0, 31, 22, 13, 16, 32, 123, 20, 4, 135, 148, 156, 0, 19, 42]
abbrev dktX2_read_8 : List UInt8 := dkwX2_read_8 ++ dktX2_read_9
def dkwX2_read_7 : List UInt8 := [182, 3, 220, 167, 0, 22, 42, 22, 13, 16, 32, 123, 136, 182, 4, 132, 154, 0, 9, 42, 16, 6]
abbrev dktX2_read_7 : List UInt8 := dkwX2_read_7 ++ dktX2_read_8
def dkwX2_read_6 : List UInt8 := [20, 0, 211, 167, 0, 8, 22, 4, 184, 4, 129, 55, 13, 22, 13, 20, 0, 211, 148, 154, 0, 11, 42, 5]
abbrev dktX2_read_6 : List UInt8 := dkwX2_read_6 ++ dktX2_read_7
def dkwX2_read_5 : List UInt8 := [21, 6, 181, 0, 162, 42, 182, 4, 126, 42, 182, 3, 230, 167, 0, 111, 21, 6, 16, 9, 164, 0, 9]
abbrev dktX2_read_5 : List UInt8 := dkwX2_read_5 ++ dktX2_read_6
def dkwX2_read_4 : List UInt8 := [62, 29, 153, 0, 38, 42, 22, 7, 181, 0, 140, 42, 22, 9, 181, 0, 144, 42, 22, 11, 181, 0, 147, 42]
abbrev dktX2_read_4 : List UInt8 := dkwX2_read_4 ++ dktX2_read_5
def dkwX2_read_3 : List UInt8 := [55, 7, 42, 180, 0, 144, 55, 9, 42, 180, 0, 147, 55, 11, 42, 182, 3, 230, 42, 16, 58, 182, 3, 223]
abbrev dktX2_read_3 : List UInt8 := dkwX2_read_3 ++ dktX2_read_4
def dkwX2_read_2 : List UInt8 := [182, 3, 226, 154, 0, 4, 177, 42, 180, 0, 150, 55, 4, 42, 180, 0, 162, 54, 6, 42, 180, 0, 140]
abbrev dktX2_read_2 : List UInt8 := dkwX2_read_2 ++ dktX2_read_3
def dkwX2_read_1 : List UInt8 := [153, 0, 222, 42, 180, 0, 119, 153, 0, 215, 42, 42, 180, 0, 119, 4, 160, 0, 7, 4, 167, 0, 4, 3]
abbrev dktX2_read_1 : List UInt8 := dkwX2_read_1 ++ dktX2_read_2
def dkwX2_read_0 : List UInt8 := [42, 27, 181, 0, 102, 42, 28, 181, 0, 105, 42, 182, 3, 230, 4, 62, 29, 153, 0, 229, 42, 182, 3, 217]
abbrev dktX2_read_0 : List UInt8 := dkwX2_read_0 ++ dktX2_read_1
theorem dksX2_read_0 : cX2_read.data.toList.drop 0 = dktX2_read_0 := by decide +kernel
theorem dksX2_read_1 : cX2_read.data.toList.drop 24 = dktX2_read_1 := dk_seg dksX2_read_0 24 rfl rfl
theorem dksX2_read_2 : cX2_read.data.toList.drop 48 = dktX2_read_2 := dk_seg dksX2_read_1 24 rfl rfl
theorem dksX2_read_3 : cX2_read.data.toList.drop 71 = dktX2_read_3 := dk_seg dksX2_read_2 23 rfl rfl
theorem dksX2_read_4 : cX2_read.data.toList.drop 95 = dktX2_read_4 := dk_seg dksX2_read_3 24 rfl rfl
theorem dksX2_read_5 : cX2_read.data.toList.drop 119 = dktX2_read_5 := dk_seg dksX2_read_4 24 rfl rfl
theorem dksX2_read_6 : cX2_read.data.toList.drop 142 = dktX2_read_6 := dk_seg dksX2_read_5 23 rfl rfl
theorem dksX2_read_7 : cX2_read.data.toList.drop 166 = dktX2_read_7 := dk_seg dksX2_read_6 24 rfl rfl
theorem dksX2_read_8 : cX2_read.data.toList.drop 188 = dktX2_read_8 := dk_seg dksX2_read_7 22 rfl rfl
theorem dksX2_read_9 : cX2_read.data.toList.drop 211 = dktX2_read_9 := dk_seg dksX2_read_8 23 rfl rfl
theorem dksX2_read_10 : cX2_read.data.toList.drop 234 = dktX2_read_10 := dk_seg dksX2_read_9 23 rfl rfl
theorem dX2_read_0 : decode cX2_read 0 = .ok (.aload_n 0, 1) := dk_42 (dk_at dksX2_read_0 0 rfl rfl)
theorem dX2_read_1 : decode cX2_read 1 = .ok (.iload_n 1, 1) := dk_27 (dk_at dksX2_read_0 1 rfl rfl)
theorem dX2_read_2 : decode cX2_read 2 = .ok (.putfield 102, 3) := dk_181 0 102 (dk_at dksX2_read_0 2 rfl rfl)
theorem dX2_read_5 : decode cX2_read 5 = .ok (.aload_n 0, 1) := dk_42 (dk_at dksX2_read_0 5 rfl rfl)
theorem dX2_read_6 : decode cX2_read 6 = .ok (.iload_n 2, 1) := dk_28 (dk_at dksX2_read_0 6 rfl rfl)
theorem dX2_read_7 : decode cX2_read 7 = .ok (.putfield 105, 3) := dk_181 0 105 (dk_at dksX2_read_0 7 rfl rfl)
theorem dX2_read_10 : decode cX2_read 10 = .ok (.aload_n 0, 1) := dk_42 (dk_at dksX2_read_0 10 rfl rfl)
theorem dX2_read_11 : decode cX2_read 11 = .ok (.invokevirtual 998, 3) := dk_182 3 230 (dk_at dksX2_read_0 11 rfl rfl)
theorem dX2_read_14 : decode cX2_read 14 = .ok (.iconst 1, 1) := dk_4 (dk_at dksX2_read_0 14 rfl rfl)
theorem dX2_read_15 : decode cX2_read 15 = .ok (.istore_n 3, 1) := dk_62 (dk_at dksX2_read_0 15 rfl rfl)
theorem dX2_read_16 : decode cX2_read 16 = .ok (.iload_n 3, 1) := dk_29 (dk_at dksX2_read_0 16 rfl rfl)
theorem dX2_read_17 : decode cX2_read 17 = .ok (.ifCond .eq 229, 3) := dk_153 0 229 (dk_at dksX2_read_0 17 rfl rfl)
theorem dX2_read_20 : decode cX2_read 20 = .ok (.aload_n 0, 1) := dk_42 (dk_at dksX2_read_0 20 rfl rfl)
theorem dX2_read_21 : decode cX2_read 21 = .ok (.invokevirtual 985, 3) := dk_182 3 217 (dk_at dksX2_read_0 21 rfl rfl)
theorem dX2_read_24 : decode cX2_read 24 = .ok (.ifCond .eq 222, 3) := dk_153 0 222 (dk_at dksX2_read_1 0 rfl rfl)
theorem dX2_read_27 : decode cX2_read 27 = .ok (.aload_n 0, 1) := dk_42 (dk_at dksX2_read_1 3 rfl rfl)
theorem dX2_read_28 : decode cX2_read 28 = .ok (.getfield 119, 3) := dk_180 0 119 (dk_at dksX2_read_1 4 rfl rfl)
theorem dX2_read_31 : decode cX2_read 31 = .ok (.ifCond .eq 215, 3) := dk_153 0 215 (dk_at dksX2_read_1 7 rfl rfl)
theorem dX2_read_34 : decode cX2_read 34 = .ok (.aload_n 0, 1) := dk_42 (dk_at dksX2_read_1 10 rfl rfl)
theorem dX2_read_35 : decode cX2_read 35 = .ok (.aload_n 0, 1) := dk_42 (dk_at dksX2_read_1 11 rfl rfl)
theorem dX2_read_36 : decode cX2_read 36 = .ok (.getfield 119, 3) := dk_180 0 119 (dk_at dksX2_read_1 12 rfl rfl)
theorem dX2_read_39 : decode cX2_read 39 = .ok (.iconst 1, 1) := dk_4 (dk_at dksX2_read_1 15 rfl rfl)
theorem dX2_read_40 : decode cX2_read 40 = .ok (.if_icmp .ne 7, 3) := dk_160 0 7 (dk_at dksX2_read_1 16 rfl rfl)
theorem dX2_read_43 : decode cX2_read 43 = .ok (.iconst 1, 1) := dk_4 (dk_at dksX2_read_1 19 rfl rfl)
theorem dX2_read_44 : decode cX2_read 44 = .ok (.goto 4, 3) := dk_167 0 4 (dk_at dksX2_read_1 20 rfl rfl)
theorem dX2_read_47 : decode cX2_read 47 = .ok (.iconst 0, 1) := dk_3 (dk_at dksX2_read_1 23 rfl rfl)
theorem dX2_read_48 : decode cX2_read 48 = .ok (.invokevirtual 994, 3) := dk_182 3 226 (dk_at dksX2_read_2 0 rfl rfl)
theorem dX2_read_51 : decode cX2_read 51 = .ok (.ifCond .ne 4, 3) := dk_154 0 4 (dk_at dksX2_read_2 3 rfl rfl)
theorem dX2_read_54 : decode cX2_read 54 = .ok (.return_, 1) := dk_177 (dk_at dksX2_read_2 6 rfl rfl)
theorem dX2_read_55 : decode cX2_read 55 = .ok (.aload_n 0, 1) := dk_42 (dk_at dksX2_read_2 7 rfl rfl)
theorem dX2_read_56 : decode cX2_read 56 = .ok (.getfield 150, 3) := dk_180 0 150 (dk_at dksX2_read_2 8 rfl rfl)
theorem dX2_read_59 : decode cX2_read 59 = .ok (.lstore 4, 2) := dk_55 4 (dk_at dksX2_read_2 11 rfl rfl)
theorem dX2_read_61 : decode cX2_read 61 = .ok (.aload_n 0, 1) := dk_42 (dk_at dksX2_read_2 13 rfl rfl)
theorem dX2_read_62 : decode cX2_read 62 = .ok (.getfield 162, 3) := dk_180 0 162 (dk_at dksX2_read_2 14 rfl rfl)
theorem dX2_read_65 : decode cX2_read 65 = .ok (.istore 6, 2) := dk_54 6 (dk_at dksX2_read_2 17 rfl rfl)
theorem dX2_read_67 : decode cX2_read 67 = .ok (.aload_n 0, 1) := dk_42 (dk_at dksX2_read_2 19 rfl rfl)
theorem dX2_read_68 : decode cX2_read 68 = .ok (.getfield 140, 3) := dk_180 0 140 (dk_at dksX2_read_2 20 rfl rfl)
theorem dX2_read_71 : decode cX2_read 71 = .ok (.lstore 7, 2) := dk_55 7 (dk_at dksX2_read_3 0 rfl rfl)
theorem dX2_read_73 : decode cX2_read 73 = .ok (.aload_n 0, 1) := dk_42 (dk_at dksX2_read_3 2 rfl rfl)
theorem dX2_read_74 : decode cX2_read 74 = .ok (.getfield 144, 3) := dk_180 0 144 (dk_at dksX2_read_3 3 rfl rfl)
theorem dX2_read_77 : decode cX2_read 77 = .ok (.lstore 9, 2) := dk_55 9 (dk_at dksX2_read_3 6 rfl rfl)
theorem dX2_read_79 : decode cX2_read 79 = .ok (.aload_n 0, 1) := dk_42 (dk_at dksX2_read_3 8 rfl rfl)
theorem dX2_read_80 : decode cX2_read 80 = .ok (.getfield 147, 3) := dk_180 0 147 (dk_at dksX2_read_3 9 rfl rfl)
theorem dX2_read_83 : decode cX2_read 83 = .ok (.lstore 11, 2) := dk_55 11 (dk_at dksX2_read_3 12 rfl rfl)
theorem dX2_read_85 : decode cX2_read 85 = .ok (.aload_n 0, 1) := dk_42 (dk_at dksX2_read_3 14 rfl rfl)
theorem dX2_read_86 : decode cX2_read 86 = .ok (.invokevirtual 998, 3) := dk_182 3 230 (dk_at dksX2_read_3 15 rfl rfl)
theorem dX2_read_89 : decode cX2_read 89 = .ok (.aload_n 0, 1) := dk_42 (dk_at dksX2_read_3 18 rfl rfl)
theorem dX2_read_90 : decode cX2_read 90 = .ok (.bipush 58, 2) := dk_16 58 (dk_at dksX2_read_3 19 rfl rfl)
theorem dX2_read_92 : decode cX2_read 92 = .ok (.invokevirtual 991, 3) := dk_182 3 223 (dk_at dksX2_read_3 21 rfl rfl)
theorem dX2_read_95 : decode cX2_read 95 = .ok (.istore_n 3, 1) := dk_62 (dk_at dksX2_read_4 0 rfl rfl)
theorem dX2_read_96 : decode cX2_read 96 = .ok (.iload_n 3, 1) := dk_29 (dk_at dksX2_read_4 1 rfl rfl)
theorem dX2_read_97 : decode cX2_read 97 = .ok (.ifCond .eq 38, 3) := dk_153 0 38 (dk_at dksX2_read_4 2 rfl rfl)
theorem dX2_read_100 : decode cX2_read 100 = .ok (.aload_n 0, 1) := dk_42 (dk_at dksX2_read_4 5 rfl rfl)
theorem dX2_read_101 : decode cX2_read 101 = .ok (.lload 7, 2) := dk_22 7 (dk_at dksX2_read_4 6 rfl rfl)
theorem dX2_read_103 : decode cX2_read 103 = .ok (.putfield 140, 3) := dk_181 0 140 (dk_at dksX2_read_4 8 rfl rfl)
theorem dX2_read_106 : decode cX2_read 106 = .ok (.aload_n 0, 1) := dk_42 (dk_at dksX2_read_4 11 rfl rfl)
theorem dX2_read_107 : decode cX2_read 107 = .ok (.lload 9, 2) := dk_22 9 (dk_at dksX2_read_4 12 rfl rfl)
theorem dX2_read_109 : decode cX2_read 109 = .ok (.putfield 144, 3) := dk_181 0 144 (dk_at dksX2_read_4 14 rfl rfl)
theorem dX2_read_112 : decode cX2_read 112 = .ok (.aload_n 0, 1) := dk_42 (dk_at dksX2_read_4 17 rfl rfl)
theorem dX2_read_113 : decode cX2_read 113 = .ok (.lload 11, 2) := dk_22 11 (dk_at dksX2_read_4 18 rfl rfl)
theorem dX2_read_115 : decode cX2_read 115 = .ok (.putfield 147, 3) := dk_181 0 147 (dk_at dksX2_read_4 20 rfl rfl)
theorem dX2_read_118 : decode cX2_read 118 = .ok (.aload_n 0, 1) := dk_42 (dk_at dksX2_read_4 23 rfl rfl)
theorem dX2_read_119 : decode cX2_read 119 = .ok (.iload 6, 2) := dk_21 6 (dk_at dksX2_read_5 0 rfl rfl)
theorem dX2_read_121 : decode cX2_read 121 = .ok (.putfield 162, 3) := dk_181 0 162 (dk_at dksX2_read_5 2 rfl rfl)
theorem dX2_read_124 : decode cX2_read 124 = .ok (.aload_n 0, 1) := dk_42 (dk_at dksX2_read_5 5 rfl rfl)
theorem dX2_read_125 : decode cX2_read 125 = .ok (.invokevirtual 1150, 3) := dk_182 4 126 (dk_at dksX2_read_5 6 rfl rfl)
theorem dX2_read_128 : decode cX2_read 128 = .ok (.aload_n 0, 1) := dk_42 (dk_at dksX2_read_5 9 rfl rfl)
theorem dX2_read_129 : decode cX2_read 129 = .ok (.invokevirtual 998, 3) := dk_182 3 230 (dk_at dksX2_read_5 10 rfl rfl)
theorem dX2_read_132 : decode cX2_read 132 = .ok (.goto 111, 3) := dk_167 0 111 (dk_at dksX2_read_5 13 rfl rfl)
theorem dX2_read_135 : decode cX2_read 135 = .ok (.iload 6, 2) := dk_21 6 (dk_at dksX2_read_5 16 rfl rfl)
theorem dX2_read_137 : decode cX2_read 137 = .ok (.bipush 9, 2) := dk_16 9 (dk_at dksX2_read_5 18 rfl rfl)
theorem dX2_read_139 : decode cX2_read 139 = .ok (.if_icmp .le 9, 3) := dk_164 0 9 (dk_at dksX2_read_5 20 rfl rfl)
theorem dX2_read_142 : decode cX2_read 142 = .ok (.ldc2_w 211, 3) := dk_20 0 211 (dk_at dksX2_read_6 0 rfl rfl)
theorem dX2_read_145 : decode cX2_read 145 = .ok (.goto 8, 3) := dk_167 0 8 (dk_at dksX2_read_6 3 rfl rfl)
theorem dX2_read_148 : decode cX2_read 148 = .ok (.lload 4, 2) := dk_22 4 (dk_at dksX2_read_6 6 rfl rfl)
theorem dX2_read_150 : decode cX2_read 150 = .ok (.invokestatic 1153, 3) := dk_184 4 129 (dk_at dksX2_read_6 8 rfl rfl)
theorem dX2_read_153 : decode cX2_read 153 = .ok (.lstore 13, 2) := dk_55 13 (dk_at dksX2_read_6 11 rfl rfl)
theorem dX2_read_155 : decode cX2_read 155 = .ok (.lload 13, 2) := dk_22 13 (dk_at dksX2_read_6 13 rfl rfl)
theorem dX2_read_157 : decode cX2_read 157 = .ok (.ldc2_w 211, 3) := dk_20 0 211 (dk_at dksX2_read_6 15 rfl rfl)
theorem dX2_read_160 : decode cX2_read 160 = .ok (.lcmp, 1) := dk_148 (dk_at dksX2_read_6 18 rfl rfl)
theorem dX2_read_161 : decode cX2_read 161 = .ok (.ifCond .ne 11, 3) := dk_154 0 11 (dk_at dksX2_read_6 19 rfl rfl)
theorem dX2_read_164 : decode cX2_read 164 = .ok (.aload_n 0, 1) := dk_42 (dk_at dksX2_read_6 22 rfl rfl)
theorem dX2_read_165 : decode cX2_read 165 = .ok (.iconst 2, 1) := dk_5 (dk_at dksX2_read_6 23 rfl rfl)
theorem dX2_read_166 : decode cX2_read 166 = .ok (.invokevirtual 988, 3) := dk_182 3 220 (dk_at dksX2_read_7 0 rfl rfl)
theorem dX2_read_169 : decode cX2_read 169 = .ok (.goto 22, 3) := dk_167 0 22 (dk_at dksX2_read_7 3 rfl rfl)
theorem dX2_read_172 : decode cX2_read 172 = .ok (.aload_n 0, 1) := dk_42 (dk_at dksX2_read_7 6 rfl rfl)
theorem dX2_read_173 : decode cX2_read 173 = .ok (.lload 13, 2) := dk_22 13 (dk_at dksX2_read_7 7 rfl rfl)
theorem dX2_read_175 : decode cX2_read 175 = .ok (.bipush 32, 2) := dk_16 32 (dk_at dksX2_read_7 9 rfl rfl)
theorem dX2_read_177 : decode cX2_read 177 = .ok (.lshr, 1) := dk_123 (dk_at dksX2_read_7 11 rfl rfl)
theorem dX2_read_178 : decode cX2_read 178 = .ok (.l2i, 1) := dk_136 (dk_at dksX2_read_7 12 rfl rfl)
theorem dX2_read_179 : decode cX2_read 179 = .ok (.invokevirtual 1156, 3) := dk_182 4 132 (dk_at dksX2_read_7 13 rfl rfl)
theorem dX2_read_182 : decode cX2_read 182 = .ok (.ifCond .ne 9, 3) := dk_154 0 9 (dk_at dksX2_read_7 16 rfl rfl)
theorem dX2_read_185 : decode cX2_read 185 = .ok (.aload_n 0, 1) := dk_42 (dk_at dksX2_read_7 19 rfl rfl)
theorem dX2_read_186 : decode cX2_read 186 = .ok (.bipush 6, 2) := dk_16 6 (dk_at dksX2_read_7 20 rfl rfl)
theorem dX2_read_188 : decode cX2_read 188 = .ok (.invokevirtual 988, 3) := dk_182 3 220 (dk_at dksX2_read_8 0 rfl rfl)
theorem dX2_read_191 : decode cX2_read 191 = .ok (.aload_n 0, 1) := dk_42 (dk_at dksX2_read_8 3 rfl rfl)
theorem dX2_read_192 : decode cX2_read 192 = .ok (.invokevirtual 985, 3) := dk_182 3 217 (dk_at dksX2_read_8 4 rfl rfl)
theorem dX2_read_195 : decode cX2_read 195 = .ok (.ifCond .eq 31, 3) := dk_153 0 31 (dk_at dksX2_read_8 7 rfl rfl)
theorem dX2_read_198 : decode cX2_read 198 = .ok (.lload 13, 2) := dk_22 13 (dk_at dksX2_read_8 10 rfl rfl)
theorem dX2_read_200 : decode cX2_read 200 = .ok (.bipush 32, 2) := dk_16 32 (dk_at dksX2_read_8 12 rfl rfl)
theorem dX2_read_202 : decode cX2_read 202 = .ok (.lshr, 1) := dk_123 (dk_at dksX2_read_8 14 rfl rfl)
theorem dX2_read_203 : decode cX2_read 203 = .ok (.ldc2_w 1159, 3) := dk_20 4 135 (dk_at dksX2_read_8 15 rfl rfl)
theorem dX2_read_206 : decode cX2_read 206 = .ok (.lcmp, 1) := dk_148 (dk_at dksX2_read_8 18 rfl rfl)
theorem dX2_read_207 : decode cX2_read 207 = .ok (.ifCond .ge 19, 3) := dk_156 0 19 (dk_at dksX2_read_8 19 rfl rfl)
theorem dX2_read_210 : decode cX2_read 210 = .ok (.aload_n 0, 1) := dk_42 (dk_at dksX2_read_8 22 rfl rfl)
theorem dX2_read_211 : decode cX2_read 211 = .ok (.lload 13, 2) := dk_22 13 (dk_at dksX2_read_9 0 rfl rfl)
theorem dX2_read_213 : decode cX2_read 213 = .ok (.bipush 32, 2) := dk_16 32 (dk_at dksX2_read_9 2 rfl rfl)
theorem dX2_read_215 : decode cX2_read 215 = .ok (.lshr, 1) := dk_123 (dk_at dksX2_read_9 4 rfl rfl)
theorem dX2_read_216 : decode cX2_read 216 = .ok (.l2i, 1) := dk_136 (dk_at dksX2_read_9 5 rfl rfl)
theorem dX2_read_217 : decode cX2_read 217 = .ok (.lload 13, 2) := dk_22 13 (dk_at dksX2_read_9 6 rfl rfl)
theorem dX2_read_219 : decode cX2_read 219 = .ok (.l2i, 1) := dk_136 (dk_at dksX2_read_9 8 rfl rfl)
theorem dX2_read_220 : decode cX2_read 220 = .ok (.invokevirtual 1161, 3) := dk_182 4 137 (dk_at dksX2_read_9 9 rfl rfl)
theorem dX2_read_223 : decode cX2_read 223 = .ok (.goto 20, 3) := dk_167 0 20 (dk_at dksX2_read_9 12 rfl rfl)
theorem dX2_read_226 : decode cX2_read 226 = .ok (.aload_n 0, 1) := dk_42 (dk_at dksX2_read_9 15 rfl rfl)
theorem dX2_read_227 : decode cX2_read 227 = .ok (.invokevirtual 985, 3) := dk_182 3 217 (dk_at dksX2_read_9 16 rfl rfl)
theorem dX2_read_230 : decode cX2_read 230 = .ok (.ifCond .eq 13, 3) := dk_153 0 13 (dk_at dksX2_read_9 19 rfl rfl)
theorem dX2_read_233 : decode cX2_read 233 = .ok (.aload_n 0, 1) := dk_42 (dk_at dksX2_read_9 22 rfl rfl)
theorem dX2_read_234 : decode cX2_read 234 = .ok (.lload 13, 2) := dk_22 13 (dk_at dksX2_read_10 0 rfl rfl)
theorem dX2_read_236 : decode cX2_read 236 = .ok (.bipush 32, 2) := dk_16 32 (dk_at dksX2_read_10 2 rfl rfl)
theorem dX2_read_238 : decode cX2_read 238 = .ok (.lshr, 1) := dk_123 (dk_at dksX2_read_10 4 rfl rfl)
theorem dX2_read_239 : decode cX2_read 239 = .ok (.l2i, 1) := dk_136 (dk_at dksX2_read_10 5 rfl rfl)
theorem dX2_read_240 : decode cX2_read 240 = .ok (.invokevirtual 1164, 3) := dk_182 4 140 (dk_at dksX2_read_10 6 rfl rfl)
theorem dX2_read_243 : decode cX2_read 243 = .ok (.goto (-227), 3) := dk_167 255 29 (dk_at dksX2_read_10 9 rfl rfl)
theorem dX2_read_246 : decode cX2_read 246 = .ok (.return_, 1) := dk_177 (dk_at dksX2_read_10 12 rfl rfl)
abbrev cX2_next : ByteArray := prog_4_method_11_code
def yX2_next : MethodName := ⟨RX2, "next", "()V"⟩
def dkwX2_next_8 : List UInt8 := [181, 0, 119, 177]
abbrev dktX2_next_8 : List UInt8 := dkwX2_next_8 ++ []
def dkwX2_next_7 : List UInt8 := [181, 0, 119, 42, 27, 181, 0, 137, 42, 89, 180, 0, 102, 4, 96, 181, 0, 102, 167, 0, 9, 42, 16, 9]
abbrev dktX2_next_7 : List UInt8 := dkwX2_next_7 ++ dktX2_next_8
def dkwX2_next_6 : List UInt8 := [159, 0, 21, 27, 16, 43, 159, 0, 15, 27, 16, 45, 159, 0, 9, 27, 16, 37, 160, 0, 27, 42, 16, 6]
abbrev dktX2_next_6 : List UInt8 := dkwX2_next_6 ++ dktX2_next_7
def dkwX2_next_5 : List UInt8 := [167, 0, 75, 27, 16, 44, 159, 0, 39, 27, 16, 58, 159, 0, 33, 27, 16, 40, 159, 0, 27, 27, 16, 41]
abbrev dktX2_next_5 : List UInt8 := dkwX2_next_5 ++ dktX2_next_6
def dkwX2_next_4 : List UInt8 := [16, 39, 160, 0, 10, 42, 182, 0, 131, 167, 0, 88, 27, 16, 34, 160, 0, 10, 42, 182, 0, 134]
abbrev dktX2_next_4 : List UInt8 := dkwX2_next_4 ++ dktX2_next_5
def dkwX2_next_3 : List UInt8 := [153, 0, 10, 42, 182, 0, 125, 167, 0, 114, 27, 16, 36, 160, 0, 10, 42, 182, 0, 128, 167, 0, 101, 27]
abbrev dktX2_next_3 : List UInt8 := dkwX2_next_3 ++ dktX2_next_4
def dkwX2_next_2 : List UInt8 := [3, 181, 0, 119, 177, 27, 184, 0, 112, 153, 0, 10, 42, 182, 0, 122, 167, 0, 128, 27, 184, 0, 116]
abbrev dktX2_next_2 : List UInt8 := dkwX2_next_2 ++ dktX2_next_3
def dkwX2_next_1 : List UInt8 := [96, 181, 0, 102, 167, 255, 228, 42, 182, 0, 108, 60, 27, 2, 159, 0, 9, 27, 16, 35, 160, 0, 9, 42]
abbrev dktX2_next_1 : List UInt8 := dkwX2_next_1 ++ dktX2_next_2
def dkwX2_next_0 : List UInt8 := [42, 182, 0, 108, 16, 32, 159, 0, 12, 42, 182, 0, 108, 16, 9, 160, 0, 16, 42, 89, 180, 0, 102, 4]
abbrev dktX2_next_0 : List UInt8 := dkwX2_next_0 ++ dktX2_next_1
theorem dksX2_next_0 : cX2_next.data.toList.drop 0 = dktX2_next_0 := by decide +kernel
theorem dksX2_next_1 : cX2_next.data.toList.drop 24 = dktX2_next_1 := dk_seg dksX2_next_0 24 rfl rfl
theorem dksX2_next_2 : cX2_next.data.toList.drop 48 = dktX2_next_2 := dk_seg dksX2_next_1 24 rfl rfl
theorem dksX2_next_3 : cX2_next.data.toList.drop 71 = dktX2_next_3 := dk_seg dksX2_next_2 23 rfl rfl
theorem dksX2_next_4 : cX2_next.data.toList.drop 95 = dktX2_next_4 := dk_seg dksX2_next_3 24 rfl rfl
theorem dksX2_next_5 : cX2_next.data.toList.drop 117 = dktX2_next_5 := dk_seg dksX2_next_4 22 rfl rfl
theorem dksX2_next_6 : cX2_next.data.toList.drop 141 = dktX2_next_6 := dk_seg dksX2_next_5 24 rfl rfl
theorem dksX2_next_7 : cX2_next.data.toList.drop 165 = dktX2_next_7 := dk_seg dksX2_next_6 24 rfl rfl
theorem dksX2_next_8 : cX2_next.data.toList.drop 189 = dktX2_next_8 := dk_seg dksX2_next_7 24 rfl rfl
theorem dX2_next_0 : decode cX2_next 0 = .ok (.aload_n 0, 1) := dk_42 (dk_at dksX2_next_0 0 rfl rfl)
theorem dX2_next_1 : decode cX2_next 1 = .ok (.invokevirtual 108, 3) := dk_182 0 108 (dk_at dksX2_next_0 1 rfl rfl)
theorem dX2_next_4 : decode cX2_next 4 = .ok (.bipush 32, 2) := dk_16 32 (dk_at dksX2_next_0 4 rfl rfl)
theorem dX2_next_6 : decode cX2_next 6 = .ok (.if_icmp .eq 12, 3) := dk_159 0 12 (dk_at dksX2_next_0 6 rfl rfl)
theorem dX2_next_9 : decode cX2_next 9 = .ok (.aload_n 0, 1) := dk_42 (dk_at dksX2_next_0 9 rfl rfl)
theorem dX2_next_10 : decode cX2_next 10 = .ok (.invokevirtual 108, 3) := dk_182 0 108 (dk_at dksX2_next_0 10 rfl rfl)
theorem dX2_next_13 : decode cX2_next 13 = .ok (.bipush 9, 2) := dk_16 9 (dk_at dksX2_next_0 13 rfl rfl)
theorem dX2_next_15 : decode cX2_next 15 = .ok (.if_icmp .ne 16, 3) := dk_160 0 16 (dk_at dksX2_next_0 15 rfl rfl)
theorem dX2_next_18 : decode cX2_next 18 = .ok (.aload_n 0, 1) := dk_42 (dk_at dksX2_next_0 18 rfl rfl)
theorem dX2_next_19 : decode cX2_next 19 = .ok (.dup, 1) := dk_89 (dk_at dksX2_next_0 19 rfl rfl)
theorem dX2_next_20 : decode cX2_next 20 = .ok (.getfield 102, 3) := dk_180 0 102 (dk_at dksX2_next_0 20 rfl rfl)
theorem dX2_next_23 : decode cX2_next 23 = .ok (.iconst 1, 1) := dk_4 (dk_at dksX2_next_0 23 rfl rfl)
theorem dX2_next_24 : decode cX2_next 24 = .ok (.iadd, 1) := dk_96 (dk_at dksX2_next_1 0 rfl rfl)
theorem dX2_next_25 : decode cX2_next 25 = .ok (.putfield 102, 3) := dk_181 0 102 (dk_at dksX2_next_1 1 rfl rfl)
theorem dX2_next_28 : decode cX2_next 28 = .ok (.goto (-28), 3) := dk_167 255 228 (dk_at dksX2_next_1 4 rfl rfl)
theorem dX2_next_31 : decode cX2_next 31 = .ok (.aload_n 0, 1) := dk_42 (dk_at dksX2_next_1 7 rfl rfl)
theorem dX2_next_32 : decode cX2_next 32 = .ok (.invokevirtual 108, 3) := dk_182 0 108 (dk_at dksX2_next_1 8 rfl rfl)
theorem dX2_next_35 : decode cX2_next 35 = .ok (.istore_n 1, 1) := dk_60 (dk_at dksX2_next_1 11 rfl rfl)
theorem dX2_next_36 : decode cX2_next 36 = .ok (.iload_n 1, 1) := dk_27 (dk_at dksX2_next_1 12 rfl rfl)
theorem dX2_next_37 : decode cX2_next 37 = .ok (.iconst (-1), 1) := dk_2 (dk_at dksX2_next_1 13 rfl rfl)
theorem dX2_next_38 : decode cX2_next 38 = .ok (.if_icmp .eq 9, 3) := dk_159 0 9 (dk_at dksX2_next_1 14 rfl rfl)
theorem dX2_next_41 : decode cX2_next 41 = .ok (.iload_n 1, 1) := dk_27 (dk_at dksX2_next_1 17 rfl rfl)
theorem dX2_next_42 : decode cX2_next 42 = .ok (.bipush 35, 2) := dk_16 35 (dk_at dksX2_next_1 18 rfl rfl)
theorem dX2_next_44 : decode cX2_next 44 = .ok (.if_icmp .ne 9, 3) := dk_160 0 9 (dk_at dksX2_next_1 20 rfl rfl)
theorem dX2_next_47 : decode cX2_next 47 = .ok (.aload_n 0, 1) := dk_42 (dk_at dksX2_next_1 23 rfl rfl)
theorem dX2_next_48 : decode cX2_next 48 = .ok (.iconst 0, 1) := dk_3 (dk_at dksX2_next_2 0 rfl rfl)
theorem dX2_next_49 : decode cX2_next 49 = .ok (.putfield 119, 3) := dk_181 0 119 (dk_at dksX2_next_2 1 rfl rfl)
theorem dX2_next_52 : decode cX2_next 52 = .ok (.return_, 1) := dk_177 (dk_at dksX2_next_2 4 rfl rfl)
theorem dX2_next_53 : decode cX2_next 53 = .ok (.iload_n 1, 1) := dk_27 (dk_at dksX2_next_2 5 rfl rfl)
theorem dX2_next_54 : decode cX2_next 54 = .ok (.invokestatic 112, 3) := dk_184 0 112 (dk_at dksX2_next_2 6 rfl rfl)
theorem dX2_next_57 : decode cX2_next 57 = .ok (.ifCond .eq 10, 3) := dk_153 0 10 (dk_at dksX2_next_2 9 rfl rfl)
theorem dX2_next_60 : decode cX2_next 60 = .ok (.aload_n 0, 1) := dk_42 (dk_at dksX2_next_2 12 rfl rfl)
theorem dX2_next_61 : decode cX2_next 61 = .ok (.invokevirtual 122, 3) := dk_182 0 122 (dk_at dksX2_next_2 13 rfl rfl)
theorem dX2_next_64 : decode cX2_next 64 = .ok (.goto 128, 3) := dk_167 0 128 (dk_at dksX2_next_2 16 rfl rfl)
theorem dX2_next_67 : decode cX2_next 67 = .ok (.iload_n 1, 1) := dk_27 (dk_at dksX2_next_2 19 rfl rfl)
theorem dX2_next_68 : decode cX2_next 68 = .ok (.invokestatic 116, 3) := dk_184 0 116 (dk_at dksX2_next_2 20 rfl rfl)
theorem dX2_next_71 : decode cX2_next 71 = .ok (.ifCond .eq 10, 3) := dk_153 0 10 (dk_at dksX2_next_3 0 rfl rfl)
theorem dX2_next_74 : decode cX2_next 74 = .ok (.aload_n 0, 1) := dk_42 (dk_at dksX2_next_3 3 rfl rfl)
theorem dX2_next_75 : decode cX2_next 75 = .ok (.invokevirtual 125, 3) := dk_182 0 125 (dk_at dksX2_next_3 4 rfl rfl)
theorem dX2_next_78 : decode cX2_next 78 = .ok (.goto 114, 3) := dk_167 0 114 (dk_at dksX2_next_3 7 rfl rfl)
theorem dX2_next_81 : decode cX2_next 81 = .ok (.iload_n 1, 1) := dk_27 (dk_at dksX2_next_3 10 rfl rfl)
theorem dX2_next_82 : decode cX2_next 82 = .ok (.bipush 36, 2) := dk_16 36 (dk_at dksX2_next_3 11 rfl rfl)
theorem dX2_next_84 : decode cX2_next 84 = .ok (.if_icmp .ne 10, 3) := dk_160 0 10 (dk_at dksX2_next_3 13 rfl rfl)
theorem dX2_next_87 : decode cX2_next 87 = .ok (.aload_n 0, 1) := dk_42 (dk_at dksX2_next_3 16 rfl rfl)
theorem dX2_next_88 : decode cX2_next 88 = .ok (.invokevirtual 128, 3) := dk_182 0 128 (dk_at dksX2_next_3 17 rfl rfl)
theorem dX2_next_91 : decode cX2_next 91 = .ok (.goto 101, 3) := dk_167 0 101 (dk_at dksX2_next_3 20 rfl rfl)
theorem dX2_next_94 : decode cX2_next 94 = .ok (.iload_n 1, 1) := dk_27 (dk_at dksX2_next_3 23 rfl rfl)
theorem dX2_next_95 : decode cX2_next 95 = .ok (.bipush 39, 2) := dk_16 39 (dk_at dksX2_next_4 0 rfl rfl)
theorem dX2_next_97 : decode cX2_next 97 = .ok (.if_icmp .ne 10, 3) := dk_160 0 10 (dk_at dksX2_next_4 2 rfl rfl)
theorem dX2_next_100 : decode cX2_next 100 = .ok (.aload_n 0, 1) := dk_42 (dk_at dksX2_next_4 5 rfl rfl)
theorem dX2_next_101 : decode cX2_next 101 = .ok (.invokevirtual 131, 3) := dk_182 0 131 (dk_at dksX2_next_4 6 rfl rfl)
theorem dX2_next_104 : decode cX2_next 104 = .ok (.goto 88, 3) := dk_167 0 88 (dk_at dksX2_next_4 9 rfl rfl)
theorem dX2_next_107 : decode cX2_next 107 = .ok (.iload_n 1, 1) := dk_27 (dk_at dksX2_next_4 12 rfl rfl)
theorem dX2_next_108 : decode cX2_next 108 = .ok (.bipush 34, 2) := dk_16 34 (dk_at dksX2_next_4 13 rfl rfl)
theorem dX2_next_110 : decode cX2_next 110 = .ok (.if_icmp .ne 10, 3) := dk_160 0 10 (dk_at dksX2_next_4 15 rfl rfl)
theorem dX2_next_113 : decode cX2_next 113 = .ok (.aload_n 0, 1) := dk_42 (dk_at dksX2_next_4 18 rfl rfl)
theorem dX2_next_114 : decode cX2_next 114 = .ok (.invokevirtual 134, 3) := dk_182 0 134 (dk_at dksX2_next_4 19 rfl rfl)
theorem dX2_next_117 : decode cX2_next 117 = .ok (.goto 75, 3) := dk_167 0 75 (dk_at dksX2_next_5 0 rfl rfl)
theorem dX2_next_120 : decode cX2_next 120 = .ok (.iload_n 1, 1) := dk_27 (dk_at dksX2_next_5 3 rfl rfl)
theorem dX2_next_121 : decode cX2_next 121 = .ok (.bipush 44, 2) := dk_16 44 (dk_at dksX2_next_5 4 rfl rfl)
theorem dX2_next_123 : decode cX2_next 123 = .ok (.if_icmp .eq 39, 3) := dk_159 0 39 (dk_at dksX2_next_5 6 rfl rfl)
theorem dX2_next_126 : decode cX2_next 126 = .ok (.iload_n 1, 1) := dk_27 (dk_at dksX2_next_5 9 rfl rfl)
theorem dX2_next_127 : decode cX2_next 127 = .ok (.bipush 58, 2) := dk_16 58 (dk_at dksX2_next_5 10 rfl rfl)
theorem dX2_next_129 : decode cX2_next 129 = .ok (.if_icmp .eq 33, 3) := dk_159 0 33 (dk_at dksX2_next_5 12 rfl rfl)
theorem dX2_next_132 : decode cX2_next 132 = .ok (.iload_n 1, 1) := dk_27 (dk_at dksX2_next_5 15 rfl rfl)
theorem dX2_next_133 : decode cX2_next 133 = .ok (.bipush 40, 2) := dk_16 40 (dk_at dksX2_next_5 16 rfl rfl)
theorem dX2_next_135 : decode cX2_next 135 = .ok (.if_icmp .eq 27, 3) := dk_159 0 27 (dk_at dksX2_next_5 18 rfl rfl)
theorem dX2_next_138 : decode cX2_next 138 = .ok (.iload_n 1, 1) := dk_27 (dk_at dksX2_next_5 21 rfl rfl)
theorem dX2_next_139 : decode cX2_next 139 = .ok (.bipush 41, 2) := dk_16 41 (dk_at dksX2_next_5 22 rfl rfl)
theorem dX2_next_141 : decode cX2_next 141 = .ok (.if_icmp .eq 21, 3) := dk_159 0 21 (dk_at dksX2_next_6 0 rfl rfl)
theorem dX2_next_144 : decode cX2_next 144 = .ok (.iload_n 1, 1) := dk_27 (dk_at dksX2_next_6 3 rfl rfl)
theorem dX2_next_145 : decode cX2_next 145 = .ok (.bipush 43, 2) := dk_16 43 (dk_at dksX2_next_6 4 rfl rfl)
theorem dX2_next_147 : decode cX2_next 147 = .ok (.if_icmp .eq 15, 3) := dk_159 0 15 (dk_at dksX2_next_6 6 rfl rfl)
theorem dX2_next_150 : decode cX2_next 150 = .ok (.iload_n 1, 1) := dk_27 (dk_at dksX2_next_6 9 rfl rfl)
theorem dX2_next_151 : decode cX2_next 151 = .ok (.bipush 45, 2) := dk_16 45 (dk_at dksX2_next_6 10 rfl rfl)
theorem dX2_next_153 : decode cX2_next 153 = .ok (.if_icmp .eq 9, 3) := dk_159 0 9 (dk_at dksX2_next_6 12 rfl rfl)
theorem dX2_next_156 : decode cX2_next 156 = .ok (.iload_n 1, 1) := dk_27 (dk_at dksX2_next_6 15 rfl rfl)
theorem dX2_next_157 : decode cX2_next 157 = .ok (.bipush 37, 2) := dk_16 37 (dk_at dksX2_next_6 16 rfl rfl)
theorem dX2_next_159 : decode cX2_next 159 = .ok (.if_icmp .ne 27, 3) := dk_160 0 27 (dk_at dksX2_next_6 18 rfl rfl)
theorem dX2_next_162 : decode cX2_next 162 = .ok (.aload_n 0, 1) := dk_42 (dk_at dksX2_next_6 21 rfl rfl)
theorem dX2_next_163 : decode cX2_next 163 = .ok (.bipush 6, 2) := dk_16 6 (dk_at dksX2_next_6 22 rfl rfl)
theorem dX2_next_165 : decode cX2_next 165 = .ok (.putfield 119, 3) := dk_181 0 119 (dk_at dksX2_next_7 0 rfl rfl)
theorem dX2_next_168 : decode cX2_next 168 = .ok (.aload_n 0, 1) := dk_42 (dk_at dksX2_next_7 3 rfl rfl)
theorem dX2_next_169 : decode cX2_next 169 = .ok (.iload_n 1, 1) := dk_27 (dk_at dksX2_next_7 4 rfl rfl)
theorem dX2_next_170 : decode cX2_next 170 = .ok (.putfield 137, 3) := dk_181 0 137 (dk_at dksX2_next_7 5 rfl rfl)
theorem dX2_next_173 : decode cX2_next 173 = .ok (.aload_n 0, 1) := dk_42 (dk_at dksX2_next_7 8 rfl rfl)
theorem dX2_next_174 : decode cX2_next 174 = .ok (.dup, 1) := dk_89 (dk_at dksX2_next_7 9 rfl rfl)
theorem dX2_next_175 : decode cX2_next 175 = .ok (.getfield 102, 3) := dk_180 0 102 (dk_at dksX2_next_7 10 rfl rfl)
theorem dX2_next_178 : decode cX2_next 178 = .ok (.iconst 1, 1) := dk_4 (dk_at dksX2_next_7 13 rfl rfl)
theorem dX2_next_179 : decode cX2_next 179 = .ok (.iadd, 1) := dk_96 (dk_at dksX2_next_7 14 rfl rfl)
theorem dX2_next_180 : decode cX2_next 180 = .ok (.putfield 102, 3) := dk_181 0 102 (dk_at dksX2_next_7 15 rfl rfl)
theorem dX2_next_183 : decode cX2_next 183 = .ok (.goto 9, 3) := dk_167 0 9 (dk_at dksX2_next_7 18 rfl rfl)
theorem dX2_next_186 : decode cX2_next 186 = .ok (.aload_n 0, 1) := dk_42 (dk_at dksX2_next_7 21 rfl rfl)
theorem dX2_next_187 : decode cX2_next 187 = .ok (.bipush 9, 2) := dk_16 9 (dk_at dksX2_next_7 22 rfl rfl)
theorem dX2_next_189 : decode cX2_next 189 = .ok (.putfield 119, 3) := dk_181 0 119 (dk_at dksX2_next_8 0 rfl rfl)
theorem dX2_next_192 : decode cX2_next 192 = .ok (.return_, 1) := dk_177 (dk_at dksX2_next_8 3 rfl rfl)
abbrev cX2_here : ByteArray := prog_4_method_7_code
def yX2_here : MethodName := ⟨RX2, "here", "()I"⟩
def dkwX2_here_1 : List UInt8 := [167, 0, 4, 2, 172]
abbrev dktX2_here_1 : List UInt8 := dkwX2_here_1 ++ []
def dkwX2_here_0 : List UInt8 := [42, 180, 0, 102, 42, 180, 0, 105, 162, 0, 19, 42, 180, 0, 7, 42, 180, 0, 102, 51, 17, 0, 255, 126]
abbrev dktX2_here_0 : List UInt8 := dkwX2_here_0 ++ dktX2_here_1
theorem dksX2_here_0 : cX2_here.data.toList.drop 0 = dktX2_here_0 := by decide +kernel
theorem dksX2_here_1 : cX2_here.data.toList.drop 24 = dktX2_here_1 := dk_seg dksX2_here_0 24 rfl rfl
theorem dX2_here_0 : decode cX2_here 0 = .ok (.aload_n 0, 1) := dk_42 (dk_at dksX2_here_0 0 rfl rfl)
theorem dX2_here_1 : decode cX2_here 1 = .ok (.getfield 102, 3) := dk_180 0 102 (dk_at dksX2_here_0 1 rfl rfl)
theorem dX2_here_4 : decode cX2_here 4 = .ok (.aload_n 0, 1) := dk_42 (dk_at dksX2_here_0 4 rfl rfl)
theorem dX2_here_5 : decode cX2_here 5 = .ok (.getfield 105, 3) := dk_180 0 105 (dk_at dksX2_here_0 5 rfl rfl)
theorem dX2_here_8 : decode cX2_here 8 = .ok (.if_icmp .ge 19, 3) := dk_162 0 19 (dk_at dksX2_here_0 8 rfl rfl)
theorem dX2_here_11 : decode cX2_here 11 = .ok (.aload_n 0, 1) := dk_42 (dk_at dksX2_here_0 11 rfl rfl)
theorem dX2_here_12 : decode cX2_here 12 = .ok (.getfield 7, 3) := dk_180 0 7 (dk_at dksX2_here_0 12 rfl rfl)
theorem dX2_here_15 : decode cX2_here 15 = .ok (.aload_n 0, 1) := dk_42 (dk_at dksX2_here_0 15 rfl rfl)
theorem dX2_here_16 : decode cX2_here 16 = .ok (.getfield 102, 3) := dk_180 0 102 (dk_at dksX2_here_0 16 rfl rfl)
theorem dX2_here_19 : decode cX2_here 19 = .ok (.baload, 1) := dk_51 (dk_at dksX2_here_0 19 rfl rfl)
theorem dX2_here_20 : decode cX2_here 20 = .ok (.sipush 255, 3) := dk_17 0 255 (dk_at dksX2_here_0 20 rfl rfl)
theorem dX2_here_23 : decode cX2_here 23 = .ok (.iand, 1) := dk_126 (dk_at dksX2_here_0 23 rfl rfl)
theorem dX2_here_24 : decode cX2_here 24 = .ok (.goto 4, 3) := dk_167 0 4 (dk_at dksX2_here_1 0 rfl rfl)
theorem dX2_here_27 : decode cX2_here 27 = .ok (.iconst (-1), 1) := dk_2 (dk_at dksX2_here_1 3 rfl rfl)
theorem dX2_here_28 : decode cX2_here 28 = .ok (.ireturn, 1) := dk_172 (dk_at dksX2_here_1 4 rfl rfl)
abbrev cX2_isLetter : ByteArray := prog_4_method_9_code
def yX2_isLetter : MethodName := ⟨RX2, "isLetter", "(I)Z"⟩
def dkwX2_isLetter_1 : List UInt8 := [26, 16, 95, 159, 0, 9, 26, 16, 46, 160, 0, 7, 4, 167, 0, 4, 3, 172]
abbrev dktX2_isLetter_1 : List UInt8 := dkwX2_isLetter_1 ++ []
def dkwX2_isLetter_0 : List UInt8 := [26, 16, 97, 161, 0, 9, 26, 16, 122, 164, 0, 27, 26, 16, 65, 161, 0, 9, 26, 16, 90, 164, 0, 15]
abbrev dktX2_isLetter_0 : List UInt8 := dkwX2_isLetter_0 ++ dktX2_isLetter_1
theorem dksX2_isLetter_0 : cX2_isLetter.data.toList.drop 0 = dktX2_isLetter_0 := by decide +kernel
theorem dksX2_isLetter_1 : cX2_isLetter.data.toList.drop 24 = dktX2_isLetter_1 := dk_seg dksX2_isLetter_0 24 rfl rfl
theorem dX2_isLetter_0 : decode cX2_isLetter 0 = .ok (.iload_n 0, 1) := dk_26 (dk_at dksX2_isLetter_0 0 rfl rfl)
theorem dX2_isLetter_1 : decode cX2_isLetter 1 = .ok (.bipush 97, 2) := dk_16 97 (dk_at dksX2_isLetter_0 1 rfl rfl)
theorem dX2_isLetter_3 : decode cX2_isLetter 3 = .ok (.if_icmp .lt 9, 3) := dk_161 0 9 (dk_at dksX2_isLetter_0 3 rfl rfl)
theorem dX2_isLetter_6 : decode cX2_isLetter 6 = .ok (.iload_n 0, 1) := dk_26 (dk_at dksX2_isLetter_0 6 rfl rfl)
theorem dX2_isLetter_7 : decode cX2_isLetter 7 = .ok (.bipush 122, 2) := dk_16 122 (dk_at dksX2_isLetter_0 7 rfl rfl)
theorem dX2_isLetter_9 : decode cX2_isLetter 9 = .ok (.if_icmp .le 27, 3) := dk_164 0 27 (dk_at dksX2_isLetter_0 9 rfl rfl)
theorem dX2_isLetter_12 : decode cX2_isLetter 12 = .ok (.iload_n 0, 1) := dk_26 (dk_at dksX2_isLetter_0 12 rfl rfl)
theorem dX2_isLetter_13 : decode cX2_isLetter 13 = .ok (.bipush 65, 2) := dk_16 65 (dk_at dksX2_isLetter_0 13 rfl rfl)
theorem dX2_isLetter_15 : decode cX2_isLetter 15 = .ok (.if_icmp .lt 9, 3) := dk_161 0 9 (dk_at dksX2_isLetter_0 15 rfl rfl)
theorem dX2_isLetter_18 : decode cX2_isLetter 18 = .ok (.iload_n 0, 1) := dk_26 (dk_at dksX2_isLetter_0 18 rfl rfl)
theorem dX2_isLetter_19 : decode cX2_isLetter 19 = .ok (.bipush 90, 2) := dk_16 90 (dk_at dksX2_isLetter_0 19 rfl rfl)
theorem dX2_isLetter_21 : decode cX2_isLetter 21 = .ok (.if_icmp .le 15, 3) := dk_164 0 15 (dk_at dksX2_isLetter_0 21 rfl rfl)
theorem dX2_isLetter_24 : decode cX2_isLetter 24 = .ok (.iload_n 0, 1) := dk_26 (dk_at dksX2_isLetter_1 0 rfl rfl)
theorem dX2_isLetter_25 : decode cX2_isLetter 25 = .ok (.bipush 95, 2) := dk_16 95 (dk_at dksX2_isLetter_1 1 rfl rfl)
theorem dX2_isLetter_27 : decode cX2_isLetter 27 = .ok (.if_icmp .eq 9, 3) := dk_159 0 9 (dk_at dksX2_isLetter_1 3 rfl rfl)
theorem dX2_isLetter_30 : decode cX2_isLetter 30 = .ok (.iload_n 0, 1) := dk_26 (dk_at dksX2_isLetter_1 6 rfl rfl)
theorem dX2_isLetter_31 : decode cX2_isLetter 31 = .ok (.bipush 46, 2) := dk_16 46 (dk_at dksX2_isLetter_1 7 rfl rfl)
theorem dX2_isLetter_33 : decode cX2_isLetter 33 = .ok (.if_icmp .ne 7, 3) := dk_160 0 7 (dk_at dksX2_isLetter_1 9 rfl rfl)
theorem dX2_isLetter_36 : decode cX2_isLetter 36 = .ok (.iconst 1, 1) := dk_4 (dk_at dksX2_isLetter_1 12 rfl rfl)
theorem dX2_isLetter_37 : decode cX2_isLetter 37 = .ok (.goto 4, 3) := dk_167 0 4 (dk_at dksX2_isLetter_1 13 rfl rfl)
theorem dX2_isLetter_40 : decode cX2_isLetter 40 = .ok (.iconst 0, 1) := dk_3 (dk_at dksX2_isLetter_1 16 rfl rfl)
theorem dX2_isLetter_41 : decode cX2_isLetter 41 = .ok (.ireturn, 1) := dk_172 (dk_at dksX2_isLetter_1 17 rfl rfl)
abbrev cX2_named : ByteArray := prog_4_method_13_code
def yX2_named : MethodName := ⟨RX2, "named", "()V"⟩
def dkwX2_named_8 : List UInt8 := [154, 0, 8, 42, 9, 181, 0, 150, 42, 180, 0, 162, 16, 24, 164, 0, 9, 42, 16, 9, 181, 0, 119, 177]
abbrev dktX2_named_8 : List UInt8 := dkwX2_named_8 ++ []
def dkwX2_named_7 : List UInt8 := [180, 0, 102, 4, 96, 181, 0, 102, 167, 255, 116, 42, 42, 180, 0, 102, 27, 100, 181, 0, 162, 28]
abbrev dktX2_named_7 : List UInt8 := dkwX2_named_7 ++ dktX2_named_8
def dkwX2_named_6 : List UInt8 := [181, 0, 144, 167, 0, 18, 42, 42, 180, 0, 147, 16, 8, 121, 21, 4, 133, 129, 181, 0, 147, 42, 89]
abbrev dktX2_named_6 : List UInt8 := dkwX2_named_6 ++ dktX2_named_7
def dkwX2_named_5 : List UInt8 := [181, 0, 140, 167, 0, 42, 29, 16, 16, 162, 0, 21, 42, 42, 180, 0, 144, 16, 8, 121, 21, 4, 133, 129]
abbrev dktX2_named_5 : List UInt8 := dkwX2_named_5 ++ dktX2_named_6
def dkwX2_named_4 : List UInt8 := [133, 97, 181, 0, 150, 29, 16, 8, 162, 0, 21, 42, 42, 180, 0, 140, 16, 8, 121, 21, 4, 133, 129]
abbrev dktX2_named_4 : List UInt8 := dkwX2_named_4 ++ dktX2_named_5
def dkwX2_named_3 : List UInt8 := [4, 167, 0, 4, 3, 61, 28, 153, 0, 22, 42, 20, 0, 160, 42, 180, 0, 150, 105, 21, 4, 184, 0, 157]
abbrev dktX2_named_3 : List UInt8 := dkwX2_named_3 ++ dktX2_named_4
def dkwX2_named_2 : List UInt8 := [42, 182, 0, 108, 54, 4, 28, 153, 0, 21, 29, 16, 9, 162, 0, 15, 21, 4, 184, 0, 157, 158, 0, 7]
abbrev dktX2_named_2 : List UInt8 := dkwX2_named_2 ++ dktX2_named_3
def dkwX2_named_1 : List UInt8 := [181, 0, 147, 42, 9, 181, 0, 150, 4, 61, 42, 182, 0, 153, 153, 0, 139, 42, 180, 0, 102, 27, 100, 62]
abbrev dktX2_named_1 : List UInt8 := dkwX2_named_1 ++ dktX2_named_2
def dkwX2_named_0 : List UInt8 := [42, 180, 0, 102, 60, 42, 4, 181, 0, 119, 42, 9, 181, 0, 140, 42, 9, 181, 0, 144, 42, 9]
abbrev dktX2_named_0 : List UInt8 := dkwX2_named_0 ++ dktX2_named_1
theorem dksX2_named_0 : cX2_named.data.toList.drop 0 = dktX2_named_0 := by decide +kernel
theorem dksX2_named_1 : cX2_named.data.toList.drop 22 = dktX2_named_1 := dk_seg dksX2_named_0 22 rfl rfl
theorem dksX2_named_2 : cX2_named.data.toList.drop 46 = dktX2_named_2 := dk_seg dksX2_named_1 24 rfl rfl
theorem dksX2_named_3 : cX2_named.data.toList.drop 70 = dktX2_named_3 := dk_seg dksX2_named_2 24 rfl rfl
theorem dksX2_named_4 : cX2_named.data.toList.drop 94 = dktX2_named_4 := dk_seg dksX2_named_3 24 rfl rfl
theorem dksX2_named_5 : cX2_named.data.toList.drop 117 = dktX2_named_5 := dk_seg dksX2_named_4 23 rfl rfl
theorem dksX2_named_6 : cX2_named.data.toList.drop 141 = dktX2_named_6 := dk_seg dksX2_named_5 24 rfl rfl
theorem dksX2_named_7 : cX2_named.data.toList.drop 164 = dktX2_named_7 := dk_seg dksX2_named_6 23 rfl rfl
theorem dksX2_named_8 : cX2_named.data.toList.drop 186 = dktX2_named_8 := dk_seg dksX2_named_7 22 rfl rfl
theorem dX2_named_0 : decode cX2_named 0 = .ok (.aload_n 0, 1) := dk_42 (dk_at dksX2_named_0 0 rfl rfl)
theorem dX2_named_1 : decode cX2_named 1 = .ok (.getfield 102, 3) := dk_180 0 102 (dk_at dksX2_named_0 1 rfl rfl)
theorem dX2_named_4 : decode cX2_named 4 = .ok (.istore_n 1, 1) := dk_60 (dk_at dksX2_named_0 4 rfl rfl)
theorem dX2_named_5 : decode cX2_named 5 = .ok (.aload_n 0, 1) := dk_42 (dk_at dksX2_named_0 5 rfl rfl)
theorem dX2_named_6 : decode cX2_named 6 = .ok (.iconst 1, 1) := dk_4 (dk_at dksX2_named_0 6 rfl rfl)
theorem dX2_named_7 : decode cX2_named 7 = .ok (.putfield 119, 3) := dk_181 0 119 (dk_at dksX2_named_0 7 rfl rfl)
theorem dX2_named_10 : decode cX2_named 10 = .ok (.aload_n 0, 1) := dk_42 (dk_at dksX2_named_0 10 rfl rfl)
theorem dX2_named_11 : decode cX2_named 11 = .ok (.lconst 0, 1) := dk_9 (dk_at dksX2_named_0 11 rfl rfl)
theorem dX2_named_12 : decode cX2_named 12 = .ok (.putfield 140, 3) := dk_181 0 140 (dk_at dksX2_named_0 12 rfl rfl)
theorem dX2_named_15 : decode cX2_named 15 = .ok (.aload_n 0, 1) := dk_42 (dk_at dksX2_named_0 15 rfl rfl)
theorem dX2_named_16 : decode cX2_named 16 = .ok (.lconst 0, 1) := dk_9 (dk_at dksX2_named_0 16 rfl rfl)
theorem dX2_named_17 : decode cX2_named 17 = .ok (.putfield 144, 3) := dk_181 0 144 (dk_at dksX2_named_0 17 rfl rfl)
theorem dX2_named_20 : decode cX2_named 20 = .ok (.aload_n 0, 1) := dk_42 (dk_at dksX2_named_0 20 rfl rfl)
theorem dX2_named_21 : decode cX2_named 21 = .ok (.lconst 0, 1) := dk_9 (dk_at dksX2_named_0 21 rfl rfl)
theorem dX2_named_22 : decode cX2_named 22 = .ok (.putfield 147, 3) := dk_181 0 147 (dk_at dksX2_named_1 0 rfl rfl)
theorem dX2_named_25 : decode cX2_named 25 = .ok (.aload_n 0, 1) := dk_42 (dk_at dksX2_named_1 3 rfl rfl)
theorem dX2_named_26 : decode cX2_named 26 = .ok (.lconst 0, 1) := dk_9 (dk_at dksX2_named_1 4 rfl rfl)
theorem dX2_named_27 : decode cX2_named 27 = .ok (.putfield 150, 3) := dk_181 0 150 (dk_at dksX2_named_1 5 rfl rfl)
theorem dX2_named_30 : decode cX2_named 30 = .ok (.iconst 1, 1) := dk_4 (dk_at dksX2_named_1 8 rfl rfl)
theorem dX2_named_31 : decode cX2_named 31 = .ok (.istore_n 2, 1) := dk_61 (dk_at dksX2_named_1 9 rfl rfl)
theorem dX2_named_32 : decode cX2_named 32 = .ok (.aload_n 0, 1) := dk_42 (dk_at dksX2_named_1 10 rfl rfl)
theorem dX2_named_33 : decode cX2_named 33 = .ok (.invokevirtual 153, 3) := dk_182 0 153 (dk_at dksX2_named_1 11 rfl rfl)
theorem dX2_named_36 : decode cX2_named 36 = .ok (.ifCond .eq 139, 3) := dk_153 0 139 (dk_at dksX2_named_1 14 rfl rfl)
theorem dX2_named_39 : decode cX2_named 39 = .ok (.aload_n 0, 1) := dk_42 (dk_at dksX2_named_1 17 rfl rfl)
theorem dX2_named_40 : decode cX2_named 40 = .ok (.getfield 102, 3) := dk_180 0 102 (dk_at dksX2_named_1 18 rfl rfl)
theorem dX2_named_43 : decode cX2_named 43 = .ok (.iload_n 1, 1) := dk_27 (dk_at dksX2_named_1 21 rfl rfl)
theorem dX2_named_44 : decode cX2_named 44 = .ok (.isub, 1) := dk_100 (dk_at dksX2_named_1 22 rfl rfl)
theorem dX2_named_45 : decode cX2_named 45 = .ok (.istore_n 3, 1) := dk_62 (dk_at dksX2_named_1 23 rfl rfl)
theorem dX2_named_46 : decode cX2_named 46 = .ok (.aload_n 0, 1) := dk_42 (dk_at dksX2_named_2 0 rfl rfl)
theorem dX2_named_47 : decode cX2_named 47 = .ok (.invokevirtual 108, 3) := dk_182 0 108 (dk_at dksX2_named_2 1 rfl rfl)
theorem dX2_named_50 : decode cX2_named 50 = .ok (.istore 4, 2) := dk_54 4 (dk_at dksX2_named_2 4 rfl rfl)
theorem dX2_named_52 : decode cX2_named 52 = .ok (.iload_n 2, 1) := dk_28 (dk_at dksX2_named_2 6 rfl rfl)
theorem dX2_named_53 : decode cX2_named 53 = .ok (.ifCond .eq 21, 3) := dk_153 0 21 (dk_at dksX2_named_2 7 rfl rfl)
theorem dX2_named_56 : decode cX2_named 56 = .ok (.iload_n 3, 1) := dk_29 (dk_at dksX2_named_2 10 rfl rfl)
theorem dX2_named_57 : decode cX2_named 57 = .ok (.bipush 9, 2) := dk_16 9 (dk_at dksX2_named_2 11 rfl rfl)
theorem dX2_named_59 : decode cX2_named 59 = .ok (.if_icmp .ge 15, 3) := dk_162 0 15 (dk_at dksX2_named_2 13 rfl rfl)
theorem dX2_named_62 : decode cX2_named 62 = .ok (.iload 4, 2) := dk_21 4 (dk_at dksX2_named_2 16 rfl rfl)
theorem dX2_named_64 : decode cX2_named 64 = .ok (.invokestatic 157, 3) := dk_184 0 157 (dk_at dksX2_named_2 18 rfl rfl)
theorem dX2_named_67 : decode cX2_named 67 = .ok (.ifCond .le 7, 3) := dk_158 0 7 (dk_at dksX2_named_2 21 rfl rfl)
theorem dX2_named_70 : decode cX2_named 70 = .ok (.iconst 1, 1) := dk_4 (dk_at dksX2_named_3 0 rfl rfl)
theorem dX2_named_71 : decode cX2_named 71 = .ok (.goto 4, 3) := dk_167 0 4 (dk_at dksX2_named_3 1 rfl rfl)
theorem dX2_named_74 : decode cX2_named 74 = .ok (.iconst 0, 1) := dk_3 (dk_at dksX2_named_3 4 rfl rfl)
theorem dX2_named_75 : decode cX2_named 75 = .ok (.istore_n 2, 1) := dk_61 (dk_at dksX2_named_3 5 rfl rfl)
theorem dX2_named_76 : decode cX2_named 76 = .ok (.iload_n 2, 1) := dk_28 (dk_at dksX2_named_3 6 rfl rfl)
theorem dX2_named_77 : decode cX2_named 77 = .ok (.ifCond .eq 22, 3) := dk_153 0 22 (dk_at dksX2_named_3 7 rfl rfl)
theorem dX2_named_80 : decode cX2_named 80 = .ok (.aload_n 0, 1) := dk_42 (dk_at dksX2_named_3 10 rfl rfl)
theorem dX2_named_81 : decode cX2_named 81 = .ok (.ldc2_w 160, 3) := dk_20 0 160 (dk_at dksX2_named_3 11 rfl rfl)
theorem dX2_named_84 : decode cX2_named 84 = .ok (.aload_n 0, 1) := dk_42 (dk_at dksX2_named_3 14 rfl rfl)
theorem dX2_named_85 : decode cX2_named 85 = .ok (.getfield 150, 3) := dk_180 0 150 (dk_at dksX2_named_3 15 rfl rfl)
theorem dX2_named_88 : decode cX2_named 88 = .ok (.lmul, 1) := dk_105 (dk_at dksX2_named_3 18 rfl rfl)
theorem dX2_named_89 : decode cX2_named 89 = .ok (.iload 4, 2) := dk_21 4 (dk_at dksX2_named_3 19 rfl rfl)
theorem dX2_named_91 : decode cX2_named 91 = .ok (.invokestatic 157, 3) := dk_184 0 157 (dk_at dksX2_named_3 21 rfl rfl)
theorem dX2_named_94 : decode cX2_named 94 = .ok (.i2l, 1) := dk_133 (dk_at dksX2_named_4 0 rfl rfl)
theorem dX2_named_95 : decode cX2_named 95 = .ok (.ladd, 1) := dk_97 (dk_at dksX2_named_4 1 rfl rfl)
theorem dX2_named_96 : decode cX2_named 96 = .ok (.putfield 150, 3) := dk_181 0 150 (dk_at dksX2_named_4 2 rfl rfl)
theorem dX2_named_99 : decode cX2_named 99 = .ok (.iload_n 3, 1) := dk_29 (dk_at dksX2_named_4 5 rfl rfl)
theorem dX2_named_100 : decode cX2_named 100 = .ok (.bipush 8, 2) := dk_16 8 (dk_at dksX2_named_4 6 rfl rfl)
theorem dX2_named_102 : decode cX2_named 102 = .ok (.if_icmp .ge 21, 3) := dk_162 0 21 (dk_at dksX2_named_4 8 rfl rfl)
theorem dX2_named_105 : decode cX2_named 105 = .ok (.aload_n 0, 1) := dk_42 (dk_at dksX2_named_4 11 rfl rfl)
theorem dX2_named_106 : decode cX2_named 106 = .ok (.aload_n 0, 1) := dk_42 (dk_at dksX2_named_4 12 rfl rfl)
theorem dX2_named_107 : decode cX2_named 107 = .ok (.getfield 140, 3) := dk_180 0 140 (dk_at dksX2_named_4 13 rfl rfl)
theorem dX2_named_110 : decode cX2_named 110 = .ok (.bipush 8, 2) := dk_16 8 (dk_at dksX2_named_4 16 rfl rfl)
theorem dX2_named_112 : decode cX2_named 112 = .ok (.lshl, 1) := dk_121 (dk_at dksX2_named_4 18 rfl rfl)
theorem dX2_named_113 : decode cX2_named 113 = .ok (.iload 4, 2) := dk_21 4 (dk_at dksX2_named_4 19 rfl rfl)
theorem dX2_named_115 : decode cX2_named 115 = .ok (.i2l, 1) := dk_133 (dk_at dksX2_named_4 21 rfl rfl)
theorem dX2_named_116 : decode cX2_named 116 = .ok (.lor, 1) := dk_129 (dk_at dksX2_named_4 22 rfl rfl)
theorem dX2_named_117 : decode cX2_named 117 = .ok (.putfield 140, 3) := dk_181 0 140 (dk_at dksX2_named_5 0 rfl rfl)
theorem dX2_named_120 : decode cX2_named 120 = .ok (.goto 42, 3) := dk_167 0 42 (dk_at dksX2_named_5 3 rfl rfl)
theorem dX2_named_123 : decode cX2_named 123 = .ok (.iload_n 3, 1) := dk_29 (dk_at dksX2_named_5 6 rfl rfl)
theorem dX2_named_124 : decode cX2_named 124 = .ok (.bipush 16, 2) := dk_16 16 (dk_at dksX2_named_5 7 rfl rfl)
theorem dX2_named_126 : decode cX2_named 126 = .ok (.if_icmp .ge 21, 3) := dk_162 0 21 (dk_at dksX2_named_5 9 rfl rfl)
theorem dX2_named_129 : decode cX2_named 129 = .ok (.aload_n 0, 1) := dk_42 (dk_at dksX2_named_5 12 rfl rfl)
theorem dX2_named_130 : decode cX2_named 130 = .ok (.aload_n 0, 1) := dk_42 (dk_at dksX2_named_5 13 rfl rfl)
theorem dX2_named_131 : decode cX2_named 131 = .ok (.getfield 144, 3) := dk_180 0 144 (dk_at dksX2_named_5 14 rfl rfl)
theorem dX2_named_134 : decode cX2_named 134 = .ok (.bipush 8, 2) := dk_16 8 (dk_at dksX2_named_5 17 rfl rfl)
theorem dX2_named_136 : decode cX2_named 136 = .ok (.lshl, 1) := dk_121 (dk_at dksX2_named_5 19 rfl rfl)
theorem dX2_named_137 : decode cX2_named 137 = .ok (.iload 4, 2) := dk_21 4 (dk_at dksX2_named_5 20 rfl rfl)
theorem dX2_named_139 : decode cX2_named 139 = .ok (.i2l, 1) := dk_133 (dk_at dksX2_named_5 22 rfl rfl)
theorem dX2_named_140 : decode cX2_named 140 = .ok (.lor, 1) := dk_129 (dk_at dksX2_named_5 23 rfl rfl)
theorem dX2_named_141 : decode cX2_named 141 = .ok (.putfield 144, 3) := dk_181 0 144 (dk_at dksX2_named_6 0 rfl rfl)
theorem dX2_named_144 : decode cX2_named 144 = .ok (.goto 18, 3) := dk_167 0 18 (dk_at dksX2_named_6 3 rfl rfl)
theorem dX2_named_147 : decode cX2_named 147 = .ok (.aload_n 0, 1) := dk_42 (dk_at dksX2_named_6 6 rfl rfl)
theorem dX2_named_148 : decode cX2_named 148 = .ok (.aload_n 0, 1) := dk_42 (dk_at dksX2_named_6 7 rfl rfl)
theorem dX2_named_149 : decode cX2_named 149 = .ok (.getfield 147, 3) := dk_180 0 147 (dk_at dksX2_named_6 8 rfl rfl)
theorem dX2_named_152 : decode cX2_named 152 = .ok (.bipush 8, 2) := dk_16 8 (dk_at dksX2_named_6 11 rfl rfl)
theorem dX2_named_154 : decode cX2_named 154 = .ok (.lshl, 1) := dk_121 (dk_at dksX2_named_6 13 rfl rfl)
theorem dX2_named_155 : decode cX2_named 155 = .ok (.iload 4, 2) := dk_21 4 (dk_at dksX2_named_6 14 rfl rfl)
theorem dX2_named_157 : decode cX2_named 157 = .ok (.i2l, 1) := dk_133 (dk_at dksX2_named_6 16 rfl rfl)
theorem dX2_named_158 : decode cX2_named 158 = .ok (.lor, 1) := dk_129 (dk_at dksX2_named_6 17 rfl rfl)
theorem dX2_named_159 : decode cX2_named 159 = .ok (.putfield 147, 3) := dk_181 0 147 (dk_at dksX2_named_6 18 rfl rfl)
theorem dX2_named_162 : decode cX2_named 162 = .ok (.aload_n 0, 1) := dk_42 (dk_at dksX2_named_6 21 rfl rfl)
theorem dX2_named_163 : decode cX2_named 163 = .ok (.dup, 1) := dk_89 (dk_at dksX2_named_6 22 rfl rfl)
theorem dX2_named_164 : decode cX2_named 164 = .ok (.getfield 102, 3) := dk_180 0 102 (dk_at dksX2_named_7 0 rfl rfl)
theorem dX2_named_167 : decode cX2_named 167 = .ok (.iconst 1, 1) := dk_4 (dk_at dksX2_named_7 3 rfl rfl)
theorem dX2_named_168 : decode cX2_named 168 = .ok (.iadd, 1) := dk_96 (dk_at dksX2_named_7 4 rfl rfl)
theorem dX2_named_169 : decode cX2_named 169 = .ok (.putfield 102, 3) := dk_181 0 102 (dk_at dksX2_named_7 5 rfl rfl)
theorem dX2_named_172 : decode cX2_named 172 = .ok (.goto (-140), 3) := dk_167 255 116 (dk_at dksX2_named_7 8 rfl rfl)
theorem dX2_named_175 : decode cX2_named 175 = .ok (.aload_n 0, 1) := dk_42 (dk_at dksX2_named_7 11 rfl rfl)
theorem dX2_named_176 : decode cX2_named 176 = .ok (.aload_n 0, 1) := dk_42 (dk_at dksX2_named_7 12 rfl rfl)
theorem dX2_named_177 : decode cX2_named 177 = .ok (.getfield 102, 3) := dk_180 0 102 (dk_at dksX2_named_7 13 rfl rfl)
theorem dX2_named_180 : decode cX2_named 180 = .ok (.iload_n 1, 1) := dk_27 (dk_at dksX2_named_7 16 rfl rfl)
theorem dX2_named_181 : decode cX2_named 181 = .ok (.isub, 1) := dk_100 (dk_at dksX2_named_7 17 rfl rfl)
theorem dX2_named_182 : decode cX2_named 182 = .ok (.putfield 162, 3) := dk_181 0 162 (dk_at dksX2_named_7 18 rfl rfl)
theorem dX2_named_185 : decode cX2_named 185 = .ok (.iload_n 2, 1) := dk_28 (dk_at dksX2_named_7 21 rfl rfl)
theorem dX2_named_186 : decode cX2_named 186 = .ok (.ifCond .ne 8, 3) := dk_154 0 8 (dk_at dksX2_named_8 0 rfl rfl)
theorem dX2_named_189 : decode cX2_named 189 = .ok (.aload_n 0, 1) := dk_42 (dk_at dksX2_named_8 3 rfl rfl)
theorem dX2_named_190 : decode cX2_named 190 = .ok (.lconst 0, 1) := dk_9 (dk_at dksX2_named_8 4 rfl rfl)
theorem dX2_named_191 : decode cX2_named 191 = .ok (.putfield 150, 3) := dk_181 0 150 (dk_at dksX2_named_8 5 rfl rfl)
theorem dX2_named_194 : decode cX2_named 194 = .ok (.aload_n 0, 1) := dk_42 (dk_at dksX2_named_8 8 rfl rfl)
theorem dX2_named_195 : decode cX2_named 195 = .ok (.getfield 162, 3) := dk_180 0 162 (dk_at dksX2_named_8 9 rfl rfl)
theorem dX2_named_198 : decode cX2_named 198 = .ok (.bipush 24, 2) := dk_16 24 (dk_at dksX2_named_8 12 rfl rfl)
theorem dX2_named_200 : decode cX2_named 200 = .ok (.if_icmp .le 9, 3) := dk_164 0 9 (dk_at dksX2_named_8 14 rfl rfl)
theorem dX2_named_203 : decode cX2_named 203 = .ok (.aload_n 0, 1) := dk_42 (dk_at dksX2_named_8 17 rfl rfl)
theorem dX2_named_204 : decode cX2_named 204 = .ok (.bipush 9, 2) := dk_16 9 (dk_at dksX2_named_8 18 rfl rfl)
theorem dX2_named_206 : decode cX2_named 206 = .ok (.putfield 119, 3) := dk_181 0 119 (dk_at dksX2_named_8 20 rfl rfl)
theorem dX2_named_209 : decode cX2_named 209 = .ok (.return_, 1) := dk_177 (dk_at dksX2_named_8 23 rfl rfl)
abbrev cX2_isInName : ByteArray := prog_4_method_10_code
def yX2_isInName : MethodName := ⟨RX2, "isInName", "()Z"⟩
def dkwX2_isInName_1 : List UInt8 := [3, 172]
abbrev dktX2_isInName_1 : List UInt8 := dkwX2_isInName_1 ++ []
def dkwX2_isInName_0 : List UInt8 := [42, 182, 0, 108, 184, 0, 112, 154, 0, 13, 42, 182, 0, 108, 184, 0, 116, 153, 0, 7, 4, 167, 0, 4]
abbrev dktX2_isInName_0 : List UInt8 := dkwX2_isInName_0 ++ dktX2_isInName_1
theorem dksX2_isInName_0 : cX2_isInName.data.toList.drop 0 = dktX2_isInName_0 := by decide +kernel
theorem dksX2_isInName_1 : cX2_isInName.data.toList.drop 24 = dktX2_isInName_1 := dk_seg dksX2_isInName_0 24 rfl rfl
theorem dX2_isInName_0 : decode cX2_isInName 0 = .ok (.aload_n 0, 1) := dk_42 (dk_at dksX2_isInName_0 0 rfl rfl)
theorem dX2_isInName_1 : decode cX2_isInName 1 = .ok (.invokevirtual 108, 3) := dk_182 0 108 (dk_at dksX2_isInName_0 1 rfl rfl)
theorem dX2_isInName_4 : decode cX2_isInName 4 = .ok (.invokestatic 112, 3) := dk_184 0 112 (dk_at dksX2_isInName_0 4 rfl rfl)
theorem dX2_isInName_7 : decode cX2_isInName 7 = .ok (.ifCond .ne 13, 3) := dk_154 0 13 (dk_at dksX2_isInName_0 7 rfl rfl)
theorem dX2_isInName_10 : decode cX2_isInName 10 = .ok (.aload_n 0, 1) := dk_42 (dk_at dksX2_isInName_0 10 rfl rfl)
theorem dX2_isInName_11 : decode cX2_isInName 11 = .ok (.invokevirtual 108, 3) := dk_182 0 108 (dk_at dksX2_isInName_0 11 rfl rfl)
theorem dX2_isInName_14 : decode cX2_isInName 14 = .ok (.invokestatic 116, 3) := dk_184 0 116 (dk_at dksX2_isInName_0 14 rfl rfl)
theorem dX2_isInName_17 : decode cX2_isInName 17 = .ok (.ifCond .eq 7, 3) := dk_153 0 7 (dk_at dksX2_isInName_0 17 rfl rfl)
theorem dX2_isInName_20 : decode cX2_isInName 20 = .ok (.iconst 1, 1) := dk_4 (dk_at dksX2_isInName_0 20 rfl rfl)
theorem dX2_isInName_21 : decode cX2_isInName 21 = .ok (.goto 4, 3) := dk_167 0 4 (dk_at dksX2_isInName_0 21 rfl rfl)
theorem dX2_isInName_24 : decode cX2_isInName 24 = .ok (.iconst 0, 1) := dk_3 (dk_at dksX2_isInName_1 0 rfl rfl)
theorem dX2_isInName_25 : decode cX2_isInName 25 = .ok (.ireturn, 1) := dk_172 (dk_at dksX2_isInName_1 1 rfl rfl)
abbrev cX2_isDigit : ByteArray := prog_4_method_8_code
def yX2_isDigit : MethodName := ⟨RX2, "isDigit", "(I)Z"⟩
def dkwX2_isDigit_0 : List UInt8 := [26, 16, 48, 161, 0, 13, 26, 16, 57, 163, 0, 7, 4, 167, 0, 4, 3, 172]
abbrev dktX2_isDigit_0 : List UInt8 := dkwX2_isDigit_0 ++ []
theorem dksX2_isDigit_0 : cX2_isDigit.data.toList.drop 0 = dktX2_isDigit_0 := by decide +kernel
theorem dX2_isDigit_0 : decode cX2_isDigit 0 = .ok (.iload_n 0, 1) := dk_26 (dk_at dksX2_isDigit_0 0 rfl rfl)
theorem dX2_isDigit_1 : decode cX2_isDigit 1 = .ok (.bipush 48, 2) := dk_16 48 (dk_at dksX2_isDigit_0 1 rfl rfl)
theorem dX2_isDigit_3 : decode cX2_isDigit 3 = .ok (.if_icmp .lt 13, 3) := dk_161 0 13 (dk_at dksX2_isDigit_0 3 rfl rfl)
theorem dX2_isDigit_6 : decode cX2_isDigit 6 = .ok (.iload_n 0, 1) := dk_26 (dk_at dksX2_isDigit_0 6 rfl rfl)
theorem dX2_isDigit_7 : decode cX2_isDigit 7 = .ok (.bipush 57, 2) := dk_16 57 (dk_at dksX2_isDigit_0 7 rfl rfl)
theorem dX2_isDigit_9 : decode cX2_isDigit 9 = .ok (.if_icmp .gt 7, 3) := dk_163 0 7 (dk_at dksX2_isDigit_0 9 rfl rfl)
theorem dX2_isDigit_12 : decode cX2_isDigit 12 = .ok (.iconst 1, 1) := dk_4 (dk_at dksX2_isDigit_0 12 rfl rfl)
theorem dX2_isDigit_13 : decode cX2_isDigit 13 = .ok (.goto 4, 3) := dk_167 0 4 (dk_at dksX2_isDigit_0 13 rfl rfl)
theorem dX2_isDigit_16 : decode cX2_isDigit 16 = .ok (.iconst 0, 1) := dk_3 (dk_at dksX2_isDigit_0 16 rfl rfl)
theorem dX2_isDigit_17 : decode cX2_isDigit 17 = .ok (.ireturn, 1) := dk_172 (dk_at dksX2_isDigit_0 17 rfl rfl)
abbrev cX2_codeOf : ByteArray := prog_4_method_12_code
def yX2_codeOf : MethodName := ⟨RX2, "codeOf", "(I)I"⟩
def dkwX2_codeOf_2 : List UInt8 := [167, 0, 4, 3, 172]
abbrev dktX2_codeOf_2 : List UInt8 := dkwX2_codeOf_2 ++ []
def dkwX2_codeOf_1 : List UInt8 := [160, 0, 8, 16, 27, 167, 0, 21, 26, 184, 0, 116, 153, 0, 13, 16, 28, 26, 96, 16, 48, 100]
abbrev dktX2_codeOf_1 : List UInt8 := dkwX2_codeOf_1 ++ dktX2_codeOf_2
def dkwX2_codeOf_0 : List UInt8 := [26, 16, 97, 161, 0, 16, 26, 16, 122, 163, 0, 10, 26, 16, 96, 100, 167, 0, 32, 26, 16, 46]
abbrev dktX2_codeOf_0 : List UInt8 := dkwX2_codeOf_0 ++ dktX2_codeOf_1
theorem dksX2_codeOf_0 : cX2_codeOf.data.toList.drop 0 = dktX2_codeOf_0 := by decide +kernel
theorem dksX2_codeOf_1 : cX2_codeOf.data.toList.drop 22 = dktX2_codeOf_1 := dk_seg dksX2_codeOf_0 22 rfl rfl
theorem dksX2_codeOf_2 : cX2_codeOf.data.toList.drop 44 = dktX2_codeOf_2 := dk_seg dksX2_codeOf_1 22 rfl rfl
theorem dX2_codeOf_0 : decode cX2_codeOf 0 = .ok (.iload_n 0, 1) := dk_26 (dk_at dksX2_codeOf_0 0 rfl rfl)
theorem dX2_codeOf_1 : decode cX2_codeOf 1 = .ok (.bipush 97, 2) := dk_16 97 (dk_at dksX2_codeOf_0 1 rfl rfl)
theorem dX2_codeOf_3 : decode cX2_codeOf 3 = .ok (.if_icmp .lt 16, 3) := dk_161 0 16 (dk_at dksX2_codeOf_0 3 rfl rfl)
theorem dX2_codeOf_6 : decode cX2_codeOf 6 = .ok (.iload_n 0, 1) := dk_26 (dk_at dksX2_codeOf_0 6 rfl rfl)
theorem dX2_codeOf_7 : decode cX2_codeOf 7 = .ok (.bipush 122, 2) := dk_16 122 (dk_at dksX2_codeOf_0 7 rfl rfl)
theorem dX2_codeOf_9 : decode cX2_codeOf 9 = .ok (.if_icmp .gt 10, 3) := dk_163 0 10 (dk_at dksX2_codeOf_0 9 rfl rfl)
theorem dX2_codeOf_12 : decode cX2_codeOf 12 = .ok (.iload_n 0, 1) := dk_26 (dk_at dksX2_codeOf_0 12 rfl rfl)
theorem dX2_codeOf_13 : decode cX2_codeOf 13 = .ok (.bipush 96, 2) := dk_16 96 (dk_at dksX2_codeOf_0 13 rfl rfl)
theorem dX2_codeOf_15 : decode cX2_codeOf 15 = .ok (.isub, 1) := dk_100 (dk_at dksX2_codeOf_0 15 rfl rfl)
theorem dX2_codeOf_16 : decode cX2_codeOf 16 = .ok (.goto 32, 3) := dk_167 0 32 (dk_at dksX2_codeOf_0 16 rfl rfl)
theorem dX2_codeOf_19 : decode cX2_codeOf 19 = .ok (.iload_n 0, 1) := dk_26 (dk_at dksX2_codeOf_0 19 rfl rfl)
theorem dX2_codeOf_20 : decode cX2_codeOf 20 = .ok (.bipush 46, 2) := dk_16 46 (dk_at dksX2_codeOf_0 20 rfl rfl)
theorem dX2_codeOf_22 : decode cX2_codeOf 22 = .ok (.if_icmp .ne 8, 3) := dk_160 0 8 (dk_at dksX2_codeOf_1 0 rfl rfl)
theorem dX2_codeOf_25 : decode cX2_codeOf 25 = .ok (.bipush 27, 2) := dk_16 27 (dk_at dksX2_codeOf_1 3 rfl rfl)
theorem dX2_codeOf_27 : decode cX2_codeOf 27 = .ok (.goto 21, 3) := dk_167 0 21 (dk_at dksX2_codeOf_1 5 rfl rfl)
theorem dX2_codeOf_30 : decode cX2_codeOf 30 = .ok (.iload_n 0, 1) := dk_26 (dk_at dksX2_codeOf_1 8 rfl rfl)
theorem dX2_codeOf_31 : decode cX2_codeOf 31 = .ok (.invokestatic 116, 3) := dk_184 0 116 (dk_at dksX2_codeOf_1 9 rfl rfl)
theorem dX2_codeOf_34 : decode cX2_codeOf 34 = .ok (.ifCond .eq 13, 3) := dk_153 0 13 (dk_at dksX2_codeOf_1 12 rfl rfl)
theorem dX2_codeOf_37 : decode cX2_codeOf 37 = .ok (.bipush 28, 2) := dk_16 28 (dk_at dksX2_codeOf_1 15 rfl rfl)
theorem dX2_codeOf_39 : decode cX2_codeOf 39 = .ok (.iload_n 0, 1) := dk_26 (dk_at dksX2_codeOf_1 17 rfl rfl)
theorem dX2_codeOf_40 : decode cX2_codeOf 40 = .ok (.iadd, 1) := dk_96 (dk_at dksX2_codeOf_1 18 rfl rfl)
theorem dX2_codeOf_41 : decode cX2_codeOf 41 = .ok (.bipush 48, 2) := dk_16 48 (dk_at dksX2_codeOf_1 19 rfl rfl)
theorem dX2_codeOf_43 : decode cX2_codeOf 43 = .ok (.isub, 1) := dk_100 (dk_at dksX2_codeOf_1 21 rfl rfl)
theorem dX2_codeOf_44 : decode cX2_codeOf 44 = .ok (.goto 4, 3) := dk_167 0 4 (dk_at dksX2_codeOf_2 0 rfl rfl)
theorem dX2_codeOf_47 : decode cX2_codeOf 47 = .ok (.iconst 0, 1) := dk_3 (dk_at dksX2_codeOf_2 3 rfl rfl)
theorem dX2_codeOf_48 : decode cX2_codeOf 48 = .ok (.ireturn, 1) := dk_172 (dk_at dksX2_codeOf_2 4 rfl rfl)
abbrev cX2_counted : ByteArray := prog_4_method_15_code
def yX2_counted : MethodName := ⟨RX2, "counted", "()V"⟩
def dkwX2_counted_8 : List UInt8 := [167, 255, 157, 177]
abbrev dktX2_counted_8 : List UInt8 := dkwX2_counted_8 ++ []
def dkwX2_counted_7 : List UInt8 := [181, 0, 165, 42, 180, 0, 165, 20, 0, 175, 148, 158, 0, 9, 42, 16, 9, 181, 0, 119, 132, 3, 1]
abbrev dktX2_counted_7 : List UInt8 := dkwX2_counted_7 ++ dktX2_counted_8
def dkwX2_counted_6 : List UInt8 := [42, 42, 180, 0, 165, 28, 153, 0, 9, 20, 0, 171, 167, 0, 6, 20, 0, 173, 105, 21, 4, 133, 97]
abbrev dktX2_counted_6 : List UInt8 := dkwX2_counted_6 ++ dktX2_counted_7
def dkwX2_counted_5 : List UInt8 := [54, 4, 21, 4, 28, 153, 0, 8, 16, 16, 167, 0, 5, 16, 10, 161, 0, 9, 42, 16, 9, 181, 0, 119]
abbrev dktX2_counted_5 : List UInt8 := dkwX2_counted_5 ++ dktX2_counted_6
def dkwX2_counted_4 : List UInt8 := [162, 0, 97, 42, 180, 0, 119, 7, 160, 0, 89, 42, 180, 0, 7, 29, 51, 17, 0, 255, 126, 184, 0, 168]
abbrev dktX2_counted_4 : List UInt8 := dkwX2_counted_4 ++ dktX2_counted_5
def dkwX2_counted_3 : List UInt8 := [167, 0, 4, 3, 61, 28, 153, 0, 9, 27, 5, 96, 167, 0, 4, 27, 62, 29, 42, 180, 0, 102]
abbrev dktX2_counted_3 : List UInt8 := dkwX2_counted_3 ++ dktX2_counted_4
def dkwX2_counted_2 : List UInt8 := [180, 0, 7, 27, 51, 16, 48, 160, 0, 20, 42, 180, 0, 7, 27, 4, 96, 51, 16, 120, 160, 0, 7, 4]
abbrev dktX2_counted_2 : List UInt8 := dkwX2_counted_2 ++ dktX2_counted_3
def dkwX2_counted_1 : List UInt8 := [180, 0, 102, 4, 96, 181, 0, 102, 167, 255, 239, 42, 180, 0, 102, 27, 100, 5, 164, 0, 31, 42]
abbrev dktX2_counted_1 : List UInt8 := dkwX2_counted_1 ++ dktX2_counted_2
def dkwX2_counted_0 : List UInt8 := [42, 180, 0, 102, 60, 42, 7, 181, 0, 119, 42, 9, 181, 0, 165, 42, 182, 0, 153, 153, 0, 16, 42, 89]
abbrev dktX2_counted_0 : List UInt8 := dkwX2_counted_0 ++ dktX2_counted_1
theorem dksX2_counted_0 : cX2_counted.data.toList.drop 0 = dktX2_counted_0 := by decide +kernel
theorem dksX2_counted_1 : cX2_counted.data.toList.drop 24 = dktX2_counted_1 := dk_seg dksX2_counted_0 24 rfl rfl
theorem dksX2_counted_2 : cX2_counted.data.toList.drop 46 = dktX2_counted_2 := dk_seg dksX2_counted_1 22 rfl rfl
theorem dksX2_counted_3 : cX2_counted.data.toList.drop 70 = dktX2_counted_3 := dk_seg dksX2_counted_2 24 rfl rfl
theorem dksX2_counted_4 : cX2_counted.data.toList.drop 92 = dktX2_counted_4 := dk_seg dksX2_counted_3 22 rfl rfl
theorem dksX2_counted_5 : cX2_counted.data.toList.drop 116 = dktX2_counted_5 := dk_seg dksX2_counted_4 24 rfl rfl
theorem dksX2_counted_6 : cX2_counted.data.toList.drop 140 = dktX2_counted_6 := dk_seg dksX2_counted_5 24 rfl rfl
theorem dksX2_counted_7 : cX2_counted.data.toList.drop 163 = dktX2_counted_7 := dk_seg dksX2_counted_6 23 rfl rfl
theorem dksX2_counted_8 : cX2_counted.data.toList.drop 186 = dktX2_counted_8 := dk_seg dksX2_counted_7 23 rfl rfl
theorem dX2_counted_0 : decode cX2_counted 0 = .ok (.aload_n 0, 1) := dk_42 (dk_at dksX2_counted_0 0 rfl rfl)
theorem dX2_counted_1 : decode cX2_counted 1 = .ok (.getfield 102, 3) := dk_180 0 102 (dk_at dksX2_counted_0 1 rfl rfl)
theorem dX2_counted_4 : decode cX2_counted 4 = .ok (.istore_n 1, 1) := dk_60 (dk_at dksX2_counted_0 4 rfl rfl)
theorem dX2_counted_5 : decode cX2_counted 5 = .ok (.aload_n 0, 1) := dk_42 (dk_at dksX2_counted_0 5 rfl rfl)
theorem dX2_counted_6 : decode cX2_counted 6 = .ok (.iconst 4, 1) := dk_7 (dk_at dksX2_counted_0 6 rfl rfl)
theorem dX2_counted_7 : decode cX2_counted 7 = .ok (.putfield 119, 3) := dk_181 0 119 (dk_at dksX2_counted_0 7 rfl rfl)
theorem dX2_counted_10 : decode cX2_counted 10 = .ok (.aload_n 0, 1) := dk_42 (dk_at dksX2_counted_0 10 rfl rfl)
theorem dX2_counted_11 : decode cX2_counted 11 = .ok (.lconst 0, 1) := dk_9 (dk_at dksX2_counted_0 11 rfl rfl)
theorem dX2_counted_12 : decode cX2_counted 12 = .ok (.putfield 165, 3) := dk_181 0 165 (dk_at dksX2_counted_0 12 rfl rfl)
theorem dX2_counted_15 : decode cX2_counted 15 = .ok (.aload_n 0, 1) := dk_42 (dk_at dksX2_counted_0 15 rfl rfl)
theorem dX2_counted_16 : decode cX2_counted 16 = .ok (.invokevirtual 153, 3) := dk_182 0 153 (dk_at dksX2_counted_0 16 rfl rfl)
theorem dX2_counted_19 : decode cX2_counted 19 = .ok (.ifCond .eq 16, 3) := dk_153 0 16 (dk_at dksX2_counted_0 19 rfl rfl)
theorem dX2_counted_22 : decode cX2_counted 22 = .ok (.aload_n 0, 1) := dk_42 (dk_at dksX2_counted_0 22 rfl rfl)
theorem dX2_counted_23 : decode cX2_counted 23 = .ok (.dup, 1) := dk_89 (dk_at dksX2_counted_0 23 rfl rfl)
theorem dX2_counted_24 : decode cX2_counted 24 = .ok (.getfield 102, 3) := dk_180 0 102 (dk_at dksX2_counted_1 0 rfl rfl)
theorem dX2_counted_27 : decode cX2_counted 27 = .ok (.iconst 1, 1) := dk_4 (dk_at dksX2_counted_1 3 rfl rfl)
theorem dX2_counted_28 : decode cX2_counted 28 = .ok (.iadd, 1) := dk_96 (dk_at dksX2_counted_1 4 rfl rfl)
theorem dX2_counted_29 : decode cX2_counted 29 = .ok (.putfield 102, 3) := dk_181 0 102 (dk_at dksX2_counted_1 5 rfl rfl)
theorem dX2_counted_32 : decode cX2_counted 32 = .ok (.goto (-17), 3) := dk_167 255 239 (dk_at dksX2_counted_1 8 rfl rfl)
theorem dX2_counted_35 : decode cX2_counted 35 = .ok (.aload_n 0, 1) := dk_42 (dk_at dksX2_counted_1 11 rfl rfl)
theorem dX2_counted_36 : decode cX2_counted 36 = .ok (.getfield 102, 3) := dk_180 0 102 (dk_at dksX2_counted_1 12 rfl rfl)
theorem dX2_counted_39 : decode cX2_counted 39 = .ok (.iload_n 1, 1) := dk_27 (dk_at dksX2_counted_1 15 rfl rfl)
theorem dX2_counted_40 : decode cX2_counted 40 = .ok (.isub, 1) := dk_100 (dk_at dksX2_counted_1 16 rfl rfl)
theorem dX2_counted_41 : decode cX2_counted 41 = .ok (.iconst 2, 1) := dk_5 (dk_at dksX2_counted_1 17 rfl rfl)
theorem dX2_counted_42 : decode cX2_counted 42 = .ok (.if_icmp .le 31, 3) := dk_164 0 31 (dk_at dksX2_counted_1 18 rfl rfl)
theorem dX2_counted_45 : decode cX2_counted 45 = .ok (.aload_n 0, 1) := dk_42 (dk_at dksX2_counted_1 21 rfl rfl)
theorem dX2_counted_46 : decode cX2_counted 46 = .ok (.getfield 7, 3) := dk_180 0 7 (dk_at dksX2_counted_2 0 rfl rfl)
theorem dX2_counted_49 : decode cX2_counted 49 = .ok (.iload_n 1, 1) := dk_27 (dk_at dksX2_counted_2 3 rfl rfl)
theorem dX2_counted_50 : decode cX2_counted 50 = .ok (.baload, 1) := dk_51 (dk_at dksX2_counted_2 4 rfl rfl)
theorem dX2_counted_51 : decode cX2_counted 51 = .ok (.bipush 48, 2) := dk_16 48 (dk_at dksX2_counted_2 5 rfl rfl)
theorem dX2_counted_53 : decode cX2_counted 53 = .ok (.if_icmp .ne 20, 3) := dk_160 0 20 (dk_at dksX2_counted_2 7 rfl rfl)
theorem dX2_counted_56 : decode cX2_counted 56 = .ok (.aload_n 0, 1) := dk_42 (dk_at dksX2_counted_2 10 rfl rfl)
theorem dX2_counted_57 : decode cX2_counted 57 = .ok (.getfield 7, 3) := dk_180 0 7 (dk_at dksX2_counted_2 11 rfl rfl)
theorem dX2_counted_60 : decode cX2_counted 60 = .ok (.iload_n 1, 1) := dk_27 (dk_at dksX2_counted_2 14 rfl rfl)
theorem dX2_counted_61 : decode cX2_counted 61 = .ok (.iconst 1, 1) := dk_4 (dk_at dksX2_counted_2 15 rfl rfl)
theorem dX2_counted_62 : decode cX2_counted 62 = .ok (.iadd, 1) := dk_96 (dk_at dksX2_counted_2 16 rfl rfl)
theorem dX2_counted_63 : decode cX2_counted 63 = .ok (.baload, 1) := dk_51 (dk_at dksX2_counted_2 17 rfl rfl)
theorem dX2_counted_64 : decode cX2_counted 64 = .ok (.bipush 120, 2) := dk_16 120 (dk_at dksX2_counted_2 18 rfl rfl)
theorem dX2_counted_66 : decode cX2_counted 66 = .ok (.if_icmp .ne 7, 3) := dk_160 0 7 (dk_at dksX2_counted_2 20 rfl rfl)
theorem dX2_counted_69 : decode cX2_counted 69 = .ok (.iconst 1, 1) := dk_4 (dk_at dksX2_counted_2 23 rfl rfl)
theorem dX2_counted_70 : decode cX2_counted 70 = .ok (.goto 4, 3) := dk_167 0 4 (dk_at dksX2_counted_3 0 rfl rfl)
theorem dX2_counted_73 : decode cX2_counted 73 = .ok (.iconst 0, 1) := dk_3 (dk_at dksX2_counted_3 3 rfl rfl)
theorem dX2_counted_74 : decode cX2_counted 74 = .ok (.istore_n 2, 1) := dk_61 (dk_at dksX2_counted_3 4 rfl rfl)
theorem dX2_counted_75 : decode cX2_counted 75 = .ok (.iload_n 2, 1) := dk_28 (dk_at dksX2_counted_3 5 rfl rfl)
theorem dX2_counted_76 : decode cX2_counted 76 = .ok (.ifCond .eq 9, 3) := dk_153 0 9 (dk_at dksX2_counted_3 6 rfl rfl)
theorem dX2_counted_79 : decode cX2_counted 79 = .ok (.iload_n 1, 1) := dk_27 (dk_at dksX2_counted_3 9 rfl rfl)
theorem dX2_counted_80 : decode cX2_counted 80 = .ok (.iconst 2, 1) := dk_5 (dk_at dksX2_counted_3 10 rfl rfl)
theorem dX2_counted_81 : decode cX2_counted 81 = .ok (.iadd, 1) := dk_96 (dk_at dksX2_counted_3 11 rfl rfl)
theorem dX2_counted_82 : decode cX2_counted 82 = .ok (.goto 4, 3) := dk_167 0 4 (dk_at dksX2_counted_3 12 rfl rfl)
theorem dX2_counted_85 : decode cX2_counted 85 = .ok (.iload_n 1, 1) := dk_27 (dk_at dksX2_counted_3 15 rfl rfl)
theorem dX2_counted_86 : decode cX2_counted 86 = .ok (.istore_n 3, 1) := dk_62 (dk_at dksX2_counted_3 16 rfl rfl)
theorem dX2_counted_87 : decode cX2_counted 87 = .ok (.iload_n 3, 1) := dk_29 (dk_at dksX2_counted_3 17 rfl rfl)
theorem dX2_counted_88 : decode cX2_counted 88 = .ok (.aload_n 0, 1) := dk_42 (dk_at dksX2_counted_3 18 rfl rfl)
theorem dX2_counted_89 : decode cX2_counted 89 = .ok (.getfield 102, 3) := dk_180 0 102 (dk_at dksX2_counted_3 19 rfl rfl)
theorem dX2_counted_92 : decode cX2_counted 92 = .ok (.if_icmp .ge 97, 3) := dk_162 0 97 (dk_at dksX2_counted_4 0 rfl rfl)
theorem dX2_counted_95 : decode cX2_counted 95 = .ok (.aload_n 0, 1) := dk_42 (dk_at dksX2_counted_4 3 rfl rfl)
theorem dX2_counted_96 : decode cX2_counted 96 = .ok (.getfield 119, 3) := dk_180 0 119 (dk_at dksX2_counted_4 4 rfl rfl)
theorem dX2_counted_99 : decode cX2_counted 99 = .ok (.iconst 4, 1) := dk_7 (dk_at dksX2_counted_4 7 rfl rfl)
theorem dX2_counted_100 : decode cX2_counted 100 = .ok (.if_icmp .ne 89, 3) := dk_160 0 89 (dk_at dksX2_counted_4 8 rfl rfl)
theorem dX2_counted_103 : decode cX2_counted 103 = .ok (.aload_n 0, 1) := dk_42 (dk_at dksX2_counted_4 11 rfl rfl)
theorem dX2_counted_104 : decode cX2_counted 104 = .ok (.getfield 7, 3) := dk_180 0 7 (dk_at dksX2_counted_4 12 rfl rfl)
theorem dX2_counted_107 : decode cX2_counted 107 = .ok (.iload_n 3, 1) := dk_29 (dk_at dksX2_counted_4 15 rfl rfl)
theorem dX2_counted_108 : decode cX2_counted 108 = .ok (.baload, 1) := dk_51 (dk_at dksX2_counted_4 16 rfl rfl)
theorem dX2_counted_109 : decode cX2_counted 109 = .ok (.sipush 255, 3) := dk_17 0 255 (dk_at dksX2_counted_4 17 rfl rfl)
theorem dX2_counted_112 : decode cX2_counted 112 = .ok (.iand, 1) := dk_126 (dk_at dksX2_counted_4 20 rfl rfl)
theorem dX2_counted_113 : decode cX2_counted 113 = .ok (.invokestatic 168, 3) := dk_184 0 168 (dk_at dksX2_counted_4 21 rfl rfl)
theorem dX2_counted_116 : decode cX2_counted 116 = .ok (.istore 4, 2) := dk_54 4 (dk_at dksX2_counted_5 0 rfl rfl)
theorem dX2_counted_118 : decode cX2_counted 118 = .ok (.iload 4, 2) := dk_21 4 (dk_at dksX2_counted_5 2 rfl rfl)
theorem dX2_counted_120 : decode cX2_counted 120 = .ok (.iload_n 2, 1) := dk_28 (dk_at dksX2_counted_5 4 rfl rfl)
theorem dX2_counted_121 : decode cX2_counted 121 = .ok (.ifCond .eq 8, 3) := dk_153 0 8 (dk_at dksX2_counted_5 5 rfl rfl)
theorem dX2_counted_124 : decode cX2_counted 124 = .ok (.bipush 16, 2) := dk_16 16 (dk_at dksX2_counted_5 8 rfl rfl)
theorem dX2_counted_126 : decode cX2_counted 126 = .ok (.goto 5, 3) := dk_167 0 5 (dk_at dksX2_counted_5 10 rfl rfl)
theorem dX2_counted_129 : decode cX2_counted 129 = .ok (.bipush 10, 2) := dk_16 10 (dk_at dksX2_counted_5 13 rfl rfl)
theorem dX2_counted_131 : decode cX2_counted 131 = .ok (.if_icmp .lt 9, 3) := dk_161 0 9 (dk_at dksX2_counted_5 15 rfl rfl)
theorem dX2_counted_134 : decode cX2_counted 134 = .ok (.aload_n 0, 1) := dk_42 (dk_at dksX2_counted_5 18 rfl rfl)
theorem dX2_counted_135 : decode cX2_counted 135 = .ok (.bipush 9, 2) := dk_16 9 (dk_at dksX2_counted_5 19 rfl rfl)
theorem dX2_counted_137 : decode cX2_counted 137 = .ok (.putfield 119, 3) := dk_181 0 119 (dk_at dksX2_counted_5 21 rfl rfl)
theorem dX2_counted_140 : decode cX2_counted 140 = .ok (.aload_n 0, 1) := dk_42 (dk_at dksX2_counted_6 0 rfl rfl)
theorem dX2_counted_141 : decode cX2_counted 141 = .ok (.aload_n 0, 1) := dk_42 (dk_at dksX2_counted_6 1 rfl rfl)
theorem dX2_counted_142 : decode cX2_counted 142 = .ok (.getfield 165, 3) := dk_180 0 165 (dk_at dksX2_counted_6 2 rfl rfl)
theorem dX2_counted_145 : decode cX2_counted 145 = .ok (.iload_n 2, 1) := dk_28 (dk_at dksX2_counted_6 5 rfl rfl)
theorem dX2_counted_146 : decode cX2_counted 146 = .ok (.ifCond .eq 9, 3) := dk_153 0 9 (dk_at dksX2_counted_6 6 rfl rfl)
theorem dX2_counted_149 : decode cX2_counted 149 = .ok (.ldc2_w 171, 3) := dk_20 0 171 (dk_at dksX2_counted_6 9 rfl rfl)
theorem dX2_counted_152 : decode cX2_counted 152 = .ok (.goto 6, 3) := dk_167 0 6 (dk_at dksX2_counted_6 12 rfl rfl)
theorem dX2_counted_155 : decode cX2_counted 155 = .ok (.ldc2_w 173, 3) := dk_20 0 173 (dk_at dksX2_counted_6 15 rfl rfl)
theorem dX2_counted_158 : decode cX2_counted 158 = .ok (.lmul, 1) := dk_105 (dk_at dksX2_counted_6 18 rfl rfl)
theorem dX2_counted_159 : decode cX2_counted 159 = .ok (.iload 4, 2) := dk_21 4 (dk_at dksX2_counted_6 19 rfl rfl)
theorem dX2_counted_161 : decode cX2_counted 161 = .ok (.i2l, 1) := dk_133 (dk_at dksX2_counted_6 21 rfl rfl)
theorem dX2_counted_162 : decode cX2_counted 162 = .ok (.ladd, 1) := dk_97 (dk_at dksX2_counted_6 22 rfl rfl)
theorem dX2_counted_163 : decode cX2_counted 163 = .ok (.putfield 165, 3) := dk_181 0 165 (dk_at dksX2_counted_7 0 rfl rfl)
theorem dX2_counted_166 : decode cX2_counted 166 = .ok (.aload_n 0, 1) := dk_42 (dk_at dksX2_counted_7 3 rfl rfl)
theorem dX2_counted_167 : decode cX2_counted 167 = .ok (.getfield 165, 3) := dk_180 0 165 (dk_at dksX2_counted_7 4 rfl rfl)
theorem dX2_counted_170 : decode cX2_counted 170 = .ok (.ldc2_w 175, 3) := dk_20 0 175 (dk_at dksX2_counted_7 7 rfl rfl)
theorem dX2_counted_173 : decode cX2_counted 173 = .ok (.lcmp, 1) := dk_148 (dk_at dksX2_counted_7 10 rfl rfl)
theorem dX2_counted_174 : decode cX2_counted 174 = .ok (.ifCond .le 9, 3) := dk_158 0 9 (dk_at dksX2_counted_7 11 rfl rfl)
theorem dX2_counted_177 : decode cX2_counted 177 = .ok (.aload_n 0, 1) := dk_42 (dk_at dksX2_counted_7 14 rfl rfl)
theorem dX2_counted_178 : decode cX2_counted 178 = .ok (.bipush 9, 2) := dk_16 9 (dk_at dksX2_counted_7 15 rfl rfl)
theorem dX2_counted_180 : decode cX2_counted 180 = .ok (.putfield 119, 3) := dk_181 0 119 (dk_at dksX2_counted_7 17 rfl rfl)
theorem dX2_counted_183 : decode cX2_counted 183 = .ok (.iinc 3 1, 3) := dk_132 3 1 (dk_at dksX2_counted_7 20 rfl rfl)
theorem dX2_counted_186 : decode cX2_counted 186 = .ok (.goto (-99), 3) := dk_167 255 157 (dk_at dksX2_counted_8 0 rfl rfl)
theorem dX2_counted_189 : decode cX2_counted 189 = .ok (.return_, 1) := dk_177 (dk_at dksX2_counted_8 3 rfl rfl)
abbrev cX2_hexOf : ByteArray := prog_4_method_14_code
def yX2_hexOf : MethodName := ⟨RX2, "hexOf", "(I)I"⟩
def dkwX2_hexOf_2 : List UInt8 := [16, 55, 100, 167, 0, 5, 16, 99, 172]
abbrev dktX2_hexOf_2 : List UInt8 := dkwX2_hexOf_2 ++ []
def dkwX2_hexOf_1 : List UInt8 := [163, 0, 10, 26, 16, 87, 100, 167, 0, 24, 26, 16, 65, 161, 0, 16, 26, 16, 70, 163, 0, 10, 26]
abbrev dktX2_hexOf_1 : List UInt8 := dkwX2_hexOf_1 ++ dktX2_hexOf_2
def dkwX2_hexOf_0 : List UInt8 := [26, 184, 0, 116, 153, 0, 10, 26, 16, 48, 100, 167, 0, 43, 26, 16, 97, 161, 0, 16, 26, 16, 102]
abbrev dktX2_hexOf_0 : List UInt8 := dkwX2_hexOf_0 ++ dktX2_hexOf_1
theorem dksX2_hexOf_0 : cX2_hexOf.data.toList.drop 0 = dktX2_hexOf_0 := by decide +kernel
theorem dksX2_hexOf_1 : cX2_hexOf.data.toList.drop 23 = dktX2_hexOf_1 := dk_seg dksX2_hexOf_0 23 rfl rfl
theorem dksX2_hexOf_2 : cX2_hexOf.data.toList.drop 46 = dktX2_hexOf_2 := dk_seg dksX2_hexOf_1 23 rfl rfl
theorem dX2_hexOf_0 : decode cX2_hexOf 0 = .ok (.iload_n 0, 1) := dk_26 (dk_at dksX2_hexOf_0 0 rfl rfl)
theorem dX2_hexOf_1 : decode cX2_hexOf 1 = .ok (.invokestatic 116, 3) := dk_184 0 116 (dk_at dksX2_hexOf_0 1 rfl rfl)
theorem dX2_hexOf_4 : decode cX2_hexOf 4 = .ok (.ifCond .eq 10, 3) := dk_153 0 10 (dk_at dksX2_hexOf_0 4 rfl rfl)
theorem dX2_hexOf_7 : decode cX2_hexOf 7 = .ok (.iload_n 0, 1) := dk_26 (dk_at dksX2_hexOf_0 7 rfl rfl)
theorem dX2_hexOf_8 : decode cX2_hexOf 8 = .ok (.bipush 48, 2) := dk_16 48 (dk_at dksX2_hexOf_0 8 rfl rfl)
theorem dX2_hexOf_10 : decode cX2_hexOf 10 = .ok (.isub, 1) := dk_100 (dk_at dksX2_hexOf_0 10 rfl rfl)
theorem dX2_hexOf_11 : decode cX2_hexOf 11 = .ok (.goto 43, 3) := dk_167 0 43 (dk_at dksX2_hexOf_0 11 rfl rfl)
theorem dX2_hexOf_14 : decode cX2_hexOf 14 = .ok (.iload_n 0, 1) := dk_26 (dk_at dksX2_hexOf_0 14 rfl rfl)
theorem dX2_hexOf_15 : decode cX2_hexOf 15 = .ok (.bipush 97, 2) := dk_16 97 (dk_at dksX2_hexOf_0 15 rfl rfl)
theorem dX2_hexOf_17 : decode cX2_hexOf 17 = .ok (.if_icmp .lt 16, 3) := dk_161 0 16 (dk_at dksX2_hexOf_0 17 rfl rfl)
theorem dX2_hexOf_20 : decode cX2_hexOf 20 = .ok (.iload_n 0, 1) := dk_26 (dk_at dksX2_hexOf_0 20 rfl rfl)
theorem dX2_hexOf_21 : decode cX2_hexOf 21 = .ok (.bipush 102, 2) := dk_16 102 (dk_at dksX2_hexOf_0 21 rfl rfl)
theorem dX2_hexOf_23 : decode cX2_hexOf 23 = .ok (.if_icmp .gt 10, 3) := dk_163 0 10 (dk_at dksX2_hexOf_1 0 rfl rfl)
theorem dX2_hexOf_26 : decode cX2_hexOf 26 = .ok (.iload_n 0, 1) := dk_26 (dk_at dksX2_hexOf_1 3 rfl rfl)
theorem dX2_hexOf_27 : decode cX2_hexOf 27 = .ok (.bipush 87, 2) := dk_16 87 (dk_at dksX2_hexOf_1 4 rfl rfl)
theorem dX2_hexOf_29 : decode cX2_hexOf 29 = .ok (.isub, 1) := dk_100 (dk_at dksX2_hexOf_1 6 rfl rfl)
theorem dX2_hexOf_30 : decode cX2_hexOf 30 = .ok (.goto 24, 3) := dk_167 0 24 (dk_at dksX2_hexOf_1 7 rfl rfl)
theorem dX2_hexOf_33 : decode cX2_hexOf 33 = .ok (.iload_n 0, 1) := dk_26 (dk_at dksX2_hexOf_1 10 rfl rfl)
theorem dX2_hexOf_34 : decode cX2_hexOf 34 = .ok (.bipush 65, 2) := dk_16 65 (dk_at dksX2_hexOf_1 11 rfl rfl)
theorem dX2_hexOf_36 : decode cX2_hexOf 36 = .ok (.if_icmp .lt 16, 3) := dk_161 0 16 (dk_at dksX2_hexOf_1 13 rfl rfl)
theorem dX2_hexOf_39 : decode cX2_hexOf 39 = .ok (.iload_n 0, 1) := dk_26 (dk_at dksX2_hexOf_1 16 rfl rfl)
theorem dX2_hexOf_40 : decode cX2_hexOf 40 = .ok (.bipush 70, 2) := dk_16 70 (dk_at dksX2_hexOf_1 17 rfl rfl)
theorem dX2_hexOf_42 : decode cX2_hexOf 42 = .ok (.if_icmp .gt 10, 3) := dk_163 0 10 (dk_at dksX2_hexOf_1 19 rfl rfl)
theorem dX2_hexOf_45 : decode cX2_hexOf 45 = .ok (.iload_n 0, 1) := dk_26 (dk_at dksX2_hexOf_1 22 rfl rfl)
theorem dX2_hexOf_46 : decode cX2_hexOf 46 = .ok (.bipush 55, 2) := dk_16 55 (dk_at dksX2_hexOf_2 0 rfl rfl)
theorem dX2_hexOf_48 : decode cX2_hexOf 48 = .ok (.isub, 1) := dk_100 (dk_at dksX2_hexOf_2 2 rfl rfl)
theorem dX2_hexOf_49 : decode cX2_hexOf 49 = .ok (.goto 5, 3) := dk_167 0 5 (dk_at dksX2_hexOf_2 3 rfl rfl)
theorem dX2_hexOf_52 : decode cX2_hexOf 52 = .ok (.bipush 99, 2) := dk_16 99 (dk_at dksX2_hexOf_2 6 rfl rfl)
theorem dX2_hexOf_54 : decode cX2_hexOf 54 = .ok (.ireturn, 1) := dk_172 (dk_at dksX2_hexOf_2 8 rfl rfl)
abbrev cX2_registered : ByteArray := prog_4_method_17_code
def yX2_registered : MethodName := ⟨RX2, "registered", "()V"⟩
def dkwX2_registered_9 : List UInt8 := [16, 9, 181, 0, 119, 177]
abbrev dktX2_registered_9 : List UInt8 := dkwX2_registered_9 ++ []
def dkwX2_registered_8 : List UInt8 := [27, 100, 7, 160, 0, 7, 3, 167, 0, 4, 2, 181, 0, 181, 42, 180, 0, 181, 2, 160, 0, 9, 42]
abbrev dktX2_registered_8 : List UInt8 := dkwX2_registered_8 ++ dktX2_registered_9
def dkwX2_registered_7 : List UInt8 := [4, 96, 51, 16, 48, 100, 184, 0, 184, 167, 0, 26, 32, 20, 0, 188, 148, 154, 0, 17, 42, 180, 0, 102]
abbrev dktX2_registered_7 : List UInt8 := dkwX2_registered_7 ++ dktX2_registered_8
def dkwX2_registered_6 : List UInt8 := [182, 0, 177, 181, 0, 181, 177, 42, 42, 180, 0, 102, 27, 100, 5, 160, 0, 21, 32, 42, 180, 0, 7, 27]
abbrev dktX2_registered_6 : List UInt8 := dkwX2_registered_6 ++ dktX2_registered_7
def dkwX2_registered_5 : List UInt8 := [180, 0, 102, 182, 0, 177, 2, 159, 0, 24, 42, 6, 181, 0, 119, 42, 42, 27, 4, 96, 42, 180, 0, 102]
abbrev dktX2_registered_5 : List UInt8 := dkwX2_registered_5 ++ dktX2_registered_6
def dkwX2_registered_4 : List UInt8 := [180, 0, 102, 27, 164, 0, 50, 42, 180, 0, 7, 27, 51, 16, 102, 160, 0, 39, 42, 27, 4, 96, 42]
abbrev dktX2_registered_4 : List UInt8 := dkwX2_registered_4 ++ dktX2_registered_5
def dkwX2_registered_3 : List UInt8 := [42, 27, 42, 180, 0, 102, 182, 0, 177, 181, 0, 181, 42, 180, 0, 181, 2, 159, 0, 4, 177, 42]
abbrev dktX2_registered_3 : List UInt8 := dkwX2_registered_3 ++ dktX2_registered_4
def dkwX2_registered_2 : List UInt8 := [167, 0, 4, 9, 65, 42, 89, 180, 0, 102, 4, 96, 181, 0, 102, 167, 255, 210, 42, 5, 181, 0, 119, 42]
abbrev dktX2_registered_2 : List UInt8 := dkwX2_registered_2 ++ dktX2_registered_3
def dkwX2_registered_1 : List UInt8 := [42, 180, 0, 102, 27, 100, 8, 162, 0, 20, 20, 0, 160, 32, 105, 42, 182, 0, 108, 184, 0, 157, 133, 97]
abbrev dktX2_registered_1 : List UInt8 := dkwX2_registered_1 ++ dktX2_registered_2
def dkwX2_registered_0 : List UInt8 := [42, 89, 180, 0, 102, 4, 96, 181, 0, 102, 42, 180, 0, 102, 60, 9, 65, 42, 182, 0, 153, 153, 0, 45]
abbrev dktX2_registered_0 : List UInt8 := dkwX2_registered_0 ++ dktX2_registered_1
theorem dksX2_registered_0 : cX2_registered.data.toList.drop 0 = dktX2_registered_0 := by decide +kernel
theorem dksX2_registered_1 : cX2_registered.data.toList.drop 24 = dktX2_registered_1 := dk_seg dksX2_registered_0 24 rfl rfl
theorem dksX2_registered_2 : cX2_registered.data.toList.drop 48 = dktX2_registered_2 := dk_seg dksX2_registered_1 24 rfl rfl
theorem dksX2_registered_3 : cX2_registered.data.toList.drop 72 = dktX2_registered_3 := dk_seg dksX2_registered_2 24 rfl rfl
theorem dksX2_registered_4 : cX2_registered.data.toList.drop 94 = dktX2_registered_4 := dk_seg dksX2_registered_3 22 rfl rfl
theorem dksX2_registered_5 : cX2_registered.data.toList.drop 117 = dktX2_registered_5 := dk_seg dksX2_registered_4 23 rfl rfl
theorem dksX2_registered_6 : cX2_registered.data.toList.drop 141 = dktX2_registered_6 := dk_seg dksX2_registered_5 24 rfl rfl
theorem dksX2_registered_7 : cX2_registered.data.toList.drop 165 = dktX2_registered_7 := dk_seg dksX2_registered_6 24 rfl rfl
theorem dksX2_registered_8 : cX2_registered.data.toList.drop 189 = dktX2_registered_8 := dk_seg dksX2_registered_7 24 rfl rfl
theorem dksX2_registered_9 : cX2_registered.data.toList.drop 212 = dktX2_registered_9 := dk_seg dksX2_registered_8 23 rfl rfl
theorem dX2_registered_0 : decode cX2_registered 0 = .ok (.aload_n 0, 1) := dk_42 (dk_at dksX2_registered_0 0 rfl rfl)
theorem dX2_registered_1 : decode cX2_registered 1 = .ok (.dup, 1) := dk_89 (dk_at dksX2_registered_0 1 rfl rfl)
theorem dX2_registered_2 : decode cX2_registered 2 = .ok (.getfield 102, 3) := dk_180 0 102 (dk_at dksX2_registered_0 2 rfl rfl)
theorem dX2_registered_5 : decode cX2_registered 5 = .ok (.iconst 1, 1) := dk_4 (dk_at dksX2_registered_0 5 rfl rfl)
theorem dX2_registered_6 : decode cX2_registered 6 = .ok (.iadd, 1) := dk_96 (dk_at dksX2_registered_0 6 rfl rfl)
theorem dX2_registered_7 : decode cX2_registered 7 = .ok (.putfield 102, 3) := dk_181 0 102 (dk_at dksX2_registered_0 7 rfl rfl)
theorem dX2_registered_10 : decode cX2_registered 10 = .ok (.aload_n 0, 1) := dk_42 (dk_at dksX2_registered_0 10 rfl rfl)
theorem dX2_registered_11 : decode cX2_registered 11 = .ok (.getfield 102, 3) := dk_180 0 102 (dk_at dksX2_registered_0 11 rfl rfl)
theorem dX2_registered_14 : decode cX2_registered 14 = .ok (.istore_n 1, 1) := dk_60 (dk_at dksX2_registered_0 14 rfl rfl)
theorem dX2_registered_15 : decode cX2_registered 15 = .ok (.lconst 0, 1) := dk_9 (dk_at dksX2_registered_0 15 rfl rfl)
theorem dX2_registered_16 : decode cX2_registered 16 = .ok (.lstore_n 2, 1) := dk_65 (dk_at dksX2_registered_0 16 rfl rfl)
theorem dX2_registered_17 : decode cX2_registered 17 = .ok (.aload_n 0, 1) := dk_42 (dk_at dksX2_registered_0 17 rfl rfl)
theorem dX2_registered_18 : decode cX2_registered 18 = .ok (.invokevirtual 153, 3) := dk_182 0 153 (dk_at dksX2_registered_0 18 rfl rfl)
theorem dX2_registered_21 : decode cX2_registered 21 = .ok (.ifCond .eq 45, 3) := dk_153 0 45 (dk_at dksX2_registered_0 21 rfl rfl)
theorem dX2_registered_24 : decode cX2_registered 24 = .ok (.aload_n 0, 1) := dk_42 (dk_at dksX2_registered_1 0 rfl rfl)
theorem dX2_registered_25 : decode cX2_registered 25 = .ok (.getfield 102, 3) := dk_180 0 102 (dk_at dksX2_registered_1 1 rfl rfl)
theorem dX2_registered_28 : decode cX2_registered 28 = .ok (.iload_n 1, 1) := dk_27 (dk_at dksX2_registered_1 4 rfl rfl)
theorem dX2_registered_29 : decode cX2_registered 29 = .ok (.isub, 1) := dk_100 (dk_at dksX2_registered_1 5 rfl rfl)
theorem dX2_registered_30 : decode cX2_registered 30 = .ok (.iconst 5, 1) := dk_8 (dk_at dksX2_registered_1 6 rfl rfl)
theorem dX2_registered_31 : decode cX2_registered 31 = .ok (.if_icmp .ge 20, 3) := dk_162 0 20 (dk_at dksX2_registered_1 7 rfl rfl)
theorem dX2_registered_34 : decode cX2_registered 34 = .ok (.ldc2_w 160, 3) := dk_20 0 160 (dk_at dksX2_registered_1 10 rfl rfl)
theorem dX2_registered_37 : decode cX2_registered 37 = .ok (.lload_n 2, 1) := dk_32 (dk_at dksX2_registered_1 13 rfl rfl)
theorem dX2_registered_38 : decode cX2_registered 38 = .ok (.lmul, 1) := dk_105 (dk_at dksX2_registered_1 14 rfl rfl)
theorem dX2_registered_39 : decode cX2_registered 39 = .ok (.aload_n 0, 1) := dk_42 (dk_at dksX2_registered_1 15 rfl rfl)
theorem dX2_registered_40 : decode cX2_registered 40 = .ok (.invokevirtual 108, 3) := dk_182 0 108 (dk_at dksX2_registered_1 16 rfl rfl)
theorem dX2_registered_43 : decode cX2_registered 43 = .ok (.invokestatic 157, 3) := dk_184 0 157 (dk_at dksX2_registered_1 19 rfl rfl)
theorem dX2_registered_46 : decode cX2_registered 46 = .ok (.i2l, 1) := dk_133 (dk_at dksX2_registered_1 22 rfl rfl)
theorem dX2_registered_47 : decode cX2_registered 47 = .ok (.ladd, 1) := dk_97 (dk_at dksX2_registered_1 23 rfl rfl)
theorem dX2_registered_48 : decode cX2_registered 48 = .ok (.goto 4, 3) := dk_167 0 4 (dk_at dksX2_registered_2 0 rfl rfl)
theorem dX2_registered_51 : decode cX2_registered 51 = .ok (.lconst 0, 1) := dk_9 (dk_at dksX2_registered_2 3 rfl rfl)
theorem dX2_registered_52 : decode cX2_registered 52 = .ok (.lstore_n 2, 1) := dk_65 (dk_at dksX2_registered_2 4 rfl rfl)
theorem dX2_registered_53 : decode cX2_registered 53 = .ok (.aload_n 0, 1) := dk_42 (dk_at dksX2_registered_2 5 rfl rfl)
theorem dX2_registered_54 : decode cX2_registered 54 = .ok (.dup, 1) := dk_89 (dk_at dksX2_registered_2 6 rfl rfl)
theorem dX2_registered_55 : decode cX2_registered 55 = .ok (.getfield 102, 3) := dk_180 0 102 (dk_at dksX2_registered_2 7 rfl rfl)
theorem dX2_registered_58 : decode cX2_registered 58 = .ok (.iconst 1, 1) := dk_4 (dk_at dksX2_registered_2 10 rfl rfl)
theorem dX2_registered_59 : decode cX2_registered 59 = .ok (.iadd, 1) := dk_96 (dk_at dksX2_registered_2 11 rfl rfl)
theorem dX2_registered_60 : decode cX2_registered 60 = .ok (.putfield 102, 3) := dk_181 0 102 (dk_at dksX2_registered_2 12 rfl rfl)
theorem dX2_registered_63 : decode cX2_registered 63 = .ok (.goto (-46), 3) := dk_167 255 210 (dk_at dksX2_registered_2 15 rfl rfl)
theorem dX2_registered_66 : decode cX2_registered 66 = .ok (.aload_n 0, 1) := dk_42 (dk_at dksX2_registered_2 18 rfl rfl)
theorem dX2_registered_67 : decode cX2_registered 67 = .ok (.iconst 2, 1) := dk_5 (dk_at dksX2_registered_2 19 rfl rfl)
theorem dX2_registered_68 : decode cX2_registered 68 = .ok (.putfield 119, 3) := dk_181 0 119 (dk_at dksX2_registered_2 20 rfl rfl)
theorem dX2_registered_71 : decode cX2_registered 71 = .ok (.aload_n 0, 1) := dk_42 (dk_at dksX2_registered_2 23 rfl rfl)
theorem dX2_registered_72 : decode cX2_registered 72 = .ok (.aload_n 0, 1) := dk_42 (dk_at dksX2_registered_3 0 rfl rfl)
theorem dX2_registered_73 : decode cX2_registered 73 = .ok (.iload_n 1, 1) := dk_27 (dk_at dksX2_registered_3 1 rfl rfl)
theorem dX2_registered_74 : decode cX2_registered 74 = .ok (.aload_n 0, 1) := dk_42 (dk_at dksX2_registered_3 2 rfl rfl)
theorem dX2_registered_75 : decode cX2_registered 75 = .ok (.getfield 102, 3) := dk_180 0 102 (dk_at dksX2_registered_3 3 rfl rfl)
theorem dX2_registered_78 : decode cX2_registered 78 = .ok (.invokevirtual 177, 3) := dk_182 0 177 (dk_at dksX2_registered_3 6 rfl rfl)
theorem dX2_registered_81 : decode cX2_registered 81 = .ok (.putfield 181, 3) := dk_181 0 181 (dk_at dksX2_registered_3 9 rfl rfl)
theorem dX2_registered_84 : decode cX2_registered 84 = .ok (.aload_n 0, 1) := dk_42 (dk_at dksX2_registered_3 12 rfl rfl)
theorem dX2_registered_85 : decode cX2_registered 85 = .ok (.getfield 181, 3) := dk_180 0 181 (dk_at dksX2_registered_3 13 rfl rfl)
theorem dX2_registered_88 : decode cX2_registered 88 = .ok (.iconst (-1), 1) := dk_2 (dk_at dksX2_registered_3 16 rfl rfl)
theorem dX2_registered_89 : decode cX2_registered 89 = .ok (.if_icmp .eq 4, 3) := dk_159 0 4 (dk_at dksX2_registered_3 17 rfl rfl)
theorem dX2_registered_92 : decode cX2_registered 92 = .ok (.return_, 1) := dk_177 (dk_at dksX2_registered_3 20 rfl rfl)
theorem dX2_registered_93 : decode cX2_registered 93 = .ok (.aload_n 0, 1) := dk_42 (dk_at dksX2_registered_3 21 rfl rfl)
theorem dX2_registered_94 : decode cX2_registered 94 = .ok (.getfield 102, 3) := dk_180 0 102 (dk_at dksX2_registered_4 0 rfl rfl)
theorem dX2_registered_97 : decode cX2_registered 97 = .ok (.iload_n 1, 1) := dk_27 (dk_at dksX2_registered_4 3 rfl rfl)
theorem dX2_registered_98 : decode cX2_registered 98 = .ok (.if_icmp .le 50, 3) := dk_164 0 50 (dk_at dksX2_registered_4 4 rfl rfl)
theorem dX2_registered_101 : decode cX2_registered 101 = .ok (.aload_n 0, 1) := dk_42 (dk_at dksX2_registered_4 7 rfl rfl)
theorem dX2_registered_102 : decode cX2_registered 102 = .ok (.getfield 7, 3) := dk_180 0 7 (dk_at dksX2_registered_4 8 rfl rfl)
theorem dX2_registered_105 : decode cX2_registered 105 = .ok (.iload_n 1, 1) := dk_27 (dk_at dksX2_registered_4 11 rfl rfl)
theorem dX2_registered_106 : decode cX2_registered 106 = .ok (.baload, 1) := dk_51 (dk_at dksX2_registered_4 12 rfl rfl)
theorem dX2_registered_107 : decode cX2_registered 107 = .ok (.bipush 102, 2) := dk_16 102 (dk_at dksX2_registered_4 13 rfl rfl)
theorem dX2_registered_109 : decode cX2_registered 109 = .ok (.if_icmp .ne 39, 3) := dk_160 0 39 (dk_at dksX2_registered_4 15 rfl rfl)
theorem dX2_registered_112 : decode cX2_registered 112 = .ok (.aload_n 0, 1) := dk_42 (dk_at dksX2_registered_4 18 rfl rfl)
theorem dX2_registered_113 : decode cX2_registered 113 = .ok (.iload_n 1, 1) := dk_27 (dk_at dksX2_registered_4 19 rfl rfl)
theorem dX2_registered_114 : decode cX2_registered 114 = .ok (.iconst 1, 1) := dk_4 (dk_at dksX2_registered_4 20 rfl rfl)
theorem dX2_registered_115 : decode cX2_registered 115 = .ok (.iadd, 1) := dk_96 (dk_at dksX2_registered_4 21 rfl rfl)
theorem dX2_registered_116 : decode cX2_registered 116 = .ok (.aload_n 0, 1) := dk_42 (dk_at dksX2_registered_4 22 rfl rfl)
theorem dX2_registered_117 : decode cX2_registered 117 = .ok (.getfield 102, 3) := dk_180 0 102 (dk_at dksX2_registered_5 0 rfl rfl)
theorem dX2_registered_120 : decode cX2_registered 120 = .ok (.invokevirtual 177, 3) := dk_182 0 177 (dk_at dksX2_registered_5 3 rfl rfl)
theorem dX2_registered_123 : decode cX2_registered 123 = .ok (.iconst (-1), 1) := dk_2 (dk_at dksX2_registered_5 6 rfl rfl)
theorem dX2_registered_124 : decode cX2_registered 124 = .ok (.if_icmp .eq 24, 3) := dk_159 0 24 (dk_at dksX2_registered_5 7 rfl rfl)
theorem dX2_registered_127 : decode cX2_registered 127 = .ok (.aload_n 0, 1) := dk_42 (dk_at dksX2_registered_5 10 rfl rfl)
theorem dX2_registered_128 : decode cX2_registered 128 = .ok (.iconst 3, 1) := dk_6 (dk_at dksX2_registered_5 11 rfl rfl)
theorem dX2_registered_129 : decode cX2_registered 129 = .ok (.putfield 119, 3) := dk_181 0 119 (dk_at dksX2_registered_5 12 rfl rfl)
theorem dX2_registered_132 : decode cX2_registered 132 = .ok (.aload_n 0, 1) := dk_42 (dk_at dksX2_registered_5 15 rfl rfl)
theorem dX2_registered_133 : decode cX2_registered 133 = .ok (.aload_n 0, 1) := dk_42 (dk_at dksX2_registered_5 16 rfl rfl)
theorem dX2_registered_134 : decode cX2_registered 134 = .ok (.iload_n 1, 1) := dk_27 (dk_at dksX2_registered_5 17 rfl rfl)
theorem dX2_registered_135 : decode cX2_registered 135 = .ok (.iconst 1, 1) := dk_4 (dk_at dksX2_registered_5 18 rfl rfl)
theorem dX2_registered_136 : decode cX2_registered 136 = .ok (.iadd, 1) := dk_96 (dk_at dksX2_registered_5 19 rfl rfl)
theorem dX2_registered_137 : decode cX2_registered 137 = .ok (.aload_n 0, 1) := dk_42 (dk_at dksX2_registered_5 20 rfl rfl)
theorem dX2_registered_138 : decode cX2_registered 138 = .ok (.getfield 102, 3) := dk_180 0 102 (dk_at dksX2_registered_5 21 rfl rfl)
theorem dX2_registered_141 : decode cX2_registered 141 = .ok (.invokevirtual 177, 3) := dk_182 0 177 (dk_at dksX2_registered_6 0 rfl rfl)
theorem dX2_registered_144 : decode cX2_registered 144 = .ok (.putfield 181, 3) := dk_181 0 181 (dk_at dksX2_registered_6 3 rfl rfl)
theorem dX2_registered_147 : decode cX2_registered 147 = .ok (.return_, 1) := dk_177 (dk_at dksX2_registered_6 6 rfl rfl)
theorem dX2_registered_148 : decode cX2_registered 148 = .ok (.aload_n 0, 1) := dk_42 (dk_at dksX2_registered_6 7 rfl rfl)
theorem dX2_registered_149 : decode cX2_registered 149 = .ok (.aload_n 0, 1) := dk_42 (dk_at dksX2_registered_6 8 rfl rfl)
theorem dX2_registered_150 : decode cX2_registered 150 = .ok (.getfield 102, 3) := dk_180 0 102 (dk_at dksX2_registered_6 9 rfl rfl)
theorem dX2_registered_153 : decode cX2_registered 153 = .ok (.iload_n 1, 1) := dk_27 (dk_at dksX2_registered_6 12 rfl rfl)
theorem dX2_registered_154 : decode cX2_registered 154 = .ok (.isub, 1) := dk_100 (dk_at dksX2_registered_6 13 rfl rfl)
theorem dX2_registered_155 : decode cX2_registered 155 = .ok (.iconst 2, 1) := dk_5 (dk_at dksX2_registered_6 14 rfl rfl)
theorem dX2_registered_156 : decode cX2_registered 156 = .ok (.if_icmp .ne 21, 3) := dk_160 0 21 (dk_at dksX2_registered_6 15 rfl rfl)
theorem dX2_registered_159 : decode cX2_registered 159 = .ok (.lload_n 2, 1) := dk_32 (dk_at dksX2_registered_6 18 rfl rfl)
theorem dX2_registered_160 : decode cX2_registered 160 = .ok (.aload_n 0, 1) := dk_42 (dk_at dksX2_registered_6 19 rfl rfl)
theorem dX2_registered_161 : decode cX2_registered 161 = .ok (.getfield 7, 3) := dk_180 0 7 (dk_at dksX2_registered_6 20 rfl rfl)
theorem dX2_registered_164 : decode cX2_registered 164 = .ok (.iload_n 1, 1) := dk_27 (dk_at dksX2_registered_6 23 rfl rfl)
theorem dX2_registered_165 : decode cX2_registered 165 = .ok (.iconst 1, 1) := dk_4 (dk_at dksX2_registered_7 0 rfl rfl)
theorem dX2_registered_166 : decode cX2_registered 166 = .ok (.iadd, 1) := dk_96 (dk_at dksX2_registered_7 1 rfl rfl)
theorem dX2_registered_167 : decode cX2_registered 167 = .ok (.baload, 1) := dk_51 (dk_at dksX2_registered_7 2 rfl rfl)
theorem dX2_registered_168 : decode cX2_registered 168 = .ok (.bipush 48, 2) := dk_16 48 (dk_at dksX2_registered_7 3 rfl rfl)
theorem dX2_registered_170 : decode cX2_registered 170 = .ok (.isub, 1) := dk_100 (dk_at dksX2_registered_7 5 rfl rfl)
theorem dX2_registered_171 : decode cX2_registered 171 = .ok (.invokestatic 184, 3) := dk_184 0 184 (dk_at dksX2_registered_7 6 rfl rfl)
theorem dX2_registered_174 : decode cX2_registered 174 = .ok (.goto 26, 3) := dk_167 0 26 (dk_at dksX2_registered_7 9 rfl rfl)
theorem dX2_registered_177 : decode cX2_registered 177 = .ok (.lload_n 2, 1) := dk_32 (dk_at dksX2_registered_7 12 rfl rfl)
theorem dX2_registered_178 : decode cX2_registered 178 = .ok (.ldc2_w 188, 3) := dk_20 0 188 (dk_at dksX2_registered_7 13 rfl rfl)
theorem dX2_registered_181 : decode cX2_registered 181 = .ok (.lcmp, 1) := dk_148 (dk_at dksX2_registered_7 16 rfl rfl)
theorem dX2_registered_182 : decode cX2_registered 182 = .ok (.ifCond .ne 17, 3) := dk_154 0 17 (dk_at dksX2_registered_7 17 rfl rfl)
theorem dX2_registered_185 : decode cX2_registered 185 = .ok (.aload_n 0, 1) := dk_42 (dk_at dksX2_registered_7 20 rfl rfl)
theorem dX2_registered_186 : decode cX2_registered 186 = .ok (.getfield 102, 3) := dk_180 0 102 (dk_at dksX2_registered_7 21 rfl rfl)
theorem dX2_registered_189 : decode cX2_registered 189 = .ok (.iload_n 1, 1) := dk_27 (dk_at dksX2_registered_8 0 rfl rfl)
theorem dX2_registered_190 : decode cX2_registered 190 = .ok (.isub, 1) := dk_100 (dk_at dksX2_registered_8 1 rfl rfl)
theorem dX2_registered_191 : decode cX2_registered 191 = .ok (.iconst 4, 1) := dk_7 (dk_at dksX2_registered_8 2 rfl rfl)
theorem dX2_registered_192 : decode cX2_registered 192 = .ok (.if_icmp .ne 7, 3) := dk_160 0 7 (dk_at dksX2_registered_8 3 rfl rfl)
theorem dX2_registered_195 : decode cX2_registered 195 = .ok (.iconst 0, 1) := dk_3 (dk_at dksX2_registered_8 6 rfl rfl)
theorem dX2_registered_196 : decode cX2_registered 196 = .ok (.goto 4, 3) := dk_167 0 4 (dk_at dksX2_registered_8 7 rfl rfl)
theorem dX2_registered_199 : decode cX2_registered 199 = .ok (.iconst (-1), 1) := dk_2 (dk_at dksX2_registered_8 10 rfl rfl)
theorem dX2_registered_200 : decode cX2_registered 200 = .ok (.putfield 181, 3) := dk_181 0 181 (dk_at dksX2_registered_8 11 rfl rfl)
theorem dX2_registered_203 : decode cX2_registered 203 = .ok (.aload_n 0, 1) := dk_42 (dk_at dksX2_registered_8 14 rfl rfl)
theorem dX2_registered_204 : decode cX2_registered 204 = .ok (.getfield 181, 3) := dk_180 0 181 (dk_at dksX2_registered_8 15 rfl rfl)
theorem dX2_registered_207 : decode cX2_registered 207 = .ok (.iconst (-1), 1) := dk_2 (dk_at dksX2_registered_8 18 rfl rfl)
theorem dX2_registered_208 : decode cX2_registered 208 = .ok (.if_icmp .ne 9, 3) := dk_160 0 9 (dk_at dksX2_registered_8 19 rfl rfl)
theorem dX2_registered_211 : decode cX2_registered 211 = .ok (.aload_n 0, 1) := dk_42 (dk_at dksX2_registered_8 22 rfl rfl)
theorem dX2_registered_212 : decode cX2_registered 212 = .ok (.bipush 9, 2) := dk_16 9 (dk_at dksX2_registered_9 0 rfl rfl)
theorem dX2_registered_214 : decode cX2_registered 214 = .ok (.putfield 119, 3) := dk_181 0 119 (dk_at dksX2_registered_9 2 rfl rfl)
theorem dX2_registered_217 : decode cX2_registered 217 = .ok (.return_, 1) := dk_177 (dk_at dksX2_registered_9 5 rfl rfl)
abbrev cX2_small : ByteArray := prog_4_method_16_code
def yX2_small : MethodName := ⟨RX2, "small", "(II)I"⟩
def dkwX2_small_4 : List UInt8 := [96, 51, 96, 16, 48, 100, 54, 4, 21, 4, 16, 32, 162, 0, 8, 21, 4, 167, 0, 4, 2, 172]
abbrev dktX2_small_4 : List UInt8 := dkwX2_small_4 ++ []
def dkwX2_small_3 : List UInt8 := [16, 48, 100, 167, 0, 27, 16, 10, 42, 180, 0, 7, 27, 51, 16, 48, 100, 104, 42, 180, 0, 7, 27, 4]
abbrev dktX2_small_3 : List UInt8 := dkwX2_small_3 ++ dktX2_small_4
def dkwX2_small_2 : List UInt8 := [180, 0, 7, 27, 51, 16, 48, 160, 0, 5, 2, 172, 29, 4, 160, 0, 15, 42, 180, 0, 7, 27, 51]
abbrev dktX2_small_2 : List UInt8 := dkwX2_small_2 ++ dktX2_small_3
def dkwX2_small_1 : List UInt8 := [153, 0, 33, 42, 180, 0, 7, 28, 4, 100, 51, 184, 0, 116, 153, 0, 19, 29, 5, 160, 0, 16, 42]
abbrev dktX2_small_1 : List UInt8 := dkwX2_small_1 ++ dktX2_small_2
def dkwX2_small_0 : List UInt8 := [28, 27, 100, 62, 29, 4, 161, 0, 50, 29, 5, 163, 0, 45, 42, 180, 0, 7, 27, 51, 184, 0, 116]
abbrev dktX2_small_0 : List UInt8 := dkwX2_small_0 ++ dktX2_small_1
theorem dksX2_small_0 : cX2_small.data.toList.drop 0 = dktX2_small_0 := by decide +kernel
theorem dksX2_small_1 : cX2_small.data.toList.drop 23 = dktX2_small_1 := dk_seg dksX2_small_0 23 rfl rfl
theorem dksX2_small_2 : cX2_small.data.toList.drop 46 = dktX2_small_2 := dk_seg dksX2_small_1 23 rfl rfl
theorem dksX2_small_3 : cX2_small.data.toList.drop 69 = dktX2_small_3 := dk_seg dksX2_small_2 23 rfl rfl
theorem dksX2_small_4 : cX2_small.data.toList.drop 93 = dktX2_small_4 := dk_seg dksX2_small_3 24 rfl rfl
theorem dX2_small_0 : decode cX2_small 0 = .ok (.iload_n 2, 1) := dk_28 (dk_at dksX2_small_0 0 rfl rfl)
theorem dX2_small_1 : decode cX2_small 1 = .ok (.iload_n 1, 1) := dk_27 (dk_at dksX2_small_0 1 rfl rfl)
theorem dX2_small_2 : decode cX2_small 2 = .ok (.isub, 1) := dk_100 (dk_at dksX2_small_0 2 rfl rfl)
theorem dX2_small_3 : decode cX2_small 3 = .ok (.istore_n 3, 1) := dk_62 (dk_at dksX2_small_0 3 rfl rfl)
theorem dX2_small_4 : decode cX2_small 4 = .ok (.iload_n 3, 1) := dk_29 (dk_at dksX2_small_0 4 rfl rfl)
theorem dX2_small_5 : decode cX2_small 5 = .ok (.iconst 1, 1) := dk_4 (dk_at dksX2_small_0 5 rfl rfl)
theorem dX2_small_6 : decode cX2_small 6 = .ok (.if_icmp .lt 50, 3) := dk_161 0 50 (dk_at dksX2_small_0 6 rfl rfl)
theorem dX2_small_9 : decode cX2_small 9 = .ok (.iload_n 3, 1) := dk_29 (dk_at dksX2_small_0 9 rfl rfl)
theorem dX2_small_10 : decode cX2_small 10 = .ok (.iconst 2, 1) := dk_5 (dk_at dksX2_small_0 10 rfl rfl)
theorem dX2_small_11 : decode cX2_small 11 = .ok (.if_icmp .gt 45, 3) := dk_163 0 45 (dk_at dksX2_small_0 11 rfl rfl)
theorem dX2_small_14 : decode cX2_small 14 = .ok (.aload_n 0, 1) := dk_42 (dk_at dksX2_small_0 14 rfl rfl)
theorem dX2_small_15 : decode cX2_small 15 = .ok (.getfield 7, 3) := dk_180 0 7 (dk_at dksX2_small_0 15 rfl rfl)
theorem dX2_small_18 : decode cX2_small 18 = .ok (.iload_n 1, 1) := dk_27 (dk_at dksX2_small_0 18 rfl rfl)
theorem dX2_small_19 : decode cX2_small 19 = .ok (.baload, 1) := dk_51 (dk_at dksX2_small_0 19 rfl rfl)
theorem dX2_small_20 : decode cX2_small 20 = .ok (.invokestatic 116, 3) := dk_184 0 116 (dk_at dksX2_small_0 20 rfl rfl)
theorem dX2_small_23 : decode cX2_small 23 = .ok (.ifCond .eq 33, 3) := dk_153 0 33 (dk_at dksX2_small_1 0 rfl rfl)
theorem dX2_small_26 : decode cX2_small 26 = .ok (.aload_n 0, 1) := dk_42 (dk_at dksX2_small_1 3 rfl rfl)
theorem dX2_small_27 : decode cX2_small 27 = .ok (.getfield 7, 3) := dk_180 0 7 (dk_at dksX2_small_1 4 rfl rfl)
theorem dX2_small_30 : decode cX2_small 30 = .ok (.iload_n 2, 1) := dk_28 (dk_at dksX2_small_1 7 rfl rfl)
theorem dX2_small_31 : decode cX2_small 31 = .ok (.iconst 1, 1) := dk_4 (dk_at dksX2_small_1 8 rfl rfl)
theorem dX2_small_32 : decode cX2_small 32 = .ok (.isub, 1) := dk_100 (dk_at dksX2_small_1 9 rfl rfl)
theorem dX2_small_33 : decode cX2_small 33 = .ok (.baload, 1) := dk_51 (dk_at dksX2_small_1 10 rfl rfl)
theorem dX2_small_34 : decode cX2_small 34 = .ok (.invokestatic 116, 3) := dk_184 0 116 (dk_at dksX2_small_1 11 rfl rfl)
theorem dX2_small_37 : decode cX2_small 37 = .ok (.ifCond .eq 19, 3) := dk_153 0 19 (dk_at dksX2_small_1 14 rfl rfl)
theorem dX2_small_40 : decode cX2_small 40 = .ok (.iload_n 3, 1) := dk_29 (dk_at dksX2_small_1 17 rfl rfl)
theorem dX2_small_41 : decode cX2_small 41 = .ok (.iconst 2, 1) := dk_5 (dk_at dksX2_small_1 18 rfl rfl)
theorem dX2_small_42 : decode cX2_small 42 = .ok (.if_icmp .ne 16, 3) := dk_160 0 16 (dk_at dksX2_small_1 19 rfl rfl)
theorem dX2_small_45 : decode cX2_small 45 = .ok (.aload_n 0, 1) := dk_42 (dk_at dksX2_small_1 22 rfl rfl)
theorem dX2_small_46 : decode cX2_small 46 = .ok (.getfield 7, 3) := dk_180 0 7 (dk_at dksX2_small_2 0 rfl rfl)
theorem dX2_small_49 : decode cX2_small 49 = .ok (.iload_n 1, 1) := dk_27 (dk_at dksX2_small_2 3 rfl rfl)
theorem dX2_small_50 : decode cX2_small 50 = .ok (.baload, 1) := dk_51 (dk_at dksX2_small_2 4 rfl rfl)
theorem dX2_small_51 : decode cX2_small 51 = .ok (.bipush 48, 2) := dk_16 48 (dk_at dksX2_small_2 5 rfl rfl)
theorem dX2_small_53 : decode cX2_small 53 = .ok (.if_icmp .ne 5, 3) := dk_160 0 5 (dk_at dksX2_small_2 7 rfl rfl)
theorem dX2_small_56 : decode cX2_small 56 = .ok (.iconst (-1), 1) := dk_2 (dk_at dksX2_small_2 10 rfl rfl)
theorem dX2_small_57 : decode cX2_small 57 = .ok (.ireturn, 1) := dk_172 (dk_at dksX2_small_2 11 rfl rfl)
theorem dX2_small_58 : decode cX2_small 58 = .ok (.iload_n 3, 1) := dk_29 (dk_at dksX2_small_2 12 rfl rfl)
theorem dX2_small_59 : decode cX2_small 59 = .ok (.iconst 1, 1) := dk_4 (dk_at dksX2_small_2 13 rfl rfl)
theorem dX2_small_60 : decode cX2_small 60 = .ok (.if_icmp .ne 15, 3) := dk_160 0 15 (dk_at dksX2_small_2 14 rfl rfl)
theorem dX2_small_63 : decode cX2_small 63 = .ok (.aload_n 0, 1) := dk_42 (dk_at dksX2_small_2 17 rfl rfl)
theorem dX2_small_64 : decode cX2_small 64 = .ok (.getfield 7, 3) := dk_180 0 7 (dk_at dksX2_small_2 18 rfl rfl)
theorem dX2_small_67 : decode cX2_small 67 = .ok (.iload_n 1, 1) := dk_27 (dk_at dksX2_small_2 21 rfl rfl)
theorem dX2_small_68 : decode cX2_small 68 = .ok (.baload, 1) := dk_51 (dk_at dksX2_small_2 22 rfl rfl)
theorem dX2_small_69 : decode cX2_small 69 = .ok (.bipush 48, 2) := dk_16 48 (dk_at dksX2_small_3 0 rfl rfl)
theorem dX2_small_71 : decode cX2_small 71 = .ok (.isub, 1) := dk_100 (dk_at dksX2_small_3 2 rfl rfl)
theorem dX2_small_72 : decode cX2_small 72 = .ok (.goto 27, 3) := dk_167 0 27 (dk_at dksX2_small_3 3 rfl rfl)
theorem dX2_small_75 : decode cX2_small 75 = .ok (.bipush 10, 2) := dk_16 10 (dk_at dksX2_small_3 6 rfl rfl)
theorem dX2_small_77 : decode cX2_small 77 = .ok (.aload_n 0, 1) := dk_42 (dk_at dksX2_small_3 8 rfl rfl)
theorem dX2_small_78 : decode cX2_small 78 = .ok (.getfield 7, 3) := dk_180 0 7 (dk_at dksX2_small_3 9 rfl rfl)
theorem dX2_small_81 : decode cX2_small 81 = .ok (.iload_n 1, 1) := dk_27 (dk_at dksX2_small_3 12 rfl rfl)
theorem dX2_small_82 : decode cX2_small 82 = .ok (.baload, 1) := dk_51 (dk_at dksX2_small_3 13 rfl rfl)
theorem dX2_small_83 : decode cX2_small 83 = .ok (.bipush 48, 2) := dk_16 48 (dk_at dksX2_small_3 14 rfl rfl)
theorem dX2_small_85 : decode cX2_small 85 = .ok (.isub, 1) := dk_100 (dk_at dksX2_small_3 16 rfl rfl)
theorem dX2_small_86 : decode cX2_small 86 = .ok (.imul, 1) := dk_104 (dk_at dksX2_small_3 17 rfl rfl)
theorem dX2_small_87 : decode cX2_small 87 = .ok (.aload_n 0, 1) := dk_42 (dk_at dksX2_small_3 18 rfl rfl)
theorem dX2_small_88 : decode cX2_small 88 = .ok (.getfield 7, 3) := dk_180 0 7 (dk_at dksX2_small_3 19 rfl rfl)
theorem dX2_small_91 : decode cX2_small 91 = .ok (.iload_n 1, 1) := dk_27 (dk_at dksX2_small_3 22 rfl rfl)
theorem dX2_small_92 : decode cX2_small 92 = .ok (.iconst 1, 1) := dk_4 (dk_at dksX2_small_3 23 rfl rfl)
theorem dX2_small_93 : decode cX2_small 93 = .ok (.iadd, 1) := dk_96 (dk_at dksX2_small_4 0 rfl rfl)
theorem dX2_small_94 : decode cX2_small 94 = .ok (.baload, 1) := dk_51 (dk_at dksX2_small_4 1 rfl rfl)
theorem dX2_small_95 : decode cX2_small 95 = .ok (.iadd, 1) := dk_96 (dk_at dksX2_small_4 2 rfl rfl)
theorem dX2_small_96 : decode cX2_small 96 = .ok (.bipush 48, 2) := dk_16 48 (dk_at dksX2_small_4 3 rfl rfl)
theorem dX2_small_98 : decode cX2_small 98 = .ok (.isub, 1) := dk_100 (dk_at dksX2_small_4 5 rfl rfl)
theorem dX2_small_99 : decode cX2_small 99 = .ok (.istore 4, 2) := dk_54 4 (dk_at dksX2_small_4 6 rfl rfl)
theorem dX2_small_101 : decode cX2_small 101 = .ok (.iload 4, 2) := dk_21 4 (dk_at dksX2_small_4 8 rfl rfl)
theorem dX2_small_103 : decode cX2_small 103 = .ok (.bipush 32, 2) := dk_16 32 (dk_at dksX2_small_4 10 rfl rfl)
theorem dX2_small_105 : decode cX2_small 105 = .ok (.if_icmp .ge 8, 3) := dk_162 0 8 (dk_at dksX2_small_4 12 rfl rfl)
theorem dX2_small_108 : decode cX2_small 108 = .ok (.iload 4, 2) := dk_21 4 (dk_at dksX2_small_4 15 rfl rfl)
theorem dX2_small_110 : decode cX2_small 110 = .ok (.goto 4, 3) := dk_167 0 4 (dk_at dksX2_small_4 17 rfl rfl)
theorem dX2_small_113 : decode cX2_small 113 = .ok (.iconst (-1), 1) := dk_2 (dk_at dksX2_small_4 20 rfl rfl)
theorem dX2_small_114 : decode cX2_small 114 = .ok (.ireturn, 1) := dk_172 (dk_at dksX2_small_4 21 rfl rfl)
abbrev cX2_ofTwo : ByteArray := prog_4_method_18_code
def yX2_ofTwo : MethodName := ⟨RX2, "ofTwo", "(JI)I"⟩
def dkwX2_ofTwo_8 : List UInt8 := [167, 0, 17, 30, 20, 0, 206, 148, 154, 0, 8, 16, 31, 167, 0, 4, 2, 172]
abbrev dktX2_ofTwo_8 : List UInt8 := dkwX2_ofTwo_8 ++ []
def dkwX2_ofTwo_7 : List UInt8 := [30, 20, 0, 202, 148, 154, 0, 8, 16, 29, 167, 0, 30, 30, 20, 0, 204, 148, 154, 0, 8, 16, 30]
abbrev dktX2_ofTwo_7 : List UInt8 := dkwX2_ofTwo_7 ++ dktX2_ofTwo_8
def dkwX2_ofTwo_6 : List UInt8 := [20, 0, 198, 148, 154, 0, 7, 4, 167, 0, 56, 30, 20, 0, 200, 148, 154, 0, 8, 16, 28, 167, 0, 43]
abbrev dktX2_ofTwo_6 : List UInt8 := dkwX2_ofTwo_6 ++ dktX2_ofTwo_7
def dkwX2_ofTwo_5 : List UInt8 := [20, 0, 196, 148, 154, 0, 17, 28, 155, 0, 13, 28, 5, 162, 0, 8, 16, 26, 28, 96, 172, 30]
abbrev dktX2_ofTwo_5 : List UInt8 := dkwX2_ofTwo_5 ++ dktX2_ofTwo_6
def dkwX2_ofTwo_4 : List UInt8 := [28, 16, 9, 162, 0, 19, 28, 16, 8, 162, 0, 10, 16, 16, 28, 96, 167, 0, 5, 16, 30, 172, 33]
abbrev dktX2_ofTwo_4 : List UInt8 := dkwX2_ofTwo_4 ++ dktX2_ofTwo_5
def dkwX2_ofTwo_3 : List UInt8 := [16, 8, 28, 96, 167, 0, 7, 16, 16, 28, 96, 172, 33, 20, 0, 194, 148, 154, 0, 29, 28, 155, 0, 25]
abbrev dktX2_ofTwo_3 : List UInt8 := dkwX2_ofTwo_3 ++ dktX2_ofTwo_4
def dkwX2_ofTwo_2 : List UInt8 := [20, 0, 192, 148, 154, 0, 31, 28, 155, 0, 27, 28, 16, 10, 162, 0, 21, 28, 16, 8, 162, 0, 10]
abbrev dktX2_ofTwo_2 : List UInt8 := dkwX2_ofTwo_2 ++ dktX2_ofTwo_3
def dkwX2_ofTwo_1 : List UInt8 := [28, 96, 172, 33, 10, 148, 154, 0, 16, 28, 155, 0, 12, 28, 7, 162, 0, 7, 7, 28, 96, 172, 33]
abbrev dktX2_ofTwo_1 : List UInt8 := dkwX2_ofTwo_1 ++ dktX2_ofTwo_2
def dkwX2_ofTwo_0 : List UInt8 := [30, 20, 0, 160, 109, 66, 33, 20, 0, 190, 148, 154, 0, 16, 28, 155, 0, 12, 28, 5, 162, 0, 7, 5]
abbrev dktX2_ofTwo_0 : List UInt8 := dkwX2_ofTwo_0 ++ dktX2_ofTwo_1
theorem dksX2_ofTwo_0 : cX2_ofTwo.data.toList.drop 0 = dktX2_ofTwo_0 := by decide +kernel
theorem dksX2_ofTwo_1 : cX2_ofTwo.data.toList.drop 24 = dktX2_ofTwo_1 := dk_seg dksX2_ofTwo_0 24 rfl rfl
theorem dksX2_ofTwo_2 : cX2_ofTwo.data.toList.drop 47 = dktX2_ofTwo_2 := dk_seg dksX2_ofTwo_1 23 rfl rfl
theorem dksX2_ofTwo_3 : cX2_ofTwo.data.toList.drop 70 = dktX2_ofTwo_3 := dk_seg dksX2_ofTwo_2 23 rfl rfl
theorem dksX2_ofTwo_4 : cX2_ofTwo.data.toList.drop 94 = dktX2_ofTwo_4 := dk_seg dksX2_ofTwo_3 24 rfl rfl
theorem dksX2_ofTwo_5 : cX2_ofTwo.data.toList.drop 117 = dktX2_ofTwo_5 := dk_seg dksX2_ofTwo_4 23 rfl rfl
theorem dksX2_ofTwo_6 : cX2_ofTwo.data.toList.drop 139 = dktX2_ofTwo_6 := dk_seg dksX2_ofTwo_5 22 rfl rfl
theorem dksX2_ofTwo_7 : cX2_ofTwo.data.toList.drop 163 = dktX2_ofTwo_7 := dk_seg dksX2_ofTwo_6 24 rfl rfl
theorem dksX2_ofTwo_8 : cX2_ofTwo.data.toList.drop 186 = dktX2_ofTwo_8 := dk_seg dksX2_ofTwo_7 23 rfl rfl
theorem dX2_ofTwo_0 : decode cX2_ofTwo 0 = .ok (.lload_n 0, 1) := dk_30 (dk_at dksX2_ofTwo_0 0 rfl rfl)
theorem dX2_ofTwo_1 : decode cX2_ofTwo 1 = .ok (.ldc2_w 160, 3) := dk_20 0 160 (dk_at dksX2_ofTwo_0 1 rfl rfl)
theorem dX2_ofTwo_4 : decode cX2_ofTwo 4 = .ok (.ldiv, 1) := dk_109 (dk_at dksX2_ofTwo_0 4 rfl rfl)
theorem dX2_ofTwo_5 : decode cX2_ofTwo 5 = .ok (.lstore_n 3, 1) := dk_66 (dk_at dksX2_ofTwo_0 5 rfl rfl)
theorem dX2_ofTwo_6 : decode cX2_ofTwo 6 = .ok (.lload_n 3, 1) := dk_33 (dk_at dksX2_ofTwo_0 6 rfl rfl)
theorem dX2_ofTwo_7 : decode cX2_ofTwo 7 = .ok (.ldc2_w 190, 3) := dk_20 0 190 (dk_at dksX2_ofTwo_0 7 rfl rfl)
theorem dX2_ofTwo_10 : decode cX2_ofTwo 10 = .ok (.lcmp, 1) := dk_148 (dk_at dksX2_ofTwo_0 10 rfl rfl)
theorem dX2_ofTwo_11 : decode cX2_ofTwo 11 = .ok (.ifCond .ne 16, 3) := dk_154 0 16 (dk_at dksX2_ofTwo_0 11 rfl rfl)
theorem dX2_ofTwo_14 : decode cX2_ofTwo 14 = .ok (.iload_n 2, 1) := dk_28 (dk_at dksX2_ofTwo_0 14 rfl rfl)
theorem dX2_ofTwo_15 : decode cX2_ofTwo 15 = .ok (.ifCond .lt 12, 3) := dk_155 0 12 (dk_at dksX2_ofTwo_0 15 rfl rfl)
theorem dX2_ofTwo_18 : decode cX2_ofTwo 18 = .ok (.iload_n 2, 1) := dk_28 (dk_at dksX2_ofTwo_0 18 rfl rfl)
theorem dX2_ofTwo_19 : decode cX2_ofTwo 19 = .ok (.iconst 2, 1) := dk_5 (dk_at dksX2_ofTwo_0 19 rfl rfl)
theorem dX2_ofTwo_20 : decode cX2_ofTwo 20 = .ok (.if_icmp .ge 7, 3) := dk_162 0 7 (dk_at dksX2_ofTwo_0 20 rfl rfl)
theorem dX2_ofTwo_23 : decode cX2_ofTwo 23 = .ok (.iconst 2, 1) := dk_5 (dk_at dksX2_ofTwo_0 23 rfl rfl)
theorem dX2_ofTwo_24 : decode cX2_ofTwo 24 = .ok (.iload_n 2, 1) := dk_28 (dk_at dksX2_ofTwo_1 0 rfl rfl)
theorem dX2_ofTwo_25 : decode cX2_ofTwo 25 = .ok (.iadd, 1) := dk_96 (dk_at dksX2_ofTwo_1 1 rfl rfl)
theorem dX2_ofTwo_26 : decode cX2_ofTwo 26 = .ok (.ireturn, 1) := dk_172 (dk_at dksX2_ofTwo_1 2 rfl rfl)
theorem dX2_ofTwo_27 : decode cX2_ofTwo 27 = .ok (.lload_n 3, 1) := dk_33 (dk_at dksX2_ofTwo_1 3 rfl rfl)
theorem dX2_ofTwo_28 : decode cX2_ofTwo 28 = .ok (.lconst 1, 1) := dk_10 (dk_at dksX2_ofTwo_1 4 rfl rfl)
theorem dX2_ofTwo_29 : decode cX2_ofTwo 29 = .ok (.lcmp, 1) := dk_148 (dk_at dksX2_ofTwo_1 5 rfl rfl)
theorem dX2_ofTwo_30 : decode cX2_ofTwo 30 = .ok (.ifCond .ne 16, 3) := dk_154 0 16 (dk_at dksX2_ofTwo_1 6 rfl rfl)
theorem dX2_ofTwo_33 : decode cX2_ofTwo 33 = .ok (.iload_n 2, 1) := dk_28 (dk_at dksX2_ofTwo_1 9 rfl rfl)
theorem dX2_ofTwo_34 : decode cX2_ofTwo 34 = .ok (.ifCond .lt 12, 3) := dk_155 0 12 (dk_at dksX2_ofTwo_1 10 rfl rfl)
theorem dX2_ofTwo_37 : decode cX2_ofTwo 37 = .ok (.iload_n 2, 1) := dk_28 (dk_at dksX2_ofTwo_1 13 rfl rfl)
theorem dX2_ofTwo_38 : decode cX2_ofTwo 38 = .ok (.iconst 4, 1) := dk_7 (dk_at dksX2_ofTwo_1 14 rfl rfl)
theorem dX2_ofTwo_39 : decode cX2_ofTwo 39 = .ok (.if_icmp .ge 7, 3) := dk_162 0 7 (dk_at dksX2_ofTwo_1 15 rfl rfl)
theorem dX2_ofTwo_42 : decode cX2_ofTwo 42 = .ok (.iconst 4, 1) := dk_7 (dk_at dksX2_ofTwo_1 18 rfl rfl)
theorem dX2_ofTwo_43 : decode cX2_ofTwo 43 = .ok (.iload_n 2, 1) := dk_28 (dk_at dksX2_ofTwo_1 19 rfl rfl)
theorem dX2_ofTwo_44 : decode cX2_ofTwo 44 = .ok (.iadd, 1) := dk_96 (dk_at dksX2_ofTwo_1 20 rfl rfl)
theorem dX2_ofTwo_45 : decode cX2_ofTwo 45 = .ok (.ireturn, 1) := dk_172 (dk_at dksX2_ofTwo_1 21 rfl rfl)
theorem dX2_ofTwo_46 : decode cX2_ofTwo 46 = .ok (.lload_n 3, 1) := dk_33 (dk_at dksX2_ofTwo_1 22 rfl rfl)
theorem dX2_ofTwo_47 : decode cX2_ofTwo 47 = .ok (.ldc2_w 192, 3) := dk_20 0 192 (dk_at dksX2_ofTwo_2 0 rfl rfl)
theorem dX2_ofTwo_50 : decode cX2_ofTwo 50 = .ok (.lcmp, 1) := dk_148 (dk_at dksX2_ofTwo_2 3 rfl rfl)
theorem dX2_ofTwo_51 : decode cX2_ofTwo 51 = .ok (.ifCond .ne 31, 3) := dk_154 0 31 (dk_at dksX2_ofTwo_2 4 rfl rfl)
theorem dX2_ofTwo_54 : decode cX2_ofTwo 54 = .ok (.iload_n 2, 1) := dk_28 (dk_at dksX2_ofTwo_2 7 rfl rfl)
theorem dX2_ofTwo_55 : decode cX2_ofTwo 55 = .ok (.ifCond .lt 27, 3) := dk_155 0 27 (dk_at dksX2_ofTwo_2 8 rfl rfl)
theorem dX2_ofTwo_58 : decode cX2_ofTwo 58 = .ok (.iload_n 2, 1) := dk_28 (dk_at dksX2_ofTwo_2 11 rfl rfl)
theorem dX2_ofTwo_59 : decode cX2_ofTwo 59 = .ok (.bipush 10, 2) := dk_16 10 (dk_at dksX2_ofTwo_2 12 rfl rfl)
theorem dX2_ofTwo_61 : decode cX2_ofTwo 61 = .ok (.if_icmp .ge 21, 3) := dk_162 0 21 (dk_at dksX2_ofTwo_2 14 rfl rfl)
theorem dX2_ofTwo_64 : decode cX2_ofTwo 64 = .ok (.iload_n 2, 1) := dk_28 (dk_at dksX2_ofTwo_2 17 rfl rfl)
theorem dX2_ofTwo_65 : decode cX2_ofTwo 65 = .ok (.bipush 8, 2) := dk_16 8 (dk_at dksX2_ofTwo_2 18 rfl rfl)
theorem dX2_ofTwo_67 : decode cX2_ofTwo 67 = .ok (.if_icmp .ge 10, 3) := dk_162 0 10 (dk_at dksX2_ofTwo_2 20 rfl rfl)
theorem dX2_ofTwo_70 : decode cX2_ofTwo 70 = .ok (.bipush 8, 2) := dk_16 8 (dk_at dksX2_ofTwo_3 0 rfl rfl)
theorem dX2_ofTwo_72 : decode cX2_ofTwo 72 = .ok (.iload_n 2, 1) := dk_28 (dk_at dksX2_ofTwo_3 2 rfl rfl)
theorem dX2_ofTwo_73 : decode cX2_ofTwo 73 = .ok (.iadd, 1) := dk_96 (dk_at dksX2_ofTwo_3 3 rfl rfl)
theorem dX2_ofTwo_74 : decode cX2_ofTwo 74 = .ok (.goto 7, 3) := dk_167 0 7 (dk_at dksX2_ofTwo_3 4 rfl rfl)
theorem dX2_ofTwo_77 : decode cX2_ofTwo 77 = .ok (.bipush 16, 2) := dk_16 16 (dk_at dksX2_ofTwo_3 7 rfl rfl)
theorem dX2_ofTwo_79 : decode cX2_ofTwo 79 = .ok (.iload_n 2, 1) := dk_28 (dk_at dksX2_ofTwo_3 9 rfl rfl)
theorem dX2_ofTwo_80 : decode cX2_ofTwo 80 = .ok (.iadd, 1) := dk_96 (dk_at dksX2_ofTwo_3 10 rfl rfl)
theorem dX2_ofTwo_81 : decode cX2_ofTwo 81 = .ok (.ireturn, 1) := dk_172 (dk_at dksX2_ofTwo_3 11 rfl rfl)
theorem dX2_ofTwo_82 : decode cX2_ofTwo 82 = .ok (.lload_n 3, 1) := dk_33 (dk_at dksX2_ofTwo_3 12 rfl rfl)
theorem dX2_ofTwo_83 : decode cX2_ofTwo 83 = .ok (.ldc2_w 194, 3) := dk_20 0 194 (dk_at dksX2_ofTwo_3 13 rfl rfl)
theorem dX2_ofTwo_86 : decode cX2_ofTwo 86 = .ok (.lcmp, 1) := dk_148 (dk_at dksX2_ofTwo_3 16 rfl rfl)
theorem dX2_ofTwo_87 : decode cX2_ofTwo 87 = .ok (.ifCond .ne 29, 3) := dk_154 0 29 (dk_at dksX2_ofTwo_3 17 rfl rfl)
theorem dX2_ofTwo_90 : decode cX2_ofTwo 90 = .ok (.iload_n 2, 1) := dk_28 (dk_at dksX2_ofTwo_3 20 rfl rfl)
theorem dX2_ofTwo_91 : decode cX2_ofTwo 91 = .ok (.ifCond .lt 25, 3) := dk_155 0 25 (dk_at dksX2_ofTwo_3 21 rfl rfl)
theorem dX2_ofTwo_94 : decode cX2_ofTwo 94 = .ok (.iload_n 2, 1) := dk_28 (dk_at dksX2_ofTwo_4 0 rfl rfl)
theorem dX2_ofTwo_95 : decode cX2_ofTwo 95 = .ok (.bipush 9, 2) := dk_16 9 (dk_at dksX2_ofTwo_4 1 rfl rfl)
theorem dX2_ofTwo_97 : decode cX2_ofTwo 97 = .ok (.if_icmp .ge 19, 3) := dk_162 0 19 (dk_at dksX2_ofTwo_4 3 rfl rfl)
theorem dX2_ofTwo_100 : decode cX2_ofTwo 100 = .ok (.iload_n 2, 1) := dk_28 (dk_at dksX2_ofTwo_4 6 rfl rfl)
theorem dX2_ofTwo_101 : decode cX2_ofTwo 101 = .ok (.bipush 8, 2) := dk_16 8 (dk_at dksX2_ofTwo_4 7 rfl rfl)
theorem dX2_ofTwo_103 : decode cX2_ofTwo 103 = .ok (.if_icmp .ge 10, 3) := dk_162 0 10 (dk_at dksX2_ofTwo_4 9 rfl rfl)
theorem dX2_ofTwo_106 : decode cX2_ofTwo 106 = .ok (.bipush 16, 2) := dk_16 16 (dk_at dksX2_ofTwo_4 12 rfl rfl)
theorem dX2_ofTwo_108 : decode cX2_ofTwo 108 = .ok (.iload_n 2, 1) := dk_28 (dk_at dksX2_ofTwo_4 14 rfl rfl)
theorem dX2_ofTwo_109 : decode cX2_ofTwo 109 = .ok (.iadd, 1) := dk_96 (dk_at dksX2_ofTwo_4 15 rfl rfl)
theorem dX2_ofTwo_110 : decode cX2_ofTwo 110 = .ok (.goto 5, 3) := dk_167 0 5 (dk_at dksX2_ofTwo_4 16 rfl rfl)
theorem dX2_ofTwo_113 : decode cX2_ofTwo 113 = .ok (.bipush 30, 2) := dk_16 30 (dk_at dksX2_ofTwo_4 19 rfl rfl)
theorem dX2_ofTwo_115 : decode cX2_ofTwo 115 = .ok (.ireturn, 1) := dk_172 (dk_at dksX2_ofTwo_4 21 rfl rfl)
theorem dX2_ofTwo_116 : decode cX2_ofTwo 116 = .ok (.lload_n 3, 1) := dk_33 (dk_at dksX2_ofTwo_4 22 rfl rfl)
theorem dX2_ofTwo_117 : decode cX2_ofTwo 117 = .ok (.ldc2_w 196, 3) := dk_20 0 196 (dk_at dksX2_ofTwo_5 0 rfl rfl)
theorem dX2_ofTwo_120 : decode cX2_ofTwo 120 = .ok (.lcmp, 1) := dk_148 (dk_at dksX2_ofTwo_5 3 rfl rfl)
theorem dX2_ofTwo_121 : decode cX2_ofTwo 121 = .ok (.ifCond .ne 17, 3) := dk_154 0 17 (dk_at dksX2_ofTwo_5 4 rfl rfl)
theorem dX2_ofTwo_124 : decode cX2_ofTwo 124 = .ok (.iload_n 2, 1) := dk_28 (dk_at dksX2_ofTwo_5 7 rfl rfl)
theorem dX2_ofTwo_125 : decode cX2_ofTwo 125 = .ok (.ifCond .lt 13, 3) := dk_155 0 13 (dk_at dksX2_ofTwo_5 8 rfl rfl)
theorem dX2_ofTwo_128 : decode cX2_ofTwo 128 = .ok (.iload_n 2, 1) := dk_28 (dk_at dksX2_ofTwo_5 11 rfl rfl)
theorem dX2_ofTwo_129 : decode cX2_ofTwo 129 = .ok (.iconst 2, 1) := dk_5 (dk_at dksX2_ofTwo_5 12 rfl rfl)
theorem dX2_ofTwo_130 : decode cX2_ofTwo 130 = .ok (.if_icmp .ge 8, 3) := dk_162 0 8 (dk_at dksX2_ofTwo_5 13 rfl rfl)
theorem dX2_ofTwo_133 : decode cX2_ofTwo 133 = .ok (.bipush 26, 2) := dk_16 26 (dk_at dksX2_ofTwo_5 16 rfl rfl)
theorem dX2_ofTwo_135 : decode cX2_ofTwo 135 = .ok (.iload_n 2, 1) := dk_28 (dk_at dksX2_ofTwo_5 18 rfl rfl)
theorem dX2_ofTwo_136 : decode cX2_ofTwo 136 = .ok (.iadd, 1) := dk_96 (dk_at dksX2_ofTwo_5 19 rfl rfl)
theorem dX2_ofTwo_137 : decode cX2_ofTwo 137 = .ok (.ireturn, 1) := dk_172 (dk_at dksX2_ofTwo_5 20 rfl rfl)
theorem dX2_ofTwo_138 : decode cX2_ofTwo 138 = .ok (.lload_n 0, 1) := dk_30 (dk_at dksX2_ofTwo_5 21 rfl rfl)
theorem dX2_ofTwo_139 : decode cX2_ofTwo 139 = .ok (.ldc2_w 198, 3) := dk_20 0 198 (dk_at dksX2_ofTwo_6 0 rfl rfl)
theorem dX2_ofTwo_142 : decode cX2_ofTwo 142 = .ok (.lcmp, 1) := dk_148 (dk_at dksX2_ofTwo_6 3 rfl rfl)
theorem dX2_ofTwo_143 : decode cX2_ofTwo 143 = .ok (.ifCond .ne 7, 3) := dk_154 0 7 (dk_at dksX2_ofTwo_6 4 rfl rfl)
theorem dX2_ofTwo_146 : decode cX2_ofTwo 146 = .ok (.iconst 1, 1) := dk_4 (dk_at dksX2_ofTwo_6 7 rfl rfl)
theorem dX2_ofTwo_147 : decode cX2_ofTwo 147 = .ok (.goto 56, 3) := dk_167 0 56 (dk_at dksX2_ofTwo_6 8 rfl rfl)
theorem dX2_ofTwo_150 : decode cX2_ofTwo 150 = .ok (.lload_n 0, 1) := dk_30 (dk_at dksX2_ofTwo_6 11 rfl rfl)
theorem dX2_ofTwo_151 : decode cX2_ofTwo 151 = .ok (.ldc2_w 200, 3) := dk_20 0 200 (dk_at dksX2_ofTwo_6 12 rfl rfl)
theorem dX2_ofTwo_154 : decode cX2_ofTwo 154 = .ok (.lcmp, 1) := dk_148 (dk_at dksX2_ofTwo_6 15 rfl rfl)
theorem dX2_ofTwo_155 : decode cX2_ofTwo 155 = .ok (.ifCond .ne 8, 3) := dk_154 0 8 (dk_at dksX2_ofTwo_6 16 rfl rfl)
theorem dX2_ofTwo_158 : decode cX2_ofTwo 158 = .ok (.bipush 28, 2) := dk_16 28 (dk_at dksX2_ofTwo_6 19 rfl rfl)
theorem dX2_ofTwo_160 : decode cX2_ofTwo 160 = .ok (.goto 43, 3) := dk_167 0 43 (dk_at dksX2_ofTwo_6 21 rfl rfl)
theorem dX2_ofTwo_163 : decode cX2_ofTwo 163 = .ok (.lload_n 0, 1) := dk_30 (dk_at dksX2_ofTwo_7 0 rfl rfl)
theorem dX2_ofTwo_164 : decode cX2_ofTwo 164 = .ok (.ldc2_w 202, 3) := dk_20 0 202 (dk_at dksX2_ofTwo_7 1 rfl rfl)
theorem dX2_ofTwo_167 : decode cX2_ofTwo 167 = .ok (.lcmp, 1) := dk_148 (dk_at dksX2_ofTwo_7 4 rfl rfl)
theorem dX2_ofTwo_168 : decode cX2_ofTwo 168 = .ok (.ifCond .ne 8, 3) := dk_154 0 8 (dk_at dksX2_ofTwo_7 5 rfl rfl)
theorem dX2_ofTwo_171 : decode cX2_ofTwo 171 = .ok (.bipush 29, 2) := dk_16 29 (dk_at dksX2_ofTwo_7 8 rfl rfl)
theorem dX2_ofTwo_173 : decode cX2_ofTwo 173 = .ok (.goto 30, 3) := dk_167 0 30 (dk_at dksX2_ofTwo_7 10 rfl rfl)
theorem dX2_ofTwo_176 : decode cX2_ofTwo 176 = .ok (.lload_n 0, 1) := dk_30 (dk_at dksX2_ofTwo_7 13 rfl rfl)
theorem dX2_ofTwo_177 : decode cX2_ofTwo 177 = .ok (.ldc2_w 204, 3) := dk_20 0 204 (dk_at dksX2_ofTwo_7 14 rfl rfl)
theorem dX2_ofTwo_180 : decode cX2_ofTwo 180 = .ok (.lcmp, 1) := dk_148 (dk_at dksX2_ofTwo_7 17 rfl rfl)
theorem dX2_ofTwo_181 : decode cX2_ofTwo 181 = .ok (.ifCond .ne 8, 3) := dk_154 0 8 (dk_at dksX2_ofTwo_7 18 rfl rfl)
theorem dX2_ofTwo_184 : decode cX2_ofTwo 184 = .ok (.bipush 30, 2) := dk_16 30 (dk_at dksX2_ofTwo_7 21 rfl rfl)
theorem dX2_ofTwo_186 : decode cX2_ofTwo 186 = .ok (.goto 17, 3) := dk_167 0 17 (dk_at dksX2_ofTwo_8 0 rfl rfl)
theorem dX2_ofTwo_189 : decode cX2_ofTwo 189 = .ok (.lload_n 0, 1) := dk_30 (dk_at dksX2_ofTwo_8 3 rfl rfl)
theorem dX2_ofTwo_190 : decode cX2_ofTwo 190 = .ok (.ldc2_w 206, 3) := dk_20 0 206 (dk_at dksX2_ofTwo_8 4 rfl rfl)
theorem dX2_ofTwo_193 : decode cX2_ofTwo 193 = .ok (.lcmp, 1) := dk_148 (dk_at dksX2_ofTwo_8 7 rfl rfl)
theorem dX2_ofTwo_194 : decode cX2_ofTwo 194 = .ok (.ifCond .ne 8, 3) := dk_154 0 8 (dk_at dksX2_ofTwo_8 8 rfl rfl)
theorem dX2_ofTwo_197 : decode cX2_ofTwo 197 = .ok (.bipush 31, 2) := dk_16 31 (dk_at dksX2_ofTwo_8 11 rfl rfl)
theorem dX2_ofTwo_199 : decode cX2_ofTwo 199 = .ok (.goto 4, 3) := dk_167 0 4 (dk_at dksX2_ofTwo_8 13 rfl rfl)
theorem dX2_ofTwo_202 : decode cX2_ofTwo 202 = .ok (.iconst (-1), 1) := dk_2 (dk_at dksX2_ofTwo_8 16 rfl rfl)
theorem dX2_ofTwo_203 : decode cX2_ofTwo 203 = .ok (.ireturn, 1) := dk_172 (dk_at dksX2_ofTwo_8 17 rfl rfl)
abbrev cX2_character : ByteArray := prog_4_method_20_code
def yX2_character : MethodName := ⟨RX2, "character", "()V"⟩
def dkwX2_character_5 : List UInt8 := [181, 0, 102, 177]
abbrev dktX2_character_5 : List UInt8 := dkwX2_character_5 ++ []
def dkwX2_character_4 : List UInt8 := [42, 182, 0, 108, 16, 39, 159, 0, 9, 42, 16, 9, 181, 0, 119, 42, 89, 180, 0, 102, 4, 96]
abbrev dktX2_character_4 : List UInt8 := dkwX2_character_4 ++ dktX2_character_5
def dkwX2_character_3 : List UInt8 := [20, 0, 211, 148, 154, 0, 10, 42, 16, 9, 181, 0, 119, 177, 42, 89, 180, 0, 102, 4, 96, 181, 0, 102]
abbrev dktX2_character_3 : List UInt8 := dkwX2_character_3 ++ dktX2_character_4
def dkwX2_character_2 : List UInt8 := [184, 0, 208, 133, 181, 0, 165, 27, 2, 159, 0, 20, 27, 16, 39, 159, 0, 14, 42, 180, 0, 165]
abbrev dktX2_character_2 : List UInt8 := dkwX2_character_2 ++ dktX2_character_3
def dkwX2_character_1 : List UInt8 := [181, 0, 165, 27, 16, 92, 160, 0, 25, 42, 89, 180, 0, 102, 4, 96, 181, 0, 102, 42, 42, 182, 0, 108]
abbrev dktX2_character_1 : List UInt8 := dkwX2_character_1 ++ dktX2_character_2
def dkwX2_character_0 : List UInt8 := [42, 89, 180, 0, 102, 4, 96, 181, 0, 102, 42, 7, 181, 0, 119, 42, 182, 0, 108, 60, 42, 27, 133]
abbrev dktX2_character_0 : List UInt8 := dkwX2_character_0 ++ dktX2_character_1
theorem dksX2_character_0 : cX2_character.data.toList.drop 0 = dktX2_character_0 := by decide +kernel
theorem dksX2_character_1 : cX2_character.data.toList.drop 23 = dktX2_character_1 := dk_seg dksX2_character_0 23 rfl rfl
theorem dksX2_character_2 : cX2_character.data.toList.drop 47 = dktX2_character_2 := dk_seg dksX2_character_1 24 rfl rfl
theorem dksX2_character_3 : cX2_character.data.toList.drop 69 = dktX2_character_3 := dk_seg dksX2_character_2 22 rfl rfl
theorem dksX2_character_4 : cX2_character.data.toList.drop 93 = dktX2_character_4 := dk_seg dksX2_character_3 24 rfl rfl
theorem dksX2_character_5 : cX2_character.data.toList.drop 115 = dktX2_character_5 := dk_seg dksX2_character_4 22 rfl rfl
theorem dX2_character_0 : decode cX2_character 0 = .ok (.aload_n 0, 1) := dk_42 (dk_at dksX2_character_0 0 rfl rfl)
theorem dX2_character_1 : decode cX2_character 1 = .ok (.dup, 1) := dk_89 (dk_at dksX2_character_0 1 rfl rfl)
theorem dX2_character_2 : decode cX2_character 2 = .ok (.getfield 102, 3) := dk_180 0 102 (dk_at dksX2_character_0 2 rfl rfl)
theorem dX2_character_5 : decode cX2_character 5 = .ok (.iconst 1, 1) := dk_4 (dk_at dksX2_character_0 5 rfl rfl)
theorem dX2_character_6 : decode cX2_character 6 = .ok (.iadd, 1) := dk_96 (dk_at dksX2_character_0 6 rfl rfl)
theorem dX2_character_7 : decode cX2_character 7 = .ok (.putfield 102, 3) := dk_181 0 102 (dk_at dksX2_character_0 7 rfl rfl)
theorem dX2_character_10 : decode cX2_character 10 = .ok (.aload_n 0, 1) := dk_42 (dk_at dksX2_character_0 10 rfl rfl)
theorem dX2_character_11 : decode cX2_character 11 = .ok (.iconst 4, 1) := dk_7 (dk_at dksX2_character_0 11 rfl rfl)
theorem dX2_character_12 : decode cX2_character 12 = .ok (.putfield 119, 3) := dk_181 0 119 (dk_at dksX2_character_0 12 rfl rfl)
theorem dX2_character_15 : decode cX2_character 15 = .ok (.aload_n 0, 1) := dk_42 (dk_at dksX2_character_0 15 rfl rfl)
theorem dX2_character_16 : decode cX2_character 16 = .ok (.invokevirtual 108, 3) := dk_182 0 108 (dk_at dksX2_character_0 16 rfl rfl)
theorem dX2_character_19 : decode cX2_character 19 = .ok (.istore_n 1, 1) := dk_60 (dk_at dksX2_character_0 19 rfl rfl)
theorem dX2_character_20 : decode cX2_character 20 = .ok (.aload_n 0, 1) := dk_42 (dk_at dksX2_character_0 20 rfl rfl)
theorem dX2_character_21 : decode cX2_character 21 = .ok (.iload_n 1, 1) := dk_27 (dk_at dksX2_character_0 21 rfl rfl)
theorem dX2_character_22 : decode cX2_character 22 = .ok (.i2l, 1) := dk_133 (dk_at dksX2_character_0 22 rfl rfl)
theorem dX2_character_23 : decode cX2_character 23 = .ok (.putfield 165, 3) := dk_181 0 165 (dk_at dksX2_character_1 0 rfl rfl)
theorem dX2_character_26 : decode cX2_character 26 = .ok (.iload_n 1, 1) := dk_27 (dk_at dksX2_character_1 3 rfl rfl)
theorem dX2_character_27 : decode cX2_character 27 = .ok (.bipush 92, 2) := dk_16 92 (dk_at dksX2_character_1 4 rfl rfl)
theorem dX2_character_29 : decode cX2_character 29 = .ok (.if_icmp .ne 25, 3) := dk_160 0 25 (dk_at dksX2_character_1 6 rfl rfl)
theorem dX2_character_32 : decode cX2_character 32 = .ok (.aload_n 0, 1) := dk_42 (dk_at dksX2_character_1 9 rfl rfl)
theorem dX2_character_33 : decode cX2_character 33 = .ok (.dup, 1) := dk_89 (dk_at dksX2_character_1 10 rfl rfl)
theorem dX2_character_34 : decode cX2_character 34 = .ok (.getfield 102, 3) := dk_180 0 102 (dk_at dksX2_character_1 11 rfl rfl)
theorem dX2_character_37 : decode cX2_character 37 = .ok (.iconst 1, 1) := dk_4 (dk_at dksX2_character_1 14 rfl rfl)
theorem dX2_character_38 : decode cX2_character 38 = .ok (.iadd, 1) := dk_96 (dk_at dksX2_character_1 15 rfl rfl)
theorem dX2_character_39 : decode cX2_character 39 = .ok (.putfield 102, 3) := dk_181 0 102 (dk_at dksX2_character_1 16 rfl rfl)
theorem dX2_character_42 : decode cX2_character 42 = .ok (.aload_n 0, 1) := dk_42 (dk_at dksX2_character_1 19 rfl rfl)
theorem dX2_character_43 : decode cX2_character 43 = .ok (.aload_n 0, 1) := dk_42 (dk_at dksX2_character_1 20 rfl rfl)
theorem dX2_character_44 : decode cX2_character 44 = .ok (.invokevirtual 108, 3) := dk_182 0 108 (dk_at dksX2_character_1 21 rfl rfl)
theorem dX2_character_47 : decode cX2_character 47 = .ok (.invokestatic 208, 3) := dk_184 0 208 (dk_at dksX2_character_2 0 rfl rfl)
theorem dX2_character_50 : decode cX2_character 50 = .ok (.i2l, 1) := dk_133 (dk_at dksX2_character_2 3 rfl rfl)
theorem dX2_character_51 : decode cX2_character 51 = .ok (.putfield 165, 3) := dk_181 0 165 (dk_at dksX2_character_2 4 rfl rfl)
theorem dX2_character_54 : decode cX2_character 54 = .ok (.iload_n 1, 1) := dk_27 (dk_at dksX2_character_2 7 rfl rfl)
theorem dX2_character_55 : decode cX2_character 55 = .ok (.iconst (-1), 1) := dk_2 (dk_at dksX2_character_2 8 rfl rfl)
theorem dX2_character_56 : decode cX2_character 56 = .ok (.if_icmp .eq 20, 3) := dk_159 0 20 (dk_at dksX2_character_2 9 rfl rfl)
theorem dX2_character_59 : decode cX2_character 59 = .ok (.iload_n 1, 1) := dk_27 (dk_at dksX2_character_2 12 rfl rfl)
theorem dX2_character_60 : decode cX2_character 60 = .ok (.bipush 39, 2) := dk_16 39 (dk_at dksX2_character_2 13 rfl rfl)
theorem dX2_character_62 : decode cX2_character 62 = .ok (.if_icmp .eq 14, 3) := dk_159 0 14 (dk_at dksX2_character_2 15 rfl rfl)
theorem dX2_character_65 : decode cX2_character 65 = .ok (.aload_n 0, 1) := dk_42 (dk_at dksX2_character_2 18 rfl rfl)
theorem dX2_character_66 : decode cX2_character 66 = .ok (.getfield 165, 3) := dk_180 0 165 (dk_at dksX2_character_2 19 rfl rfl)
theorem dX2_character_69 : decode cX2_character 69 = .ok (.ldc2_w 211, 3) := dk_20 0 211 (dk_at dksX2_character_3 0 rfl rfl)
theorem dX2_character_72 : decode cX2_character 72 = .ok (.lcmp, 1) := dk_148 (dk_at dksX2_character_3 3 rfl rfl)
theorem dX2_character_73 : decode cX2_character 73 = .ok (.ifCond .ne 10, 3) := dk_154 0 10 (dk_at dksX2_character_3 4 rfl rfl)
theorem dX2_character_76 : decode cX2_character 76 = .ok (.aload_n 0, 1) := dk_42 (dk_at dksX2_character_3 7 rfl rfl)
theorem dX2_character_77 : decode cX2_character 77 = .ok (.bipush 9, 2) := dk_16 9 (dk_at dksX2_character_3 8 rfl rfl)
theorem dX2_character_79 : decode cX2_character 79 = .ok (.putfield 119, 3) := dk_181 0 119 (dk_at dksX2_character_3 10 rfl rfl)
theorem dX2_character_82 : decode cX2_character 82 = .ok (.return_, 1) := dk_177 (dk_at dksX2_character_3 13 rfl rfl)
theorem dX2_character_83 : decode cX2_character 83 = .ok (.aload_n 0, 1) := dk_42 (dk_at dksX2_character_3 14 rfl rfl)
theorem dX2_character_84 : decode cX2_character 84 = .ok (.dup, 1) := dk_89 (dk_at dksX2_character_3 15 rfl rfl)
theorem dX2_character_85 : decode cX2_character 85 = .ok (.getfield 102, 3) := dk_180 0 102 (dk_at dksX2_character_3 16 rfl rfl)
theorem dX2_character_88 : decode cX2_character 88 = .ok (.iconst 1, 1) := dk_4 (dk_at dksX2_character_3 19 rfl rfl)
theorem dX2_character_89 : decode cX2_character 89 = .ok (.iadd, 1) := dk_96 (dk_at dksX2_character_3 20 rfl rfl)
theorem dX2_character_90 : decode cX2_character 90 = .ok (.putfield 102, 3) := dk_181 0 102 (dk_at dksX2_character_3 21 rfl rfl)
theorem dX2_character_93 : decode cX2_character 93 = .ok (.aload_n 0, 1) := dk_42 (dk_at dksX2_character_4 0 rfl rfl)
theorem dX2_character_94 : decode cX2_character 94 = .ok (.invokevirtual 108, 3) := dk_182 0 108 (dk_at dksX2_character_4 1 rfl rfl)
theorem dX2_character_97 : decode cX2_character 97 = .ok (.bipush 39, 2) := dk_16 39 (dk_at dksX2_character_4 4 rfl rfl)
theorem dX2_character_99 : decode cX2_character 99 = .ok (.if_icmp .eq 9, 3) := dk_159 0 9 (dk_at dksX2_character_4 6 rfl rfl)
theorem dX2_character_102 : decode cX2_character 102 = .ok (.aload_n 0, 1) := dk_42 (dk_at dksX2_character_4 9 rfl rfl)
theorem dX2_character_103 : decode cX2_character 103 = .ok (.bipush 9, 2) := dk_16 9 (dk_at dksX2_character_4 10 rfl rfl)
theorem dX2_character_105 : decode cX2_character 105 = .ok (.putfield 119, 3) := dk_181 0 119 (dk_at dksX2_character_4 12 rfl rfl)
theorem dX2_character_108 : decode cX2_character 108 = .ok (.aload_n 0, 1) := dk_42 (dk_at dksX2_character_4 15 rfl rfl)
theorem dX2_character_109 : decode cX2_character 109 = .ok (.dup, 1) := dk_89 (dk_at dksX2_character_4 16 rfl rfl)
theorem dX2_character_110 : decode cX2_character 110 = .ok (.getfield 102, 3) := dk_180 0 102 (dk_at dksX2_character_4 17 rfl rfl)
theorem dX2_character_113 : decode cX2_character 113 = .ok (.iconst 1, 1) := dk_4 (dk_at dksX2_character_4 20 rfl rfl)
theorem dX2_character_114 : decode cX2_character 114 = .ok (.iadd, 1) := dk_96 (dk_at dksX2_character_4 21 rfl rfl)
theorem dX2_character_115 : decode cX2_character 115 = .ok (.putfield 102, 3) := dk_181 0 102 (dk_at dksX2_character_5 0 rfl rfl)
theorem dX2_character_118 : decode cX2_character 118 = .ok (.return_, 1) := dk_177 (dk_at dksX2_character_5 3 rfl rfl)
abbrev cX2_escaped : ByteArray := prog_4_method_19_code
def yX2_escaped : MethodName := ⟨RX2, "escaped", "(I)I"⟩
def dkwX2_escaped_2 : List UInt8 := [160, 0, 7, 26, 167, 0, 4, 2, 172]
abbrev dktX2_escaped_2 : List UInt8 := dkwX2_escaped_2 ++ []
def dkwX2_escaped_1 : List UInt8 := [16, 48, 160, 0, 7, 3, 167, 0, 26, 26, 16, 92, 159, 0, 15, 26, 16, 39, 159, 0, 9, 26, 16, 34]
abbrev dktX2_escaped_1 : List UInt8 := dkwX2_escaped_1 ++ dktX2_escaped_2
def dkwX2_escaped_0 : List UInt8 := [26, 16, 110, 160, 0, 8, 16, 10, 167, 0, 47, 26, 16, 116, 160, 0, 8, 16, 9, 167, 0, 36, 26]
abbrev dktX2_escaped_0 : List UInt8 := dkwX2_escaped_0 ++ dktX2_escaped_1
theorem dksX2_escaped_0 : cX2_escaped.data.toList.drop 0 = dktX2_escaped_0 := by decide +kernel
theorem dksX2_escaped_1 : cX2_escaped.data.toList.drop 23 = dktX2_escaped_1 := dk_seg dksX2_escaped_0 23 rfl rfl
theorem dksX2_escaped_2 : cX2_escaped.data.toList.drop 47 = dktX2_escaped_2 := dk_seg dksX2_escaped_1 24 rfl rfl
theorem dX2_escaped_0 : decode cX2_escaped 0 = .ok (.iload_n 0, 1) := dk_26 (dk_at dksX2_escaped_0 0 rfl rfl)
theorem dX2_escaped_1 : decode cX2_escaped 1 = .ok (.bipush 110, 2) := dk_16 110 (dk_at dksX2_escaped_0 1 rfl rfl)
theorem dX2_escaped_3 : decode cX2_escaped 3 = .ok (.if_icmp .ne 8, 3) := dk_160 0 8 (dk_at dksX2_escaped_0 3 rfl rfl)
theorem dX2_escaped_6 : decode cX2_escaped 6 = .ok (.bipush 10, 2) := dk_16 10 (dk_at dksX2_escaped_0 6 rfl rfl)
theorem dX2_escaped_8 : decode cX2_escaped 8 = .ok (.goto 47, 3) := dk_167 0 47 (dk_at dksX2_escaped_0 8 rfl rfl)
theorem dX2_escaped_11 : decode cX2_escaped 11 = .ok (.iload_n 0, 1) := dk_26 (dk_at dksX2_escaped_0 11 rfl rfl)
theorem dX2_escaped_12 : decode cX2_escaped 12 = .ok (.bipush 116, 2) := dk_16 116 (dk_at dksX2_escaped_0 12 rfl rfl)
theorem dX2_escaped_14 : decode cX2_escaped 14 = .ok (.if_icmp .ne 8, 3) := dk_160 0 8 (dk_at dksX2_escaped_0 14 rfl rfl)
theorem dX2_escaped_17 : decode cX2_escaped 17 = .ok (.bipush 9, 2) := dk_16 9 (dk_at dksX2_escaped_0 17 rfl rfl)
theorem dX2_escaped_19 : decode cX2_escaped 19 = .ok (.goto 36, 3) := dk_167 0 36 (dk_at dksX2_escaped_0 19 rfl rfl)
theorem dX2_escaped_22 : decode cX2_escaped 22 = .ok (.iload_n 0, 1) := dk_26 (dk_at dksX2_escaped_0 22 rfl rfl)
theorem dX2_escaped_23 : decode cX2_escaped 23 = .ok (.bipush 48, 2) := dk_16 48 (dk_at dksX2_escaped_1 0 rfl rfl)
theorem dX2_escaped_25 : decode cX2_escaped 25 = .ok (.if_icmp .ne 7, 3) := dk_160 0 7 (dk_at dksX2_escaped_1 2 rfl rfl)
theorem dX2_escaped_28 : decode cX2_escaped 28 = .ok (.iconst 0, 1) := dk_3 (dk_at dksX2_escaped_1 5 rfl rfl)
theorem dX2_escaped_29 : decode cX2_escaped 29 = .ok (.goto 26, 3) := dk_167 0 26 (dk_at dksX2_escaped_1 6 rfl rfl)
theorem dX2_escaped_32 : decode cX2_escaped 32 = .ok (.iload_n 0, 1) := dk_26 (dk_at dksX2_escaped_1 9 rfl rfl)
theorem dX2_escaped_33 : decode cX2_escaped 33 = .ok (.bipush 92, 2) := dk_16 92 (dk_at dksX2_escaped_1 10 rfl rfl)
theorem dX2_escaped_35 : decode cX2_escaped 35 = .ok (.if_icmp .eq 15, 3) := dk_159 0 15 (dk_at dksX2_escaped_1 12 rfl rfl)
theorem dX2_escaped_38 : decode cX2_escaped 38 = .ok (.iload_n 0, 1) := dk_26 (dk_at dksX2_escaped_1 15 rfl rfl)
theorem dX2_escaped_39 : decode cX2_escaped 39 = .ok (.bipush 39, 2) := dk_16 39 (dk_at dksX2_escaped_1 16 rfl rfl)
theorem dX2_escaped_41 : decode cX2_escaped 41 = .ok (.if_icmp .eq 9, 3) := dk_159 0 9 (dk_at dksX2_escaped_1 18 rfl rfl)
theorem dX2_escaped_44 : decode cX2_escaped 44 = .ok (.iload_n 0, 1) := dk_26 (dk_at dksX2_escaped_1 21 rfl rfl)
theorem dX2_escaped_45 : decode cX2_escaped 45 = .ok (.bipush 34, 2) := dk_16 34 (dk_at dksX2_escaped_1 22 rfl rfl)
theorem dX2_escaped_47 : decode cX2_escaped 47 = .ok (.if_icmp .ne 7, 3) := dk_160 0 7 (dk_at dksX2_escaped_2 0 rfl rfl)
theorem dX2_escaped_50 : decode cX2_escaped 50 = .ok (.iload_n 0, 1) := dk_26 (dk_at dksX2_escaped_2 3 rfl rfl)
theorem dX2_escaped_51 : decode cX2_escaped 51 = .ok (.goto 4, 3) := dk_167 0 4 (dk_at dksX2_escaped_2 4 rfl rfl)
theorem dX2_escaped_54 : decode cX2_escaped 54 = .ok (.iconst (-1), 1) := dk_2 (dk_at dksX2_escaped_2 7 rfl rfl)
theorem dX2_escaped_55 : decode cX2_escaped 55 = .ok (.ireturn, 1) := dk_172 (dk_at dksX2_escaped_2 8 rfl rfl)
abbrev cX2_quoted : ByteArray := prog_4_method_21_code
def yX2_quoted : MethodName := ⟨RX2, "quoted", "()V"⟩
def dkwX2_quoted_5 : List UInt8 := [96, 181, 0, 102, 177]
abbrev dktX2_quoted_5 : List UInt8 := dkwX2_quoted_5 ++ []
def dkwX2_quoted_4 : List UInt8 := [4, 96, 181, 0, 213, 42, 89, 180, 0, 102, 4, 96, 181, 0, 102, 167, 255, 165, 42, 89, 180, 0, 102, 4]
abbrev dktX2_quoted_4 : List UInt8 := dkwX2_quoted_4 ++ dktX2_quoted_5
def dkwX2_quoted_3 : List UInt8 := [16, 9, 181, 0, 119, 167, 0, 34, 42, 180, 0, 85, 42, 180, 0, 213, 27, 145, 84, 42, 89, 180, 0, 213]
abbrev dktX2_quoted_3 : List UInt8 := dkwX2_quoted_3 ++ dktX2_quoted_4
def dkwX2_quoted_2 : List UInt8 := [42, 89, 180, 0, 102, 4, 96, 181, 0, 102, 42, 182, 0, 108, 184, 0, 208, 60, 27, 2, 160, 0, 12, 42]
abbrev dktX2_quoted_2 : List UInt8 := dkwX2_quoted_2 ++ dktX2_quoted_3
def dkwX2_quoted_1 : List UInt8 := [8, 160, 0, 89, 42, 182, 0, 108, 16, 34, 159, 0, 80, 42, 182, 0, 108, 60, 27, 16, 92, 160, 0, 21]
abbrev dktX2_quoted_1 : List UInt8 := dkwX2_quoted_1 ++ dktX2_quoted_2
def dkwX2_quoted_0 : List UInt8 := [42, 89, 180, 0, 102, 4, 96, 181, 0, 102, 42, 8, 181, 0, 119, 42, 3, 181, 0, 213, 42, 180, 0, 119]
abbrev dktX2_quoted_0 : List UInt8 := dkwX2_quoted_0 ++ dktX2_quoted_1
theorem dksX2_quoted_0 : cX2_quoted.data.toList.drop 0 = dktX2_quoted_0 := by decide +kernel
theorem dksX2_quoted_1 : cX2_quoted.data.toList.drop 24 = dktX2_quoted_1 := dk_seg dksX2_quoted_0 24 rfl rfl
theorem dksX2_quoted_2 : cX2_quoted.data.toList.drop 48 = dktX2_quoted_2 := dk_seg dksX2_quoted_1 24 rfl rfl
theorem dksX2_quoted_3 : cX2_quoted.data.toList.drop 72 = dktX2_quoted_3 := dk_seg dksX2_quoted_2 24 rfl rfl
theorem dksX2_quoted_4 : cX2_quoted.data.toList.drop 96 = dktX2_quoted_4 := dk_seg dksX2_quoted_3 24 rfl rfl
theorem dksX2_quoted_5 : cX2_quoted.data.toList.drop 120 = dktX2_quoted_5 := dk_seg dksX2_quoted_4 24 rfl rfl
theorem dX2_quoted_0 : decode cX2_quoted 0 = .ok (.aload_n 0, 1) := dk_42 (dk_at dksX2_quoted_0 0 rfl rfl)
theorem dX2_quoted_1 : decode cX2_quoted 1 = .ok (.dup, 1) := dk_89 (dk_at dksX2_quoted_0 1 rfl rfl)
theorem dX2_quoted_2 : decode cX2_quoted 2 = .ok (.getfield 102, 3) := dk_180 0 102 (dk_at dksX2_quoted_0 2 rfl rfl)
theorem dX2_quoted_5 : decode cX2_quoted 5 = .ok (.iconst 1, 1) := dk_4 (dk_at dksX2_quoted_0 5 rfl rfl)
theorem dX2_quoted_6 : decode cX2_quoted 6 = .ok (.iadd, 1) := dk_96 (dk_at dksX2_quoted_0 6 rfl rfl)
theorem dX2_quoted_7 : decode cX2_quoted 7 = .ok (.putfield 102, 3) := dk_181 0 102 (dk_at dksX2_quoted_0 7 rfl rfl)
theorem dX2_quoted_10 : decode cX2_quoted 10 = .ok (.aload_n 0, 1) := dk_42 (dk_at dksX2_quoted_0 10 rfl rfl)
theorem dX2_quoted_11 : decode cX2_quoted 11 = .ok (.iconst 5, 1) := dk_8 (dk_at dksX2_quoted_0 11 rfl rfl)
theorem dX2_quoted_12 : decode cX2_quoted 12 = .ok (.putfield 119, 3) := dk_181 0 119 (dk_at dksX2_quoted_0 12 rfl rfl)
theorem dX2_quoted_15 : decode cX2_quoted 15 = .ok (.aload_n 0, 1) := dk_42 (dk_at dksX2_quoted_0 15 rfl rfl)
theorem dX2_quoted_16 : decode cX2_quoted 16 = .ok (.iconst 0, 1) := dk_3 (dk_at dksX2_quoted_0 16 rfl rfl)
theorem dX2_quoted_17 : decode cX2_quoted 17 = .ok (.putfield 213, 3) := dk_181 0 213 (dk_at dksX2_quoted_0 17 rfl rfl)
theorem dX2_quoted_20 : decode cX2_quoted 20 = .ok (.aload_n 0, 1) := dk_42 (dk_at dksX2_quoted_0 20 rfl rfl)
theorem dX2_quoted_21 : decode cX2_quoted 21 = .ok (.getfield 119, 3) := dk_180 0 119 (dk_at dksX2_quoted_0 21 rfl rfl)
theorem dX2_quoted_24 : decode cX2_quoted 24 = .ok (.iconst 5, 1) := dk_8 (dk_at dksX2_quoted_1 0 rfl rfl)
theorem dX2_quoted_25 : decode cX2_quoted 25 = .ok (.if_icmp .ne 89, 3) := dk_160 0 89 (dk_at dksX2_quoted_1 1 rfl rfl)
theorem dX2_quoted_28 : decode cX2_quoted 28 = .ok (.aload_n 0, 1) := dk_42 (dk_at dksX2_quoted_1 4 rfl rfl)
theorem dX2_quoted_29 : decode cX2_quoted 29 = .ok (.invokevirtual 108, 3) := dk_182 0 108 (dk_at dksX2_quoted_1 5 rfl rfl)
theorem dX2_quoted_32 : decode cX2_quoted 32 = .ok (.bipush 34, 2) := dk_16 34 (dk_at dksX2_quoted_1 8 rfl rfl)
theorem dX2_quoted_34 : decode cX2_quoted 34 = .ok (.if_icmp .eq 80, 3) := dk_159 0 80 (dk_at dksX2_quoted_1 10 rfl rfl)
theorem dX2_quoted_37 : decode cX2_quoted 37 = .ok (.aload_n 0, 1) := dk_42 (dk_at dksX2_quoted_1 13 rfl rfl)
theorem dX2_quoted_38 : decode cX2_quoted 38 = .ok (.invokevirtual 108, 3) := dk_182 0 108 (dk_at dksX2_quoted_1 14 rfl rfl)
theorem dX2_quoted_41 : decode cX2_quoted 41 = .ok (.istore_n 1, 1) := dk_60 (dk_at dksX2_quoted_1 17 rfl rfl)
theorem dX2_quoted_42 : decode cX2_quoted 42 = .ok (.iload_n 1, 1) := dk_27 (dk_at dksX2_quoted_1 18 rfl rfl)
theorem dX2_quoted_43 : decode cX2_quoted 43 = .ok (.bipush 92, 2) := dk_16 92 (dk_at dksX2_quoted_1 19 rfl rfl)
theorem dX2_quoted_45 : decode cX2_quoted 45 = .ok (.if_icmp .ne 21, 3) := dk_160 0 21 (dk_at dksX2_quoted_1 21 rfl rfl)
theorem dX2_quoted_48 : decode cX2_quoted 48 = .ok (.aload_n 0, 1) := dk_42 (dk_at dksX2_quoted_2 0 rfl rfl)
theorem dX2_quoted_49 : decode cX2_quoted 49 = .ok (.dup, 1) := dk_89 (dk_at dksX2_quoted_2 1 rfl rfl)
theorem dX2_quoted_50 : decode cX2_quoted 50 = .ok (.getfield 102, 3) := dk_180 0 102 (dk_at dksX2_quoted_2 2 rfl rfl)
theorem dX2_quoted_53 : decode cX2_quoted 53 = .ok (.iconst 1, 1) := dk_4 (dk_at dksX2_quoted_2 5 rfl rfl)
theorem dX2_quoted_54 : decode cX2_quoted 54 = .ok (.iadd, 1) := dk_96 (dk_at dksX2_quoted_2 6 rfl rfl)
theorem dX2_quoted_55 : decode cX2_quoted 55 = .ok (.putfield 102, 3) := dk_181 0 102 (dk_at dksX2_quoted_2 7 rfl rfl)
theorem dX2_quoted_58 : decode cX2_quoted 58 = .ok (.aload_n 0, 1) := dk_42 (dk_at dksX2_quoted_2 10 rfl rfl)
theorem dX2_quoted_59 : decode cX2_quoted 59 = .ok (.invokevirtual 108, 3) := dk_182 0 108 (dk_at dksX2_quoted_2 11 rfl rfl)
theorem dX2_quoted_62 : decode cX2_quoted 62 = .ok (.invokestatic 208, 3) := dk_184 0 208 (dk_at dksX2_quoted_2 14 rfl rfl)
theorem dX2_quoted_65 : decode cX2_quoted 65 = .ok (.istore_n 1, 1) := dk_60 (dk_at dksX2_quoted_2 17 rfl rfl)
theorem dX2_quoted_66 : decode cX2_quoted 66 = .ok (.iload_n 1, 1) := dk_27 (dk_at dksX2_quoted_2 18 rfl rfl)
theorem dX2_quoted_67 : decode cX2_quoted 67 = .ok (.iconst (-1), 1) := dk_2 (dk_at dksX2_quoted_2 19 rfl rfl)
theorem dX2_quoted_68 : decode cX2_quoted 68 = .ok (.if_icmp .ne 12, 3) := dk_160 0 12 (dk_at dksX2_quoted_2 20 rfl rfl)
theorem dX2_quoted_71 : decode cX2_quoted 71 = .ok (.aload_n 0, 1) := dk_42 (dk_at dksX2_quoted_2 23 rfl rfl)
theorem dX2_quoted_72 : decode cX2_quoted 72 = .ok (.bipush 9, 2) := dk_16 9 (dk_at dksX2_quoted_3 0 rfl rfl)
theorem dX2_quoted_74 : decode cX2_quoted 74 = .ok (.putfield 119, 3) := dk_181 0 119 (dk_at dksX2_quoted_3 2 rfl rfl)
theorem dX2_quoted_77 : decode cX2_quoted 77 = .ok (.goto 34, 3) := dk_167 0 34 (dk_at dksX2_quoted_3 5 rfl rfl)
theorem dX2_quoted_80 : decode cX2_quoted 80 = .ok (.aload_n 0, 1) := dk_42 (dk_at dksX2_quoted_3 8 rfl rfl)
theorem dX2_quoted_81 : decode cX2_quoted 81 = .ok (.getfield 85, 3) := dk_180 0 85 (dk_at dksX2_quoted_3 9 rfl rfl)
theorem dX2_quoted_84 : decode cX2_quoted 84 = .ok (.aload_n 0, 1) := dk_42 (dk_at dksX2_quoted_3 12 rfl rfl)
theorem dX2_quoted_85 : decode cX2_quoted 85 = .ok (.getfield 213, 3) := dk_180 0 213 (dk_at dksX2_quoted_3 13 rfl rfl)
theorem dX2_quoted_88 : decode cX2_quoted 88 = .ok (.iload_n 1, 1) := dk_27 (dk_at dksX2_quoted_3 16 rfl rfl)
theorem dX2_quoted_89 : decode cX2_quoted 89 = .ok (.i2b, 1) := dk_145 (dk_at dksX2_quoted_3 17 rfl rfl)
theorem dX2_quoted_90 : decode cX2_quoted 90 = .ok (.bastore, 1) := dk_84 (dk_at dksX2_quoted_3 18 rfl rfl)
theorem dX2_quoted_91 : decode cX2_quoted 91 = .ok (.aload_n 0, 1) := dk_42 (dk_at dksX2_quoted_3 19 rfl rfl)
theorem dX2_quoted_92 : decode cX2_quoted 92 = .ok (.dup, 1) := dk_89 (dk_at dksX2_quoted_3 20 rfl rfl)
theorem dX2_quoted_93 : decode cX2_quoted 93 = .ok (.getfield 213, 3) := dk_180 0 213 (dk_at dksX2_quoted_3 21 rfl rfl)
theorem dX2_quoted_96 : decode cX2_quoted 96 = .ok (.iconst 1, 1) := dk_4 (dk_at dksX2_quoted_4 0 rfl rfl)
theorem dX2_quoted_97 : decode cX2_quoted 97 = .ok (.iadd, 1) := dk_96 (dk_at dksX2_quoted_4 1 rfl rfl)
theorem dX2_quoted_98 : decode cX2_quoted 98 = .ok (.putfield 213, 3) := dk_181 0 213 (dk_at dksX2_quoted_4 2 rfl rfl)
theorem dX2_quoted_101 : decode cX2_quoted 101 = .ok (.aload_n 0, 1) := dk_42 (dk_at dksX2_quoted_4 5 rfl rfl)
theorem dX2_quoted_102 : decode cX2_quoted 102 = .ok (.dup, 1) := dk_89 (dk_at dksX2_quoted_4 6 rfl rfl)
theorem dX2_quoted_103 : decode cX2_quoted 103 = .ok (.getfield 102, 3) := dk_180 0 102 (dk_at dksX2_quoted_4 7 rfl rfl)
theorem dX2_quoted_106 : decode cX2_quoted 106 = .ok (.iconst 1, 1) := dk_4 (dk_at dksX2_quoted_4 10 rfl rfl)
theorem dX2_quoted_107 : decode cX2_quoted 107 = .ok (.iadd, 1) := dk_96 (dk_at dksX2_quoted_4 11 rfl rfl)
theorem dX2_quoted_108 : decode cX2_quoted 108 = .ok (.putfield 102, 3) := dk_181 0 102 (dk_at dksX2_quoted_4 12 rfl rfl)
theorem dX2_quoted_111 : decode cX2_quoted 111 = .ok (.goto (-91), 3) := dk_167 255 165 (dk_at dksX2_quoted_4 15 rfl rfl)
theorem dX2_quoted_114 : decode cX2_quoted 114 = .ok (.aload_n 0, 1) := dk_42 (dk_at dksX2_quoted_4 18 rfl rfl)
theorem dX2_quoted_115 : decode cX2_quoted 115 = .ok (.dup, 1) := dk_89 (dk_at dksX2_quoted_4 19 rfl rfl)
theorem dX2_quoted_116 : decode cX2_quoted 116 = .ok (.getfield 102, 3) := dk_180 0 102 (dk_at dksX2_quoted_4 20 rfl rfl)
theorem dX2_quoted_119 : decode cX2_quoted 119 = .ok (.iconst 1, 1) := dk_4 (dk_at dksX2_quoted_4 23 rfl rfl)
theorem dX2_quoted_120 : decode cX2_quoted 120 = .ok (.iadd, 1) := dk_96 (dk_at dksX2_quoted_5 0 rfl rfl)
theorem dX2_quoted_121 : decode cX2_quoted 121 = .ok (.putfield 102, 3) := dk_181 0 102 (dk_at dksX2_quoted_5 1 rfl rfl)
theorem dX2_quoted_124 : decode cX2_quoted 124 = .ok (.return_, 1) := dk_177 (dk_at dksX2_quoted_5 4 rfl rfl)
abbrev cX2_must : ByteArray := prog_4_method_35_code
def yX2_must : MethodName := ⟨RX2, "must", "(Z)Z"⟩
def dkwX2_must_1 : List UInt8 := [167, 0, 4, 6, 182, 3, 220, 42, 182, 3, 217, 172]
abbrev dktX2_must_1 : List UInt8 := dkwX2_must_1 ++ []
def dkwX2_must_0 : List UInt8 := [42, 182, 3, 217, 153, 0, 25, 27, 154, 0, 21, 42, 42, 180, 0, 119, 16, 9, 160, 0, 7, 4]
abbrev dktX2_must_0 : List UInt8 := dkwX2_must_0 ++ dktX2_must_1
theorem dksX2_must_0 : cX2_must.data.toList.drop 0 = dktX2_must_0 := by decide +kernel
theorem dksX2_must_1 : cX2_must.data.toList.drop 22 = dktX2_must_1 := dk_seg dksX2_must_0 22 rfl rfl
theorem dX2_must_0 : decode cX2_must 0 = .ok (.aload_n 0, 1) := dk_42 (dk_at dksX2_must_0 0 rfl rfl)
theorem dX2_must_1 : decode cX2_must 1 = .ok (.invokevirtual 985, 3) := dk_182 3 217 (dk_at dksX2_must_0 1 rfl rfl)
theorem dX2_must_4 : decode cX2_must 4 = .ok (.ifCond .eq 25, 3) := dk_153 0 25 (dk_at dksX2_must_0 4 rfl rfl)
theorem dX2_must_7 : decode cX2_must 7 = .ok (.iload_n 1, 1) := dk_27 (dk_at dksX2_must_0 7 rfl rfl)
theorem dX2_must_8 : decode cX2_must 8 = .ok (.ifCond .ne 21, 3) := dk_154 0 21 (dk_at dksX2_must_0 8 rfl rfl)
theorem dX2_must_11 : decode cX2_must 11 = .ok (.aload_n 0, 1) := dk_42 (dk_at dksX2_must_0 11 rfl rfl)
theorem dX2_must_12 : decode cX2_must 12 = .ok (.aload_n 0, 1) := dk_42 (dk_at dksX2_must_0 12 rfl rfl)
theorem dX2_must_13 : decode cX2_must 13 = .ok (.getfield 119, 3) := dk_180 0 119 (dk_at dksX2_must_0 13 rfl rfl)
theorem dX2_must_16 : decode cX2_must 16 = .ok (.bipush 9, 2) := dk_16 9 (dk_at dksX2_must_0 16 rfl rfl)
theorem dX2_must_18 : decode cX2_must 18 = .ok (.if_icmp .ne 7, 3) := dk_160 0 7 (dk_at dksX2_must_0 18 rfl rfl)
theorem dX2_must_21 : decode cX2_must 21 = .ok (.iconst 1, 1) := dk_4 (dk_at dksX2_must_0 21 rfl rfl)
theorem dX2_must_22 : decode cX2_must 22 = .ok (.goto 4, 3) := dk_167 0 4 (dk_at dksX2_must_1 0 rfl rfl)
theorem dX2_must_25 : decode cX2_must 25 = .ok (.iconst 3, 1) := dk_6 (dk_at dksX2_must_1 3 rfl rfl)
theorem dX2_must_26 : decode cX2_must 26 = .ok (.invokevirtual 988, 3) := dk_182 3 220 (dk_at dksX2_must_1 4 rfl rfl)
theorem dX2_must_29 : decode cX2_must 29 = .ok (.aload_n 0, 1) := dk_42 (dk_at dksX2_must_1 7 rfl rfl)
theorem dX2_must_30 : decode cX2_must 30 = .ok (.invokevirtual 985, 3) := dk_182 3 217 (dk_at dksX2_must_1 8 rfl rfl)
theorem dX2_must_33 : decode cX2_must 33 = .ok (.ireturn, 1) := dk_172 (dk_at dksX2_must_1 11 rfl rfl)
abbrev cX2_wrong : ByteArray := prog_4_method_32_code
def yX2_wrong : MethodName := ⟨RX2, "wrong", "(I)V"⟩
def dkwX2_wrong_0 : List UInt8 := [42, 180, 3, 214, 154, 0, 8, 42, 27, 181, 3, 214, 177]
abbrev dktX2_wrong_0 : List UInt8 := dkwX2_wrong_0 ++ []
theorem dksX2_wrong_0 : cX2_wrong.data.toList.drop 0 = dktX2_wrong_0 := by decide +kernel
theorem dX2_wrong_0 : decode cX2_wrong 0 = .ok (.aload_n 0, 1) := dk_42 (dk_at dksX2_wrong_0 0 rfl rfl)
theorem dX2_wrong_1 : decode cX2_wrong 1 = .ok (.getfield 982, 3) := dk_180 3 214 (dk_at dksX2_wrong_0 1 rfl rfl)
theorem dX2_wrong_4 : decode cX2_wrong 4 = .ok (.ifCond .ne 8, 3) := dk_154 0 8 (dk_at dksX2_wrong_0 4 rfl rfl)
theorem dX2_wrong_7 : decode cX2_wrong 7 = .ok (.aload_n 0, 1) := dk_42 (dk_at dksX2_wrong_0 7 rfl rfl)
theorem dX2_wrong_8 : decode cX2_wrong 8 = .ok (.iload_n 1, 1) := dk_27 (dk_at dksX2_wrong_0 8 rfl rfl)
theorem dX2_wrong_9 : decode cX2_wrong 9 = .ok (.putfield 982, 3) := dk_181 3 214 (dk_at dksX2_wrong_0 9 rfl rfl)
theorem dX2_wrong_12 : decode cX2_wrong 12 = .ok (.return_, 1) := dk_177 (dk_at dksX2_wrong_0 12 rfl rfl)
abbrev cX2_isSign : ByteArray := prog_4_method_34_code
def yX2_isSign : MethodName := ⟨RX2, "isSign", "(I)Z"⟩
def dkwX2_isSign_1 : List UInt8 := [4, 167, 0, 4, 3, 172]
abbrev dktX2_isSign_1 : List UInt8 := dkwX2_isSign_1 ++ []
def dkwX2_isSign_0 : List UInt8 := [42, 182, 3, 217, 153, 0, 24, 42, 180, 0, 119, 16, 6, 160, 0, 15, 42, 180, 0, 137, 27, 160, 0, 7]
abbrev dktX2_isSign_0 : List UInt8 := dkwX2_isSign_0 ++ dktX2_isSign_1
theorem dksX2_isSign_0 : cX2_isSign.data.toList.drop 0 = dktX2_isSign_0 := by decide +kernel
theorem dksX2_isSign_1 : cX2_isSign.data.toList.drop 24 = dktX2_isSign_1 := dk_seg dksX2_isSign_0 24 rfl rfl
theorem dX2_isSign_0 : decode cX2_isSign 0 = .ok (.aload_n 0, 1) := dk_42 (dk_at dksX2_isSign_0 0 rfl rfl)
theorem dX2_isSign_1 : decode cX2_isSign 1 = .ok (.invokevirtual 985, 3) := dk_182 3 217 (dk_at dksX2_isSign_0 1 rfl rfl)
theorem dX2_isSign_4 : decode cX2_isSign 4 = .ok (.ifCond .eq 24, 3) := dk_153 0 24 (dk_at dksX2_isSign_0 4 rfl rfl)
theorem dX2_isSign_7 : decode cX2_isSign 7 = .ok (.aload_n 0, 1) := dk_42 (dk_at dksX2_isSign_0 7 rfl rfl)
theorem dX2_isSign_8 : decode cX2_isSign 8 = .ok (.getfield 119, 3) := dk_180 0 119 (dk_at dksX2_isSign_0 8 rfl rfl)
theorem dX2_isSign_11 : decode cX2_isSign 11 = .ok (.bipush 6, 2) := dk_16 6 (dk_at dksX2_isSign_0 11 rfl rfl)
theorem dX2_isSign_13 : decode cX2_isSign 13 = .ok (.if_icmp .ne 15, 3) := dk_160 0 15 (dk_at dksX2_isSign_0 13 rfl rfl)
theorem dX2_isSign_16 : decode cX2_isSign 16 = .ok (.aload_n 0, 1) := dk_42 (dk_at dksX2_isSign_0 16 rfl rfl)
theorem dX2_isSign_17 : decode cX2_isSign 17 = .ok (.getfield 137, 3) := dk_180 0 137 (dk_at dksX2_isSign_0 17 rfl rfl)
theorem dX2_isSign_20 : decode cX2_isSign 20 = .ok (.iload_n 1, 1) := dk_27 (dk_at dksX2_isSign_0 20 rfl rfl)
theorem dX2_isSign_21 : decode cX2_isSign 21 = .ok (.if_icmp .ne 7, 3) := dk_160 0 7 (dk_at dksX2_isSign_0 21 rfl rfl)
theorem dX2_isSign_24 : decode cX2_isSign 24 = .ok (.iconst 1, 1) := dk_4 (dk_at dksX2_isSign_1 0 rfl rfl)
theorem dX2_isSign_25 : decode cX2_isSign 25 = .ok (.goto 4, 3) := dk_167 0 4 (dk_at dksX2_isSign_1 1 rfl rfl)
theorem dX2_isSign_28 : decode cX2_isSign 28 = .ok (.iconst 0, 1) := dk_3 (dk_at dksX2_isSign_1 4 rfl rfl)
theorem dX2_isSign_29 : decode cX2_isSign 29 = .ok (.ireturn, 1) := dk_172 (dk_at dksX2_isSign_1 5 rfl rfl)
abbrev cX2_label : ByteArray := prog_4_method_70_code
def yX2_label : MethodName := ⟨RX2, "label", "()V"⟩
def dkwX2_label_2 : List UInt8 := [79, 42, 180, 0, 43, 28, 42, 180, 0, 17, 6, 42, 180, 3, 242, 104, 42, 180, 4, 26, 96, 46, 79, 177]
abbrev dktX2_label_2 : List UInt8 := dkwX2_label_2 ++ []
def dkwX2_label_1 : List UInt8 := [180, 0, 40, 28, 46, 2, 159, 0, 9, 42, 8, 182, 3, 220, 177, 42, 180, 0, 40, 28, 42, 180, 4, 26]
abbrev dktX2_label_1 : List UInt8 := dkwX2_label_1 ++ dktX2_label_2
def dkwX2_label_0 : List UInt8 := [42, 182, 3, 245, 60, 42, 182, 3, 217, 154, 0, 4, 177, 16, 64, 42, 180, 3, 242, 104, 27, 96, 61, 42]
abbrev dktX2_label_0 : List UInt8 := dkwX2_label_0 ++ dktX2_label_1
theorem dksX2_label_0 : cX2_label.data.toList.drop 0 = dktX2_label_0 := by decide +kernel
theorem dksX2_label_1 : cX2_label.data.toList.drop 24 = dktX2_label_1 := dk_seg dksX2_label_0 24 rfl rfl
theorem dksX2_label_2 : cX2_label.data.toList.drop 48 = dktX2_label_2 := dk_seg dksX2_label_1 24 rfl rfl
theorem dX2_label_0 : decode cX2_label 0 = .ok (.aload_n 0, 1) := dk_42 (dk_at dksX2_label_0 0 rfl rfl)
theorem dX2_label_1 : decode cX2_label 1 = .ok (.invokevirtual 1013, 3) := dk_182 3 245 (dk_at dksX2_label_0 1 rfl rfl)
theorem dX2_label_4 : decode cX2_label 4 = .ok (.istore_n 1, 1) := dk_60 (dk_at dksX2_label_0 4 rfl rfl)
theorem dX2_label_5 : decode cX2_label 5 = .ok (.aload_n 0, 1) := dk_42 (dk_at dksX2_label_0 5 rfl rfl)
theorem dX2_label_6 : decode cX2_label 6 = .ok (.invokevirtual 985, 3) := dk_182 3 217 (dk_at dksX2_label_0 6 rfl rfl)
theorem dX2_label_9 : decode cX2_label 9 = .ok (.ifCond .ne 4, 3) := dk_154 0 4 (dk_at dksX2_label_0 9 rfl rfl)
theorem dX2_label_12 : decode cX2_label 12 = .ok (.return_, 1) := dk_177 (dk_at dksX2_label_0 12 rfl rfl)
theorem dX2_label_13 : decode cX2_label 13 = .ok (.bipush 64, 2) := dk_16 64 (dk_at dksX2_label_0 13 rfl rfl)
theorem dX2_label_15 : decode cX2_label 15 = .ok (.aload_n 0, 1) := dk_42 (dk_at dksX2_label_0 15 rfl rfl)
theorem dX2_label_16 : decode cX2_label 16 = .ok (.getfield 1010, 3) := dk_180 3 242 (dk_at dksX2_label_0 16 rfl rfl)
theorem dX2_label_19 : decode cX2_label 19 = .ok (.imul, 1) := dk_104 (dk_at dksX2_label_0 19 rfl rfl)
theorem dX2_label_20 : decode cX2_label 20 = .ok (.iload_n 1, 1) := dk_27 (dk_at dksX2_label_0 20 rfl rfl)
theorem dX2_label_21 : decode cX2_label 21 = .ok (.iadd, 1) := dk_96 (dk_at dksX2_label_0 21 rfl rfl)
theorem dX2_label_22 : decode cX2_label 22 = .ok (.istore_n 2, 1) := dk_61 (dk_at dksX2_label_0 22 rfl rfl)
theorem dX2_label_23 : decode cX2_label 23 = .ok (.aload_n 0, 1) := dk_42 (dk_at dksX2_label_0 23 rfl rfl)
theorem dX2_label_24 : decode cX2_label 24 = .ok (.getfield 40, 3) := dk_180 0 40 (dk_at dksX2_label_1 0 rfl rfl)
theorem dX2_label_27 : decode cX2_label 27 = .ok (.iload_n 2, 1) := dk_28 (dk_at dksX2_label_1 3 rfl rfl)
theorem dX2_label_28 : decode cX2_label 28 = .ok (.iaload, 1) := dk_46 (dk_at dksX2_label_1 4 rfl rfl)
theorem dX2_label_29 : decode cX2_label 29 = .ok (.iconst (-1), 1) := dk_2 (dk_at dksX2_label_1 5 rfl rfl)
theorem dX2_label_30 : decode cX2_label 30 = .ok (.if_icmp .eq 9, 3) := dk_159 0 9 (dk_at dksX2_label_1 6 rfl rfl)
theorem dX2_label_33 : decode cX2_label 33 = .ok (.aload_n 0, 1) := dk_42 (dk_at dksX2_label_1 9 rfl rfl)
theorem dX2_label_34 : decode cX2_label 34 = .ok (.iconst 5, 1) := dk_8 (dk_at dksX2_label_1 10 rfl rfl)
theorem dX2_label_35 : decode cX2_label 35 = .ok (.invokevirtual 988, 3) := dk_182 3 220 (dk_at dksX2_label_1 11 rfl rfl)
theorem dX2_label_38 : decode cX2_label 38 = .ok (.return_, 1) := dk_177 (dk_at dksX2_label_1 14 rfl rfl)
theorem dX2_label_39 : decode cX2_label 39 = .ok (.aload_n 0, 1) := dk_42 (dk_at dksX2_label_1 15 rfl rfl)
theorem dX2_label_40 : decode cX2_label 40 = .ok (.getfield 40, 3) := dk_180 0 40 (dk_at dksX2_label_1 16 rfl rfl)
theorem dX2_label_43 : decode cX2_label 43 = .ok (.iload_n 2, 1) := dk_28 (dk_at dksX2_label_1 19 rfl rfl)
theorem dX2_label_44 : decode cX2_label 44 = .ok (.aload_n 0, 1) := dk_42 (dk_at dksX2_label_1 20 rfl rfl)
theorem dX2_label_45 : decode cX2_label 45 = .ok (.getfield 1050, 3) := dk_180 4 26 (dk_at dksX2_label_1 21 rfl rfl)
theorem dX2_label_48 : decode cX2_label 48 = .ok (.iastore, 1) := dk_79 (dk_at dksX2_label_2 0 rfl rfl)
theorem dX2_label_49 : decode cX2_label 49 = .ok (.aload_n 0, 1) := dk_42 (dk_at dksX2_label_2 1 rfl rfl)
theorem dX2_label_50 : decode cX2_label 50 = .ok (.getfield 43, 3) := dk_180 0 43 (dk_at dksX2_label_2 2 rfl rfl)
theorem dX2_label_53 : decode cX2_label 53 = .ok (.iload_n 2, 1) := dk_28 (dk_at dksX2_label_2 5 rfl rfl)
theorem dX2_label_54 : decode cX2_label 54 = .ok (.aload_n 0, 1) := dk_42 (dk_at dksX2_label_2 6 rfl rfl)
theorem dX2_label_55 : decode cX2_label 55 = .ok (.getfield 17, 3) := dk_180 0 17 (dk_at dksX2_label_2 7 rfl rfl)
theorem dX2_label_58 : decode cX2_label 58 = .ok (.iconst 3, 1) := dk_6 (dk_at dksX2_label_2 10 rfl rfl)
theorem dX2_label_59 : decode cX2_label 59 = .ok (.aload_n 0, 1) := dk_42 (dk_at dksX2_label_2 11 rfl rfl)
theorem dX2_label_60 : decode cX2_label 60 = .ok (.getfield 1010, 3) := dk_180 3 242 (dk_at dksX2_label_2 12 rfl rfl)
theorem dX2_label_63 : decode cX2_label 63 = .ok (.imul, 1) := dk_104 (dk_at dksX2_label_2 15 rfl rfl)
theorem dX2_label_64 : decode cX2_label 64 = .ok (.aload_n 0, 1) := dk_42 (dk_at dksX2_label_2 16 rfl rfl)
theorem dX2_label_65 : decode cX2_label 65 = .ok (.getfield 1050, 3) := dk_180 4 26 (dk_at dksX2_label_2 17 rfl rfl)
theorem dX2_label_68 : decode cX2_label 68 = .ok (.iadd, 1) := dk_96 (dk_at dksX2_label_2 20 rfl rfl)
theorem dX2_label_69 : decode cX2_label 69 = .ok (.iaload, 1) := dk_46 (dk_at dksX2_label_2 21 rfl rfl)
theorem dX2_label_70 : decode cX2_label 70 = .ok (.iastore, 1) := dk_79 (dk_at dksX2_label_2 22 rfl rfl)
theorem dX2_label_71 : decode cX2_label 71 = .ok (.return_, 1) := dk_177 (dk_at dksX2_label_2 23 rfl rfl)
abbrev cX2_symbolHere : ByteArray := prog_4_method_43_code
def yX2_symbolHere : MethodName := ⟨RX2, "symbolHere", "()I"⟩
def dkwX2_symbolHere_8 : List UInt8 := [180, 3, 242, 92, 46, 4, 96, 79, 28, 172]
abbrev dktX2_symbolHere_8 : List UInt8 := dkwX2_symbolHere_8 ++ []
def dkwX2_symbolHere_7 : List UInt8 := [180, 0, 43, 27, 28, 96, 3, 79, 42, 180, 0, 46, 27, 28, 96, 3, 84, 42, 180, 0, 21, 42]
abbrev dktX2_symbolHere_7 : List UInt8 := dkwX2_symbolHere_7 ++ dktX2_symbolHere_8
def dkwX2_symbolHere_6 : List UInt8 := [80, 42, 180, 0, 34, 27, 28, 96, 42, 180, 0, 147, 80, 42, 180, 0, 40, 27, 28, 96, 2, 79, 42]
abbrev dktX2_symbolHere_6 : List UInt8 := dkwX2_symbolHere_6 ++ dktX2_symbolHere_7
def dkwX2_symbolHere_5 : List UInt8 := [79, 42, 180, 0, 27, 27, 28, 96, 42, 180, 0, 140, 80, 42, 180, 0, 31, 27, 28, 96, 42, 180, 0, 144]
abbrev dktX2_symbolHere_5 : List UInt8 := dkwX2_symbolHere_5 ++ dktX2_symbolHere_6
def dkwX2_symbolHere_4 : List UInt8 := [16, 64, 160, 0, 11, 42, 16, 7, 182, 3, 220, 3, 172, 42, 180, 0, 37, 27, 28, 96, 42, 180, 0, 162]
abbrev dktX2_symbolHere_4 : List UInt8 := dkwX2_symbolHere_4 ++ dktX2_symbolHere_5
def dkwX2_symbolHere_3 : List UInt8 := [180, 0, 34, 29, 47, 42, 180, 0, 147, 148, 154, 0, 7, 29, 27, 100, 172, 132, 3, 1, 167, 255, 187, 28]
abbrev dktX2_symbolHere_3 : List UInt8 := dkwX2_symbolHere_3 ++ dktX2_symbolHere_4
def dkwX2_symbolHere_2 : List UInt8 := [180, 0, 140, 148, 154, 0, 35, 42, 180, 0, 31, 29, 47, 42, 180, 0, 144, 148, 154, 0, 21, 42]
abbrev dktX2_symbolHere_2 : List UInt8 := dkwX2_symbolHere_2 ++ dktX2_symbolHere_3
def dkwX2_symbolHere_1 : List UInt8 := [162, 0, 68, 42, 180, 0, 37, 29, 46, 42, 180, 0, 162, 160, 0, 49, 42, 180, 0, 27, 29, 47, 42]
abbrev dktX2_symbolHere_1 : List UInt8 := dkwX2_symbolHere_1 ++ dktX2_symbolHere_2
def dkwX2_symbolHere_0 : List UInt8 := [16, 64, 42, 180, 3, 242, 104, 60, 42, 180, 0, 21, 42, 180, 3, 242, 46, 61, 27, 62, 29, 27, 28, 96]
abbrev dktX2_symbolHere_0 : List UInt8 := dkwX2_symbolHere_0 ++ dktX2_symbolHere_1
theorem dksX2_symbolHere_0 : cX2_symbolHere.data.toList.drop 0 = dktX2_symbolHere_0 := by decide +kernel
theorem dksX2_symbolHere_1 : cX2_symbolHere.data.toList.drop 24 = dktX2_symbolHere_1 := dk_seg dksX2_symbolHere_0 24 rfl rfl
theorem dksX2_symbolHere_2 : cX2_symbolHere.data.toList.drop 47 = dktX2_symbolHere_2 := dk_seg dksX2_symbolHere_1 23 rfl rfl
theorem dksX2_symbolHere_3 : cX2_symbolHere.data.toList.drop 69 = dktX2_symbolHere_3 := dk_seg dksX2_symbolHere_2 22 rfl rfl
theorem dksX2_symbolHere_4 : cX2_symbolHere.data.toList.drop 93 = dktX2_symbolHere_4 := dk_seg dksX2_symbolHere_3 24 rfl rfl
theorem dksX2_symbolHere_5 : cX2_symbolHere.data.toList.drop 117 = dktX2_symbolHere_5 := dk_seg dksX2_symbolHere_4 24 rfl rfl
theorem dksX2_symbolHere_6 : cX2_symbolHere.data.toList.drop 141 = dktX2_symbolHere_6 := dk_seg dksX2_symbolHere_5 24 rfl rfl
theorem dksX2_symbolHere_7 : cX2_symbolHere.data.toList.drop 164 = dktX2_symbolHere_7 := dk_seg dksX2_symbolHere_6 23 rfl rfl
theorem dksX2_symbolHere_8 : cX2_symbolHere.data.toList.drop 186 = dktX2_symbolHere_8 := dk_seg dksX2_symbolHere_7 22 rfl rfl
theorem dX2_symbolHere_0 : decode cX2_symbolHere 0 = .ok (.bipush 64, 2) := dk_16 64 (dk_at dksX2_symbolHere_0 0 rfl rfl)
theorem dX2_symbolHere_2 : decode cX2_symbolHere 2 = .ok (.aload_n 0, 1) := dk_42 (dk_at dksX2_symbolHere_0 2 rfl rfl)
theorem dX2_symbolHere_3 : decode cX2_symbolHere 3 = .ok (.getfield 1010, 3) := dk_180 3 242 (dk_at dksX2_symbolHere_0 3 rfl rfl)
theorem dX2_symbolHere_6 : decode cX2_symbolHere 6 = .ok (.imul, 1) := dk_104 (dk_at dksX2_symbolHere_0 6 rfl rfl)
theorem dX2_symbolHere_7 : decode cX2_symbolHere 7 = .ok (.istore_n 1, 1) := dk_60 (dk_at dksX2_symbolHere_0 7 rfl rfl)
theorem dX2_symbolHere_8 : decode cX2_symbolHere 8 = .ok (.aload_n 0, 1) := dk_42 (dk_at dksX2_symbolHere_0 8 rfl rfl)
theorem dX2_symbolHere_9 : decode cX2_symbolHere 9 = .ok (.getfield 21, 3) := dk_180 0 21 (dk_at dksX2_symbolHere_0 9 rfl rfl)
theorem dX2_symbolHere_12 : decode cX2_symbolHere 12 = .ok (.aload_n 0, 1) := dk_42 (dk_at dksX2_symbolHere_0 12 rfl rfl)
theorem dX2_symbolHere_13 : decode cX2_symbolHere 13 = .ok (.getfield 1010, 3) := dk_180 3 242 (dk_at dksX2_symbolHere_0 13 rfl rfl)
theorem dX2_symbolHere_16 : decode cX2_symbolHere 16 = .ok (.iaload, 1) := dk_46 (dk_at dksX2_symbolHere_0 16 rfl rfl)
theorem dX2_symbolHere_17 : decode cX2_symbolHere 17 = .ok (.istore_n 2, 1) := dk_61 (dk_at dksX2_symbolHere_0 17 rfl rfl)
theorem dX2_symbolHere_18 : decode cX2_symbolHere 18 = .ok (.iload_n 1, 1) := dk_27 (dk_at dksX2_symbolHere_0 18 rfl rfl)
theorem dX2_symbolHere_19 : decode cX2_symbolHere 19 = .ok (.istore_n 3, 1) := dk_62 (dk_at dksX2_symbolHere_0 19 rfl rfl)
theorem dX2_symbolHere_20 : decode cX2_symbolHere 20 = .ok (.iload_n 3, 1) := dk_29 (dk_at dksX2_symbolHere_0 20 rfl rfl)
theorem dX2_symbolHere_21 : decode cX2_symbolHere 21 = .ok (.iload_n 1, 1) := dk_27 (dk_at dksX2_symbolHere_0 21 rfl rfl)
theorem dX2_symbolHere_22 : decode cX2_symbolHere 22 = .ok (.iload_n 2, 1) := dk_28 (dk_at dksX2_symbolHere_0 22 rfl rfl)
theorem dX2_symbolHere_23 : decode cX2_symbolHere 23 = .ok (.iadd, 1) := dk_96 (dk_at dksX2_symbolHere_0 23 rfl rfl)
theorem dX2_symbolHere_24 : decode cX2_symbolHere 24 = .ok (.if_icmp .ge 68, 3) := dk_162 0 68 (dk_at dksX2_symbolHere_1 0 rfl rfl)
theorem dX2_symbolHere_27 : decode cX2_symbolHere 27 = .ok (.aload_n 0, 1) := dk_42 (dk_at dksX2_symbolHere_1 3 rfl rfl)
theorem dX2_symbolHere_28 : decode cX2_symbolHere 28 = .ok (.getfield 37, 3) := dk_180 0 37 (dk_at dksX2_symbolHere_1 4 rfl rfl)
theorem dX2_symbolHere_31 : decode cX2_symbolHere 31 = .ok (.iload_n 3, 1) := dk_29 (dk_at dksX2_symbolHere_1 7 rfl rfl)
theorem dX2_symbolHere_32 : decode cX2_symbolHere 32 = .ok (.iaload, 1) := dk_46 (dk_at dksX2_symbolHere_1 8 rfl rfl)
theorem dX2_symbolHere_33 : decode cX2_symbolHere 33 = .ok (.aload_n 0, 1) := dk_42 (dk_at dksX2_symbolHere_1 9 rfl rfl)
theorem dX2_symbolHere_34 : decode cX2_symbolHere 34 = .ok (.getfield 162, 3) := dk_180 0 162 (dk_at dksX2_symbolHere_1 10 rfl rfl)
theorem dX2_symbolHere_37 : decode cX2_symbolHere 37 = .ok (.if_icmp .ne 49, 3) := dk_160 0 49 (dk_at dksX2_symbolHere_1 13 rfl rfl)
theorem dX2_symbolHere_40 : decode cX2_symbolHere 40 = .ok (.aload_n 0, 1) := dk_42 (dk_at dksX2_symbolHere_1 16 rfl rfl)
theorem dX2_symbolHere_41 : decode cX2_symbolHere 41 = .ok (.getfield 27, 3) := dk_180 0 27 (dk_at dksX2_symbolHere_1 17 rfl rfl)
theorem dX2_symbolHere_44 : decode cX2_symbolHere 44 = .ok (.iload_n 3, 1) := dk_29 (dk_at dksX2_symbolHere_1 20 rfl rfl)
theorem dX2_symbolHere_45 : decode cX2_symbolHere 45 = .ok (.laload, 1) := dk_47 (dk_at dksX2_symbolHere_1 21 rfl rfl)
theorem dX2_symbolHere_46 : decode cX2_symbolHere 46 = .ok (.aload_n 0, 1) := dk_42 (dk_at dksX2_symbolHere_1 22 rfl rfl)
theorem dX2_symbolHere_47 : decode cX2_symbolHere 47 = .ok (.getfield 140, 3) := dk_180 0 140 (dk_at dksX2_symbolHere_2 0 rfl rfl)
theorem dX2_symbolHere_50 : decode cX2_symbolHere 50 = .ok (.lcmp, 1) := dk_148 (dk_at dksX2_symbolHere_2 3 rfl rfl)
theorem dX2_symbolHere_51 : decode cX2_symbolHere 51 = .ok (.ifCond .ne 35, 3) := dk_154 0 35 (dk_at dksX2_symbolHere_2 4 rfl rfl)
theorem dX2_symbolHere_54 : decode cX2_symbolHere 54 = .ok (.aload_n 0, 1) := dk_42 (dk_at dksX2_symbolHere_2 7 rfl rfl)
theorem dX2_symbolHere_55 : decode cX2_symbolHere 55 = .ok (.getfield 31, 3) := dk_180 0 31 (dk_at dksX2_symbolHere_2 8 rfl rfl)
theorem dX2_symbolHere_58 : decode cX2_symbolHere 58 = .ok (.iload_n 3, 1) := dk_29 (dk_at dksX2_symbolHere_2 11 rfl rfl)
theorem dX2_symbolHere_59 : decode cX2_symbolHere 59 = .ok (.laload, 1) := dk_47 (dk_at dksX2_symbolHere_2 12 rfl rfl)
theorem dX2_symbolHere_60 : decode cX2_symbolHere 60 = .ok (.aload_n 0, 1) := dk_42 (dk_at dksX2_symbolHere_2 13 rfl rfl)
theorem dX2_symbolHere_61 : decode cX2_symbolHere 61 = .ok (.getfield 144, 3) := dk_180 0 144 (dk_at dksX2_symbolHere_2 14 rfl rfl)
theorem dX2_symbolHere_64 : decode cX2_symbolHere 64 = .ok (.lcmp, 1) := dk_148 (dk_at dksX2_symbolHere_2 17 rfl rfl)
theorem dX2_symbolHere_65 : decode cX2_symbolHere 65 = .ok (.ifCond .ne 21, 3) := dk_154 0 21 (dk_at dksX2_symbolHere_2 18 rfl rfl)
theorem dX2_symbolHere_68 : decode cX2_symbolHere 68 = .ok (.aload_n 0, 1) := dk_42 (dk_at dksX2_symbolHere_2 21 rfl rfl)
theorem dX2_symbolHere_69 : decode cX2_symbolHere 69 = .ok (.getfield 34, 3) := dk_180 0 34 (dk_at dksX2_symbolHere_3 0 rfl rfl)
theorem dX2_symbolHere_72 : decode cX2_symbolHere 72 = .ok (.iload_n 3, 1) := dk_29 (dk_at dksX2_symbolHere_3 3 rfl rfl)
theorem dX2_symbolHere_73 : decode cX2_symbolHere 73 = .ok (.laload, 1) := dk_47 (dk_at dksX2_symbolHere_3 4 rfl rfl)
theorem dX2_symbolHere_74 : decode cX2_symbolHere 74 = .ok (.aload_n 0, 1) := dk_42 (dk_at dksX2_symbolHere_3 5 rfl rfl)
theorem dX2_symbolHere_75 : decode cX2_symbolHere 75 = .ok (.getfield 147, 3) := dk_180 0 147 (dk_at dksX2_symbolHere_3 6 rfl rfl)
theorem dX2_symbolHere_78 : decode cX2_symbolHere 78 = .ok (.lcmp, 1) := dk_148 (dk_at dksX2_symbolHere_3 9 rfl rfl)
theorem dX2_symbolHere_79 : decode cX2_symbolHere 79 = .ok (.ifCond .ne 7, 3) := dk_154 0 7 (dk_at dksX2_symbolHere_3 10 rfl rfl)
theorem dX2_symbolHere_82 : decode cX2_symbolHere 82 = .ok (.iload_n 3, 1) := dk_29 (dk_at dksX2_symbolHere_3 13 rfl rfl)
theorem dX2_symbolHere_83 : decode cX2_symbolHere 83 = .ok (.iload_n 1, 1) := dk_27 (dk_at dksX2_symbolHere_3 14 rfl rfl)
theorem dX2_symbolHere_84 : decode cX2_symbolHere 84 = .ok (.isub, 1) := dk_100 (dk_at dksX2_symbolHere_3 15 rfl rfl)
theorem dX2_symbolHere_85 : decode cX2_symbolHere 85 = .ok (.ireturn, 1) := dk_172 (dk_at dksX2_symbolHere_3 16 rfl rfl)
theorem dX2_symbolHere_86 : decode cX2_symbolHere 86 = .ok (.iinc 3 1, 3) := dk_132 3 1 (dk_at dksX2_symbolHere_3 17 rfl rfl)
theorem dX2_symbolHere_89 : decode cX2_symbolHere 89 = .ok (.goto (-69), 3) := dk_167 255 187 (dk_at dksX2_symbolHere_3 20 rfl rfl)
theorem dX2_symbolHere_92 : decode cX2_symbolHere 92 = .ok (.iload_n 2, 1) := dk_28 (dk_at dksX2_symbolHere_3 23 rfl rfl)
theorem dX2_symbolHere_93 : decode cX2_symbolHere 93 = .ok (.bipush 64, 2) := dk_16 64 (dk_at dksX2_symbolHere_4 0 rfl rfl)
theorem dX2_symbolHere_95 : decode cX2_symbolHere 95 = .ok (.if_icmp .ne 11, 3) := dk_160 0 11 (dk_at dksX2_symbolHere_4 2 rfl rfl)
theorem dX2_symbolHere_98 : decode cX2_symbolHere 98 = .ok (.aload_n 0, 1) := dk_42 (dk_at dksX2_symbolHere_4 5 rfl rfl)
theorem dX2_symbolHere_99 : decode cX2_symbolHere 99 = .ok (.bipush 7, 2) := dk_16 7 (dk_at dksX2_symbolHere_4 6 rfl rfl)
theorem dX2_symbolHere_101 : decode cX2_symbolHere 101 = .ok (.invokevirtual 988, 3) := dk_182 3 220 (dk_at dksX2_symbolHere_4 8 rfl rfl)
theorem dX2_symbolHere_104 : decode cX2_symbolHere 104 = .ok (.iconst 0, 1) := dk_3 (dk_at dksX2_symbolHere_4 11 rfl rfl)
theorem dX2_symbolHere_105 : decode cX2_symbolHere 105 = .ok (.ireturn, 1) := dk_172 (dk_at dksX2_symbolHere_4 12 rfl rfl)
theorem dX2_symbolHere_106 : decode cX2_symbolHere 106 = .ok (.aload_n 0, 1) := dk_42 (dk_at dksX2_symbolHere_4 13 rfl rfl)
theorem dX2_symbolHere_107 : decode cX2_symbolHere 107 = .ok (.getfield 37, 3) := dk_180 0 37 (dk_at dksX2_symbolHere_4 14 rfl rfl)
theorem dX2_symbolHere_110 : decode cX2_symbolHere 110 = .ok (.iload_n 1, 1) := dk_27 (dk_at dksX2_symbolHere_4 17 rfl rfl)
theorem dX2_symbolHere_111 : decode cX2_symbolHere 111 = .ok (.iload_n 2, 1) := dk_28 (dk_at dksX2_symbolHere_4 18 rfl rfl)
theorem dX2_symbolHere_112 : decode cX2_symbolHere 112 = .ok (.iadd, 1) := dk_96 (dk_at dksX2_symbolHere_4 19 rfl rfl)
theorem dX2_symbolHere_113 : decode cX2_symbolHere 113 = .ok (.aload_n 0, 1) := dk_42 (dk_at dksX2_symbolHere_4 20 rfl rfl)
theorem dX2_symbolHere_114 : decode cX2_symbolHere 114 = .ok (.getfield 162, 3) := dk_180 0 162 (dk_at dksX2_symbolHere_4 21 rfl rfl)
theorem dX2_symbolHere_117 : decode cX2_symbolHere 117 = .ok (.iastore, 1) := dk_79 (dk_at dksX2_symbolHere_5 0 rfl rfl)
theorem dX2_symbolHere_118 : decode cX2_symbolHere 118 = .ok (.aload_n 0, 1) := dk_42 (dk_at dksX2_symbolHere_5 1 rfl rfl)
theorem dX2_symbolHere_119 : decode cX2_symbolHere 119 = .ok (.getfield 27, 3) := dk_180 0 27 (dk_at dksX2_symbolHere_5 2 rfl rfl)
theorem dX2_symbolHere_122 : decode cX2_symbolHere 122 = .ok (.iload_n 1, 1) := dk_27 (dk_at dksX2_symbolHere_5 5 rfl rfl)
theorem dX2_symbolHere_123 : decode cX2_symbolHere 123 = .ok (.iload_n 2, 1) := dk_28 (dk_at dksX2_symbolHere_5 6 rfl rfl)
theorem dX2_symbolHere_124 : decode cX2_symbolHere 124 = .ok (.iadd, 1) := dk_96 (dk_at dksX2_symbolHere_5 7 rfl rfl)
theorem dX2_symbolHere_125 : decode cX2_symbolHere 125 = .ok (.aload_n 0, 1) := dk_42 (dk_at dksX2_symbolHere_5 8 rfl rfl)
theorem dX2_symbolHere_126 : decode cX2_symbolHere 126 = .ok (.getfield 140, 3) := dk_180 0 140 (dk_at dksX2_symbolHere_5 9 rfl rfl)
theorem dX2_symbolHere_129 : decode cX2_symbolHere 129 = .ok (.lastore, 1) := dk_80 (dk_at dksX2_symbolHere_5 12 rfl rfl)
theorem dX2_symbolHere_130 : decode cX2_symbolHere 130 = .ok (.aload_n 0, 1) := dk_42 (dk_at dksX2_symbolHere_5 13 rfl rfl)
theorem dX2_symbolHere_131 : decode cX2_symbolHere 131 = .ok (.getfield 31, 3) := dk_180 0 31 (dk_at dksX2_symbolHere_5 14 rfl rfl)
theorem dX2_symbolHere_134 : decode cX2_symbolHere 134 = .ok (.iload_n 1, 1) := dk_27 (dk_at dksX2_symbolHere_5 17 rfl rfl)
theorem dX2_symbolHere_135 : decode cX2_symbolHere 135 = .ok (.iload_n 2, 1) := dk_28 (dk_at dksX2_symbolHere_5 18 rfl rfl)
theorem dX2_symbolHere_136 : decode cX2_symbolHere 136 = .ok (.iadd, 1) := dk_96 (dk_at dksX2_symbolHere_5 19 rfl rfl)
theorem dX2_symbolHere_137 : decode cX2_symbolHere 137 = .ok (.aload_n 0, 1) := dk_42 (dk_at dksX2_symbolHere_5 20 rfl rfl)
theorem dX2_symbolHere_138 : decode cX2_symbolHere 138 = .ok (.getfield 144, 3) := dk_180 0 144 (dk_at dksX2_symbolHere_5 21 rfl rfl)
theorem dX2_symbolHere_141 : decode cX2_symbolHere 141 = .ok (.lastore, 1) := dk_80 (dk_at dksX2_symbolHere_6 0 rfl rfl)
theorem dX2_symbolHere_142 : decode cX2_symbolHere 142 = .ok (.aload_n 0, 1) := dk_42 (dk_at dksX2_symbolHere_6 1 rfl rfl)
theorem dX2_symbolHere_143 : decode cX2_symbolHere 143 = .ok (.getfield 34, 3) := dk_180 0 34 (dk_at dksX2_symbolHere_6 2 rfl rfl)
theorem dX2_symbolHere_146 : decode cX2_symbolHere 146 = .ok (.iload_n 1, 1) := dk_27 (dk_at dksX2_symbolHere_6 5 rfl rfl)
theorem dX2_symbolHere_147 : decode cX2_symbolHere 147 = .ok (.iload_n 2, 1) := dk_28 (dk_at dksX2_symbolHere_6 6 rfl rfl)
theorem dX2_symbolHere_148 : decode cX2_symbolHere 148 = .ok (.iadd, 1) := dk_96 (dk_at dksX2_symbolHere_6 7 rfl rfl)
theorem dX2_symbolHere_149 : decode cX2_symbolHere 149 = .ok (.aload_n 0, 1) := dk_42 (dk_at dksX2_symbolHere_6 8 rfl rfl)
theorem dX2_symbolHere_150 : decode cX2_symbolHere 150 = .ok (.getfield 147, 3) := dk_180 0 147 (dk_at dksX2_symbolHere_6 9 rfl rfl)
theorem dX2_symbolHere_153 : decode cX2_symbolHere 153 = .ok (.lastore, 1) := dk_80 (dk_at dksX2_symbolHere_6 12 rfl rfl)
theorem dX2_symbolHere_154 : decode cX2_symbolHere 154 = .ok (.aload_n 0, 1) := dk_42 (dk_at dksX2_symbolHere_6 13 rfl rfl)
theorem dX2_symbolHere_155 : decode cX2_symbolHere 155 = .ok (.getfield 40, 3) := dk_180 0 40 (dk_at dksX2_symbolHere_6 14 rfl rfl)
theorem dX2_symbolHere_158 : decode cX2_symbolHere 158 = .ok (.iload_n 1, 1) := dk_27 (dk_at dksX2_symbolHere_6 17 rfl rfl)
theorem dX2_symbolHere_159 : decode cX2_symbolHere 159 = .ok (.iload_n 2, 1) := dk_28 (dk_at dksX2_symbolHere_6 18 rfl rfl)
theorem dX2_symbolHere_160 : decode cX2_symbolHere 160 = .ok (.iadd, 1) := dk_96 (dk_at dksX2_symbolHere_6 19 rfl rfl)
theorem dX2_symbolHere_161 : decode cX2_symbolHere 161 = .ok (.iconst (-1), 1) := dk_2 (dk_at dksX2_symbolHere_6 20 rfl rfl)
theorem dX2_symbolHere_162 : decode cX2_symbolHere 162 = .ok (.iastore, 1) := dk_79 (dk_at dksX2_symbolHere_6 21 rfl rfl)
theorem dX2_symbolHere_163 : decode cX2_symbolHere 163 = .ok (.aload_n 0, 1) := dk_42 (dk_at dksX2_symbolHere_6 22 rfl rfl)
theorem dX2_symbolHere_164 : decode cX2_symbolHere 164 = .ok (.getfield 43, 3) := dk_180 0 43 (dk_at dksX2_symbolHere_7 0 rfl rfl)
theorem dX2_symbolHere_167 : decode cX2_symbolHere 167 = .ok (.iload_n 1, 1) := dk_27 (dk_at dksX2_symbolHere_7 3 rfl rfl)
theorem dX2_symbolHere_168 : decode cX2_symbolHere 168 = .ok (.iload_n 2, 1) := dk_28 (dk_at dksX2_symbolHere_7 4 rfl rfl)
theorem dX2_symbolHere_169 : decode cX2_symbolHere 169 = .ok (.iadd, 1) := dk_96 (dk_at dksX2_symbolHere_7 5 rfl rfl)
theorem dX2_symbolHere_170 : decode cX2_symbolHere 170 = .ok (.iconst 0, 1) := dk_3 (dk_at dksX2_symbolHere_7 6 rfl rfl)
theorem dX2_symbolHere_171 : decode cX2_symbolHere 171 = .ok (.iastore, 1) := dk_79 (dk_at dksX2_symbolHere_7 7 rfl rfl)
theorem dX2_symbolHere_172 : decode cX2_symbolHere 172 = .ok (.aload_n 0, 1) := dk_42 (dk_at dksX2_symbolHere_7 8 rfl rfl)
theorem dX2_symbolHere_173 : decode cX2_symbolHere 173 = .ok (.getfield 46, 3) := dk_180 0 46 (dk_at dksX2_symbolHere_7 9 rfl rfl)
theorem dX2_symbolHere_176 : decode cX2_symbolHere 176 = .ok (.iload_n 1, 1) := dk_27 (dk_at dksX2_symbolHere_7 12 rfl rfl)
theorem dX2_symbolHere_177 : decode cX2_symbolHere 177 = .ok (.iload_n 2, 1) := dk_28 (dk_at dksX2_symbolHere_7 13 rfl rfl)
theorem dX2_symbolHere_178 : decode cX2_symbolHere 178 = .ok (.iadd, 1) := dk_96 (dk_at dksX2_symbolHere_7 14 rfl rfl)
theorem dX2_symbolHere_179 : decode cX2_symbolHere 179 = .ok (.iconst 0, 1) := dk_3 (dk_at dksX2_symbolHere_7 15 rfl rfl)
theorem dX2_symbolHere_180 : decode cX2_symbolHere 180 = .ok (.bastore, 1) := dk_84 (dk_at dksX2_symbolHere_7 16 rfl rfl)
theorem dX2_symbolHere_181 : decode cX2_symbolHere 181 = .ok (.aload_n 0, 1) := dk_42 (dk_at dksX2_symbolHere_7 17 rfl rfl)
theorem dX2_symbolHere_182 : decode cX2_symbolHere 182 = .ok (.getfield 21, 3) := dk_180 0 21 (dk_at dksX2_symbolHere_7 18 rfl rfl)
theorem dX2_symbolHere_185 : decode cX2_symbolHere 185 = .ok (.aload_n 0, 1) := dk_42 (dk_at dksX2_symbolHere_7 21 rfl rfl)
theorem dX2_symbolHere_186 : decode cX2_symbolHere 186 = .ok (.getfield 1010, 3) := dk_180 3 242 (dk_at dksX2_symbolHere_8 0 rfl rfl)
theorem dX2_symbolHere_189 : decode cX2_symbolHere 189 = .ok (.dup2, 1) := dk_92 (dk_at dksX2_symbolHere_8 3 rfl rfl)
theorem dX2_symbolHere_190 : decode cX2_symbolHere 190 = .ok (.iaload, 1) := dk_46 (dk_at dksX2_symbolHere_8 4 rfl rfl)
theorem dX2_symbolHere_191 : decode cX2_symbolHere 191 = .ok (.iconst 1, 1) := dk_4 (dk_at dksX2_symbolHere_8 5 rfl rfl)
theorem dX2_symbolHere_192 : decode cX2_symbolHere 192 = .ok (.iadd, 1) := dk_96 (dk_at dksX2_symbolHere_8 6 rfl rfl)
theorem dX2_symbolHere_193 : decode cX2_symbolHere 193 = .ok (.iastore, 1) := dk_79 (dk_at dksX2_symbolHere_8 7 rfl rfl)
theorem dX2_symbolHere_194 : decode cX2_symbolHere 194 = .ok (.iload_n 2, 1) := dk_28 (dk_at dksX2_symbolHere_8 8 rfl rfl)
theorem dX2_symbolHere_195 : decode cX2_symbolHere 195 = .ok (.ireturn, 1) := dk_172 (dk_at dksX2_symbolHere_8 9 rfl rfl)
abbrev cX2_found : ByteArray := prog_4_method_31_code
def yX2_found : MethodName := ⟨RX2, "found", "(J)J"⟩
def dkwX2_found_5 : List UInt8 := [154, 0, 8, 30, 184, 3, 211, 65, 32, 173]
abbrev dktX2_found_5 : List UInt8 := dkwX2_found_5 ++ []
def dkwX2_found_4 : List UInt8 := [184, 3, 205, 65, 32, 20, 0, 211, 148, 154, 0, 8, 30, 184, 3, 208, 65, 32, 20, 0, 211, 148]
abbrev dktX2_found_4 : List UInt8 := dkwX2_found_4 ++ dktX2_found_5
def dkwX2_found_3 : List UInt8 := [65, 32, 20, 0, 211, 148, 154, 0, 8, 30, 184, 3, 202, 65, 32, 20, 0, 211, 148, 154, 0, 8, 30]
abbrev dktX2_found_3 : List UInt8 := dkwX2_found_3 ++ dktX2_found_4
def dkwX2_found_2 : List UInt8 := [20, 0, 211, 148, 154, 0, 8, 30, 184, 3, 196, 65, 32, 20, 0, 211, 148, 154, 0, 8, 30, 184, 3, 199]
abbrev dktX2_found_2 : List UInt8 := dkwX2_found_2 ++ dktX2_found_3
def dkwX2_found_1 : List UInt8 := [154, 0, 8, 30, 184, 3, 190, 65, 32, 20, 0, 211, 148, 154, 0, 8, 30, 184, 3, 193, 65, 32]
abbrev dktX2_found_1 : List UInt8 := dkwX2_found_1 ++ dktX2_found_2
def dkwX2_found_0 : List UInt8 := [20, 0, 211, 65, 32, 20, 0, 211, 148, 154, 0, 8, 30, 184, 3, 186, 65, 32, 20, 0, 211, 148]
abbrev dktX2_found_0 : List UInt8 := dkwX2_found_0 ++ dktX2_found_1
theorem dksX2_found_0 : cX2_found.data.toList.drop 0 = dktX2_found_0 := by decide +kernel
theorem dksX2_found_1 : cX2_found.data.toList.drop 22 = dktX2_found_1 := dk_seg dksX2_found_0 22 rfl rfl
theorem dksX2_found_2 : cX2_found.data.toList.drop 44 = dktX2_found_2 := dk_seg dksX2_found_1 22 rfl rfl
theorem dksX2_found_3 : cX2_found.data.toList.drop 68 = dktX2_found_3 := dk_seg dksX2_found_2 24 rfl rfl
theorem dksX2_found_4 : cX2_found.data.toList.drop 91 = dktX2_found_4 := dk_seg dksX2_found_3 23 rfl rfl
theorem dksX2_found_5 : cX2_found.data.toList.drop 113 = dktX2_found_5 := dk_seg dksX2_found_4 22 rfl rfl
theorem dX2_found_0 : decode cX2_found 0 = .ok (.ldc2_w 211, 3) := dk_20 0 211 (dk_at dksX2_found_0 0 rfl rfl)
theorem dX2_found_3 : decode cX2_found 3 = .ok (.lstore_n 2, 1) := dk_65 (dk_at dksX2_found_0 3 rfl rfl)
theorem dX2_found_4 : decode cX2_found 4 = .ok (.lload_n 2, 1) := dk_32 (dk_at dksX2_found_0 4 rfl rfl)
theorem dX2_found_5 : decode cX2_found 5 = .ok (.ldc2_w 211, 3) := dk_20 0 211 (dk_at dksX2_found_0 5 rfl rfl)
theorem dX2_found_8 : decode cX2_found 8 = .ok (.lcmp, 1) := dk_148 (dk_at dksX2_found_0 8 rfl rfl)
theorem dX2_found_9 : decode cX2_found 9 = .ok (.ifCond .ne 8, 3) := dk_154 0 8 (dk_at dksX2_found_0 9 rfl rfl)
theorem dX2_found_12 : decode cX2_found 12 = .ok (.lload_n 0, 1) := dk_30 (dk_at dksX2_found_0 12 rfl rfl)
theorem dX2_found_13 : decode cX2_found 13 = .ok (.invokestatic 954, 3) := dk_184 3 186 (dk_at dksX2_found_0 13 rfl rfl)
theorem dX2_found_16 : decode cX2_found 16 = .ok (.lstore_n 2, 1) := dk_65 (dk_at dksX2_found_0 16 rfl rfl)
theorem dX2_found_17 : decode cX2_found 17 = .ok (.lload_n 2, 1) := dk_32 (dk_at dksX2_found_0 17 rfl rfl)
theorem dX2_found_18 : decode cX2_found 18 = .ok (.ldc2_w 211, 3) := dk_20 0 211 (dk_at dksX2_found_0 18 rfl rfl)
theorem dX2_found_21 : decode cX2_found 21 = .ok (.lcmp, 1) := dk_148 (dk_at dksX2_found_0 21 rfl rfl)
theorem dX2_found_22 : decode cX2_found 22 = .ok (.ifCond .ne 8, 3) := dk_154 0 8 (dk_at dksX2_found_1 0 rfl rfl)
theorem dX2_found_25 : decode cX2_found 25 = .ok (.lload_n 0, 1) := dk_30 (dk_at dksX2_found_1 3 rfl rfl)
theorem dX2_found_26 : decode cX2_found 26 = .ok (.invokestatic 958, 3) := dk_184 3 190 (dk_at dksX2_found_1 4 rfl rfl)
theorem dX2_found_29 : decode cX2_found 29 = .ok (.lstore_n 2, 1) := dk_65 (dk_at dksX2_found_1 7 rfl rfl)
theorem dX2_found_30 : decode cX2_found 30 = .ok (.lload_n 2, 1) := dk_32 (dk_at dksX2_found_1 8 rfl rfl)
theorem dX2_found_31 : decode cX2_found 31 = .ok (.ldc2_w 211, 3) := dk_20 0 211 (dk_at dksX2_found_1 9 rfl rfl)
theorem dX2_found_34 : decode cX2_found 34 = .ok (.lcmp, 1) := dk_148 (dk_at dksX2_found_1 12 rfl rfl)
theorem dX2_found_35 : decode cX2_found 35 = .ok (.ifCond .ne 8, 3) := dk_154 0 8 (dk_at dksX2_found_1 13 rfl rfl)
theorem dX2_found_38 : decode cX2_found 38 = .ok (.lload_n 0, 1) := dk_30 (dk_at dksX2_found_1 16 rfl rfl)
theorem dX2_found_39 : decode cX2_found 39 = .ok (.invokestatic 961, 3) := dk_184 3 193 (dk_at dksX2_found_1 17 rfl rfl)
theorem dX2_found_42 : decode cX2_found 42 = .ok (.lstore_n 2, 1) := dk_65 (dk_at dksX2_found_1 20 rfl rfl)
theorem dX2_found_43 : decode cX2_found 43 = .ok (.lload_n 2, 1) := dk_32 (dk_at dksX2_found_1 21 rfl rfl)
theorem dX2_found_44 : decode cX2_found 44 = .ok (.ldc2_w 211, 3) := dk_20 0 211 (dk_at dksX2_found_2 0 rfl rfl)
theorem dX2_found_47 : decode cX2_found 47 = .ok (.lcmp, 1) := dk_148 (dk_at dksX2_found_2 3 rfl rfl)
theorem dX2_found_48 : decode cX2_found 48 = .ok (.ifCond .ne 8, 3) := dk_154 0 8 (dk_at dksX2_found_2 4 rfl rfl)
theorem dX2_found_51 : decode cX2_found 51 = .ok (.lload_n 0, 1) := dk_30 (dk_at dksX2_found_2 7 rfl rfl)
theorem dX2_found_52 : decode cX2_found 52 = .ok (.invokestatic 964, 3) := dk_184 3 196 (dk_at dksX2_found_2 8 rfl rfl)
theorem dX2_found_55 : decode cX2_found 55 = .ok (.lstore_n 2, 1) := dk_65 (dk_at dksX2_found_2 11 rfl rfl)
theorem dX2_found_56 : decode cX2_found 56 = .ok (.lload_n 2, 1) := dk_32 (dk_at dksX2_found_2 12 rfl rfl)
theorem dX2_found_57 : decode cX2_found 57 = .ok (.ldc2_w 211, 3) := dk_20 0 211 (dk_at dksX2_found_2 13 rfl rfl)
theorem dX2_found_60 : decode cX2_found 60 = .ok (.lcmp, 1) := dk_148 (dk_at dksX2_found_2 16 rfl rfl)
theorem dX2_found_61 : decode cX2_found 61 = .ok (.ifCond .ne 8, 3) := dk_154 0 8 (dk_at dksX2_found_2 17 rfl rfl)
theorem dX2_found_64 : decode cX2_found 64 = .ok (.lload_n 0, 1) := dk_30 (dk_at dksX2_found_2 20 rfl rfl)
theorem dX2_found_65 : decode cX2_found 65 = .ok (.invokestatic 967, 3) := dk_184 3 199 (dk_at dksX2_found_2 21 rfl rfl)
theorem dX2_found_68 : decode cX2_found 68 = .ok (.lstore_n 2, 1) := dk_65 (dk_at dksX2_found_3 0 rfl rfl)
theorem dX2_found_69 : decode cX2_found 69 = .ok (.lload_n 2, 1) := dk_32 (dk_at dksX2_found_3 1 rfl rfl)
theorem dX2_found_70 : decode cX2_found 70 = .ok (.ldc2_w 211, 3) := dk_20 0 211 (dk_at dksX2_found_3 2 rfl rfl)
theorem dX2_found_73 : decode cX2_found 73 = .ok (.lcmp, 1) := dk_148 (dk_at dksX2_found_3 5 rfl rfl)
theorem dX2_found_74 : decode cX2_found 74 = .ok (.ifCond .ne 8, 3) := dk_154 0 8 (dk_at dksX2_found_3 6 rfl rfl)
theorem dX2_found_77 : decode cX2_found 77 = .ok (.lload_n 0, 1) := dk_30 (dk_at dksX2_found_3 9 rfl rfl)
theorem dX2_found_78 : decode cX2_found 78 = .ok (.invokestatic 970, 3) := dk_184 3 202 (dk_at dksX2_found_3 10 rfl rfl)
theorem dX2_found_81 : decode cX2_found 81 = .ok (.lstore_n 2, 1) := dk_65 (dk_at dksX2_found_3 13 rfl rfl)
theorem dX2_found_82 : decode cX2_found 82 = .ok (.lload_n 2, 1) := dk_32 (dk_at dksX2_found_3 14 rfl rfl)
theorem dX2_found_83 : decode cX2_found 83 = .ok (.ldc2_w 211, 3) := dk_20 0 211 (dk_at dksX2_found_3 15 rfl rfl)
theorem dX2_found_86 : decode cX2_found 86 = .ok (.lcmp, 1) := dk_148 (dk_at dksX2_found_3 18 rfl rfl)
theorem dX2_found_87 : decode cX2_found 87 = .ok (.ifCond .ne 8, 3) := dk_154 0 8 (dk_at dksX2_found_3 19 rfl rfl)
theorem dX2_found_90 : decode cX2_found 90 = .ok (.lload_n 0, 1) := dk_30 (dk_at dksX2_found_3 22 rfl rfl)
theorem dX2_found_91 : decode cX2_found 91 = .ok (.invokestatic 973, 3) := dk_184 3 205 (dk_at dksX2_found_4 0 rfl rfl)
theorem dX2_found_94 : decode cX2_found 94 = .ok (.lstore_n 2, 1) := dk_65 (dk_at dksX2_found_4 3 rfl rfl)
theorem dX2_found_95 : decode cX2_found 95 = .ok (.lload_n 2, 1) := dk_32 (dk_at dksX2_found_4 4 rfl rfl)
theorem dX2_found_96 : decode cX2_found 96 = .ok (.ldc2_w 211, 3) := dk_20 0 211 (dk_at dksX2_found_4 5 rfl rfl)
theorem dX2_found_99 : decode cX2_found 99 = .ok (.lcmp, 1) := dk_148 (dk_at dksX2_found_4 8 rfl rfl)
theorem dX2_found_100 : decode cX2_found 100 = .ok (.ifCond .ne 8, 3) := dk_154 0 8 (dk_at dksX2_found_4 9 rfl rfl)
theorem dX2_found_103 : decode cX2_found 103 = .ok (.lload_n 0, 1) := dk_30 (dk_at dksX2_found_4 12 rfl rfl)
theorem dX2_found_104 : decode cX2_found 104 = .ok (.invokestatic 976, 3) := dk_184 3 208 (dk_at dksX2_found_4 13 rfl rfl)
theorem dX2_found_107 : decode cX2_found 107 = .ok (.lstore_n 2, 1) := dk_65 (dk_at dksX2_found_4 16 rfl rfl)
theorem dX2_found_108 : decode cX2_found 108 = .ok (.lload_n 2, 1) := dk_32 (dk_at dksX2_found_4 17 rfl rfl)
theorem dX2_found_109 : decode cX2_found 109 = .ok (.ldc2_w 211, 3) := dk_20 0 211 (dk_at dksX2_found_4 18 rfl rfl)
theorem dX2_found_112 : decode cX2_found 112 = .ok (.lcmp, 1) := dk_148 (dk_at dksX2_found_4 21 rfl rfl)
theorem dX2_found_113 : decode cX2_found 113 = .ok (.ifCond .ne 8, 3) := dk_154 0 8 (dk_at dksX2_found_5 0 rfl rfl)
theorem dX2_found_116 : decode cX2_found 116 = .ok (.lload_n 0, 1) := dk_30 (dk_at dksX2_found_5 3 rfl rfl)
theorem dX2_found_117 : decode cX2_found 117 = .ok (.invokestatic 979, 3) := dk_184 3 211 (dk_at dksX2_found_5 4 rfl rfl)
theorem dX2_found_120 : decode cX2_found 120 = .ok (.lstore_n 2, 1) := dk_65 (dk_at dksX2_found_5 7 rfl rfl)
theorem dX2_found_121 : decode cX2_found 121 = .ok (.lload_n 2, 1) := dk_32 (dk_at dksX2_found_5 8 rfl rfl)
theorem dX2_found_122 : decode cX2_found 122 = .ok (.lreturn, 1) := dk_173 (dk_at dksX2_found_5 9 rfl rfl)
abbrev cX2_ofFour : ByteArray := prog_4_method_22_code
def yX2_ofFour : MethodName := ⟨RX2, "ofFour", "(J)J"⟩
def dkwX2_ofFour_15 : List UInt8 := [20, 0, 211, 173]
abbrev dktX2_ofFour_15 : List UInt8 := dkwX2_ofFour_15 ++ []
def dkwX2_ofFour_14 : List UInt8 := [30, 20, 1, 72, 148, 154, 0, 7, 20, 1, 74, 173, 30, 20, 1, 76, 148, 154, 0, 7, 20, 1, 78, 173]
abbrev dktX2_ofFour_14 : List UInt8 := dkwX2_ofFour_14 ++ dktX2_ofFour_15
def dkwX2_ofFour_13 : List UInt8 := [30, 20, 1, 64, 148, 154, 0, 7, 20, 1, 66, 173, 30, 20, 1, 68, 148, 154, 0, 7, 20, 1, 70, 173]
abbrev dktX2_ofFour_13 : List UInt8 := dkwX2_ofFour_13 ++ dktX2_ofFour_14
def dkwX2_ofFour_12 : List UInt8 := [30, 20, 1, 56, 148, 154, 0, 7, 20, 1, 58, 173, 30, 20, 1, 60, 148, 154, 0, 7, 20, 1, 62, 173]
abbrev dktX2_ofFour_12 : List UInt8 := dkwX2_ofFour_12 ++ dktX2_ofFour_13
def dkwX2_ofFour_11 : List UInt8 := [30, 20, 1, 48, 148, 154, 0, 7, 20, 1, 50, 173, 30, 20, 1, 52, 148, 154, 0, 7, 20, 1, 54, 173]
abbrev dktX2_ofFour_11 : List UInt8 := dkwX2_ofFour_11 ++ dktX2_ofFour_12
def dkwX2_ofFour_10 : List UInt8 := [30, 20, 1, 40, 148, 154, 0, 7, 20, 1, 42, 173, 30, 20, 1, 44, 148, 154, 0, 7, 20, 1, 46, 173]
abbrev dktX2_ofFour_10 : List UInt8 := dkwX2_ofFour_10 ++ dktX2_ofFour_11
def dkwX2_ofFour_9 : List UInt8 := [30, 20, 1, 32, 148, 154, 0, 7, 20, 1, 34, 173, 30, 20, 1, 36, 148, 154, 0, 7, 20, 1, 38, 173]
abbrev dktX2_ofFour_9 : List UInt8 := dkwX2_ofFour_9 ++ dktX2_ofFour_10
def dkwX2_ofFour_8 : List UInt8 := [30, 20, 1, 24, 148, 154, 0, 7, 20, 1, 26, 173, 30, 20, 1, 28, 148, 154, 0, 7, 20, 1, 30, 173]
abbrev dktX2_ofFour_8 : List UInt8 := dkwX2_ofFour_8 ++ dktX2_ofFour_9
def dkwX2_ofFour_7 : List UInt8 := [30, 20, 1, 16, 148, 154, 0, 7, 20, 1, 18, 173, 30, 20, 1, 20, 148, 154, 0, 7, 20, 1, 22, 173]
abbrev dktX2_ofFour_7 : List UInt8 := dkwX2_ofFour_7 ++ dktX2_ofFour_8
def dkwX2_ofFour_6 : List UInt8 := [30, 20, 1, 8, 148, 154, 0, 7, 20, 1, 10, 173, 30, 20, 1, 12, 148, 154, 0, 7, 20, 1, 14, 173]
abbrev dktX2_ofFour_6 : List UInt8 := dkwX2_ofFour_6 ++ dktX2_ofFour_7
def dkwX2_ofFour_5 : List UInt8 := [30, 20, 1, 0, 148, 154, 0, 7, 20, 1, 2, 173, 30, 20, 1, 4, 148, 154, 0, 7, 20, 1, 6, 173]
abbrev dktX2_ofFour_5 : List UInt8 := dkwX2_ofFour_5 ++ dktX2_ofFour_6
def dkwX2_ofFour_4 : List UInt8 := [30, 20, 0, 248, 148, 154, 0, 7, 20, 0, 250, 173, 30, 20, 0, 252, 148, 154, 0, 7, 20, 0, 254, 173]
abbrev dktX2_ofFour_4 : List UInt8 := dkwX2_ofFour_4 ++ dktX2_ofFour_5
def dkwX2_ofFour_3 : List UInt8 := [30, 20, 0, 240, 148, 154, 0, 7, 20, 0, 242, 173, 30, 20, 0, 244, 148, 154, 0, 7, 20, 0, 246, 173]
abbrev dktX2_ofFour_3 : List UInt8 := dkwX2_ofFour_3 ++ dktX2_ofFour_4
def dkwX2_ofFour_2 : List UInt8 := [30, 20, 0, 232, 148, 154, 0, 7, 20, 0, 234, 173, 30, 20, 0, 236, 148, 154, 0, 7, 20, 0, 238, 173]
abbrev dktX2_ofFour_2 : List UInt8 := dkwX2_ofFour_2 ++ dktX2_ofFour_3
def dkwX2_ofFour_1 : List UInt8 := [30, 20, 0, 224, 148, 154, 0, 7, 20, 0, 226, 173, 30, 20, 0, 228, 148, 154, 0, 7, 20, 0, 230, 173]
abbrev dktX2_ofFour_1 : List UInt8 := dkwX2_ofFour_1 ++ dktX2_ofFour_2
def dkwX2_ofFour_0 : List UInt8 := [30, 20, 0, 216, 148, 154, 0, 7, 20, 0, 218, 173, 30, 20, 0, 220, 148, 154, 0, 7, 20, 0, 222, 173]
abbrev dktX2_ofFour_0 : List UInt8 := dkwX2_ofFour_0 ++ dktX2_ofFour_1
theorem dksX2_ofFour_0 : cX2_ofFour.data.toList.drop 0 = dktX2_ofFour_0 := by decide +kernel
theorem dksX2_ofFour_1 : cX2_ofFour.data.toList.drop 24 = dktX2_ofFour_1 := dk_seg dksX2_ofFour_0 24 rfl rfl
theorem dksX2_ofFour_2 : cX2_ofFour.data.toList.drop 48 = dktX2_ofFour_2 := dk_seg dksX2_ofFour_1 24 rfl rfl
theorem dksX2_ofFour_3 : cX2_ofFour.data.toList.drop 72 = dktX2_ofFour_3 := dk_seg dksX2_ofFour_2 24 rfl rfl
theorem dksX2_ofFour_4 : cX2_ofFour.data.toList.drop 96 = dktX2_ofFour_4 := dk_seg dksX2_ofFour_3 24 rfl rfl
theorem dksX2_ofFour_5 : cX2_ofFour.data.toList.drop 120 = dktX2_ofFour_5 := dk_seg dksX2_ofFour_4 24 rfl rfl
theorem dksX2_ofFour_6 : cX2_ofFour.data.toList.drop 144 = dktX2_ofFour_6 := dk_seg dksX2_ofFour_5 24 rfl rfl
theorem dksX2_ofFour_7 : cX2_ofFour.data.toList.drop 168 = dktX2_ofFour_7 := dk_seg dksX2_ofFour_6 24 rfl rfl
theorem dksX2_ofFour_8 : cX2_ofFour.data.toList.drop 192 = dktX2_ofFour_8 := dk_seg dksX2_ofFour_7 24 rfl rfl
theorem dksX2_ofFour_9 : cX2_ofFour.data.toList.drop 216 = dktX2_ofFour_9 := dk_seg dksX2_ofFour_8 24 rfl rfl
theorem dksX2_ofFour_10 : cX2_ofFour.data.toList.drop 240 = dktX2_ofFour_10 := dk_seg dksX2_ofFour_9 24 rfl rfl
theorem dksX2_ofFour_11 : cX2_ofFour.data.toList.drop 264 = dktX2_ofFour_11 := dk_seg dksX2_ofFour_10 24 rfl rfl
theorem dksX2_ofFour_12 : cX2_ofFour.data.toList.drop 288 = dktX2_ofFour_12 := dk_seg dksX2_ofFour_11 24 rfl rfl
theorem dksX2_ofFour_13 : cX2_ofFour.data.toList.drop 312 = dktX2_ofFour_13 := dk_seg dksX2_ofFour_12 24 rfl rfl
theorem dksX2_ofFour_14 : cX2_ofFour.data.toList.drop 336 = dktX2_ofFour_14 := dk_seg dksX2_ofFour_13 24 rfl rfl
theorem dksX2_ofFour_15 : cX2_ofFour.data.toList.drop 360 = dktX2_ofFour_15 := dk_seg dksX2_ofFour_14 24 rfl rfl
theorem dX2_ofFour_0 : decode cX2_ofFour 0 = .ok (.lload_n 0, 1) := dk_30 (dk_at dksX2_ofFour_0 0 rfl rfl)
theorem dX2_ofFour_1 : decode cX2_ofFour 1 = .ok (.ldc2_w 216, 3) := dk_20 0 216 (dk_at dksX2_ofFour_0 1 rfl rfl)
theorem dX2_ofFour_4 : decode cX2_ofFour 4 = .ok (.lcmp, 1) := dk_148 (dk_at dksX2_ofFour_0 4 rfl rfl)
theorem dX2_ofFour_5 : decode cX2_ofFour 5 = .ok (.ifCond .ne 7, 3) := dk_154 0 7 (dk_at dksX2_ofFour_0 5 rfl rfl)
theorem dX2_ofFour_8 : decode cX2_ofFour 8 = .ok (.ldc2_w 218, 3) := dk_20 0 218 (dk_at dksX2_ofFour_0 8 rfl rfl)
theorem dX2_ofFour_11 : decode cX2_ofFour 11 = .ok (.lreturn, 1) := dk_173 (dk_at dksX2_ofFour_0 11 rfl rfl)
theorem dX2_ofFour_12 : decode cX2_ofFour 12 = .ok (.lload_n 0, 1) := dk_30 (dk_at dksX2_ofFour_0 12 rfl rfl)
theorem dX2_ofFour_13 : decode cX2_ofFour 13 = .ok (.ldc2_w 220, 3) := dk_20 0 220 (dk_at dksX2_ofFour_0 13 rfl rfl)
theorem dX2_ofFour_16 : decode cX2_ofFour 16 = .ok (.lcmp, 1) := dk_148 (dk_at dksX2_ofFour_0 16 rfl rfl)
theorem dX2_ofFour_17 : decode cX2_ofFour 17 = .ok (.ifCond .ne 7, 3) := dk_154 0 7 (dk_at dksX2_ofFour_0 17 rfl rfl)
theorem dX2_ofFour_20 : decode cX2_ofFour 20 = .ok (.ldc2_w 222, 3) := dk_20 0 222 (dk_at dksX2_ofFour_0 20 rfl rfl)
theorem dX2_ofFour_23 : decode cX2_ofFour 23 = .ok (.lreturn, 1) := dk_173 (dk_at dksX2_ofFour_0 23 rfl rfl)
theorem dX2_ofFour_24 : decode cX2_ofFour 24 = .ok (.lload_n 0, 1) := dk_30 (dk_at dksX2_ofFour_1 0 rfl rfl)
theorem dX2_ofFour_25 : decode cX2_ofFour 25 = .ok (.ldc2_w 224, 3) := dk_20 0 224 (dk_at dksX2_ofFour_1 1 rfl rfl)
theorem dX2_ofFour_28 : decode cX2_ofFour 28 = .ok (.lcmp, 1) := dk_148 (dk_at dksX2_ofFour_1 4 rfl rfl)
theorem dX2_ofFour_29 : decode cX2_ofFour 29 = .ok (.ifCond .ne 7, 3) := dk_154 0 7 (dk_at dksX2_ofFour_1 5 rfl rfl)
theorem dX2_ofFour_32 : decode cX2_ofFour 32 = .ok (.ldc2_w 226, 3) := dk_20 0 226 (dk_at dksX2_ofFour_1 8 rfl rfl)
theorem dX2_ofFour_35 : decode cX2_ofFour 35 = .ok (.lreturn, 1) := dk_173 (dk_at dksX2_ofFour_1 11 rfl rfl)
theorem dX2_ofFour_36 : decode cX2_ofFour 36 = .ok (.lload_n 0, 1) := dk_30 (dk_at dksX2_ofFour_1 12 rfl rfl)
theorem dX2_ofFour_37 : decode cX2_ofFour 37 = .ok (.ldc2_w 228, 3) := dk_20 0 228 (dk_at dksX2_ofFour_1 13 rfl rfl)
theorem dX2_ofFour_40 : decode cX2_ofFour 40 = .ok (.lcmp, 1) := dk_148 (dk_at dksX2_ofFour_1 16 rfl rfl)
theorem dX2_ofFour_41 : decode cX2_ofFour 41 = .ok (.ifCond .ne 7, 3) := dk_154 0 7 (dk_at dksX2_ofFour_1 17 rfl rfl)
theorem dX2_ofFour_44 : decode cX2_ofFour 44 = .ok (.ldc2_w 230, 3) := dk_20 0 230 (dk_at dksX2_ofFour_1 20 rfl rfl)
theorem dX2_ofFour_47 : decode cX2_ofFour 47 = .ok (.lreturn, 1) := dk_173 (dk_at dksX2_ofFour_1 23 rfl rfl)
theorem dX2_ofFour_48 : decode cX2_ofFour 48 = .ok (.lload_n 0, 1) := dk_30 (dk_at dksX2_ofFour_2 0 rfl rfl)
theorem dX2_ofFour_49 : decode cX2_ofFour 49 = .ok (.ldc2_w 232, 3) := dk_20 0 232 (dk_at dksX2_ofFour_2 1 rfl rfl)
theorem dX2_ofFour_52 : decode cX2_ofFour 52 = .ok (.lcmp, 1) := dk_148 (dk_at dksX2_ofFour_2 4 rfl rfl)
theorem dX2_ofFour_53 : decode cX2_ofFour 53 = .ok (.ifCond .ne 7, 3) := dk_154 0 7 (dk_at dksX2_ofFour_2 5 rfl rfl)
theorem dX2_ofFour_56 : decode cX2_ofFour 56 = .ok (.ldc2_w 234, 3) := dk_20 0 234 (dk_at dksX2_ofFour_2 8 rfl rfl)
theorem dX2_ofFour_59 : decode cX2_ofFour 59 = .ok (.lreturn, 1) := dk_173 (dk_at dksX2_ofFour_2 11 rfl rfl)
theorem dX2_ofFour_60 : decode cX2_ofFour 60 = .ok (.lload_n 0, 1) := dk_30 (dk_at dksX2_ofFour_2 12 rfl rfl)
theorem dX2_ofFour_61 : decode cX2_ofFour 61 = .ok (.ldc2_w 236, 3) := dk_20 0 236 (dk_at dksX2_ofFour_2 13 rfl rfl)
theorem dX2_ofFour_64 : decode cX2_ofFour 64 = .ok (.lcmp, 1) := dk_148 (dk_at dksX2_ofFour_2 16 rfl rfl)
theorem dX2_ofFour_65 : decode cX2_ofFour 65 = .ok (.ifCond .ne 7, 3) := dk_154 0 7 (dk_at dksX2_ofFour_2 17 rfl rfl)
theorem dX2_ofFour_68 : decode cX2_ofFour 68 = .ok (.ldc2_w 238, 3) := dk_20 0 238 (dk_at dksX2_ofFour_2 20 rfl rfl)
theorem dX2_ofFour_71 : decode cX2_ofFour 71 = .ok (.lreturn, 1) := dk_173 (dk_at dksX2_ofFour_2 23 rfl rfl)
theorem dX2_ofFour_72 : decode cX2_ofFour 72 = .ok (.lload_n 0, 1) := dk_30 (dk_at dksX2_ofFour_3 0 rfl rfl)
theorem dX2_ofFour_73 : decode cX2_ofFour 73 = .ok (.ldc2_w 240, 3) := dk_20 0 240 (dk_at dksX2_ofFour_3 1 rfl rfl)
theorem dX2_ofFour_76 : decode cX2_ofFour 76 = .ok (.lcmp, 1) := dk_148 (dk_at dksX2_ofFour_3 4 rfl rfl)
theorem dX2_ofFour_77 : decode cX2_ofFour 77 = .ok (.ifCond .ne 7, 3) := dk_154 0 7 (dk_at dksX2_ofFour_3 5 rfl rfl)
theorem dX2_ofFour_80 : decode cX2_ofFour 80 = .ok (.ldc2_w 242, 3) := dk_20 0 242 (dk_at dksX2_ofFour_3 8 rfl rfl)
theorem dX2_ofFour_83 : decode cX2_ofFour 83 = .ok (.lreturn, 1) := dk_173 (dk_at dksX2_ofFour_3 11 rfl rfl)
theorem dX2_ofFour_84 : decode cX2_ofFour 84 = .ok (.lload_n 0, 1) := dk_30 (dk_at dksX2_ofFour_3 12 rfl rfl)
theorem dX2_ofFour_85 : decode cX2_ofFour 85 = .ok (.ldc2_w 244, 3) := dk_20 0 244 (dk_at dksX2_ofFour_3 13 rfl rfl)
theorem dX2_ofFour_88 : decode cX2_ofFour 88 = .ok (.lcmp, 1) := dk_148 (dk_at dksX2_ofFour_3 16 rfl rfl)
theorem dX2_ofFour_89 : decode cX2_ofFour 89 = .ok (.ifCond .ne 7, 3) := dk_154 0 7 (dk_at dksX2_ofFour_3 17 rfl rfl)
theorem dX2_ofFour_92 : decode cX2_ofFour 92 = .ok (.ldc2_w 246, 3) := dk_20 0 246 (dk_at dksX2_ofFour_3 20 rfl rfl)
theorem dX2_ofFour_95 : decode cX2_ofFour 95 = .ok (.lreturn, 1) := dk_173 (dk_at dksX2_ofFour_3 23 rfl rfl)
theorem dX2_ofFour_96 : decode cX2_ofFour 96 = .ok (.lload_n 0, 1) := dk_30 (dk_at dksX2_ofFour_4 0 rfl rfl)
theorem dX2_ofFour_97 : decode cX2_ofFour 97 = .ok (.ldc2_w 248, 3) := dk_20 0 248 (dk_at dksX2_ofFour_4 1 rfl rfl)
theorem dX2_ofFour_100 : decode cX2_ofFour 100 = .ok (.lcmp, 1) := dk_148 (dk_at dksX2_ofFour_4 4 rfl rfl)
theorem dX2_ofFour_101 : decode cX2_ofFour 101 = .ok (.ifCond .ne 7, 3) := dk_154 0 7 (dk_at dksX2_ofFour_4 5 rfl rfl)
theorem dX2_ofFour_104 : decode cX2_ofFour 104 = .ok (.ldc2_w 250, 3) := dk_20 0 250 (dk_at dksX2_ofFour_4 8 rfl rfl)
theorem dX2_ofFour_107 : decode cX2_ofFour 107 = .ok (.lreturn, 1) := dk_173 (dk_at dksX2_ofFour_4 11 rfl rfl)
theorem dX2_ofFour_108 : decode cX2_ofFour 108 = .ok (.lload_n 0, 1) := dk_30 (dk_at dksX2_ofFour_4 12 rfl rfl)
theorem dX2_ofFour_109 : decode cX2_ofFour 109 = .ok (.ldc2_w 252, 3) := dk_20 0 252 (dk_at dksX2_ofFour_4 13 rfl rfl)
theorem dX2_ofFour_112 : decode cX2_ofFour 112 = .ok (.lcmp, 1) := dk_148 (dk_at dksX2_ofFour_4 16 rfl rfl)
theorem dX2_ofFour_113 : decode cX2_ofFour 113 = .ok (.ifCond .ne 7, 3) := dk_154 0 7 (dk_at dksX2_ofFour_4 17 rfl rfl)
theorem dX2_ofFour_116 : decode cX2_ofFour 116 = .ok (.ldc2_w 254, 3) := dk_20 0 254 (dk_at dksX2_ofFour_4 20 rfl rfl)
theorem dX2_ofFour_119 : decode cX2_ofFour 119 = .ok (.lreturn, 1) := dk_173 (dk_at dksX2_ofFour_4 23 rfl rfl)
theorem dX2_ofFour_120 : decode cX2_ofFour 120 = .ok (.lload_n 0, 1) := dk_30 (dk_at dksX2_ofFour_5 0 rfl rfl)
theorem dX2_ofFour_121 : decode cX2_ofFour 121 = .ok (.ldc2_w 256, 3) := dk_20 1 0 (dk_at dksX2_ofFour_5 1 rfl rfl)
theorem dX2_ofFour_124 : decode cX2_ofFour 124 = .ok (.lcmp, 1) := dk_148 (dk_at dksX2_ofFour_5 4 rfl rfl)
theorem dX2_ofFour_125 : decode cX2_ofFour 125 = .ok (.ifCond .ne 7, 3) := dk_154 0 7 (dk_at dksX2_ofFour_5 5 rfl rfl)
theorem dX2_ofFour_128 : decode cX2_ofFour 128 = .ok (.ldc2_w 258, 3) := dk_20 1 2 (dk_at dksX2_ofFour_5 8 rfl rfl)
theorem dX2_ofFour_131 : decode cX2_ofFour 131 = .ok (.lreturn, 1) := dk_173 (dk_at dksX2_ofFour_5 11 rfl rfl)
theorem dX2_ofFour_132 : decode cX2_ofFour 132 = .ok (.lload_n 0, 1) := dk_30 (dk_at dksX2_ofFour_5 12 rfl rfl)
theorem dX2_ofFour_133 : decode cX2_ofFour 133 = .ok (.ldc2_w 260, 3) := dk_20 1 4 (dk_at dksX2_ofFour_5 13 rfl rfl)
theorem dX2_ofFour_136 : decode cX2_ofFour 136 = .ok (.lcmp, 1) := dk_148 (dk_at dksX2_ofFour_5 16 rfl rfl)
theorem dX2_ofFour_137 : decode cX2_ofFour 137 = .ok (.ifCond .ne 7, 3) := dk_154 0 7 (dk_at dksX2_ofFour_5 17 rfl rfl)
theorem dX2_ofFour_140 : decode cX2_ofFour 140 = .ok (.ldc2_w 262, 3) := dk_20 1 6 (dk_at dksX2_ofFour_5 20 rfl rfl)
theorem dX2_ofFour_143 : decode cX2_ofFour 143 = .ok (.lreturn, 1) := dk_173 (dk_at dksX2_ofFour_5 23 rfl rfl)
theorem dX2_ofFour_144 : decode cX2_ofFour 144 = .ok (.lload_n 0, 1) := dk_30 (dk_at dksX2_ofFour_6 0 rfl rfl)
theorem dX2_ofFour_145 : decode cX2_ofFour 145 = .ok (.ldc2_w 264, 3) := dk_20 1 8 (dk_at dksX2_ofFour_6 1 rfl rfl)
theorem dX2_ofFour_148 : decode cX2_ofFour 148 = .ok (.lcmp, 1) := dk_148 (dk_at dksX2_ofFour_6 4 rfl rfl)
theorem dX2_ofFour_149 : decode cX2_ofFour 149 = .ok (.ifCond .ne 7, 3) := dk_154 0 7 (dk_at dksX2_ofFour_6 5 rfl rfl)
theorem dX2_ofFour_152 : decode cX2_ofFour 152 = .ok (.ldc2_w 266, 3) := dk_20 1 10 (dk_at dksX2_ofFour_6 8 rfl rfl)
theorem dX2_ofFour_155 : decode cX2_ofFour 155 = .ok (.lreturn, 1) := dk_173 (dk_at dksX2_ofFour_6 11 rfl rfl)
theorem dX2_ofFour_156 : decode cX2_ofFour 156 = .ok (.lload_n 0, 1) := dk_30 (dk_at dksX2_ofFour_6 12 rfl rfl)
theorem dX2_ofFour_157 : decode cX2_ofFour 157 = .ok (.ldc2_w 268, 3) := dk_20 1 12 (dk_at dksX2_ofFour_6 13 rfl rfl)
theorem dX2_ofFour_160 : decode cX2_ofFour 160 = .ok (.lcmp, 1) := dk_148 (dk_at dksX2_ofFour_6 16 rfl rfl)
theorem dX2_ofFour_161 : decode cX2_ofFour 161 = .ok (.ifCond .ne 7, 3) := dk_154 0 7 (dk_at dksX2_ofFour_6 17 rfl rfl)
theorem dX2_ofFour_164 : decode cX2_ofFour 164 = .ok (.ldc2_w 270, 3) := dk_20 1 14 (dk_at dksX2_ofFour_6 20 rfl rfl)
theorem dX2_ofFour_167 : decode cX2_ofFour 167 = .ok (.lreturn, 1) := dk_173 (dk_at dksX2_ofFour_6 23 rfl rfl)
theorem dX2_ofFour_168 : decode cX2_ofFour 168 = .ok (.lload_n 0, 1) := dk_30 (dk_at dksX2_ofFour_7 0 rfl rfl)
theorem dX2_ofFour_169 : decode cX2_ofFour 169 = .ok (.ldc2_w 272, 3) := dk_20 1 16 (dk_at dksX2_ofFour_7 1 rfl rfl)
theorem dX2_ofFour_172 : decode cX2_ofFour 172 = .ok (.lcmp, 1) := dk_148 (dk_at dksX2_ofFour_7 4 rfl rfl)
theorem dX2_ofFour_173 : decode cX2_ofFour 173 = .ok (.ifCond .ne 7, 3) := dk_154 0 7 (dk_at dksX2_ofFour_7 5 rfl rfl)
theorem dX2_ofFour_176 : decode cX2_ofFour 176 = .ok (.ldc2_w 274, 3) := dk_20 1 18 (dk_at dksX2_ofFour_7 8 rfl rfl)
theorem dX2_ofFour_179 : decode cX2_ofFour 179 = .ok (.lreturn, 1) := dk_173 (dk_at dksX2_ofFour_7 11 rfl rfl)
theorem dX2_ofFour_180 : decode cX2_ofFour 180 = .ok (.lload_n 0, 1) := dk_30 (dk_at dksX2_ofFour_7 12 rfl rfl)
theorem dX2_ofFour_181 : decode cX2_ofFour 181 = .ok (.ldc2_w 276, 3) := dk_20 1 20 (dk_at dksX2_ofFour_7 13 rfl rfl)
theorem dX2_ofFour_184 : decode cX2_ofFour 184 = .ok (.lcmp, 1) := dk_148 (dk_at dksX2_ofFour_7 16 rfl rfl)
theorem dX2_ofFour_185 : decode cX2_ofFour 185 = .ok (.ifCond .ne 7, 3) := dk_154 0 7 (dk_at dksX2_ofFour_7 17 rfl rfl)
theorem dX2_ofFour_188 : decode cX2_ofFour 188 = .ok (.ldc2_w 278, 3) := dk_20 1 22 (dk_at dksX2_ofFour_7 20 rfl rfl)
theorem dX2_ofFour_191 : decode cX2_ofFour 191 = .ok (.lreturn, 1) := dk_173 (dk_at dksX2_ofFour_7 23 rfl rfl)
theorem dX2_ofFour_192 : decode cX2_ofFour 192 = .ok (.lload_n 0, 1) := dk_30 (dk_at dksX2_ofFour_8 0 rfl rfl)
theorem dX2_ofFour_193 : decode cX2_ofFour 193 = .ok (.ldc2_w 280, 3) := dk_20 1 24 (dk_at dksX2_ofFour_8 1 rfl rfl)
theorem dX2_ofFour_196 : decode cX2_ofFour 196 = .ok (.lcmp, 1) := dk_148 (dk_at dksX2_ofFour_8 4 rfl rfl)
theorem dX2_ofFour_197 : decode cX2_ofFour 197 = .ok (.ifCond .ne 7, 3) := dk_154 0 7 (dk_at dksX2_ofFour_8 5 rfl rfl)
theorem dX2_ofFour_200 : decode cX2_ofFour 200 = .ok (.ldc2_w 282, 3) := dk_20 1 26 (dk_at dksX2_ofFour_8 8 rfl rfl)
theorem dX2_ofFour_203 : decode cX2_ofFour 203 = .ok (.lreturn, 1) := dk_173 (dk_at dksX2_ofFour_8 11 rfl rfl)
theorem dX2_ofFour_204 : decode cX2_ofFour 204 = .ok (.lload_n 0, 1) := dk_30 (dk_at dksX2_ofFour_8 12 rfl rfl)
theorem dX2_ofFour_205 : decode cX2_ofFour 205 = .ok (.ldc2_w 284, 3) := dk_20 1 28 (dk_at dksX2_ofFour_8 13 rfl rfl)
theorem dX2_ofFour_208 : decode cX2_ofFour 208 = .ok (.lcmp, 1) := dk_148 (dk_at dksX2_ofFour_8 16 rfl rfl)
theorem dX2_ofFour_209 : decode cX2_ofFour 209 = .ok (.ifCond .ne 7, 3) := dk_154 0 7 (dk_at dksX2_ofFour_8 17 rfl rfl)
theorem dX2_ofFour_212 : decode cX2_ofFour 212 = .ok (.ldc2_w 286, 3) := dk_20 1 30 (dk_at dksX2_ofFour_8 20 rfl rfl)
theorem dX2_ofFour_215 : decode cX2_ofFour 215 = .ok (.lreturn, 1) := dk_173 (dk_at dksX2_ofFour_8 23 rfl rfl)
theorem dX2_ofFour_216 : decode cX2_ofFour 216 = .ok (.lload_n 0, 1) := dk_30 (dk_at dksX2_ofFour_9 0 rfl rfl)
theorem dX2_ofFour_217 : decode cX2_ofFour 217 = .ok (.ldc2_w 288, 3) := dk_20 1 32 (dk_at dksX2_ofFour_9 1 rfl rfl)
theorem dX2_ofFour_220 : decode cX2_ofFour 220 = .ok (.lcmp, 1) := dk_148 (dk_at dksX2_ofFour_9 4 rfl rfl)
theorem dX2_ofFour_221 : decode cX2_ofFour 221 = .ok (.ifCond .ne 7, 3) := dk_154 0 7 (dk_at dksX2_ofFour_9 5 rfl rfl)
theorem dX2_ofFour_224 : decode cX2_ofFour 224 = .ok (.ldc2_w 290, 3) := dk_20 1 34 (dk_at dksX2_ofFour_9 8 rfl rfl)
theorem dX2_ofFour_227 : decode cX2_ofFour 227 = .ok (.lreturn, 1) := dk_173 (dk_at dksX2_ofFour_9 11 rfl rfl)
theorem dX2_ofFour_228 : decode cX2_ofFour 228 = .ok (.lload_n 0, 1) := dk_30 (dk_at dksX2_ofFour_9 12 rfl rfl)
theorem dX2_ofFour_229 : decode cX2_ofFour 229 = .ok (.ldc2_w 292, 3) := dk_20 1 36 (dk_at dksX2_ofFour_9 13 rfl rfl)
theorem dX2_ofFour_232 : decode cX2_ofFour 232 = .ok (.lcmp, 1) := dk_148 (dk_at dksX2_ofFour_9 16 rfl rfl)
theorem dX2_ofFour_233 : decode cX2_ofFour 233 = .ok (.ifCond .ne 7, 3) := dk_154 0 7 (dk_at dksX2_ofFour_9 17 rfl rfl)
theorem dX2_ofFour_236 : decode cX2_ofFour 236 = .ok (.ldc2_w 294, 3) := dk_20 1 38 (dk_at dksX2_ofFour_9 20 rfl rfl)
theorem dX2_ofFour_239 : decode cX2_ofFour 239 = .ok (.lreturn, 1) := dk_173 (dk_at dksX2_ofFour_9 23 rfl rfl)
theorem dX2_ofFour_240 : decode cX2_ofFour 240 = .ok (.lload_n 0, 1) := dk_30 (dk_at dksX2_ofFour_10 0 rfl rfl)
theorem dX2_ofFour_241 : decode cX2_ofFour 241 = .ok (.ldc2_w 296, 3) := dk_20 1 40 (dk_at dksX2_ofFour_10 1 rfl rfl)
theorem dX2_ofFour_244 : decode cX2_ofFour 244 = .ok (.lcmp, 1) := dk_148 (dk_at dksX2_ofFour_10 4 rfl rfl)
theorem dX2_ofFour_245 : decode cX2_ofFour 245 = .ok (.ifCond .ne 7, 3) := dk_154 0 7 (dk_at dksX2_ofFour_10 5 rfl rfl)
theorem dX2_ofFour_248 : decode cX2_ofFour 248 = .ok (.ldc2_w 298, 3) := dk_20 1 42 (dk_at dksX2_ofFour_10 8 rfl rfl)
theorem dX2_ofFour_251 : decode cX2_ofFour 251 = .ok (.lreturn, 1) := dk_173 (dk_at dksX2_ofFour_10 11 rfl rfl)
theorem dX2_ofFour_252 : decode cX2_ofFour 252 = .ok (.lload_n 0, 1) := dk_30 (dk_at dksX2_ofFour_10 12 rfl rfl)
theorem dX2_ofFour_253 : decode cX2_ofFour 253 = .ok (.ldc2_w 300, 3) := dk_20 1 44 (dk_at dksX2_ofFour_10 13 rfl rfl)
theorem dX2_ofFour_256 : decode cX2_ofFour 256 = .ok (.lcmp, 1) := dk_148 (dk_at dksX2_ofFour_10 16 rfl rfl)
theorem dX2_ofFour_257 : decode cX2_ofFour 257 = .ok (.ifCond .ne 7, 3) := dk_154 0 7 (dk_at dksX2_ofFour_10 17 rfl rfl)
theorem dX2_ofFour_260 : decode cX2_ofFour 260 = .ok (.ldc2_w 302, 3) := dk_20 1 46 (dk_at dksX2_ofFour_10 20 rfl rfl)
theorem dX2_ofFour_263 : decode cX2_ofFour 263 = .ok (.lreturn, 1) := dk_173 (dk_at dksX2_ofFour_10 23 rfl rfl)
theorem dX2_ofFour_264 : decode cX2_ofFour 264 = .ok (.lload_n 0, 1) := dk_30 (dk_at dksX2_ofFour_11 0 rfl rfl)
theorem dX2_ofFour_265 : decode cX2_ofFour 265 = .ok (.ldc2_w 304, 3) := dk_20 1 48 (dk_at dksX2_ofFour_11 1 rfl rfl)
theorem dX2_ofFour_268 : decode cX2_ofFour 268 = .ok (.lcmp, 1) := dk_148 (dk_at dksX2_ofFour_11 4 rfl rfl)
theorem dX2_ofFour_269 : decode cX2_ofFour 269 = .ok (.ifCond .ne 7, 3) := dk_154 0 7 (dk_at dksX2_ofFour_11 5 rfl rfl)
theorem dX2_ofFour_272 : decode cX2_ofFour 272 = .ok (.ldc2_w 306, 3) := dk_20 1 50 (dk_at dksX2_ofFour_11 8 rfl rfl)
theorem dX2_ofFour_275 : decode cX2_ofFour 275 = .ok (.lreturn, 1) := dk_173 (dk_at dksX2_ofFour_11 11 rfl rfl)
theorem dX2_ofFour_276 : decode cX2_ofFour 276 = .ok (.lload_n 0, 1) := dk_30 (dk_at dksX2_ofFour_11 12 rfl rfl)
theorem dX2_ofFour_277 : decode cX2_ofFour 277 = .ok (.ldc2_w 308, 3) := dk_20 1 52 (dk_at dksX2_ofFour_11 13 rfl rfl)
theorem dX2_ofFour_280 : decode cX2_ofFour 280 = .ok (.lcmp, 1) := dk_148 (dk_at dksX2_ofFour_11 16 rfl rfl)
theorem dX2_ofFour_281 : decode cX2_ofFour 281 = .ok (.ifCond .ne 7, 3) := dk_154 0 7 (dk_at dksX2_ofFour_11 17 rfl rfl)
theorem dX2_ofFour_284 : decode cX2_ofFour 284 = .ok (.ldc2_w 310, 3) := dk_20 1 54 (dk_at dksX2_ofFour_11 20 rfl rfl)
theorem dX2_ofFour_287 : decode cX2_ofFour 287 = .ok (.lreturn, 1) := dk_173 (dk_at dksX2_ofFour_11 23 rfl rfl)
theorem dX2_ofFour_288 : decode cX2_ofFour 288 = .ok (.lload_n 0, 1) := dk_30 (dk_at dksX2_ofFour_12 0 rfl rfl)
theorem dX2_ofFour_289 : decode cX2_ofFour 289 = .ok (.ldc2_w 312, 3) := dk_20 1 56 (dk_at dksX2_ofFour_12 1 rfl rfl)
theorem dX2_ofFour_292 : decode cX2_ofFour 292 = .ok (.lcmp, 1) := dk_148 (dk_at dksX2_ofFour_12 4 rfl rfl)
theorem dX2_ofFour_293 : decode cX2_ofFour 293 = .ok (.ifCond .ne 7, 3) := dk_154 0 7 (dk_at dksX2_ofFour_12 5 rfl rfl)
theorem dX2_ofFour_296 : decode cX2_ofFour 296 = .ok (.ldc2_w 314, 3) := dk_20 1 58 (dk_at dksX2_ofFour_12 8 rfl rfl)
theorem dX2_ofFour_299 : decode cX2_ofFour 299 = .ok (.lreturn, 1) := dk_173 (dk_at dksX2_ofFour_12 11 rfl rfl)
theorem dX2_ofFour_300 : decode cX2_ofFour 300 = .ok (.lload_n 0, 1) := dk_30 (dk_at dksX2_ofFour_12 12 rfl rfl)
theorem dX2_ofFour_301 : decode cX2_ofFour 301 = .ok (.ldc2_w 316, 3) := dk_20 1 60 (dk_at dksX2_ofFour_12 13 rfl rfl)
theorem dX2_ofFour_304 : decode cX2_ofFour 304 = .ok (.lcmp, 1) := dk_148 (dk_at dksX2_ofFour_12 16 rfl rfl)
theorem dX2_ofFour_305 : decode cX2_ofFour 305 = .ok (.ifCond .ne 7, 3) := dk_154 0 7 (dk_at dksX2_ofFour_12 17 rfl rfl)
theorem dX2_ofFour_308 : decode cX2_ofFour 308 = .ok (.ldc2_w 318, 3) := dk_20 1 62 (dk_at dksX2_ofFour_12 20 rfl rfl)
theorem dX2_ofFour_311 : decode cX2_ofFour 311 = .ok (.lreturn, 1) := dk_173 (dk_at dksX2_ofFour_12 23 rfl rfl)
theorem dX2_ofFour_312 : decode cX2_ofFour 312 = .ok (.lload_n 0, 1) := dk_30 (dk_at dksX2_ofFour_13 0 rfl rfl)
theorem dX2_ofFour_313 : decode cX2_ofFour 313 = .ok (.ldc2_w 320, 3) := dk_20 1 64 (dk_at dksX2_ofFour_13 1 rfl rfl)
theorem dX2_ofFour_316 : decode cX2_ofFour 316 = .ok (.lcmp, 1) := dk_148 (dk_at dksX2_ofFour_13 4 rfl rfl)
theorem dX2_ofFour_317 : decode cX2_ofFour 317 = .ok (.ifCond .ne 7, 3) := dk_154 0 7 (dk_at dksX2_ofFour_13 5 rfl rfl)
theorem dX2_ofFour_320 : decode cX2_ofFour 320 = .ok (.ldc2_w 322, 3) := dk_20 1 66 (dk_at dksX2_ofFour_13 8 rfl rfl)
theorem dX2_ofFour_323 : decode cX2_ofFour 323 = .ok (.lreturn, 1) := dk_173 (dk_at dksX2_ofFour_13 11 rfl rfl)
theorem dX2_ofFour_324 : decode cX2_ofFour 324 = .ok (.lload_n 0, 1) := dk_30 (dk_at dksX2_ofFour_13 12 rfl rfl)
theorem dX2_ofFour_325 : decode cX2_ofFour 325 = .ok (.ldc2_w 324, 3) := dk_20 1 68 (dk_at dksX2_ofFour_13 13 rfl rfl)
theorem dX2_ofFour_328 : decode cX2_ofFour 328 = .ok (.lcmp, 1) := dk_148 (dk_at dksX2_ofFour_13 16 rfl rfl)
theorem dX2_ofFour_329 : decode cX2_ofFour 329 = .ok (.ifCond .ne 7, 3) := dk_154 0 7 (dk_at dksX2_ofFour_13 17 rfl rfl)
theorem dX2_ofFour_332 : decode cX2_ofFour 332 = .ok (.ldc2_w 326, 3) := dk_20 1 70 (dk_at dksX2_ofFour_13 20 rfl rfl)
theorem dX2_ofFour_335 : decode cX2_ofFour 335 = .ok (.lreturn, 1) := dk_173 (dk_at dksX2_ofFour_13 23 rfl rfl)
theorem dX2_ofFour_336 : decode cX2_ofFour 336 = .ok (.lload_n 0, 1) := dk_30 (dk_at dksX2_ofFour_14 0 rfl rfl)
theorem dX2_ofFour_337 : decode cX2_ofFour 337 = .ok (.ldc2_w 328, 3) := dk_20 1 72 (dk_at dksX2_ofFour_14 1 rfl rfl)
theorem dX2_ofFour_340 : decode cX2_ofFour 340 = .ok (.lcmp, 1) := dk_148 (dk_at dksX2_ofFour_14 4 rfl rfl)
theorem dX2_ofFour_341 : decode cX2_ofFour 341 = .ok (.ifCond .ne 7, 3) := dk_154 0 7 (dk_at dksX2_ofFour_14 5 rfl rfl)
theorem dX2_ofFour_344 : decode cX2_ofFour 344 = .ok (.ldc2_w 330, 3) := dk_20 1 74 (dk_at dksX2_ofFour_14 8 rfl rfl)
theorem dX2_ofFour_347 : decode cX2_ofFour 347 = .ok (.lreturn, 1) := dk_173 (dk_at dksX2_ofFour_14 11 rfl rfl)
theorem dX2_ofFour_348 : decode cX2_ofFour 348 = .ok (.lload_n 0, 1) := dk_30 (dk_at dksX2_ofFour_14 12 rfl rfl)
theorem dX2_ofFour_349 : decode cX2_ofFour 349 = .ok (.ldc2_w 332, 3) := dk_20 1 76 (dk_at dksX2_ofFour_14 13 rfl rfl)
theorem dX2_ofFour_352 : decode cX2_ofFour 352 = .ok (.lcmp, 1) := dk_148 (dk_at dksX2_ofFour_14 16 rfl rfl)
theorem dX2_ofFour_353 : decode cX2_ofFour 353 = .ok (.ifCond .ne 7, 3) := dk_154 0 7 (dk_at dksX2_ofFour_14 17 rfl rfl)
theorem dX2_ofFour_356 : decode cX2_ofFour 356 = .ok (.ldc2_w 334, 3) := dk_20 1 78 (dk_at dksX2_ofFour_14 20 rfl rfl)
theorem dX2_ofFour_359 : decode cX2_ofFour 359 = .ok (.lreturn, 1) := dk_173 (dk_at dksX2_ofFour_14 23 rfl rfl)
theorem dX2_ofFour_360 : decode cX2_ofFour 360 = .ok (.ldc2_w 211, 3) := dk_20 0 211 (dk_at dksX2_ofFour_15 0 rfl rfl)
theorem dX2_ofFour_363 : decode cX2_ofFour 363 = .ok (.lreturn, 1) := dk_173 (dk_at dksX2_ofFour_15 3 rfl rfl)
abbrev cX2_ofFourMore : ByteArray := prog_4_method_23_code
def yX2_ofFourMore : MethodName := ⟨RX2, "ofFourMore", "(J)J"⟩
def dkwX2_ofFourMore_8 : List UInt8 := [30, 20, 1, 144, 148, 154, 0, 7, 20, 1, 146, 173, 20, 0, 211, 173]
abbrev dktX2_ofFourMore_8 : List UInt8 := dkwX2_ofFourMore_8 ++ []
def dkwX2_ofFourMore_7 : List UInt8 := [30, 20, 1, 136, 148, 154, 0, 7, 20, 1, 138, 173, 30, 20, 1, 140, 148, 154, 0, 7, 20, 1, 142, 173]
abbrev dktX2_ofFourMore_7 : List UInt8 := dkwX2_ofFourMore_7 ++ dktX2_ofFourMore_8
def dkwX2_ofFourMore_6 : List UInt8 := [30, 20, 1, 128, 148, 154, 0, 7, 20, 1, 130, 173, 30, 20, 1, 132, 148, 154, 0, 7, 20, 1, 134, 173]
abbrev dktX2_ofFourMore_6 : List UInt8 := dkwX2_ofFourMore_6 ++ dktX2_ofFourMore_7
def dkwX2_ofFourMore_5 : List UInt8 := [30, 20, 1, 120, 148, 154, 0, 7, 20, 1, 122, 173, 30, 20, 1, 124, 148, 154, 0, 7, 20, 1, 126, 173]
abbrev dktX2_ofFourMore_5 : List UInt8 := dkwX2_ofFourMore_5 ++ dktX2_ofFourMore_6
def dkwX2_ofFourMore_4 : List UInt8 := [30, 20, 1, 112, 148, 154, 0, 7, 20, 1, 114, 173, 30, 20, 1, 116, 148, 154, 0, 7, 20, 1, 118, 173]
abbrev dktX2_ofFourMore_4 : List UInt8 := dkwX2_ofFourMore_4 ++ dktX2_ofFourMore_5
def dkwX2_ofFourMore_3 : List UInt8 := [30, 20, 1, 104, 148, 154, 0, 7, 20, 1, 106, 173, 30, 20, 1, 108, 148, 154, 0, 7, 20, 1, 110, 173]
abbrev dktX2_ofFourMore_3 : List UInt8 := dkwX2_ofFourMore_3 ++ dktX2_ofFourMore_4
def dkwX2_ofFourMore_2 : List UInt8 := [30, 20, 1, 96, 148, 154, 0, 7, 20, 1, 98, 173, 30, 20, 1, 100, 148, 154, 0, 7, 20, 1, 102, 173]
abbrev dktX2_ofFourMore_2 : List UInt8 := dkwX2_ofFourMore_2 ++ dktX2_ofFourMore_3
def dkwX2_ofFourMore_1 : List UInt8 := [30, 20, 1, 88, 148, 154, 0, 7, 20, 1, 90, 173, 30, 20, 1, 92, 148, 154, 0, 7, 20, 1, 94, 173]
abbrev dktX2_ofFourMore_1 : List UInt8 := dkwX2_ofFourMore_1 ++ dktX2_ofFourMore_2
def dkwX2_ofFourMore_0 : List UInt8 := [30, 20, 1, 80, 148, 154, 0, 7, 20, 1, 82, 173, 30, 20, 1, 84, 148, 154, 0, 7, 20, 1, 86, 173]
abbrev dktX2_ofFourMore_0 : List UInt8 := dkwX2_ofFourMore_0 ++ dktX2_ofFourMore_1
theorem dksX2_ofFourMore_0 : cX2_ofFourMore.data.toList.drop 0 = dktX2_ofFourMore_0 := by decide +kernel
theorem dksX2_ofFourMore_1 : cX2_ofFourMore.data.toList.drop 24 = dktX2_ofFourMore_1 := dk_seg dksX2_ofFourMore_0 24 rfl rfl
theorem dksX2_ofFourMore_2 : cX2_ofFourMore.data.toList.drop 48 = dktX2_ofFourMore_2 := dk_seg dksX2_ofFourMore_1 24 rfl rfl
theorem dksX2_ofFourMore_3 : cX2_ofFourMore.data.toList.drop 72 = dktX2_ofFourMore_3 := dk_seg dksX2_ofFourMore_2 24 rfl rfl
theorem dksX2_ofFourMore_4 : cX2_ofFourMore.data.toList.drop 96 = dktX2_ofFourMore_4 := dk_seg dksX2_ofFourMore_3 24 rfl rfl
theorem dksX2_ofFourMore_5 : cX2_ofFourMore.data.toList.drop 120 = dktX2_ofFourMore_5 := dk_seg dksX2_ofFourMore_4 24 rfl rfl
theorem dksX2_ofFourMore_6 : cX2_ofFourMore.data.toList.drop 144 = dktX2_ofFourMore_6 := dk_seg dksX2_ofFourMore_5 24 rfl rfl
theorem dksX2_ofFourMore_7 : cX2_ofFourMore.data.toList.drop 168 = dktX2_ofFourMore_7 := dk_seg dksX2_ofFourMore_6 24 rfl rfl
theorem dksX2_ofFourMore_8 : cX2_ofFourMore.data.toList.drop 192 = dktX2_ofFourMore_8 := dk_seg dksX2_ofFourMore_7 24 rfl rfl
theorem dX2_ofFourMore_0 : decode cX2_ofFourMore 0 = .ok (.lload_n 0, 1) := dk_30 (dk_at dksX2_ofFourMore_0 0 rfl rfl)
theorem dX2_ofFourMore_1 : decode cX2_ofFourMore 1 = .ok (.ldc2_w 336, 3) := dk_20 1 80 (dk_at dksX2_ofFourMore_0 1 rfl rfl)
theorem dX2_ofFourMore_4 : decode cX2_ofFourMore 4 = .ok (.lcmp, 1) := dk_148 (dk_at dksX2_ofFourMore_0 4 rfl rfl)
theorem dX2_ofFourMore_5 : decode cX2_ofFourMore 5 = .ok (.ifCond .ne 7, 3) := dk_154 0 7 (dk_at dksX2_ofFourMore_0 5 rfl rfl)
theorem dX2_ofFourMore_8 : decode cX2_ofFourMore 8 = .ok (.ldc2_w 338, 3) := dk_20 1 82 (dk_at dksX2_ofFourMore_0 8 rfl rfl)
theorem dX2_ofFourMore_11 : decode cX2_ofFourMore 11 = .ok (.lreturn, 1) := dk_173 (dk_at dksX2_ofFourMore_0 11 rfl rfl)
theorem dX2_ofFourMore_12 : decode cX2_ofFourMore 12 = .ok (.lload_n 0, 1) := dk_30 (dk_at dksX2_ofFourMore_0 12 rfl rfl)
theorem dX2_ofFourMore_13 : decode cX2_ofFourMore 13 = .ok (.ldc2_w 340, 3) := dk_20 1 84 (dk_at dksX2_ofFourMore_0 13 rfl rfl)
theorem dX2_ofFourMore_16 : decode cX2_ofFourMore 16 = .ok (.lcmp, 1) := dk_148 (dk_at dksX2_ofFourMore_0 16 rfl rfl)
theorem dX2_ofFourMore_17 : decode cX2_ofFourMore 17 = .ok (.ifCond .ne 7, 3) := dk_154 0 7 (dk_at dksX2_ofFourMore_0 17 rfl rfl)
theorem dX2_ofFourMore_20 : decode cX2_ofFourMore 20 = .ok (.ldc2_w 342, 3) := dk_20 1 86 (dk_at dksX2_ofFourMore_0 20 rfl rfl)
theorem dX2_ofFourMore_23 : decode cX2_ofFourMore 23 = .ok (.lreturn, 1) := dk_173 (dk_at dksX2_ofFourMore_0 23 rfl rfl)
theorem dX2_ofFourMore_24 : decode cX2_ofFourMore 24 = .ok (.lload_n 0, 1) := dk_30 (dk_at dksX2_ofFourMore_1 0 rfl rfl)
theorem dX2_ofFourMore_25 : decode cX2_ofFourMore 25 = .ok (.ldc2_w 344, 3) := dk_20 1 88 (dk_at dksX2_ofFourMore_1 1 rfl rfl)
theorem dX2_ofFourMore_28 : decode cX2_ofFourMore 28 = .ok (.lcmp, 1) := dk_148 (dk_at dksX2_ofFourMore_1 4 rfl rfl)
theorem dX2_ofFourMore_29 : decode cX2_ofFourMore 29 = .ok (.ifCond .ne 7, 3) := dk_154 0 7 (dk_at dksX2_ofFourMore_1 5 rfl rfl)
theorem dX2_ofFourMore_32 : decode cX2_ofFourMore 32 = .ok (.ldc2_w 346, 3) := dk_20 1 90 (dk_at dksX2_ofFourMore_1 8 rfl rfl)
theorem dX2_ofFourMore_35 : decode cX2_ofFourMore 35 = .ok (.lreturn, 1) := dk_173 (dk_at dksX2_ofFourMore_1 11 rfl rfl)
theorem dX2_ofFourMore_36 : decode cX2_ofFourMore 36 = .ok (.lload_n 0, 1) := dk_30 (dk_at dksX2_ofFourMore_1 12 rfl rfl)
theorem dX2_ofFourMore_37 : decode cX2_ofFourMore 37 = .ok (.ldc2_w 348, 3) := dk_20 1 92 (dk_at dksX2_ofFourMore_1 13 rfl rfl)
theorem dX2_ofFourMore_40 : decode cX2_ofFourMore 40 = .ok (.lcmp, 1) := dk_148 (dk_at dksX2_ofFourMore_1 16 rfl rfl)
theorem dX2_ofFourMore_41 : decode cX2_ofFourMore 41 = .ok (.ifCond .ne 7, 3) := dk_154 0 7 (dk_at dksX2_ofFourMore_1 17 rfl rfl)
theorem dX2_ofFourMore_44 : decode cX2_ofFourMore 44 = .ok (.ldc2_w 350, 3) := dk_20 1 94 (dk_at dksX2_ofFourMore_1 20 rfl rfl)
theorem dX2_ofFourMore_47 : decode cX2_ofFourMore 47 = .ok (.lreturn, 1) := dk_173 (dk_at dksX2_ofFourMore_1 23 rfl rfl)
theorem dX2_ofFourMore_48 : decode cX2_ofFourMore 48 = .ok (.lload_n 0, 1) := dk_30 (dk_at dksX2_ofFourMore_2 0 rfl rfl)
theorem dX2_ofFourMore_49 : decode cX2_ofFourMore 49 = .ok (.ldc2_w 352, 3) := dk_20 1 96 (dk_at dksX2_ofFourMore_2 1 rfl rfl)
theorem dX2_ofFourMore_52 : decode cX2_ofFourMore 52 = .ok (.lcmp, 1) := dk_148 (dk_at dksX2_ofFourMore_2 4 rfl rfl)
theorem dX2_ofFourMore_53 : decode cX2_ofFourMore 53 = .ok (.ifCond .ne 7, 3) := dk_154 0 7 (dk_at dksX2_ofFourMore_2 5 rfl rfl)
theorem dX2_ofFourMore_56 : decode cX2_ofFourMore 56 = .ok (.ldc2_w 354, 3) := dk_20 1 98 (dk_at dksX2_ofFourMore_2 8 rfl rfl)
theorem dX2_ofFourMore_59 : decode cX2_ofFourMore 59 = .ok (.lreturn, 1) := dk_173 (dk_at dksX2_ofFourMore_2 11 rfl rfl)
theorem dX2_ofFourMore_60 : decode cX2_ofFourMore 60 = .ok (.lload_n 0, 1) := dk_30 (dk_at dksX2_ofFourMore_2 12 rfl rfl)
theorem dX2_ofFourMore_61 : decode cX2_ofFourMore 61 = .ok (.ldc2_w 356, 3) := dk_20 1 100 (dk_at dksX2_ofFourMore_2 13 rfl rfl)
theorem dX2_ofFourMore_64 : decode cX2_ofFourMore 64 = .ok (.lcmp, 1) := dk_148 (dk_at dksX2_ofFourMore_2 16 rfl rfl)
theorem dX2_ofFourMore_65 : decode cX2_ofFourMore 65 = .ok (.ifCond .ne 7, 3) := dk_154 0 7 (dk_at dksX2_ofFourMore_2 17 rfl rfl)
theorem dX2_ofFourMore_68 : decode cX2_ofFourMore 68 = .ok (.ldc2_w 358, 3) := dk_20 1 102 (dk_at dksX2_ofFourMore_2 20 rfl rfl)
theorem dX2_ofFourMore_71 : decode cX2_ofFourMore 71 = .ok (.lreturn, 1) := dk_173 (dk_at dksX2_ofFourMore_2 23 rfl rfl)
theorem dX2_ofFourMore_72 : decode cX2_ofFourMore 72 = .ok (.lload_n 0, 1) := dk_30 (dk_at dksX2_ofFourMore_3 0 rfl rfl)
theorem dX2_ofFourMore_73 : decode cX2_ofFourMore 73 = .ok (.ldc2_w 360, 3) := dk_20 1 104 (dk_at dksX2_ofFourMore_3 1 rfl rfl)
theorem dX2_ofFourMore_76 : decode cX2_ofFourMore 76 = .ok (.lcmp, 1) := dk_148 (dk_at dksX2_ofFourMore_3 4 rfl rfl)
theorem dX2_ofFourMore_77 : decode cX2_ofFourMore 77 = .ok (.ifCond .ne 7, 3) := dk_154 0 7 (dk_at dksX2_ofFourMore_3 5 rfl rfl)
theorem dX2_ofFourMore_80 : decode cX2_ofFourMore 80 = .ok (.ldc2_w 362, 3) := dk_20 1 106 (dk_at dksX2_ofFourMore_3 8 rfl rfl)
theorem dX2_ofFourMore_83 : decode cX2_ofFourMore 83 = .ok (.lreturn, 1) := dk_173 (dk_at dksX2_ofFourMore_3 11 rfl rfl)
theorem dX2_ofFourMore_84 : decode cX2_ofFourMore 84 = .ok (.lload_n 0, 1) := dk_30 (dk_at dksX2_ofFourMore_3 12 rfl rfl)
theorem dX2_ofFourMore_85 : decode cX2_ofFourMore 85 = .ok (.ldc2_w 364, 3) := dk_20 1 108 (dk_at dksX2_ofFourMore_3 13 rfl rfl)
theorem dX2_ofFourMore_88 : decode cX2_ofFourMore 88 = .ok (.lcmp, 1) := dk_148 (dk_at dksX2_ofFourMore_3 16 rfl rfl)
theorem dX2_ofFourMore_89 : decode cX2_ofFourMore 89 = .ok (.ifCond .ne 7, 3) := dk_154 0 7 (dk_at dksX2_ofFourMore_3 17 rfl rfl)
theorem dX2_ofFourMore_92 : decode cX2_ofFourMore 92 = .ok (.ldc2_w 366, 3) := dk_20 1 110 (dk_at dksX2_ofFourMore_3 20 rfl rfl)
theorem dX2_ofFourMore_95 : decode cX2_ofFourMore 95 = .ok (.lreturn, 1) := dk_173 (dk_at dksX2_ofFourMore_3 23 rfl rfl)
theorem dX2_ofFourMore_96 : decode cX2_ofFourMore 96 = .ok (.lload_n 0, 1) := dk_30 (dk_at dksX2_ofFourMore_4 0 rfl rfl)
theorem dX2_ofFourMore_97 : decode cX2_ofFourMore 97 = .ok (.ldc2_w 368, 3) := dk_20 1 112 (dk_at dksX2_ofFourMore_4 1 rfl rfl)
theorem dX2_ofFourMore_100 : decode cX2_ofFourMore 100 = .ok (.lcmp, 1) := dk_148 (dk_at dksX2_ofFourMore_4 4 rfl rfl)
theorem dX2_ofFourMore_101 : decode cX2_ofFourMore 101 = .ok (.ifCond .ne 7, 3) := dk_154 0 7 (dk_at dksX2_ofFourMore_4 5 rfl rfl)
theorem dX2_ofFourMore_104 : decode cX2_ofFourMore 104 = .ok (.ldc2_w 370, 3) := dk_20 1 114 (dk_at dksX2_ofFourMore_4 8 rfl rfl)
theorem dX2_ofFourMore_107 : decode cX2_ofFourMore 107 = .ok (.lreturn, 1) := dk_173 (dk_at dksX2_ofFourMore_4 11 rfl rfl)
theorem dX2_ofFourMore_108 : decode cX2_ofFourMore 108 = .ok (.lload_n 0, 1) := dk_30 (dk_at dksX2_ofFourMore_4 12 rfl rfl)
theorem dX2_ofFourMore_109 : decode cX2_ofFourMore 109 = .ok (.ldc2_w 372, 3) := dk_20 1 116 (dk_at dksX2_ofFourMore_4 13 rfl rfl)
theorem dX2_ofFourMore_112 : decode cX2_ofFourMore 112 = .ok (.lcmp, 1) := dk_148 (dk_at dksX2_ofFourMore_4 16 rfl rfl)
theorem dX2_ofFourMore_113 : decode cX2_ofFourMore 113 = .ok (.ifCond .ne 7, 3) := dk_154 0 7 (dk_at dksX2_ofFourMore_4 17 rfl rfl)
theorem dX2_ofFourMore_116 : decode cX2_ofFourMore 116 = .ok (.ldc2_w 374, 3) := dk_20 1 118 (dk_at dksX2_ofFourMore_4 20 rfl rfl)
theorem dX2_ofFourMore_119 : decode cX2_ofFourMore 119 = .ok (.lreturn, 1) := dk_173 (dk_at dksX2_ofFourMore_4 23 rfl rfl)
theorem dX2_ofFourMore_120 : decode cX2_ofFourMore 120 = .ok (.lload_n 0, 1) := dk_30 (dk_at dksX2_ofFourMore_5 0 rfl rfl)
theorem dX2_ofFourMore_121 : decode cX2_ofFourMore 121 = .ok (.ldc2_w 376, 3) := dk_20 1 120 (dk_at dksX2_ofFourMore_5 1 rfl rfl)
theorem dX2_ofFourMore_124 : decode cX2_ofFourMore 124 = .ok (.lcmp, 1) := dk_148 (dk_at dksX2_ofFourMore_5 4 rfl rfl)
theorem dX2_ofFourMore_125 : decode cX2_ofFourMore 125 = .ok (.ifCond .ne 7, 3) := dk_154 0 7 (dk_at dksX2_ofFourMore_5 5 rfl rfl)
theorem dX2_ofFourMore_128 : decode cX2_ofFourMore 128 = .ok (.ldc2_w 378, 3) := dk_20 1 122 (dk_at dksX2_ofFourMore_5 8 rfl rfl)
theorem dX2_ofFourMore_131 : decode cX2_ofFourMore 131 = .ok (.lreturn, 1) := dk_173 (dk_at dksX2_ofFourMore_5 11 rfl rfl)
theorem dX2_ofFourMore_132 : decode cX2_ofFourMore 132 = .ok (.lload_n 0, 1) := dk_30 (dk_at dksX2_ofFourMore_5 12 rfl rfl)
theorem dX2_ofFourMore_133 : decode cX2_ofFourMore 133 = .ok (.ldc2_w 380, 3) := dk_20 1 124 (dk_at dksX2_ofFourMore_5 13 rfl rfl)
theorem dX2_ofFourMore_136 : decode cX2_ofFourMore 136 = .ok (.lcmp, 1) := dk_148 (dk_at dksX2_ofFourMore_5 16 rfl rfl)
theorem dX2_ofFourMore_137 : decode cX2_ofFourMore 137 = .ok (.ifCond .ne 7, 3) := dk_154 0 7 (dk_at dksX2_ofFourMore_5 17 rfl rfl)
theorem dX2_ofFourMore_140 : decode cX2_ofFourMore 140 = .ok (.ldc2_w 382, 3) := dk_20 1 126 (dk_at dksX2_ofFourMore_5 20 rfl rfl)
theorem dX2_ofFourMore_143 : decode cX2_ofFourMore 143 = .ok (.lreturn, 1) := dk_173 (dk_at dksX2_ofFourMore_5 23 rfl rfl)
theorem dX2_ofFourMore_144 : decode cX2_ofFourMore 144 = .ok (.lload_n 0, 1) := dk_30 (dk_at dksX2_ofFourMore_6 0 rfl rfl)
theorem dX2_ofFourMore_145 : decode cX2_ofFourMore 145 = .ok (.ldc2_w 384, 3) := dk_20 1 128 (dk_at dksX2_ofFourMore_6 1 rfl rfl)
theorem dX2_ofFourMore_148 : decode cX2_ofFourMore 148 = .ok (.lcmp, 1) := dk_148 (dk_at dksX2_ofFourMore_6 4 rfl rfl)
theorem dX2_ofFourMore_149 : decode cX2_ofFourMore 149 = .ok (.ifCond .ne 7, 3) := dk_154 0 7 (dk_at dksX2_ofFourMore_6 5 rfl rfl)
theorem dX2_ofFourMore_152 : decode cX2_ofFourMore 152 = .ok (.ldc2_w 386, 3) := dk_20 1 130 (dk_at dksX2_ofFourMore_6 8 rfl rfl)
theorem dX2_ofFourMore_155 : decode cX2_ofFourMore 155 = .ok (.lreturn, 1) := dk_173 (dk_at dksX2_ofFourMore_6 11 rfl rfl)
theorem dX2_ofFourMore_156 : decode cX2_ofFourMore 156 = .ok (.lload_n 0, 1) := dk_30 (dk_at dksX2_ofFourMore_6 12 rfl rfl)
theorem dX2_ofFourMore_157 : decode cX2_ofFourMore 157 = .ok (.ldc2_w 388, 3) := dk_20 1 132 (dk_at dksX2_ofFourMore_6 13 rfl rfl)
theorem dX2_ofFourMore_160 : decode cX2_ofFourMore 160 = .ok (.lcmp, 1) := dk_148 (dk_at dksX2_ofFourMore_6 16 rfl rfl)
theorem dX2_ofFourMore_161 : decode cX2_ofFourMore 161 = .ok (.ifCond .ne 7, 3) := dk_154 0 7 (dk_at dksX2_ofFourMore_6 17 rfl rfl)
theorem dX2_ofFourMore_164 : decode cX2_ofFourMore 164 = .ok (.ldc2_w 390, 3) := dk_20 1 134 (dk_at dksX2_ofFourMore_6 20 rfl rfl)
theorem dX2_ofFourMore_167 : decode cX2_ofFourMore 167 = .ok (.lreturn, 1) := dk_173 (dk_at dksX2_ofFourMore_6 23 rfl rfl)
theorem dX2_ofFourMore_168 : decode cX2_ofFourMore 168 = .ok (.lload_n 0, 1) := dk_30 (dk_at dksX2_ofFourMore_7 0 rfl rfl)
theorem dX2_ofFourMore_169 : decode cX2_ofFourMore 169 = .ok (.ldc2_w 392, 3) := dk_20 1 136 (dk_at dksX2_ofFourMore_7 1 rfl rfl)
theorem dX2_ofFourMore_172 : decode cX2_ofFourMore 172 = .ok (.lcmp, 1) := dk_148 (dk_at dksX2_ofFourMore_7 4 rfl rfl)
theorem dX2_ofFourMore_173 : decode cX2_ofFourMore 173 = .ok (.ifCond .ne 7, 3) := dk_154 0 7 (dk_at dksX2_ofFourMore_7 5 rfl rfl)
theorem dX2_ofFourMore_176 : decode cX2_ofFourMore 176 = .ok (.ldc2_w 394, 3) := dk_20 1 138 (dk_at dksX2_ofFourMore_7 8 rfl rfl)
theorem dX2_ofFourMore_179 : decode cX2_ofFourMore 179 = .ok (.lreturn, 1) := dk_173 (dk_at dksX2_ofFourMore_7 11 rfl rfl)
theorem dX2_ofFourMore_180 : decode cX2_ofFourMore 180 = .ok (.lload_n 0, 1) := dk_30 (dk_at dksX2_ofFourMore_7 12 rfl rfl)
theorem dX2_ofFourMore_181 : decode cX2_ofFourMore 181 = .ok (.ldc2_w 396, 3) := dk_20 1 140 (dk_at dksX2_ofFourMore_7 13 rfl rfl)
theorem dX2_ofFourMore_184 : decode cX2_ofFourMore 184 = .ok (.lcmp, 1) := dk_148 (dk_at dksX2_ofFourMore_7 16 rfl rfl)
theorem dX2_ofFourMore_185 : decode cX2_ofFourMore 185 = .ok (.ifCond .ne 7, 3) := dk_154 0 7 (dk_at dksX2_ofFourMore_7 17 rfl rfl)
theorem dX2_ofFourMore_188 : decode cX2_ofFourMore 188 = .ok (.ldc2_w 398, 3) := dk_20 1 142 (dk_at dksX2_ofFourMore_7 20 rfl rfl)
theorem dX2_ofFourMore_191 : decode cX2_ofFourMore 191 = .ok (.lreturn, 1) := dk_173 (dk_at dksX2_ofFourMore_7 23 rfl rfl)
theorem dX2_ofFourMore_192 : decode cX2_ofFourMore 192 = .ok (.lload_n 0, 1) := dk_30 (dk_at dksX2_ofFourMore_8 0 rfl rfl)
theorem dX2_ofFourMore_193 : decode cX2_ofFourMore 193 = .ok (.ldc2_w 400, 3) := dk_20 1 144 (dk_at dksX2_ofFourMore_8 1 rfl rfl)
theorem dX2_ofFourMore_196 : decode cX2_ofFourMore 196 = .ok (.lcmp, 1) := dk_148 (dk_at dksX2_ofFourMore_8 4 rfl rfl)
theorem dX2_ofFourMore_197 : decode cX2_ofFourMore 197 = .ok (.ifCond .ne 7, 3) := dk_154 0 7 (dk_at dksX2_ofFourMore_8 5 rfl rfl)
theorem dX2_ofFourMore_200 : decode cX2_ofFourMore 200 = .ok (.ldc2_w 402, 3) := dk_20 1 146 (dk_at dksX2_ofFourMore_8 8 rfl rfl)
theorem dX2_ofFourMore_203 : decode cX2_ofFourMore 203 = .ok (.lreturn, 1) := dk_173 (dk_at dksX2_ofFourMore_8 11 rfl rfl)
theorem dX2_ofFourMore_204 : decode cX2_ofFourMore 204 = .ok (.ldc2_w 211, 3) := dk_20 0 211 (dk_at dksX2_ofFourMore_8 12 rfl rfl)
theorem dX2_ofFourMore_207 : decode cX2_ofFourMore 207 = .ok (.lreturn, 1) := dk_173 (dk_at dksX2_ofFourMore_8 15 rfl rfl)
abbrev cX2_ofThree : ByteArray := prog_4_method_24_code
def yX2_ofThree : MethodName := ⟨RX2, "ofThree", "(J)J"⟩
def dkwX2_ofThree_15 : List UInt8 := [20, 0, 211, 173]
abbrev dktX2_ofThree_15 : List UInt8 := dkwX2_ofThree_15 ++ []
def dkwX2_ofThree_14 : List UInt8 := [30, 20, 2, 4, 148, 154, 0, 7, 20, 2, 6, 173, 30, 20, 2, 8, 148, 154, 0, 7, 20, 2, 10, 173]
abbrev dktX2_ofThree_14 : List UInt8 := dkwX2_ofThree_14 ++ dktX2_ofThree_15
def dkwX2_ofThree_13 : List UInt8 := [30, 20, 1, 252, 148, 154, 0, 7, 20, 1, 254, 173, 30, 20, 2, 0, 148, 154, 0, 7, 20, 2, 2, 173]
abbrev dktX2_ofThree_13 : List UInt8 := dkwX2_ofThree_13 ++ dktX2_ofThree_14
def dkwX2_ofThree_12 : List UInt8 := [30, 20, 1, 244, 148, 154, 0, 7, 20, 1, 246, 173, 30, 20, 1, 248, 148, 154, 0, 7, 20, 1, 250, 173]
abbrev dktX2_ofThree_12 : List UInt8 := dkwX2_ofThree_12 ++ dktX2_ofThree_13
def dkwX2_ofThree_11 : List UInt8 := [30, 20, 1, 236, 148, 154, 0, 7, 20, 1, 238, 173, 30, 20, 1, 240, 148, 154, 0, 7, 20, 1, 242, 173]
abbrev dktX2_ofThree_11 : List UInt8 := dkwX2_ofThree_11 ++ dktX2_ofThree_12
def dkwX2_ofThree_10 : List UInt8 := [30, 20, 1, 228, 148, 154, 0, 7, 20, 1, 230, 173, 30, 20, 1, 232, 148, 154, 0, 7, 20, 1, 234, 173]
abbrev dktX2_ofThree_10 : List UInt8 := dkwX2_ofThree_10 ++ dktX2_ofThree_11
def dkwX2_ofThree_9 : List UInt8 := [30, 20, 1, 220, 148, 154, 0, 7, 20, 1, 222, 173, 30, 20, 1, 224, 148, 154, 0, 7, 20, 1, 226, 173]
abbrev dktX2_ofThree_9 : List UInt8 := dkwX2_ofThree_9 ++ dktX2_ofThree_10
def dkwX2_ofThree_8 : List UInt8 := [30, 20, 1, 212, 148, 154, 0, 7, 20, 1, 214, 173, 30, 20, 1, 216, 148, 154, 0, 7, 20, 1, 218, 173]
abbrev dktX2_ofThree_8 : List UInt8 := dkwX2_ofThree_8 ++ dktX2_ofThree_9
def dkwX2_ofThree_7 : List UInt8 := [30, 20, 1, 204, 148, 154, 0, 7, 20, 1, 206, 173, 30, 20, 1, 208, 148, 154, 0, 7, 20, 1, 210, 173]
abbrev dktX2_ofThree_7 : List UInt8 := dkwX2_ofThree_7 ++ dktX2_ofThree_8
def dkwX2_ofThree_6 : List UInt8 := [30, 20, 1, 196, 148, 154, 0, 7, 20, 1, 198, 173, 30, 20, 1, 200, 148, 154, 0, 7, 20, 1, 202, 173]
abbrev dktX2_ofThree_6 : List UInt8 := dkwX2_ofThree_6 ++ dktX2_ofThree_7
def dkwX2_ofThree_5 : List UInt8 := [30, 20, 1, 188, 148, 154, 0, 7, 20, 1, 190, 173, 30, 20, 1, 192, 148, 154, 0, 7, 20, 1, 194, 173]
abbrev dktX2_ofThree_5 : List UInt8 := dkwX2_ofThree_5 ++ dktX2_ofThree_6
def dkwX2_ofThree_4 : List UInt8 := [30, 20, 1, 180, 148, 154, 0, 7, 20, 1, 182, 173, 30, 20, 1, 184, 148, 154, 0, 7, 20, 1, 186, 173]
abbrev dktX2_ofThree_4 : List UInt8 := dkwX2_ofThree_4 ++ dktX2_ofThree_5
def dkwX2_ofThree_3 : List UInt8 := [30, 20, 1, 172, 148, 154, 0, 7, 20, 1, 174, 173, 30, 20, 1, 176, 148, 154, 0, 7, 20, 1, 178, 173]
abbrev dktX2_ofThree_3 : List UInt8 := dkwX2_ofThree_3 ++ dktX2_ofThree_4
def dkwX2_ofThree_2 : List UInt8 := [30, 20, 1, 164, 148, 154, 0, 7, 20, 1, 166, 173, 30, 20, 1, 168, 148, 154, 0, 7, 20, 1, 170, 173]
abbrev dktX2_ofThree_2 : List UInt8 := dkwX2_ofThree_2 ++ dktX2_ofThree_3
def dkwX2_ofThree_1 : List UInt8 := [30, 20, 1, 156, 148, 154, 0, 7, 20, 1, 158, 173, 30, 20, 1, 160, 148, 154, 0, 7, 20, 1, 162, 173]
abbrev dktX2_ofThree_1 : List UInt8 := dkwX2_ofThree_1 ++ dktX2_ofThree_2
def dkwX2_ofThree_0 : List UInt8 := [30, 20, 1, 148, 148, 154, 0, 7, 20, 1, 150, 173, 30, 20, 1, 152, 148, 154, 0, 7, 20, 1, 154, 173]
abbrev dktX2_ofThree_0 : List UInt8 := dkwX2_ofThree_0 ++ dktX2_ofThree_1
theorem dksX2_ofThree_0 : cX2_ofThree.data.toList.drop 0 = dktX2_ofThree_0 := by decide +kernel
theorem dksX2_ofThree_1 : cX2_ofThree.data.toList.drop 24 = dktX2_ofThree_1 := dk_seg dksX2_ofThree_0 24 rfl rfl
theorem dksX2_ofThree_2 : cX2_ofThree.data.toList.drop 48 = dktX2_ofThree_2 := dk_seg dksX2_ofThree_1 24 rfl rfl
theorem dksX2_ofThree_3 : cX2_ofThree.data.toList.drop 72 = dktX2_ofThree_3 := dk_seg dksX2_ofThree_2 24 rfl rfl
theorem dksX2_ofThree_4 : cX2_ofThree.data.toList.drop 96 = dktX2_ofThree_4 := dk_seg dksX2_ofThree_3 24 rfl rfl
theorem dksX2_ofThree_5 : cX2_ofThree.data.toList.drop 120 = dktX2_ofThree_5 := dk_seg dksX2_ofThree_4 24 rfl rfl
theorem dksX2_ofThree_6 : cX2_ofThree.data.toList.drop 144 = dktX2_ofThree_6 := dk_seg dksX2_ofThree_5 24 rfl rfl
theorem dksX2_ofThree_7 : cX2_ofThree.data.toList.drop 168 = dktX2_ofThree_7 := dk_seg dksX2_ofThree_6 24 rfl rfl
theorem dksX2_ofThree_8 : cX2_ofThree.data.toList.drop 192 = dktX2_ofThree_8 := dk_seg dksX2_ofThree_7 24 rfl rfl
theorem dksX2_ofThree_9 : cX2_ofThree.data.toList.drop 216 = dktX2_ofThree_9 := dk_seg dksX2_ofThree_8 24 rfl rfl
theorem dksX2_ofThree_10 : cX2_ofThree.data.toList.drop 240 = dktX2_ofThree_10 := dk_seg dksX2_ofThree_9 24 rfl rfl
theorem dksX2_ofThree_11 : cX2_ofThree.data.toList.drop 264 = dktX2_ofThree_11 := dk_seg dksX2_ofThree_10 24 rfl rfl
theorem dksX2_ofThree_12 : cX2_ofThree.data.toList.drop 288 = dktX2_ofThree_12 := dk_seg dksX2_ofThree_11 24 rfl rfl
theorem dksX2_ofThree_13 : cX2_ofThree.data.toList.drop 312 = dktX2_ofThree_13 := dk_seg dksX2_ofThree_12 24 rfl rfl
theorem dksX2_ofThree_14 : cX2_ofThree.data.toList.drop 336 = dktX2_ofThree_14 := dk_seg dksX2_ofThree_13 24 rfl rfl
theorem dksX2_ofThree_15 : cX2_ofThree.data.toList.drop 360 = dktX2_ofThree_15 := dk_seg dksX2_ofThree_14 24 rfl rfl
theorem dX2_ofThree_0 : decode cX2_ofThree 0 = .ok (.lload_n 0, 1) := dk_30 (dk_at dksX2_ofThree_0 0 rfl rfl)
theorem dX2_ofThree_1 : decode cX2_ofThree 1 = .ok (.ldc2_w 404, 3) := dk_20 1 148 (dk_at dksX2_ofThree_0 1 rfl rfl)
theorem dX2_ofThree_4 : decode cX2_ofThree 4 = .ok (.lcmp, 1) := dk_148 (dk_at dksX2_ofThree_0 4 rfl rfl)
theorem dX2_ofThree_5 : decode cX2_ofThree 5 = .ok (.ifCond .ne 7, 3) := dk_154 0 7 (dk_at dksX2_ofThree_0 5 rfl rfl)
theorem dX2_ofThree_8 : decode cX2_ofThree 8 = .ok (.ldc2_w 406, 3) := dk_20 1 150 (dk_at dksX2_ofThree_0 8 rfl rfl)
theorem dX2_ofThree_11 : decode cX2_ofThree 11 = .ok (.lreturn, 1) := dk_173 (dk_at dksX2_ofThree_0 11 rfl rfl)
theorem dX2_ofThree_12 : decode cX2_ofThree 12 = .ok (.lload_n 0, 1) := dk_30 (dk_at dksX2_ofThree_0 12 rfl rfl)
theorem dX2_ofThree_13 : decode cX2_ofThree 13 = .ok (.ldc2_w 408, 3) := dk_20 1 152 (dk_at dksX2_ofThree_0 13 rfl rfl)
theorem dX2_ofThree_16 : decode cX2_ofThree 16 = .ok (.lcmp, 1) := dk_148 (dk_at dksX2_ofThree_0 16 rfl rfl)
theorem dX2_ofThree_17 : decode cX2_ofThree 17 = .ok (.ifCond .ne 7, 3) := dk_154 0 7 (dk_at dksX2_ofThree_0 17 rfl rfl)
theorem dX2_ofThree_20 : decode cX2_ofThree 20 = .ok (.ldc2_w 410, 3) := dk_20 1 154 (dk_at dksX2_ofThree_0 20 rfl rfl)
theorem dX2_ofThree_23 : decode cX2_ofThree 23 = .ok (.lreturn, 1) := dk_173 (dk_at dksX2_ofThree_0 23 rfl rfl)
theorem dX2_ofThree_24 : decode cX2_ofThree 24 = .ok (.lload_n 0, 1) := dk_30 (dk_at dksX2_ofThree_1 0 rfl rfl)
theorem dX2_ofThree_25 : decode cX2_ofThree 25 = .ok (.ldc2_w 412, 3) := dk_20 1 156 (dk_at dksX2_ofThree_1 1 rfl rfl)
theorem dX2_ofThree_28 : decode cX2_ofThree 28 = .ok (.lcmp, 1) := dk_148 (dk_at dksX2_ofThree_1 4 rfl rfl)
theorem dX2_ofThree_29 : decode cX2_ofThree 29 = .ok (.ifCond .ne 7, 3) := dk_154 0 7 (dk_at dksX2_ofThree_1 5 rfl rfl)
theorem dX2_ofThree_32 : decode cX2_ofThree 32 = .ok (.ldc2_w 414, 3) := dk_20 1 158 (dk_at dksX2_ofThree_1 8 rfl rfl)
theorem dX2_ofThree_35 : decode cX2_ofThree 35 = .ok (.lreturn, 1) := dk_173 (dk_at dksX2_ofThree_1 11 rfl rfl)
theorem dX2_ofThree_36 : decode cX2_ofThree 36 = .ok (.lload_n 0, 1) := dk_30 (dk_at dksX2_ofThree_1 12 rfl rfl)
theorem dX2_ofThree_37 : decode cX2_ofThree 37 = .ok (.ldc2_w 416, 3) := dk_20 1 160 (dk_at dksX2_ofThree_1 13 rfl rfl)
theorem dX2_ofThree_40 : decode cX2_ofThree 40 = .ok (.lcmp, 1) := dk_148 (dk_at dksX2_ofThree_1 16 rfl rfl)
theorem dX2_ofThree_41 : decode cX2_ofThree 41 = .ok (.ifCond .ne 7, 3) := dk_154 0 7 (dk_at dksX2_ofThree_1 17 rfl rfl)
theorem dX2_ofThree_44 : decode cX2_ofThree 44 = .ok (.ldc2_w 418, 3) := dk_20 1 162 (dk_at dksX2_ofThree_1 20 rfl rfl)
theorem dX2_ofThree_47 : decode cX2_ofThree 47 = .ok (.lreturn, 1) := dk_173 (dk_at dksX2_ofThree_1 23 rfl rfl)
theorem dX2_ofThree_48 : decode cX2_ofThree 48 = .ok (.lload_n 0, 1) := dk_30 (dk_at dksX2_ofThree_2 0 rfl rfl)
theorem dX2_ofThree_49 : decode cX2_ofThree 49 = .ok (.ldc2_w 420, 3) := dk_20 1 164 (dk_at dksX2_ofThree_2 1 rfl rfl)
theorem dX2_ofThree_52 : decode cX2_ofThree 52 = .ok (.lcmp, 1) := dk_148 (dk_at dksX2_ofThree_2 4 rfl rfl)
theorem dX2_ofThree_53 : decode cX2_ofThree 53 = .ok (.ifCond .ne 7, 3) := dk_154 0 7 (dk_at dksX2_ofThree_2 5 rfl rfl)
theorem dX2_ofThree_56 : decode cX2_ofThree 56 = .ok (.ldc2_w 422, 3) := dk_20 1 166 (dk_at dksX2_ofThree_2 8 rfl rfl)
theorem dX2_ofThree_59 : decode cX2_ofThree 59 = .ok (.lreturn, 1) := dk_173 (dk_at dksX2_ofThree_2 11 rfl rfl)
theorem dX2_ofThree_60 : decode cX2_ofThree 60 = .ok (.lload_n 0, 1) := dk_30 (dk_at dksX2_ofThree_2 12 rfl rfl)
theorem dX2_ofThree_61 : decode cX2_ofThree 61 = .ok (.ldc2_w 424, 3) := dk_20 1 168 (dk_at dksX2_ofThree_2 13 rfl rfl)
theorem dX2_ofThree_64 : decode cX2_ofThree 64 = .ok (.lcmp, 1) := dk_148 (dk_at dksX2_ofThree_2 16 rfl rfl)
theorem dX2_ofThree_65 : decode cX2_ofThree 65 = .ok (.ifCond .ne 7, 3) := dk_154 0 7 (dk_at dksX2_ofThree_2 17 rfl rfl)
theorem dX2_ofThree_68 : decode cX2_ofThree 68 = .ok (.ldc2_w 426, 3) := dk_20 1 170 (dk_at dksX2_ofThree_2 20 rfl rfl)
theorem dX2_ofThree_71 : decode cX2_ofThree 71 = .ok (.lreturn, 1) := dk_173 (dk_at dksX2_ofThree_2 23 rfl rfl)
theorem dX2_ofThree_72 : decode cX2_ofThree 72 = .ok (.lload_n 0, 1) := dk_30 (dk_at dksX2_ofThree_3 0 rfl rfl)
theorem dX2_ofThree_73 : decode cX2_ofThree 73 = .ok (.ldc2_w 428, 3) := dk_20 1 172 (dk_at dksX2_ofThree_3 1 rfl rfl)
theorem dX2_ofThree_76 : decode cX2_ofThree 76 = .ok (.lcmp, 1) := dk_148 (dk_at dksX2_ofThree_3 4 rfl rfl)
theorem dX2_ofThree_77 : decode cX2_ofThree 77 = .ok (.ifCond .ne 7, 3) := dk_154 0 7 (dk_at dksX2_ofThree_3 5 rfl rfl)
theorem dX2_ofThree_80 : decode cX2_ofThree 80 = .ok (.ldc2_w 430, 3) := dk_20 1 174 (dk_at dksX2_ofThree_3 8 rfl rfl)
theorem dX2_ofThree_83 : decode cX2_ofThree 83 = .ok (.lreturn, 1) := dk_173 (dk_at dksX2_ofThree_3 11 rfl rfl)
theorem dX2_ofThree_84 : decode cX2_ofThree 84 = .ok (.lload_n 0, 1) := dk_30 (dk_at dksX2_ofThree_3 12 rfl rfl)
theorem dX2_ofThree_85 : decode cX2_ofThree 85 = .ok (.ldc2_w 432, 3) := dk_20 1 176 (dk_at dksX2_ofThree_3 13 rfl rfl)
theorem dX2_ofThree_88 : decode cX2_ofThree 88 = .ok (.lcmp, 1) := dk_148 (dk_at dksX2_ofThree_3 16 rfl rfl)
theorem dX2_ofThree_89 : decode cX2_ofThree 89 = .ok (.ifCond .ne 7, 3) := dk_154 0 7 (dk_at dksX2_ofThree_3 17 rfl rfl)
theorem dX2_ofThree_92 : decode cX2_ofThree 92 = .ok (.ldc2_w 434, 3) := dk_20 1 178 (dk_at dksX2_ofThree_3 20 rfl rfl)
theorem dX2_ofThree_95 : decode cX2_ofThree 95 = .ok (.lreturn, 1) := dk_173 (dk_at dksX2_ofThree_3 23 rfl rfl)
theorem dX2_ofThree_96 : decode cX2_ofThree 96 = .ok (.lload_n 0, 1) := dk_30 (dk_at dksX2_ofThree_4 0 rfl rfl)
theorem dX2_ofThree_97 : decode cX2_ofThree 97 = .ok (.ldc2_w 436, 3) := dk_20 1 180 (dk_at dksX2_ofThree_4 1 rfl rfl)
theorem dX2_ofThree_100 : decode cX2_ofThree 100 = .ok (.lcmp, 1) := dk_148 (dk_at dksX2_ofThree_4 4 rfl rfl)
theorem dX2_ofThree_101 : decode cX2_ofThree 101 = .ok (.ifCond .ne 7, 3) := dk_154 0 7 (dk_at dksX2_ofThree_4 5 rfl rfl)
theorem dX2_ofThree_104 : decode cX2_ofThree 104 = .ok (.ldc2_w 438, 3) := dk_20 1 182 (dk_at dksX2_ofThree_4 8 rfl rfl)
theorem dX2_ofThree_107 : decode cX2_ofThree 107 = .ok (.lreturn, 1) := dk_173 (dk_at dksX2_ofThree_4 11 rfl rfl)
theorem dX2_ofThree_108 : decode cX2_ofThree 108 = .ok (.lload_n 0, 1) := dk_30 (dk_at dksX2_ofThree_4 12 rfl rfl)
theorem dX2_ofThree_109 : decode cX2_ofThree 109 = .ok (.ldc2_w 440, 3) := dk_20 1 184 (dk_at dksX2_ofThree_4 13 rfl rfl)
theorem dX2_ofThree_112 : decode cX2_ofThree 112 = .ok (.lcmp, 1) := dk_148 (dk_at dksX2_ofThree_4 16 rfl rfl)
theorem dX2_ofThree_113 : decode cX2_ofThree 113 = .ok (.ifCond .ne 7, 3) := dk_154 0 7 (dk_at dksX2_ofThree_4 17 rfl rfl)
theorem dX2_ofThree_116 : decode cX2_ofThree 116 = .ok (.ldc2_w 442, 3) := dk_20 1 186 (dk_at dksX2_ofThree_4 20 rfl rfl)
theorem dX2_ofThree_119 : decode cX2_ofThree 119 = .ok (.lreturn, 1) := dk_173 (dk_at dksX2_ofThree_4 23 rfl rfl)
theorem dX2_ofThree_120 : decode cX2_ofThree 120 = .ok (.lload_n 0, 1) := dk_30 (dk_at dksX2_ofThree_5 0 rfl rfl)
theorem dX2_ofThree_121 : decode cX2_ofThree 121 = .ok (.ldc2_w 444, 3) := dk_20 1 188 (dk_at dksX2_ofThree_5 1 rfl rfl)
theorem dX2_ofThree_124 : decode cX2_ofThree 124 = .ok (.lcmp, 1) := dk_148 (dk_at dksX2_ofThree_5 4 rfl rfl)
theorem dX2_ofThree_125 : decode cX2_ofThree 125 = .ok (.ifCond .ne 7, 3) := dk_154 0 7 (dk_at dksX2_ofThree_5 5 rfl rfl)
theorem dX2_ofThree_128 : decode cX2_ofThree 128 = .ok (.ldc2_w 446, 3) := dk_20 1 190 (dk_at dksX2_ofThree_5 8 rfl rfl)
theorem dX2_ofThree_131 : decode cX2_ofThree 131 = .ok (.lreturn, 1) := dk_173 (dk_at dksX2_ofThree_5 11 rfl rfl)
theorem dX2_ofThree_132 : decode cX2_ofThree 132 = .ok (.lload_n 0, 1) := dk_30 (dk_at dksX2_ofThree_5 12 rfl rfl)
theorem dX2_ofThree_133 : decode cX2_ofThree 133 = .ok (.ldc2_w 448, 3) := dk_20 1 192 (dk_at dksX2_ofThree_5 13 rfl rfl)
theorem dX2_ofThree_136 : decode cX2_ofThree 136 = .ok (.lcmp, 1) := dk_148 (dk_at dksX2_ofThree_5 16 rfl rfl)
theorem dX2_ofThree_137 : decode cX2_ofThree 137 = .ok (.ifCond .ne 7, 3) := dk_154 0 7 (dk_at dksX2_ofThree_5 17 rfl rfl)
theorem dX2_ofThree_140 : decode cX2_ofThree 140 = .ok (.ldc2_w 450, 3) := dk_20 1 194 (dk_at dksX2_ofThree_5 20 rfl rfl)
theorem dX2_ofThree_143 : decode cX2_ofThree 143 = .ok (.lreturn, 1) := dk_173 (dk_at dksX2_ofThree_5 23 rfl rfl)
theorem dX2_ofThree_144 : decode cX2_ofThree 144 = .ok (.lload_n 0, 1) := dk_30 (dk_at dksX2_ofThree_6 0 rfl rfl)
theorem dX2_ofThree_145 : decode cX2_ofThree 145 = .ok (.ldc2_w 452, 3) := dk_20 1 196 (dk_at dksX2_ofThree_6 1 rfl rfl)
theorem dX2_ofThree_148 : decode cX2_ofThree 148 = .ok (.lcmp, 1) := dk_148 (dk_at dksX2_ofThree_6 4 rfl rfl)
theorem dX2_ofThree_149 : decode cX2_ofThree 149 = .ok (.ifCond .ne 7, 3) := dk_154 0 7 (dk_at dksX2_ofThree_6 5 rfl rfl)
theorem dX2_ofThree_152 : decode cX2_ofThree 152 = .ok (.ldc2_w 454, 3) := dk_20 1 198 (dk_at dksX2_ofThree_6 8 rfl rfl)
theorem dX2_ofThree_155 : decode cX2_ofThree 155 = .ok (.lreturn, 1) := dk_173 (dk_at dksX2_ofThree_6 11 rfl rfl)
theorem dX2_ofThree_156 : decode cX2_ofThree 156 = .ok (.lload_n 0, 1) := dk_30 (dk_at dksX2_ofThree_6 12 rfl rfl)
theorem dX2_ofThree_157 : decode cX2_ofThree 157 = .ok (.ldc2_w 456, 3) := dk_20 1 200 (dk_at dksX2_ofThree_6 13 rfl rfl)
theorem dX2_ofThree_160 : decode cX2_ofThree 160 = .ok (.lcmp, 1) := dk_148 (dk_at dksX2_ofThree_6 16 rfl rfl)
theorem dX2_ofThree_161 : decode cX2_ofThree 161 = .ok (.ifCond .ne 7, 3) := dk_154 0 7 (dk_at dksX2_ofThree_6 17 rfl rfl)
theorem dX2_ofThree_164 : decode cX2_ofThree 164 = .ok (.ldc2_w 458, 3) := dk_20 1 202 (dk_at dksX2_ofThree_6 20 rfl rfl)
theorem dX2_ofThree_167 : decode cX2_ofThree 167 = .ok (.lreturn, 1) := dk_173 (dk_at dksX2_ofThree_6 23 rfl rfl)
theorem dX2_ofThree_168 : decode cX2_ofThree 168 = .ok (.lload_n 0, 1) := dk_30 (dk_at dksX2_ofThree_7 0 rfl rfl)
theorem dX2_ofThree_169 : decode cX2_ofThree 169 = .ok (.ldc2_w 460, 3) := dk_20 1 204 (dk_at dksX2_ofThree_7 1 rfl rfl)
theorem dX2_ofThree_172 : decode cX2_ofThree 172 = .ok (.lcmp, 1) := dk_148 (dk_at dksX2_ofThree_7 4 rfl rfl)
theorem dX2_ofThree_173 : decode cX2_ofThree 173 = .ok (.ifCond .ne 7, 3) := dk_154 0 7 (dk_at dksX2_ofThree_7 5 rfl rfl)
theorem dX2_ofThree_176 : decode cX2_ofThree 176 = .ok (.ldc2_w 462, 3) := dk_20 1 206 (dk_at dksX2_ofThree_7 8 rfl rfl)
theorem dX2_ofThree_179 : decode cX2_ofThree 179 = .ok (.lreturn, 1) := dk_173 (dk_at dksX2_ofThree_7 11 rfl rfl)
theorem dX2_ofThree_180 : decode cX2_ofThree 180 = .ok (.lload_n 0, 1) := dk_30 (dk_at dksX2_ofThree_7 12 rfl rfl)
theorem dX2_ofThree_181 : decode cX2_ofThree 181 = .ok (.ldc2_w 464, 3) := dk_20 1 208 (dk_at dksX2_ofThree_7 13 rfl rfl)
theorem dX2_ofThree_184 : decode cX2_ofThree 184 = .ok (.lcmp, 1) := dk_148 (dk_at dksX2_ofThree_7 16 rfl rfl)
theorem dX2_ofThree_185 : decode cX2_ofThree 185 = .ok (.ifCond .ne 7, 3) := dk_154 0 7 (dk_at dksX2_ofThree_7 17 rfl rfl)
theorem dX2_ofThree_188 : decode cX2_ofThree 188 = .ok (.ldc2_w 466, 3) := dk_20 1 210 (dk_at dksX2_ofThree_7 20 rfl rfl)
theorem dX2_ofThree_191 : decode cX2_ofThree 191 = .ok (.lreturn, 1) := dk_173 (dk_at dksX2_ofThree_7 23 rfl rfl)
theorem dX2_ofThree_192 : decode cX2_ofThree 192 = .ok (.lload_n 0, 1) := dk_30 (dk_at dksX2_ofThree_8 0 rfl rfl)
theorem dX2_ofThree_193 : decode cX2_ofThree 193 = .ok (.ldc2_w 468, 3) := dk_20 1 212 (dk_at dksX2_ofThree_8 1 rfl rfl)
theorem dX2_ofThree_196 : decode cX2_ofThree 196 = .ok (.lcmp, 1) := dk_148 (dk_at dksX2_ofThree_8 4 rfl rfl)
theorem dX2_ofThree_197 : decode cX2_ofThree 197 = .ok (.ifCond .ne 7, 3) := dk_154 0 7 (dk_at dksX2_ofThree_8 5 rfl rfl)
theorem dX2_ofThree_200 : decode cX2_ofThree 200 = .ok (.ldc2_w 470, 3) := dk_20 1 214 (dk_at dksX2_ofThree_8 8 rfl rfl)
theorem dX2_ofThree_203 : decode cX2_ofThree 203 = .ok (.lreturn, 1) := dk_173 (dk_at dksX2_ofThree_8 11 rfl rfl)
theorem dX2_ofThree_204 : decode cX2_ofThree 204 = .ok (.lload_n 0, 1) := dk_30 (dk_at dksX2_ofThree_8 12 rfl rfl)
theorem dX2_ofThree_205 : decode cX2_ofThree 205 = .ok (.ldc2_w 472, 3) := dk_20 1 216 (dk_at dksX2_ofThree_8 13 rfl rfl)
theorem dX2_ofThree_208 : decode cX2_ofThree 208 = .ok (.lcmp, 1) := dk_148 (dk_at dksX2_ofThree_8 16 rfl rfl)
theorem dX2_ofThree_209 : decode cX2_ofThree 209 = .ok (.ifCond .ne 7, 3) := dk_154 0 7 (dk_at dksX2_ofThree_8 17 rfl rfl)
theorem dX2_ofThree_212 : decode cX2_ofThree 212 = .ok (.ldc2_w 474, 3) := dk_20 1 218 (dk_at dksX2_ofThree_8 20 rfl rfl)
theorem dX2_ofThree_215 : decode cX2_ofThree 215 = .ok (.lreturn, 1) := dk_173 (dk_at dksX2_ofThree_8 23 rfl rfl)
theorem dX2_ofThree_216 : decode cX2_ofThree 216 = .ok (.lload_n 0, 1) := dk_30 (dk_at dksX2_ofThree_9 0 rfl rfl)
theorem dX2_ofThree_217 : decode cX2_ofThree 217 = .ok (.ldc2_w 476, 3) := dk_20 1 220 (dk_at dksX2_ofThree_9 1 rfl rfl)
theorem dX2_ofThree_220 : decode cX2_ofThree 220 = .ok (.lcmp, 1) := dk_148 (dk_at dksX2_ofThree_9 4 rfl rfl)
theorem dX2_ofThree_221 : decode cX2_ofThree 221 = .ok (.ifCond .ne 7, 3) := dk_154 0 7 (dk_at dksX2_ofThree_9 5 rfl rfl)
theorem dX2_ofThree_224 : decode cX2_ofThree 224 = .ok (.ldc2_w 478, 3) := dk_20 1 222 (dk_at dksX2_ofThree_9 8 rfl rfl)
theorem dX2_ofThree_227 : decode cX2_ofThree 227 = .ok (.lreturn, 1) := dk_173 (dk_at dksX2_ofThree_9 11 rfl rfl)
theorem dX2_ofThree_228 : decode cX2_ofThree 228 = .ok (.lload_n 0, 1) := dk_30 (dk_at dksX2_ofThree_9 12 rfl rfl)
theorem dX2_ofThree_229 : decode cX2_ofThree 229 = .ok (.ldc2_w 480, 3) := dk_20 1 224 (dk_at dksX2_ofThree_9 13 rfl rfl)
theorem dX2_ofThree_232 : decode cX2_ofThree 232 = .ok (.lcmp, 1) := dk_148 (dk_at dksX2_ofThree_9 16 rfl rfl)
theorem dX2_ofThree_233 : decode cX2_ofThree 233 = .ok (.ifCond .ne 7, 3) := dk_154 0 7 (dk_at dksX2_ofThree_9 17 rfl rfl)
theorem dX2_ofThree_236 : decode cX2_ofThree 236 = .ok (.ldc2_w 482, 3) := dk_20 1 226 (dk_at dksX2_ofThree_9 20 rfl rfl)
theorem dX2_ofThree_239 : decode cX2_ofThree 239 = .ok (.lreturn, 1) := dk_173 (dk_at dksX2_ofThree_9 23 rfl rfl)
theorem dX2_ofThree_240 : decode cX2_ofThree 240 = .ok (.lload_n 0, 1) := dk_30 (dk_at dksX2_ofThree_10 0 rfl rfl)
theorem dX2_ofThree_241 : decode cX2_ofThree 241 = .ok (.ldc2_w 484, 3) := dk_20 1 228 (dk_at dksX2_ofThree_10 1 rfl rfl)
theorem dX2_ofThree_244 : decode cX2_ofThree 244 = .ok (.lcmp, 1) := dk_148 (dk_at dksX2_ofThree_10 4 rfl rfl)
theorem dX2_ofThree_245 : decode cX2_ofThree 245 = .ok (.ifCond .ne 7, 3) := dk_154 0 7 (dk_at dksX2_ofThree_10 5 rfl rfl)
theorem dX2_ofThree_248 : decode cX2_ofThree 248 = .ok (.ldc2_w 486, 3) := dk_20 1 230 (dk_at dksX2_ofThree_10 8 rfl rfl)
theorem dX2_ofThree_251 : decode cX2_ofThree 251 = .ok (.lreturn, 1) := dk_173 (dk_at dksX2_ofThree_10 11 rfl rfl)
theorem dX2_ofThree_252 : decode cX2_ofThree 252 = .ok (.lload_n 0, 1) := dk_30 (dk_at dksX2_ofThree_10 12 rfl rfl)
theorem dX2_ofThree_253 : decode cX2_ofThree 253 = .ok (.ldc2_w 488, 3) := dk_20 1 232 (dk_at dksX2_ofThree_10 13 rfl rfl)
theorem dX2_ofThree_256 : decode cX2_ofThree 256 = .ok (.lcmp, 1) := dk_148 (dk_at dksX2_ofThree_10 16 rfl rfl)
theorem dX2_ofThree_257 : decode cX2_ofThree 257 = .ok (.ifCond .ne 7, 3) := dk_154 0 7 (dk_at dksX2_ofThree_10 17 rfl rfl)
theorem dX2_ofThree_260 : decode cX2_ofThree 260 = .ok (.ldc2_w 490, 3) := dk_20 1 234 (dk_at dksX2_ofThree_10 20 rfl rfl)
theorem dX2_ofThree_263 : decode cX2_ofThree 263 = .ok (.lreturn, 1) := dk_173 (dk_at dksX2_ofThree_10 23 rfl rfl)
theorem dX2_ofThree_264 : decode cX2_ofThree 264 = .ok (.lload_n 0, 1) := dk_30 (dk_at dksX2_ofThree_11 0 rfl rfl)
theorem dX2_ofThree_265 : decode cX2_ofThree 265 = .ok (.ldc2_w 492, 3) := dk_20 1 236 (dk_at dksX2_ofThree_11 1 rfl rfl)
theorem dX2_ofThree_268 : decode cX2_ofThree 268 = .ok (.lcmp, 1) := dk_148 (dk_at dksX2_ofThree_11 4 rfl rfl)
theorem dX2_ofThree_269 : decode cX2_ofThree 269 = .ok (.ifCond .ne 7, 3) := dk_154 0 7 (dk_at dksX2_ofThree_11 5 rfl rfl)
theorem dX2_ofThree_272 : decode cX2_ofThree 272 = .ok (.ldc2_w 494, 3) := dk_20 1 238 (dk_at dksX2_ofThree_11 8 rfl rfl)
theorem dX2_ofThree_275 : decode cX2_ofThree 275 = .ok (.lreturn, 1) := dk_173 (dk_at dksX2_ofThree_11 11 rfl rfl)
theorem dX2_ofThree_276 : decode cX2_ofThree 276 = .ok (.lload_n 0, 1) := dk_30 (dk_at dksX2_ofThree_11 12 rfl rfl)
theorem dX2_ofThree_277 : decode cX2_ofThree 277 = .ok (.ldc2_w 496, 3) := dk_20 1 240 (dk_at dksX2_ofThree_11 13 rfl rfl)
theorem dX2_ofThree_280 : decode cX2_ofThree 280 = .ok (.lcmp, 1) := dk_148 (dk_at dksX2_ofThree_11 16 rfl rfl)
theorem dX2_ofThree_281 : decode cX2_ofThree 281 = .ok (.ifCond .ne 7, 3) := dk_154 0 7 (dk_at dksX2_ofThree_11 17 rfl rfl)
theorem dX2_ofThree_284 : decode cX2_ofThree 284 = .ok (.ldc2_w 498, 3) := dk_20 1 242 (dk_at dksX2_ofThree_11 20 rfl rfl)
theorem dX2_ofThree_287 : decode cX2_ofThree 287 = .ok (.lreturn, 1) := dk_173 (dk_at dksX2_ofThree_11 23 rfl rfl)
theorem dX2_ofThree_288 : decode cX2_ofThree 288 = .ok (.lload_n 0, 1) := dk_30 (dk_at dksX2_ofThree_12 0 rfl rfl)
theorem dX2_ofThree_289 : decode cX2_ofThree 289 = .ok (.ldc2_w 500, 3) := dk_20 1 244 (dk_at dksX2_ofThree_12 1 rfl rfl)
theorem dX2_ofThree_292 : decode cX2_ofThree 292 = .ok (.lcmp, 1) := dk_148 (dk_at dksX2_ofThree_12 4 rfl rfl)
theorem dX2_ofThree_293 : decode cX2_ofThree 293 = .ok (.ifCond .ne 7, 3) := dk_154 0 7 (dk_at dksX2_ofThree_12 5 rfl rfl)
theorem dX2_ofThree_296 : decode cX2_ofThree 296 = .ok (.ldc2_w 502, 3) := dk_20 1 246 (dk_at dksX2_ofThree_12 8 rfl rfl)
theorem dX2_ofThree_299 : decode cX2_ofThree 299 = .ok (.lreturn, 1) := dk_173 (dk_at dksX2_ofThree_12 11 rfl rfl)
theorem dX2_ofThree_300 : decode cX2_ofThree 300 = .ok (.lload_n 0, 1) := dk_30 (dk_at dksX2_ofThree_12 12 rfl rfl)
theorem dX2_ofThree_301 : decode cX2_ofThree 301 = .ok (.ldc2_w 504, 3) := dk_20 1 248 (dk_at dksX2_ofThree_12 13 rfl rfl)
theorem dX2_ofThree_304 : decode cX2_ofThree 304 = .ok (.lcmp, 1) := dk_148 (dk_at dksX2_ofThree_12 16 rfl rfl)
theorem dX2_ofThree_305 : decode cX2_ofThree 305 = .ok (.ifCond .ne 7, 3) := dk_154 0 7 (dk_at dksX2_ofThree_12 17 rfl rfl)
theorem dX2_ofThree_308 : decode cX2_ofThree 308 = .ok (.ldc2_w 506, 3) := dk_20 1 250 (dk_at dksX2_ofThree_12 20 rfl rfl)
theorem dX2_ofThree_311 : decode cX2_ofThree 311 = .ok (.lreturn, 1) := dk_173 (dk_at dksX2_ofThree_12 23 rfl rfl)
theorem dX2_ofThree_312 : decode cX2_ofThree 312 = .ok (.lload_n 0, 1) := dk_30 (dk_at dksX2_ofThree_13 0 rfl rfl)
theorem dX2_ofThree_313 : decode cX2_ofThree 313 = .ok (.ldc2_w 508, 3) := dk_20 1 252 (dk_at dksX2_ofThree_13 1 rfl rfl)
theorem dX2_ofThree_316 : decode cX2_ofThree 316 = .ok (.lcmp, 1) := dk_148 (dk_at dksX2_ofThree_13 4 rfl rfl)
theorem dX2_ofThree_317 : decode cX2_ofThree 317 = .ok (.ifCond .ne 7, 3) := dk_154 0 7 (dk_at dksX2_ofThree_13 5 rfl rfl)
theorem dX2_ofThree_320 : decode cX2_ofThree 320 = .ok (.ldc2_w 510, 3) := dk_20 1 254 (dk_at dksX2_ofThree_13 8 rfl rfl)
theorem dX2_ofThree_323 : decode cX2_ofThree 323 = .ok (.lreturn, 1) := dk_173 (dk_at dksX2_ofThree_13 11 rfl rfl)
theorem dX2_ofThree_324 : decode cX2_ofThree 324 = .ok (.lload_n 0, 1) := dk_30 (dk_at dksX2_ofThree_13 12 rfl rfl)
theorem dX2_ofThree_325 : decode cX2_ofThree 325 = .ok (.ldc2_w 512, 3) := dk_20 2 0 (dk_at dksX2_ofThree_13 13 rfl rfl)
theorem dX2_ofThree_328 : decode cX2_ofThree 328 = .ok (.lcmp, 1) := dk_148 (dk_at dksX2_ofThree_13 16 rfl rfl)
theorem dX2_ofThree_329 : decode cX2_ofThree 329 = .ok (.ifCond .ne 7, 3) := dk_154 0 7 (dk_at dksX2_ofThree_13 17 rfl rfl)
theorem dX2_ofThree_332 : decode cX2_ofThree 332 = .ok (.ldc2_w 514, 3) := dk_20 2 2 (dk_at dksX2_ofThree_13 20 rfl rfl)
theorem dX2_ofThree_335 : decode cX2_ofThree 335 = .ok (.lreturn, 1) := dk_173 (dk_at dksX2_ofThree_13 23 rfl rfl)
theorem dX2_ofThree_336 : decode cX2_ofThree 336 = .ok (.lload_n 0, 1) := dk_30 (dk_at dksX2_ofThree_14 0 rfl rfl)
theorem dX2_ofThree_337 : decode cX2_ofThree 337 = .ok (.ldc2_w 516, 3) := dk_20 2 4 (dk_at dksX2_ofThree_14 1 rfl rfl)
theorem dX2_ofThree_340 : decode cX2_ofThree 340 = .ok (.lcmp, 1) := dk_148 (dk_at dksX2_ofThree_14 4 rfl rfl)
theorem dX2_ofThree_341 : decode cX2_ofThree 341 = .ok (.ifCond .ne 7, 3) := dk_154 0 7 (dk_at dksX2_ofThree_14 5 rfl rfl)
theorem dX2_ofThree_344 : decode cX2_ofThree 344 = .ok (.ldc2_w 518, 3) := dk_20 2 6 (dk_at dksX2_ofThree_14 8 rfl rfl)
theorem dX2_ofThree_347 : decode cX2_ofThree 347 = .ok (.lreturn, 1) := dk_173 (dk_at dksX2_ofThree_14 11 rfl rfl)
theorem dX2_ofThree_348 : decode cX2_ofThree 348 = .ok (.lload_n 0, 1) := dk_30 (dk_at dksX2_ofThree_14 12 rfl rfl)
theorem dX2_ofThree_349 : decode cX2_ofThree 349 = .ok (.ldc2_w 520, 3) := dk_20 2 8 (dk_at dksX2_ofThree_14 13 rfl rfl)
theorem dX2_ofThree_352 : decode cX2_ofThree 352 = .ok (.lcmp, 1) := dk_148 (dk_at dksX2_ofThree_14 16 rfl rfl)
theorem dX2_ofThree_353 : decode cX2_ofThree 353 = .ok (.ifCond .ne 7, 3) := dk_154 0 7 (dk_at dksX2_ofThree_14 17 rfl rfl)
theorem dX2_ofThree_356 : decode cX2_ofThree 356 = .ok (.ldc2_w 522, 3) := dk_20 2 10 (dk_at dksX2_ofThree_14 20 rfl rfl)
theorem dX2_ofThree_359 : decode cX2_ofThree 359 = .ok (.lreturn, 1) := dk_173 (dk_at dksX2_ofThree_14 23 rfl rfl)
theorem dX2_ofThree_360 : decode cX2_ofThree 360 = .ok (.ldc2_w 211, 3) := dk_20 0 211 (dk_at dksX2_ofThree_15 0 rfl rfl)
theorem dX2_ofThree_363 : decode cX2_ofThree 363 = .ok (.lreturn, 1) := dk_173 (dk_at dksX2_ofThree_15 3 rfl rfl)
abbrev cX2_ofThreeMore : ByteArray := prog_4_method_25_code
def yX2_ofThreeMore : MethodName := ⟨RX2, "ofThreeMore", "(J)J"⟩
def dkwX2_ofThreeMore_10 : List UInt8 := [30, 20, 2, 90, 148, 154, 0, 7, 20, 2, 92, 173, 20, 0, 211, 173]
abbrev dktX2_ofThreeMore_10 : List UInt8 := dkwX2_ofThreeMore_10 ++ []
def dkwX2_ofThreeMore_9 : List UInt8 := [30, 20, 2, 82, 148, 154, 0, 7, 20, 2, 84, 173, 30, 20, 2, 86, 148, 154, 0, 7, 20, 2, 88, 173]
abbrev dktX2_ofThreeMore_9 : List UInt8 := dkwX2_ofThreeMore_9 ++ dktX2_ofThreeMore_10
def dkwX2_ofThreeMore_8 : List UInt8 := [30, 20, 2, 74, 148, 154, 0, 7, 20, 2, 76, 173, 30, 20, 2, 78, 148, 154, 0, 7, 20, 2, 80, 173]
abbrev dktX2_ofThreeMore_8 : List UInt8 := dkwX2_ofThreeMore_8 ++ dktX2_ofThreeMore_9
def dkwX2_ofThreeMore_7 : List UInt8 := [30, 20, 2, 66, 148, 154, 0, 7, 20, 2, 68, 173, 30, 20, 2, 70, 148, 154, 0, 7, 20, 2, 72, 173]
abbrev dktX2_ofThreeMore_7 : List UInt8 := dkwX2_ofThreeMore_7 ++ dktX2_ofThreeMore_8
def dkwX2_ofThreeMore_6 : List UInt8 := [30, 20, 2, 58, 148, 154, 0, 7, 20, 2, 60, 173, 30, 20, 2, 62, 148, 154, 0, 7, 20, 2, 64, 173]
abbrev dktX2_ofThreeMore_6 : List UInt8 := dkwX2_ofThreeMore_6 ++ dktX2_ofThreeMore_7
def dkwX2_ofThreeMore_5 : List UInt8 := [30, 20, 2, 50, 148, 154, 0, 7, 20, 2, 52, 173, 30, 20, 2, 54, 148, 154, 0, 7, 20, 2, 56, 173]
abbrev dktX2_ofThreeMore_5 : List UInt8 := dkwX2_ofThreeMore_5 ++ dktX2_ofThreeMore_6
def dkwX2_ofThreeMore_4 : List UInt8 := [30, 20, 2, 42, 148, 154, 0, 7, 20, 2, 44, 173, 30, 20, 2, 46, 148, 154, 0, 7, 20, 2, 48, 173]
abbrev dktX2_ofThreeMore_4 : List UInt8 := dkwX2_ofThreeMore_4 ++ dktX2_ofThreeMore_5
def dkwX2_ofThreeMore_3 : List UInt8 := [30, 20, 0, 173, 148, 154, 0, 7, 20, 2, 36, 173, 30, 20, 2, 38, 148, 154, 0, 7, 20, 2, 40, 173]
abbrev dktX2_ofThreeMore_3 : List UInt8 := dkwX2_ofThreeMore_3 ++ dktX2_ofThreeMore_4
def dkwX2_ofThreeMore_2 : List UInt8 := [30, 20, 2, 28, 148, 154, 0, 7, 20, 2, 30, 173, 30, 20, 2, 32, 148, 154, 0, 7, 20, 2, 34, 173]
abbrev dktX2_ofThreeMore_2 : List UInt8 := dkwX2_ofThreeMore_2 ++ dktX2_ofThreeMore_3
def dkwX2_ofThreeMore_1 : List UInt8 := [30, 20, 2, 20, 148, 154, 0, 7, 20, 2, 22, 173, 30, 20, 2, 24, 148, 154, 0, 7, 20, 2, 26, 173]
abbrev dktX2_ofThreeMore_1 : List UInt8 := dkwX2_ofThreeMore_1 ++ dktX2_ofThreeMore_2
def dkwX2_ofThreeMore_0 : List UInt8 := [30, 20, 2, 12, 148, 154, 0, 7, 20, 2, 14, 173, 30, 20, 2, 16, 148, 154, 0, 7, 20, 2, 18, 173]
abbrev dktX2_ofThreeMore_0 : List UInt8 := dkwX2_ofThreeMore_0 ++ dktX2_ofThreeMore_1
theorem dksX2_ofThreeMore_0 : cX2_ofThreeMore.data.toList.drop 0 = dktX2_ofThreeMore_0 := by decide +kernel
theorem dksX2_ofThreeMore_1 : cX2_ofThreeMore.data.toList.drop 24 = dktX2_ofThreeMore_1 := dk_seg dksX2_ofThreeMore_0 24 rfl rfl
theorem dksX2_ofThreeMore_2 : cX2_ofThreeMore.data.toList.drop 48 = dktX2_ofThreeMore_2 := dk_seg dksX2_ofThreeMore_1 24 rfl rfl
theorem dksX2_ofThreeMore_3 : cX2_ofThreeMore.data.toList.drop 72 = dktX2_ofThreeMore_3 := dk_seg dksX2_ofThreeMore_2 24 rfl rfl
theorem dksX2_ofThreeMore_4 : cX2_ofThreeMore.data.toList.drop 96 = dktX2_ofThreeMore_4 := dk_seg dksX2_ofThreeMore_3 24 rfl rfl
theorem dksX2_ofThreeMore_5 : cX2_ofThreeMore.data.toList.drop 120 = dktX2_ofThreeMore_5 := dk_seg dksX2_ofThreeMore_4 24 rfl rfl
theorem dksX2_ofThreeMore_6 : cX2_ofThreeMore.data.toList.drop 144 = dktX2_ofThreeMore_6 := dk_seg dksX2_ofThreeMore_5 24 rfl rfl
theorem dksX2_ofThreeMore_7 : cX2_ofThreeMore.data.toList.drop 168 = dktX2_ofThreeMore_7 := dk_seg dksX2_ofThreeMore_6 24 rfl rfl
theorem dksX2_ofThreeMore_8 : cX2_ofThreeMore.data.toList.drop 192 = dktX2_ofThreeMore_8 := dk_seg dksX2_ofThreeMore_7 24 rfl rfl
theorem dksX2_ofThreeMore_9 : cX2_ofThreeMore.data.toList.drop 216 = dktX2_ofThreeMore_9 := dk_seg dksX2_ofThreeMore_8 24 rfl rfl
theorem dksX2_ofThreeMore_10 : cX2_ofThreeMore.data.toList.drop 240 = dktX2_ofThreeMore_10 := dk_seg dksX2_ofThreeMore_9 24 rfl rfl
theorem dX2_ofThreeMore_0 : decode cX2_ofThreeMore 0 = .ok (.lload_n 0, 1) := dk_30 (dk_at dksX2_ofThreeMore_0 0 rfl rfl)
theorem dX2_ofThreeMore_1 : decode cX2_ofThreeMore 1 = .ok (.ldc2_w 524, 3) := dk_20 2 12 (dk_at dksX2_ofThreeMore_0 1 rfl rfl)
theorem dX2_ofThreeMore_4 : decode cX2_ofThreeMore 4 = .ok (.lcmp, 1) := dk_148 (dk_at dksX2_ofThreeMore_0 4 rfl rfl)
theorem dX2_ofThreeMore_5 : decode cX2_ofThreeMore 5 = .ok (.ifCond .ne 7, 3) := dk_154 0 7 (dk_at dksX2_ofThreeMore_0 5 rfl rfl)
theorem dX2_ofThreeMore_8 : decode cX2_ofThreeMore 8 = .ok (.ldc2_w 526, 3) := dk_20 2 14 (dk_at dksX2_ofThreeMore_0 8 rfl rfl)
theorem dX2_ofThreeMore_11 : decode cX2_ofThreeMore 11 = .ok (.lreturn, 1) := dk_173 (dk_at dksX2_ofThreeMore_0 11 rfl rfl)
theorem dX2_ofThreeMore_12 : decode cX2_ofThreeMore 12 = .ok (.lload_n 0, 1) := dk_30 (dk_at dksX2_ofThreeMore_0 12 rfl rfl)
theorem dX2_ofThreeMore_13 : decode cX2_ofThreeMore 13 = .ok (.ldc2_w 528, 3) := dk_20 2 16 (dk_at dksX2_ofThreeMore_0 13 rfl rfl)
theorem dX2_ofThreeMore_16 : decode cX2_ofThreeMore 16 = .ok (.lcmp, 1) := dk_148 (dk_at dksX2_ofThreeMore_0 16 rfl rfl)
theorem dX2_ofThreeMore_17 : decode cX2_ofThreeMore 17 = .ok (.ifCond .ne 7, 3) := dk_154 0 7 (dk_at dksX2_ofThreeMore_0 17 rfl rfl)
theorem dX2_ofThreeMore_20 : decode cX2_ofThreeMore 20 = .ok (.ldc2_w 530, 3) := dk_20 2 18 (dk_at dksX2_ofThreeMore_0 20 rfl rfl)
theorem dX2_ofThreeMore_23 : decode cX2_ofThreeMore 23 = .ok (.lreturn, 1) := dk_173 (dk_at dksX2_ofThreeMore_0 23 rfl rfl)
theorem dX2_ofThreeMore_24 : decode cX2_ofThreeMore 24 = .ok (.lload_n 0, 1) := dk_30 (dk_at dksX2_ofThreeMore_1 0 rfl rfl)
theorem dX2_ofThreeMore_25 : decode cX2_ofThreeMore 25 = .ok (.ldc2_w 532, 3) := dk_20 2 20 (dk_at dksX2_ofThreeMore_1 1 rfl rfl)
theorem dX2_ofThreeMore_28 : decode cX2_ofThreeMore 28 = .ok (.lcmp, 1) := dk_148 (dk_at dksX2_ofThreeMore_1 4 rfl rfl)
theorem dX2_ofThreeMore_29 : decode cX2_ofThreeMore 29 = .ok (.ifCond .ne 7, 3) := dk_154 0 7 (dk_at dksX2_ofThreeMore_1 5 rfl rfl)
theorem dX2_ofThreeMore_32 : decode cX2_ofThreeMore 32 = .ok (.ldc2_w 534, 3) := dk_20 2 22 (dk_at dksX2_ofThreeMore_1 8 rfl rfl)
theorem dX2_ofThreeMore_35 : decode cX2_ofThreeMore 35 = .ok (.lreturn, 1) := dk_173 (dk_at dksX2_ofThreeMore_1 11 rfl rfl)
theorem dX2_ofThreeMore_36 : decode cX2_ofThreeMore 36 = .ok (.lload_n 0, 1) := dk_30 (dk_at dksX2_ofThreeMore_1 12 rfl rfl)
theorem dX2_ofThreeMore_37 : decode cX2_ofThreeMore 37 = .ok (.ldc2_w 536, 3) := dk_20 2 24 (dk_at dksX2_ofThreeMore_1 13 rfl rfl)
theorem dX2_ofThreeMore_40 : decode cX2_ofThreeMore 40 = .ok (.lcmp, 1) := dk_148 (dk_at dksX2_ofThreeMore_1 16 rfl rfl)
theorem dX2_ofThreeMore_41 : decode cX2_ofThreeMore 41 = .ok (.ifCond .ne 7, 3) := dk_154 0 7 (dk_at dksX2_ofThreeMore_1 17 rfl rfl)
theorem dX2_ofThreeMore_44 : decode cX2_ofThreeMore 44 = .ok (.ldc2_w 538, 3) := dk_20 2 26 (dk_at dksX2_ofThreeMore_1 20 rfl rfl)
theorem dX2_ofThreeMore_47 : decode cX2_ofThreeMore 47 = .ok (.lreturn, 1) := dk_173 (dk_at dksX2_ofThreeMore_1 23 rfl rfl)
theorem dX2_ofThreeMore_48 : decode cX2_ofThreeMore 48 = .ok (.lload_n 0, 1) := dk_30 (dk_at dksX2_ofThreeMore_2 0 rfl rfl)
theorem dX2_ofThreeMore_49 : decode cX2_ofThreeMore 49 = .ok (.ldc2_w 540, 3) := dk_20 2 28 (dk_at dksX2_ofThreeMore_2 1 rfl rfl)
theorem dX2_ofThreeMore_52 : decode cX2_ofThreeMore 52 = .ok (.lcmp, 1) := dk_148 (dk_at dksX2_ofThreeMore_2 4 rfl rfl)
theorem dX2_ofThreeMore_53 : decode cX2_ofThreeMore 53 = .ok (.ifCond .ne 7, 3) := dk_154 0 7 (dk_at dksX2_ofThreeMore_2 5 rfl rfl)
theorem dX2_ofThreeMore_56 : decode cX2_ofThreeMore 56 = .ok (.ldc2_w 542, 3) := dk_20 2 30 (dk_at dksX2_ofThreeMore_2 8 rfl rfl)
theorem dX2_ofThreeMore_59 : decode cX2_ofThreeMore 59 = .ok (.lreturn, 1) := dk_173 (dk_at dksX2_ofThreeMore_2 11 rfl rfl)
theorem dX2_ofThreeMore_60 : decode cX2_ofThreeMore 60 = .ok (.lload_n 0, 1) := dk_30 (dk_at dksX2_ofThreeMore_2 12 rfl rfl)
theorem dX2_ofThreeMore_61 : decode cX2_ofThreeMore 61 = .ok (.ldc2_w 544, 3) := dk_20 2 32 (dk_at dksX2_ofThreeMore_2 13 rfl rfl)
theorem dX2_ofThreeMore_64 : decode cX2_ofThreeMore 64 = .ok (.lcmp, 1) := dk_148 (dk_at dksX2_ofThreeMore_2 16 rfl rfl)
theorem dX2_ofThreeMore_65 : decode cX2_ofThreeMore 65 = .ok (.ifCond .ne 7, 3) := dk_154 0 7 (dk_at dksX2_ofThreeMore_2 17 rfl rfl)
theorem dX2_ofThreeMore_68 : decode cX2_ofThreeMore 68 = .ok (.ldc2_w 546, 3) := dk_20 2 34 (dk_at dksX2_ofThreeMore_2 20 rfl rfl)
theorem dX2_ofThreeMore_71 : decode cX2_ofThreeMore 71 = .ok (.lreturn, 1) := dk_173 (dk_at dksX2_ofThreeMore_2 23 rfl rfl)
theorem dX2_ofThreeMore_72 : decode cX2_ofThreeMore 72 = .ok (.lload_n 0, 1) := dk_30 (dk_at dksX2_ofThreeMore_3 0 rfl rfl)
theorem dX2_ofThreeMore_73 : decode cX2_ofThreeMore 73 = .ok (.ldc2_w 173, 3) := dk_20 0 173 (dk_at dksX2_ofThreeMore_3 1 rfl rfl)
theorem dX2_ofThreeMore_76 : decode cX2_ofThreeMore 76 = .ok (.lcmp, 1) := dk_148 (dk_at dksX2_ofThreeMore_3 4 rfl rfl)
theorem dX2_ofThreeMore_77 : decode cX2_ofThreeMore 77 = .ok (.ifCond .ne 7, 3) := dk_154 0 7 (dk_at dksX2_ofThreeMore_3 5 rfl rfl)
theorem dX2_ofThreeMore_80 : decode cX2_ofThreeMore 80 = .ok (.ldc2_w 548, 3) := dk_20 2 36 (dk_at dksX2_ofThreeMore_3 8 rfl rfl)
theorem dX2_ofThreeMore_83 : decode cX2_ofThreeMore 83 = .ok (.lreturn, 1) := dk_173 (dk_at dksX2_ofThreeMore_3 11 rfl rfl)
theorem dX2_ofThreeMore_84 : decode cX2_ofThreeMore 84 = .ok (.lload_n 0, 1) := dk_30 (dk_at dksX2_ofThreeMore_3 12 rfl rfl)
theorem dX2_ofThreeMore_85 : decode cX2_ofThreeMore 85 = .ok (.ldc2_w 550, 3) := dk_20 2 38 (dk_at dksX2_ofThreeMore_3 13 rfl rfl)
theorem dX2_ofThreeMore_88 : decode cX2_ofThreeMore 88 = .ok (.lcmp, 1) := dk_148 (dk_at dksX2_ofThreeMore_3 16 rfl rfl)
theorem dX2_ofThreeMore_89 : decode cX2_ofThreeMore 89 = .ok (.ifCond .ne 7, 3) := dk_154 0 7 (dk_at dksX2_ofThreeMore_3 17 rfl rfl)
theorem dX2_ofThreeMore_92 : decode cX2_ofThreeMore 92 = .ok (.ldc2_w 552, 3) := dk_20 2 40 (dk_at dksX2_ofThreeMore_3 20 rfl rfl)
theorem dX2_ofThreeMore_95 : decode cX2_ofThreeMore 95 = .ok (.lreturn, 1) := dk_173 (dk_at dksX2_ofThreeMore_3 23 rfl rfl)
theorem dX2_ofThreeMore_96 : decode cX2_ofThreeMore 96 = .ok (.lload_n 0, 1) := dk_30 (dk_at dksX2_ofThreeMore_4 0 rfl rfl)
theorem dX2_ofThreeMore_97 : decode cX2_ofThreeMore 97 = .ok (.ldc2_w 554, 3) := dk_20 2 42 (dk_at dksX2_ofThreeMore_4 1 rfl rfl)
theorem dX2_ofThreeMore_100 : decode cX2_ofThreeMore 100 = .ok (.lcmp, 1) := dk_148 (dk_at dksX2_ofThreeMore_4 4 rfl rfl)
theorem dX2_ofThreeMore_101 : decode cX2_ofThreeMore 101 = .ok (.ifCond .ne 7, 3) := dk_154 0 7 (dk_at dksX2_ofThreeMore_4 5 rfl rfl)
theorem dX2_ofThreeMore_104 : decode cX2_ofThreeMore 104 = .ok (.ldc2_w 556, 3) := dk_20 2 44 (dk_at dksX2_ofThreeMore_4 8 rfl rfl)
theorem dX2_ofThreeMore_107 : decode cX2_ofThreeMore 107 = .ok (.lreturn, 1) := dk_173 (dk_at dksX2_ofThreeMore_4 11 rfl rfl)
theorem dX2_ofThreeMore_108 : decode cX2_ofThreeMore 108 = .ok (.lload_n 0, 1) := dk_30 (dk_at dksX2_ofThreeMore_4 12 rfl rfl)
theorem dX2_ofThreeMore_109 : decode cX2_ofThreeMore 109 = .ok (.ldc2_w 558, 3) := dk_20 2 46 (dk_at dksX2_ofThreeMore_4 13 rfl rfl)
theorem dX2_ofThreeMore_112 : decode cX2_ofThreeMore 112 = .ok (.lcmp, 1) := dk_148 (dk_at dksX2_ofThreeMore_4 16 rfl rfl)
theorem dX2_ofThreeMore_113 : decode cX2_ofThreeMore 113 = .ok (.ifCond .ne 7, 3) := dk_154 0 7 (dk_at dksX2_ofThreeMore_4 17 rfl rfl)
theorem dX2_ofThreeMore_116 : decode cX2_ofThreeMore 116 = .ok (.ldc2_w 560, 3) := dk_20 2 48 (dk_at dksX2_ofThreeMore_4 20 rfl rfl)
theorem dX2_ofThreeMore_119 : decode cX2_ofThreeMore 119 = .ok (.lreturn, 1) := dk_173 (dk_at dksX2_ofThreeMore_4 23 rfl rfl)
theorem dX2_ofThreeMore_120 : decode cX2_ofThreeMore 120 = .ok (.lload_n 0, 1) := dk_30 (dk_at dksX2_ofThreeMore_5 0 rfl rfl)
theorem dX2_ofThreeMore_121 : decode cX2_ofThreeMore 121 = .ok (.ldc2_w 562, 3) := dk_20 2 50 (dk_at dksX2_ofThreeMore_5 1 rfl rfl)
theorem dX2_ofThreeMore_124 : decode cX2_ofThreeMore 124 = .ok (.lcmp, 1) := dk_148 (dk_at dksX2_ofThreeMore_5 4 rfl rfl)
theorem dX2_ofThreeMore_125 : decode cX2_ofThreeMore 125 = .ok (.ifCond .ne 7, 3) := dk_154 0 7 (dk_at dksX2_ofThreeMore_5 5 rfl rfl)
theorem dX2_ofThreeMore_128 : decode cX2_ofThreeMore 128 = .ok (.ldc2_w 564, 3) := dk_20 2 52 (dk_at dksX2_ofThreeMore_5 8 rfl rfl)
theorem dX2_ofThreeMore_131 : decode cX2_ofThreeMore 131 = .ok (.lreturn, 1) := dk_173 (dk_at dksX2_ofThreeMore_5 11 rfl rfl)
theorem dX2_ofThreeMore_132 : decode cX2_ofThreeMore 132 = .ok (.lload_n 0, 1) := dk_30 (dk_at dksX2_ofThreeMore_5 12 rfl rfl)
theorem dX2_ofThreeMore_133 : decode cX2_ofThreeMore 133 = .ok (.ldc2_w 566, 3) := dk_20 2 54 (dk_at dksX2_ofThreeMore_5 13 rfl rfl)
theorem dX2_ofThreeMore_136 : decode cX2_ofThreeMore 136 = .ok (.lcmp, 1) := dk_148 (dk_at dksX2_ofThreeMore_5 16 rfl rfl)
theorem dX2_ofThreeMore_137 : decode cX2_ofThreeMore 137 = .ok (.ifCond .ne 7, 3) := dk_154 0 7 (dk_at dksX2_ofThreeMore_5 17 rfl rfl)
theorem dX2_ofThreeMore_140 : decode cX2_ofThreeMore 140 = .ok (.ldc2_w 568, 3) := dk_20 2 56 (dk_at dksX2_ofThreeMore_5 20 rfl rfl)
theorem dX2_ofThreeMore_143 : decode cX2_ofThreeMore 143 = .ok (.lreturn, 1) := dk_173 (dk_at dksX2_ofThreeMore_5 23 rfl rfl)
theorem dX2_ofThreeMore_144 : decode cX2_ofThreeMore 144 = .ok (.lload_n 0, 1) := dk_30 (dk_at dksX2_ofThreeMore_6 0 rfl rfl)
theorem dX2_ofThreeMore_145 : decode cX2_ofThreeMore 145 = .ok (.ldc2_w 570, 3) := dk_20 2 58 (dk_at dksX2_ofThreeMore_6 1 rfl rfl)
theorem dX2_ofThreeMore_148 : decode cX2_ofThreeMore 148 = .ok (.lcmp, 1) := dk_148 (dk_at dksX2_ofThreeMore_6 4 rfl rfl)
theorem dX2_ofThreeMore_149 : decode cX2_ofThreeMore 149 = .ok (.ifCond .ne 7, 3) := dk_154 0 7 (dk_at dksX2_ofThreeMore_6 5 rfl rfl)
theorem dX2_ofThreeMore_152 : decode cX2_ofThreeMore 152 = .ok (.ldc2_w 572, 3) := dk_20 2 60 (dk_at dksX2_ofThreeMore_6 8 rfl rfl)
theorem dX2_ofThreeMore_155 : decode cX2_ofThreeMore 155 = .ok (.lreturn, 1) := dk_173 (dk_at dksX2_ofThreeMore_6 11 rfl rfl)
theorem dX2_ofThreeMore_156 : decode cX2_ofThreeMore 156 = .ok (.lload_n 0, 1) := dk_30 (dk_at dksX2_ofThreeMore_6 12 rfl rfl)
theorem dX2_ofThreeMore_157 : decode cX2_ofThreeMore 157 = .ok (.ldc2_w 574, 3) := dk_20 2 62 (dk_at dksX2_ofThreeMore_6 13 rfl rfl)
theorem dX2_ofThreeMore_160 : decode cX2_ofThreeMore 160 = .ok (.lcmp, 1) := dk_148 (dk_at dksX2_ofThreeMore_6 16 rfl rfl)
theorem dX2_ofThreeMore_161 : decode cX2_ofThreeMore 161 = .ok (.ifCond .ne 7, 3) := dk_154 0 7 (dk_at dksX2_ofThreeMore_6 17 rfl rfl)
theorem dX2_ofThreeMore_164 : decode cX2_ofThreeMore 164 = .ok (.ldc2_w 576, 3) := dk_20 2 64 (dk_at dksX2_ofThreeMore_6 20 rfl rfl)
theorem dX2_ofThreeMore_167 : decode cX2_ofThreeMore 167 = .ok (.lreturn, 1) := dk_173 (dk_at dksX2_ofThreeMore_6 23 rfl rfl)
theorem dX2_ofThreeMore_168 : decode cX2_ofThreeMore 168 = .ok (.lload_n 0, 1) := dk_30 (dk_at dksX2_ofThreeMore_7 0 rfl rfl)
theorem dX2_ofThreeMore_169 : decode cX2_ofThreeMore 169 = .ok (.ldc2_w 578, 3) := dk_20 2 66 (dk_at dksX2_ofThreeMore_7 1 rfl rfl)
theorem dX2_ofThreeMore_172 : decode cX2_ofThreeMore 172 = .ok (.lcmp, 1) := dk_148 (dk_at dksX2_ofThreeMore_7 4 rfl rfl)
theorem dX2_ofThreeMore_173 : decode cX2_ofThreeMore 173 = .ok (.ifCond .ne 7, 3) := dk_154 0 7 (dk_at dksX2_ofThreeMore_7 5 rfl rfl)
theorem dX2_ofThreeMore_176 : decode cX2_ofThreeMore 176 = .ok (.ldc2_w 580, 3) := dk_20 2 68 (dk_at dksX2_ofThreeMore_7 8 rfl rfl)
theorem dX2_ofThreeMore_179 : decode cX2_ofThreeMore 179 = .ok (.lreturn, 1) := dk_173 (dk_at dksX2_ofThreeMore_7 11 rfl rfl)
theorem dX2_ofThreeMore_180 : decode cX2_ofThreeMore 180 = .ok (.lload_n 0, 1) := dk_30 (dk_at dksX2_ofThreeMore_7 12 rfl rfl)
theorem dX2_ofThreeMore_181 : decode cX2_ofThreeMore 181 = .ok (.ldc2_w 582, 3) := dk_20 2 70 (dk_at dksX2_ofThreeMore_7 13 rfl rfl)
theorem dX2_ofThreeMore_184 : decode cX2_ofThreeMore 184 = .ok (.lcmp, 1) := dk_148 (dk_at dksX2_ofThreeMore_7 16 rfl rfl)
theorem dX2_ofThreeMore_185 : decode cX2_ofThreeMore 185 = .ok (.ifCond .ne 7, 3) := dk_154 0 7 (dk_at dksX2_ofThreeMore_7 17 rfl rfl)
theorem dX2_ofThreeMore_188 : decode cX2_ofThreeMore 188 = .ok (.ldc2_w 584, 3) := dk_20 2 72 (dk_at dksX2_ofThreeMore_7 20 rfl rfl)
theorem dX2_ofThreeMore_191 : decode cX2_ofThreeMore 191 = .ok (.lreturn, 1) := dk_173 (dk_at dksX2_ofThreeMore_7 23 rfl rfl)
theorem dX2_ofThreeMore_192 : decode cX2_ofThreeMore 192 = .ok (.lload_n 0, 1) := dk_30 (dk_at dksX2_ofThreeMore_8 0 rfl rfl)
theorem dX2_ofThreeMore_193 : decode cX2_ofThreeMore 193 = .ok (.ldc2_w 586, 3) := dk_20 2 74 (dk_at dksX2_ofThreeMore_8 1 rfl rfl)
theorem dX2_ofThreeMore_196 : decode cX2_ofThreeMore 196 = .ok (.lcmp, 1) := dk_148 (dk_at dksX2_ofThreeMore_8 4 rfl rfl)
theorem dX2_ofThreeMore_197 : decode cX2_ofThreeMore 197 = .ok (.ifCond .ne 7, 3) := dk_154 0 7 (dk_at dksX2_ofThreeMore_8 5 rfl rfl)
theorem dX2_ofThreeMore_200 : decode cX2_ofThreeMore 200 = .ok (.ldc2_w 588, 3) := dk_20 2 76 (dk_at dksX2_ofThreeMore_8 8 rfl rfl)
theorem dX2_ofThreeMore_203 : decode cX2_ofThreeMore 203 = .ok (.lreturn, 1) := dk_173 (dk_at dksX2_ofThreeMore_8 11 rfl rfl)
theorem dX2_ofThreeMore_204 : decode cX2_ofThreeMore 204 = .ok (.lload_n 0, 1) := dk_30 (dk_at dksX2_ofThreeMore_8 12 rfl rfl)
theorem dX2_ofThreeMore_205 : decode cX2_ofThreeMore 205 = .ok (.ldc2_w 590, 3) := dk_20 2 78 (dk_at dksX2_ofThreeMore_8 13 rfl rfl)
theorem dX2_ofThreeMore_208 : decode cX2_ofThreeMore 208 = .ok (.lcmp, 1) := dk_148 (dk_at dksX2_ofThreeMore_8 16 rfl rfl)
theorem dX2_ofThreeMore_209 : decode cX2_ofThreeMore 209 = .ok (.ifCond .ne 7, 3) := dk_154 0 7 (dk_at dksX2_ofThreeMore_8 17 rfl rfl)
theorem dX2_ofThreeMore_212 : decode cX2_ofThreeMore 212 = .ok (.ldc2_w 592, 3) := dk_20 2 80 (dk_at dksX2_ofThreeMore_8 20 rfl rfl)
theorem dX2_ofThreeMore_215 : decode cX2_ofThreeMore 215 = .ok (.lreturn, 1) := dk_173 (dk_at dksX2_ofThreeMore_8 23 rfl rfl)
theorem dX2_ofThreeMore_216 : decode cX2_ofThreeMore 216 = .ok (.lload_n 0, 1) := dk_30 (dk_at dksX2_ofThreeMore_9 0 rfl rfl)
theorem dX2_ofThreeMore_217 : decode cX2_ofThreeMore 217 = .ok (.ldc2_w 594, 3) := dk_20 2 82 (dk_at dksX2_ofThreeMore_9 1 rfl rfl)
theorem dX2_ofThreeMore_220 : decode cX2_ofThreeMore 220 = .ok (.lcmp, 1) := dk_148 (dk_at dksX2_ofThreeMore_9 4 rfl rfl)
theorem dX2_ofThreeMore_221 : decode cX2_ofThreeMore 221 = .ok (.ifCond .ne 7, 3) := dk_154 0 7 (dk_at dksX2_ofThreeMore_9 5 rfl rfl)
theorem dX2_ofThreeMore_224 : decode cX2_ofThreeMore 224 = .ok (.ldc2_w 596, 3) := dk_20 2 84 (dk_at dksX2_ofThreeMore_9 8 rfl rfl)
theorem dX2_ofThreeMore_227 : decode cX2_ofThreeMore 227 = .ok (.lreturn, 1) := dk_173 (dk_at dksX2_ofThreeMore_9 11 rfl rfl)
theorem dX2_ofThreeMore_228 : decode cX2_ofThreeMore 228 = .ok (.lload_n 0, 1) := dk_30 (dk_at dksX2_ofThreeMore_9 12 rfl rfl)
theorem dX2_ofThreeMore_229 : decode cX2_ofThreeMore 229 = .ok (.ldc2_w 598, 3) := dk_20 2 86 (dk_at dksX2_ofThreeMore_9 13 rfl rfl)
theorem dX2_ofThreeMore_232 : decode cX2_ofThreeMore 232 = .ok (.lcmp, 1) := dk_148 (dk_at dksX2_ofThreeMore_9 16 rfl rfl)
theorem dX2_ofThreeMore_233 : decode cX2_ofThreeMore 233 = .ok (.ifCond .ne 7, 3) := dk_154 0 7 (dk_at dksX2_ofThreeMore_9 17 rfl rfl)
theorem dX2_ofThreeMore_236 : decode cX2_ofThreeMore 236 = .ok (.ldc2_w 600, 3) := dk_20 2 88 (dk_at dksX2_ofThreeMore_9 20 rfl rfl)
theorem dX2_ofThreeMore_239 : decode cX2_ofThreeMore 239 = .ok (.lreturn, 1) := dk_173 (dk_at dksX2_ofThreeMore_9 23 rfl rfl)
theorem dX2_ofThreeMore_240 : decode cX2_ofThreeMore 240 = .ok (.lload_n 0, 1) := dk_30 (dk_at dksX2_ofThreeMore_10 0 rfl rfl)
theorem dX2_ofThreeMore_241 : decode cX2_ofThreeMore 241 = .ok (.ldc2_w 602, 3) := dk_20 2 90 (dk_at dksX2_ofThreeMore_10 1 rfl rfl)
theorem dX2_ofThreeMore_244 : decode cX2_ofThreeMore 244 = .ok (.lcmp, 1) := dk_148 (dk_at dksX2_ofThreeMore_10 4 rfl rfl)
theorem dX2_ofThreeMore_245 : decode cX2_ofThreeMore 245 = .ok (.ifCond .ne 7, 3) := dk_154 0 7 (dk_at dksX2_ofThreeMore_10 5 rfl rfl)
theorem dX2_ofThreeMore_248 : decode cX2_ofThreeMore 248 = .ok (.ldc2_w 604, 3) := dk_20 2 92 (dk_at dksX2_ofThreeMore_10 8 rfl rfl)
theorem dX2_ofThreeMore_251 : decode cX2_ofThreeMore 251 = .ok (.lreturn, 1) := dk_173 (dk_at dksX2_ofThreeMore_10 11 rfl rfl)
theorem dX2_ofThreeMore_252 : decode cX2_ofThreeMore 252 = .ok (.ldc2_w 211, 3) := dk_20 0 211 (dk_at dksX2_ofThreeMore_10 12 rfl rfl)
theorem dX2_ofThreeMore_255 : decode cX2_ofThreeMore 255 = .ok (.lreturn, 1) := dk_173 (dk_at dksX2_ofThreeMore_10 15 rfl rfl)
abbrev cX2_ofFive : ByteArray := prog_4_method_26_code
def yX2_ofFive : MethodName := ⟨RX2, "ofFive", "(J)J"⟩
def dkwX2_ofFive_15 : List UInt8 := [20, 0, 211, 173]
abbrev dktX2_ofFive_15 : List UInt8 := dkwX2_ofFive_15 ++ []
def dkwX2_ofFive_14 : List UInt8 := [30, 20, 2, 206, 148, 154, 0, 7, 20, 2, 208, 173, 30, 20, 2, 210, 148, 154, 0, 7, 20, 2, 212, 173]
abbrev dktX2_ofFive_14 : List UInt8 := dkwX2_ofFive_14 ++ dktX2_ofFive_15
def dkwX2_ofFive_13 : List UInt8 := [30, 20, 2, 198, 148, 154, 0, 7, 20, 2, 200, 173, 30, 20, 2, 202, 148, 154, 0, 7, 20, 2, 204, 173]
abbrev dktX2_ofFive_13 : List UInt8 := dkwX2_ofFive_13 ++ dktX2_ofFive_14
def dkwX2_ofFive_12 : List UInt8 := [30, 20, 2, 190, 148, 154, 0, 7, 20, 2, 192, 173, 30, 20, 2, 194, 148, 154, 0, 7, 20, 2, 196, 173]
abbrev dktX2_ofFive_12 : List UInt8 := dkwX2_ofFive_12 ++ dktX2_ofFive_13
def dkwX2_ofFive_11 : List UInt8 := [30, 20, 2, 182, 148, 154, 0, 7, 20, 2, 184, 173, 30, 20, 2, 186, 148, 154, 0, 7, 20, 2, 188, 173]
abbrev dktX2_ofFive_11 : List UInt8 := dkwX2_ofFive_11 ++ dktX2_ofFive_12
def dkwX2_ofFive_10 : List UInt8 := [30, 20, 2, 174, 148, 154, 0, 7, 20, 2, 176, 173, 30, 20, 2, 178, 148, 154, 0, 7, 20, 2, 180, 173]
abbrev dktX2_ofFive_10 : List UInt8 := dkwX2_ofFive_10 ++ dktX2_ofFive_11
def dkwX2_ofFive_9 : List UInt8 := [30, 20, 2, 166, 148, 154, 0, 7, 20, 2, 168, 173, 30, 20, 2, 170, 148, 154, 0, 7, 20, 2, 172, 173]
abbrev dktX2_ofFive_9 : List UInt8 := dkwX2_ofFive_9 ++ dktX2_ofFive_10
def dkwX2_ofFive_8 : List UInt8 := [30, 20, 2, 158, 148, 154, 0, 7, 20, 2, 160, 173, 30, 20, 2, 162, 148, 154, 0, 7, 20, 2, 164, 173]
abbrev dktX2_ofFive_8 : List UInt8 := dkwX2_ofFive_8 ++ dktX2_ofFive_9
def dkwX2_ofFive_7 : List UInt8 := [30, 20, 2, 150, 148, 154, 0, 7, 20, 2, 152, 173, 30, 20, 2, 154, 148, 154, 0, 7, 20, 2, 156, 173]
abbrev dktX2_ofFive_7 : List UInt8 := dkwX2_ofFive_7 ++ dktX2_ofFive_8
def dkwX2_ofFive_6 : List UInt8 := [30, 20, 2, 142, 148, 154, 0, 7, 20, 2, 144, 173, 30, 20, 2, 146, 148, 154, 0, 7, 20, 2, 148, 173]
abbrev dktX2_ofFive_6 : List UInt8 := dkwX2_ofFive_6 ++ dktX2_ofFive_7
def dkwX2_ofFive_5 : List UInt8 := [30, 20, 2, 134, 148, 154, 0, 7, 20, 2, 136, 173, 30, 20, 2, 138, 148, 154, 0, 7, 20, 2, 140, 173]
abbrev dktX2_ofFive_5 : List UInt8 := dkwX2_ofFive_5 ++ dktX2_ofFive_6
def dkwX2_ofFive_4 : List UInt8 := [30, 20, 2, 126, 148, 154, 0, 7, 20, 2, 128, 173, 30, 20, 2, 130, 148, 154, 0, 7, 20, 2, 132, 173]
abbrev dktX2_ofFive_4 : List UInt8 := dkwX2_ofFive_4 ++ dktX2_ofFive_5
def dkwX2_ofFive_3 : List UInt8 := [30, 20, 2, 118, 148, 154, 0, 7, 20, 2, 120, 173, 30, 20, 2, 122, 148, 154, 0, 7, 20, 2, 124, 173]
abbrev dktX2_ofFive_3 : List UInt8 := dkwX2_ofFive_3 ++ dktX2_ofFive_4
def dkwX2_ofFive_2 : List UInt8 := [30, 20, 2, 110, 148, 154, 0, 7, 20, 2, 112, 173, 30, 20, 2, 114, 148, 154, 0, 7, 20, 2, 116, 173]
abbrev dktX2_ofFive_2 : List UInt8 := dkwX2_ofFive_2 ++ dktX2_ofFive_3
def dkwX2_ofFive_1 : List UInt8 := [30, 20, 2, 102, 148, 154, 0, 7, 20, 2, 104, 173, 30, 20, 2, 106, 148, 154, 0, 7, 20, 2, 108, 173]
abbrev dktX2_ofFive_1 : List UInt8 := dkwX2_ofFive_1 ++ dktX2_ofFive_2
def dkwX2_ofFive_0 : List UInt8 := [30, 20, 2, 94, 148, 154, 0, 7, 20, 2, 96, 173, 30, 20, 2, 98, 148, 154, 0, 7, 20, 2, 100, 173]
abbrev dktX2_ofFive_0 : List UInt8 := dkwX2_ofFive_0 ++ dktX2_ofFive_1
theorem dksX2_ofFive_0 : cX2_ofFive.data.toList.drop 0 = dktX2_ofFive_0 := by decide +kernel
theorem dksX2_ofFive_1 : cX2_ofFive.data.toList.drop 24 = dktX2_ofFive_1 := dk_seg dksX2_ofFive_0 24 rfl rfl
theorem dksX2_ofFive_2 : cX2_ofFive.data.toList.drop 48 = dktX2_ofFive_2 := dk_seg dksX2_ofFive_1 24 rfl rfl
theorem dksX2_ofFive_3 : cX2_ofFive.data.toList.drop 72 = dktX2_ofFive_3 := dk_seg dksX2_ofFive_2 24 rfl rfl
theorem dksX2_ofFive_4 : cX2_ofFive.data.toList.drop 96 = dktX2_ofFive_4 := dk_seg dksX2_ofFive_3 24 rfl rfl
theorem dksX2_ofFive_5 : cX2_ofFive.data.toList.drop 120 = dktX2_ofFive_5 := dk_seg dksX2_ofFive_4 24 rfl rfl
theorem dksX2_ofFive_6 : cX2_ofFive.data.toList.drop 144 = dktX2_ofFive_6 := dk_seg dksX2_ofFive_5 24 rfl rfl
theorem dksX2_ofFive_7 : cX2_ofFive.data.toList.drop 168 = dktX2_ofFive_7 := dk_seg dksX2_ofFive_6 24 rfl rfl
theorem dksX2_ofFive_8 : cX2_ofFive.data.toList.drop 192 = dktX2_ofFive_8 := dk_seg dksX2_ofFive_7 24 rfl rfl
theorem dksX2_ofFive_9 : cX2_ofFive.data.toList.drop 216 = dktX2_ofFive_9 := dk_seg dksX2_ofFive_8 24 rfl rfl
theorem dksX2_ofFive_10 : cX2_ofFive.data.toList.drop 240 = dktX2_ofFive_10 := dk_seg dksX2_ofFive_9 24 rfl rfl
theorem dksX2_ofFive_11 : cX2_ofFive.data.toList.drop 264 = dktX2_ofFive_11 := dk_seg dksX2_ofFive_10 24 rfl rfl
theorem dksX2_ofFive_12 : cX2_ofFive.data.toList.drop 288 = dktX2_ofFive_12 := dk_seg dksX2_ofFive_11 24 rfl rfl
theorem dksX2_ofFive_13 : cX2_ofFive.data.toList.drop 312 = dktX2_ofFive_13 := dk_seg dksX2_ofFive_12 24 rfl rfl
theorem dksX2_ofFive_14 : cX2_ofFive.data.toList.drop 336 = dktX2_ofFive_14 := dk_seg dksX2_ofFive_13 24 rfl rfl
theorem dksX2_ofFive_15 : cX2_ofFive.data.toList.drop 360 = dktX2_ofFive_15 := dk_seg dksX2_ofFive_14 24 rfl rfl
theorem dX2_ofFive_0 : decode cX2_ofFive 0 = .ok (.lload_n 0, 1) := dk_30 (dk_at dksX2_ofFive_0 0 rfl rfl)
theorem dX2_ofFive_1 : decode cX2_ofFive 1 = .ok (.ldc2_w 606, 3) := dk_20 2 94 (dk_at dksX2_ofFive_0 1 rfl rfl)
theorem dX2_ofFive_4 : decode cX2_ofFive 4 = .ok (.lcmp, 1) := dk_148 (dk_at dksX2_ofFive_0 4 rfl rfl)
theorem dX2_ofFive_5 : decode cX2_ofFive 5 = .ok (.ifCond .ne 7, 3) := dk_154 0 7 (dk_at dksX2_ofFive_0 5 rfl rfl)
theorem dX2_ofFive_8 : decode cX2_ofFive 8 = .ok (.ldc2_w 608, 3) := dk_20 2 96 (dk_at dksX2_ofFive_0 8 rfl rfl)
theorem dX2_ofFive_11 : decode cX2_ofFive 11 = .ok (.lreturn, 1) := dk_173 (dk_at dksX2_ofFive_0 11 rfl rfl)
theorem dX2_ofFive_12 : decode cX2_ofFive 12 = .ok (.lload_n 0, 1) := dk_30 (dk_at dksX2_ofFive_0 12 rfl rfl)
theorem dX2_ofFive_13 : decode cX2_ofFive 13 = .ok (.ldc2_w 610, 3) := dk_20 2 98 (dk_at dksX2_ofFive_0 13 rfl rfl)
theorem dX2_ofFive_16 : decode cX2_ofFive 16 = .ok (.lcmp, 1) := dk_148 (dk_at dksX2_ofFive_0 16 rfl rfl)
theorem dX2_ofFive_17 : decode cX2_ofFive 17 = .ok (.ifCond .ne 7, 3) := dk_154 0 7 (dk_at dksX2_ofFive_0 17 rfl rfl)
theorem dX2_ofFive_20 : decode cX2_ofFive 20 = .ok (.ldc2_w 612, 3) := dk_20 2 100 (dk_at dksX2_ofFive_0 20 rfl rfl)
theorem dX2_ofFive_23 : decode cX2_ofFive 23 = .ok (.lreturn, 1) := dk_173 (dk_at dksX2_ofFive_0 23 rfl rfl)
theorem dX2_ofFive_24 : decode cX2_ofFive 24 = .ok (.lload_n 0, 1) := dk_30 (dk_at dksX2_ofFive_1 0 rfl rfl)
theorem dX2_ofFive_25 : decode cX2_ofFive 25 = .ok (.ldc2_w 614, 3) := dk_20 2 102 (dk_at dksX2_ofFive_1 1 rfl rfl)
theorem dX2_ofFive_28 : decode cX2_ofFive 28 = .ok (.lcmp, 1) := dk_148 (dk_at dksX2_ofFive_1 4 rfl rfl)
theorem dX2_ofFive_29 : decode cX2_ofFive 29 = .ok (.ifCond .ne 7, 3) := dk_154 0 7 (dk_at dksX2_ofFive_1 5 rfl rfl)
theorem dX2_ofFive_32 : decode cX2_ofFive 32 = .ok (.ldc2_w 616, 3) := dk_20 2 104 (dk_at dksX2_ofFive_1 8 rfl rfl)
theorem dX2_ofFive_35 : decode cX2_ofFive 35 = .ok (.lreturn, 1) := dk_173 (dk_at dksX2_ofFive_1 11 rfl rfl)
theorem dX2_ofFive_36 : decode cX2_ofFive 36 = .ok (.lload_n 0, 1) := dk_30 (dk_at dksX2_ofFive_1 12 rfl rfl)
theorem dX2_ofFive_37 : decode cX2_ofFive 37 = .ok (.ldc2_w 618, 3) := dk_20 2 106 (dk_at dksX2_ofFive_1 13 rfl rfl)
theorem dX2_ofFive_40 : decode cX2_ofFive 40 = .ok (.lcmp, 1) := dk_148 (dk_at dksX2_ofFive_1 16 rfl rfl)
theorem dX2_ofFive_41 : decode cX2_ofFive 41 = .ok (.ifCond .ne 7, 3) := dk_154 0 7 (dk_at dksX2_ofFive_1 17 rfl rfl)
theorem dX2_ofFive_44 : decode cX2_ofFive 44 = .ok (.ldc2_w 620, 3) := dk_20 2 108 (dk_at dksX2_ofFive_1 20 rfl rfl)
theorem dX2_ofFive_47 : decode cX2_ofFive 47 = .ok (.lreturn, 1) := dk_173 (dk_at dksX2_ofFive_1 23 rfl rfl)
theorem dX2_ofFive_48 : decode cX2_ofFive 48 = .ok (.lload_n 0, 1) := dk_30 (dk_at dksX2_ofFive_2 0 rfl rfl)
theorem dX2_ofFive_49 : decode cX2_ofFive 49 = .ok (.ldc2_w 622, 3) := dk_20 2 110 (dk_at dksX2_ofFive_2 1 rfl rfl)
theorem dX2_ofFive_52 : decode cX2_ofFive 52 = .ok (.lcmp, 1) := dk_148 (dk_at dksX2_ofFive_2 4 rfl rfl)
theorem dX2_ofFive_53 : decode cX2_ofFive 53 = .ok (.ifCond .ne 7, 3) := dk_154 0 7 (dk_at dksX2_ofFive_2 5 rfl rfl)
theorem dX2_ofFive_56 : decode cX2_ofFive 56 = .ok (.ldc2_w 624, 3) := dk_20 2 112 (dk_at dksX2_ofFive_2 8 rfl rfl)
theorem dX2_ofFive_59 : decode cX2_ofFive 59 = .ok (.lreturn, 1) := dk_173 (dk_at dksX2_ofFive_2 11 rfl rfl)
theorem dX2_ofFive_60 : decode cX2_ofFive 60 = .ok (.lload_n 0, 1) := dk_30 (dk_at dksX2_ofFive_2 12 rfl rfl)
theorem dX2_ofFive_61 : decode cX2_ofFive 61 = .ok (.ldc2_w 626, 3) := dk_20 2 114 (dk_at dksX2_ofFive_2 13 rfl rfl)
theorem dX2_ofFive_64 : decode cX2_ofFive 64 = .ok (.lcmp, 1) := dk_148 (dk_at dksX2_ofFive_2 16 rfl rfl)
theorem dX2_ofFive_65 : decode cX2_ofFive 65 = .ok (.ifCond .ne 7, 3) := dk_154 0 7 (dk_at dksX2_ofFive_2 17 rfl rfl)
theorem dX2_ofFive_68 : decode cX2_ofFive 68 = .ok (.ldc2_w 628, 3) := dk_20 2 116 (dk_at dksX2_ofFive_2 20 rfl rfl)
theorem dX2_ofFive_71 : decode cX2_ofFive 71 = .ok (.lreturn, 1) := dk_173 (dk_at dksX2_ofFive_2 23 rfl rfl)
theorem dX2_ofFive_72 : decode cX2_ofFive 72 = .ok (.lload_n 0, 1) := dk_30 (dk_at dksX2_ofFive_3 0 rfl rfl)
theorem dX2_ofFive_73 : decode cX2_ofFive 73 = .ok (.ldc2_w 630, 3) := dk_20 2 118 (dk_at dksX2_ofFive_3 1 rfl rfl)
theorem dX2_ofFive_76 : decode cX2_ofFive 76 = .ok (.lcmp, 1) := dk_148 (dk_at dksX2_ofFive_3 4 rfl rfl)
theorem dX2_ofFive_77 : decode cX2_ofFive 77 = .ok (.ifCond .ne 7, 3) := dk_154 0 7 (dk_at dksX2_ofFive_3 5 rfl rfl)
theorem dX2_ofFive_80 : decode cX2_ofFive 80 = .ok (.ldc2_w 632, 3) := dk_20 2 120 (dk_at dksX2_ofFive_3 8 rfl rfl)
theorem dX2_ofFive_83 : decode cX2_ofFive 83 = .ok (.lreturn, 1) := dk_173 (dk_at dksX2_ofFive_3 11 rfl rfl)
theorem dX2_ofFive_84 : decode cX2_ofFive 84 = .ok (.lload_n 0, 1) := dk_30 (dk_at dksX2_ofFive_3 12 rfl rfl)
theorem dX2_ofFive_85 : decode cX2_ofFive 85 = .ok (.ldc2_w 634, 3) := dk_20 2 122 (dk_at dksX2_ofFive_3 13 rfl rfl)
theorem dX2_ofFive_88 : decode cX2_ofFive 88 = .ok (.lcmp, 1) := dk_148 (dk_at dksX2_ofFive_3 16 rfl rfl)
theorem dX2_ofFive_89 : decode cX2_ofFive 89 = .ok (.ifCond .ne 7, 3) := dk_154 0 7 (dk_at dksX2_ofFive_3 17 rfl rfl)
theorem dX2_ofFive_92 : decode cX2_ofFive 92 = .ok (.ldc2_w 636, 3) := dk_20 2 124 (dk_at dksX2_ofFive_3 20 rfl rfl)
theorem dX2_ofFive_95 : decode cX2_ofFive 95 = .ok (.lreturn, 1) := dk_173 (dk_at dksX2_ofFive_3 23 rfl rfl)
theorem dX2_ofFive_96 : decode cX2_ofFive 96 = .ok (.lload_n 0, 1) := dk_30 (dk_at dksX2_ofFive_4 0 rfl rfl)
theorem dX2_ofFive_97 : decode cX2_ofFive 97 = .ok (.ldc2_w 638, 3) := dk_20 2 126 (dk_at dksX2_ofFive_4 1 rfl rfl)
theorem dX2_ofFive_100 : decode cX2_ofFive 100 = .ok (.lcmp, 1) := dk_148 (dk_at dksX2_ofFive_4 4 rfl rfl)
theorem dX2_ofFive_101 : decode cX2_ofFive 101 = .ok (.ifCond .ne 7, 3) := dk_154 0 7 (dk_at dksX2_ofFive_4 5 rfl rfl)
theorem dX2_ofFive_104 : decode cX2_ofFive 104 = .ok (.ldc2_w 640, 3) := dk_20 2 128 (dk_at dksX2_ofFive_4 8 rfl rfl)
theorem dX2_ofFive_107 : decode cX2_ofFive 107 = .ok (.lreturn, 1) := dk_173 (dk_at dksX2_ofFive_4 11 rfl rfl)
theorem dX2_ofFive_108 : decode cX2_ofFive 108 = .ok (.lload_n 0, 1) := dk_30 (dk_at dksX2_ofFive_4 12 rfl rfl)
theorem dX2_ofFive_109 : decode cX2_ofFive 109 = .ok (.ldc2_w 642, 3) := dk_20 2 130 (dk_at dksX2_ofFive_4 13 rfl rfl)
theorem dX2_ofFive_112 : decode cX2_ofFive 112 = .ok (.lcmp, 1) := dk_148 (dk_at dksX2_ofFive_4 16 rfl rfl)
theorem dX2_ofFive_113 : decode cX2_ofFive 113 = .ok (.ifCond .ne 7, 3) := dk_154 0 7 (dk_at dksX2_ofFive_4 17 rfl rfl)
theorem dX2_ofFive_116 : decode cX2_ofFive 116 = .ok (.ldc2_w 644, 3) := dk_20 2 132 (dk_at dksX2_ofFive_4 20 rfl rfl)
theorem dX2_ofFive_119 : decode cX2_ofFive 119 = .ok (.lreturn, 1) := dk_173 (dk_at dksX2_ofFive_4 23 rfl rfl)
theorem dX2_ofFive_120 : decode cX2_ofFive 120 = .ok (.lload_n 0, 1) := dk_30 (dk_at dksX2_ofFive_5 0 rfl rfl)
theorem dX2_ofFive_121 : decode cX2_ofFive 121 = .ok (.ldc2_w 646, 3) := dk_20 2 134 (dk_at dksX2_ofFive_5 1 rfl rfl)
theorem dX2_ofFive_124 : decode cX2_ofFive 124 = .ok (.lcmp, 1) := dk_148 (dk_at dksX2_ofFive_5 4 rfl rfl)
theorem dX2_ofFive_125 : decode cX2_ofFive 125 = .ok (.ifCond .ne 7, 3) := dk_154 0 7 (dk_at dksX2_ofFive_5 5 rfl rfl)
theorem dX2_ofFive_128 : decode cX2_ofFive 128 = .ok (.ldc2_w 648, 3) := dk_20 2 136 (dk_at dksX2_ofFive_5 8 rfl rfl)
theorem dX2_ofFive_131 : decode cX2_ofFive 131 = .ok (.lreturn, 1) := dk_173 (dk_at dksX2_ofFive_5 11 rfl rfl)
theorem dX2_ofFive_132 : decode cX2_ofFive 132 = .ok (.lload_n 0, 1) := dk_30 (dk_at dksX2_ofFive_5 12 rfl rfl)
theorem dX2_ofFive_133 : decode cX2_ofFive 133 = .ok (.ldc2_w 650, 3) := dk_20 2 138 (dk_at dksX2_ofFive_5 13 rfl rfl)
theorem dX2_ofFive_136 : decode cX2_ofFive 136 = .ok (.lcmp, 1) := dk_148 (dk_at dksX2_ofFive_5 16 rfl rfl)
theorem dX2_ofFive_137 : decode cX2_ofFive 137 = .ok (.ifCond .ne 7, 3) := dk_154 0 7 (dk_at dksX2_ofFive_5 17 rfl rfl)
theorem dX2_ofFive_140 : decode cX2_ofFive 140 = .ok (.ldc2_w 652, 3) := dk_20 2 140 (dk_at dksX2_ofFive_5 20 rfl rfl)
theorem dX2_ofFive_143 : decode cX2_ofFive 143 = .ok (.lreturn, 1) := dk_173 (dk_at dksX2_ofFive_5 23 rfl rfl)
theorem dX2_ofFive_144 : decode cX2_ofFive 144 = .ok (.lload_n 0, 1) := dk_30 (dk_at dksX2_ofFive_6 0 rfl rfl)
theorem dX2_ofFive_145 : decode cX2_ofFive 145 = .ok (.ldc2_w 654, 3) := dk_20 2 142 (dk_at dksX2_ofFive_6 1 rfl rfl)
theorem dX2_ofFive_148 : decode cX2_ofFive 148 = .ok (.lcmp, 1) := dk_148 (dk_at dksX2_ofFive_6 4 rfl rfl)
theorem dX2_ofFive_149 : decode cX2_ofFive 149 = .ok (.ifCond .ne 7, 3) := dk_154 0 7 (dk_at dksX2_ofFive_6 5 rfl rfl)
theorem dX2_ofFive_152 : decode cX2_ofFive 152 = .ok (.ldc2_w 656, 3) := dk_20 2 144 (dk_at dksX2_ofFive_6 8 rfl rfl)
theorem dX2_ofFive_155 : decode cX2_ofFive 155 = .ok (.lreturn, 1) := dk_173 (dk_at dksX2_ofFive_6 11 rfl rfl)
theorem dX2_ofFive_156 : decode cX2_ofFive 156 = .ok (.lload_n 0, 1) := dk_30 (dk_at dksX2_ofFive_6 12 rfl rfl)
theorem dX2_ofFive_157 : decode cX2_ofFive 157 = .ok (.ldc2_w 658, 3) := dk_20 2 146 (dk_at dksX2_ofFive_6 13 rfl rfl)
theorem dX2_ofFive_160 : decode cX2_ofFive 160 = .ok (.lcmp, 1) := dk_148 (dk_at dksX2_ofFive_6 16 rfl rfl)
theorem dX2_ofFive_161 : decode cX2_ofFive 161 = .ok (.ifCond .ne 7, 3) := dk_154 0 7 (dk_at dksX2_ofFive_6 17 rfl rfl)
theorem dX2_ofFive_164 : decode cX2_ofFive 164 = .ok (.ldc2_w 660, 3) := dk_20 2 148 (dk_at dksX2_ofFive_6 20 rfl rfl)
theorem dX2_ofFive_167 : decode cX2_ofFive 167 = .ok (.lreturn, 1) := dk_173 (dk_at dksX2_ofFive_6 23 rfl rfl)
theorem dX2_ofFive_168 : decode cX2_ofFive 168 = .ok (.lload_n 0, 1) := dk_30 (dk_at dksX2_ofFive_7 0 rfl rfl)
theorem dX2_ofFive_169 : decode cX2_ofFive 169 = .ok (.ldc2_w 662, 3) := dk_20 2 150 (dk_at dksX2_ofFive_7 1 rfl rfl)
theorem dX2_ofFive_172 : decode cX2_ofFive 172 = .ok (.lcmp, 1) := dk_148 (dk_at dksX2_ofFive_7 4 rfl rfl)
theorem dX2_ofFive_173 : decode cX2_ofFive 173 = .ok (.ifCond .ne 7, 3) := dk_154 0 7 (dk_at dksX2_ofFive_7 5 rfl rfl)
theorem dX2_ofFive_176 : decode cX2_ofFive 176 = .ok (.ldc2_w 664, 3) := dk_20 2 152 (dk_at dksX2_ofFive_7 8 rfl rfl)
theorem dX2_ofFive_179 : decode cX2_ofFive 179 = .ok (.lreturn, 1) := dk_173 (dk_at dksX2_ofFive_7 11 rfl rfl)
theorem dX2_ofFive_180 : decode cX2_ofFive 180 = .ok (.lload_n 0, 1) := dk_30 (dk_at dksX2_ofFive_7 12 rfl rfl)
theorem dX2_ofFive_181 : decode cX2_ofFive 181 = .ok (.ldc2_w 666, 3) := dk_20 2 154 (dk_at dksX2_ofFive_7 13 rfl rfl)
theorem dX2_ofFive_184 : decode cX2_ofFive 184 = .ok (.lcmp, 1) := dk_148 (dk_at dksX2_ofFive_7 16 rfl rfl)
theorem dX2_ofFive_185 : decode cX2_ofFive 185 = .ok (.ifCond .ne 7, 3) := dk_154 0 7 (dk_at dksX2_ofFive_7 17 rfl rfl)
theorem dX2_ofFive_188 : decode cX2_ofFive 188 = .ok (.ldc2_w 668, 3) := dk_20 2 156 (dk_at dksX2_ofFive_7 20 rfl rfl)
theorem dX2_ofFive_191 : decode cX2_ofFive 191 = .ok (.lreturn, 1) := dk_173 (dk_at dksX2_ofFive_7 23 rfl rfl)
theorem dX2_ofFive_192 : decode cX2_ofFive 192 = .ok (.lload_n 0, 1) := dk_30 (dk_at dksX2_ofFive_8 0 rfl rfl)
theorem dX2_ofFive_193 : decode cX2_ofFive 193 = .ok (.ldc2_w 670, 3) := dk_20 2 158 (dk_at dksX2_ofFive_8 1 rfl rfl)
theorem dX2_ofFive_196 : decode cX2_ofFive 196 = .ok (.lcmp, 1) := dk_148 (dk_at dksX2_ofFive_8 4 rfl rfl)
theorem dX2_ofFive_197 : decode cX2_ofFive 197 = .ok (.ifCond .ne 7, 3) := dk_154 0 7 (dk_at dksX2_ofFive_8 5 rfl rfl)
theorem dX2_ofFive_200 : decode cX2_ofFive 200 = .ok (.ldc2_w 672, 3) := dk_20 2 160 (dk_at dksX2_ofFive_8 8 rfl rfl)
theorem dX2_ofFive_203 : decode cX2_ofFive 203 = .ok (.lreturn, 1) := dk_173 (dk_at dksX2_ofFive_8 11 rfl rfl)
theorem dX2_ofFive_204 : decode cX2_ofFive 204 = .ok (.lload_n 0, 1) := dk_30 (dk_at dksX2_ofFive_8 12 rfl rfl)
theorem dX2_ofFive_205 : decode cX2_ofFive 205 = .ok (.ldc2_w 674, 3) := dk_20 2 162 (dk_at dksX2_ofFive_8 13 rfl rfl)
theorem dX2_ofFive_208 : decode cX2_ofFive 208 = .ok (.lcmp, 1) := dk_148 (dk_at dksX2_ofFive_8 16 rfl rfl)
theorem dX2_ofFive_209 : decode cX2_ofFive 209 = .ok (.ifCond .ne 7, 3) := dk_154 0 7 (dk_at dksX2_ofFive_8 17 rfl rfl)
theorem dX2_ofFive_212 : decode cX2_ofFive 212 = .ok (.ldc2_w 676, 3) := dk_20 2 164 (dk_at dksX2_ofFive_8 20 rfl rfl)
theorem dX2_ofFive_215 : decode cX2_ofFive 215 = .ok (.lreturn, 1) := dk_173 (dk_at dksX2_ofFive_8 23 rfl rfl)
theorem dX2_ofFive_216 : decode cX2_ofFive 216 = .ok (.lload_n 0, 1) := dk_30 (dk_at dksX2_ofFive_9 0 rfl rfl)
theorem dX2_ofFive_217 : decode cX2_ofFive 217 = .ok (.ldc2_w 678, 3) := dk_20 2 166 (dk_at dksX2_ofFive_9 1 rfl rfl)
theorem dX2_ofFive_220 : decode cX2_ofFive 220 = .ok (.lcmp, 1) := dk_148 (dk_at dksX2_ofFive_9 4 rfl rfl)
theorem dX2_ofFive_221 : decode cX2_ofFive 221 = .ok (.ifCond .ne 7, 3) := dk_154 0 7 (dk_at dksX2_ofFive_9 5 rfl rfl)
theorem dX2_ofFive_224 : decode cX2_ofFive 224 = .ok (.ldc2_w 680, 3) := dk_20 2 168 (dk_at dksX2_ofFive_9 8 rfl rfl)
theorem dX2_ofFive_227 : decode cX2_ofFive 227 = .ok (.lreturn, 1) := dk_173 (dk_at dksX2_ofFive_9 11 rfl rfl)
theorem dX2_ofFive_228 : decode cX2_ofFive 228 = .ok (.lload_n 0, 1) := dk_30 (dk_at dksX2_ofFive_9 12 rfl rfl)
theorem dX2_ofFive_229 : decode cX2_ofFive 229 = .ok (.ldc2_w 682, 3) := dk_20 2 170 (dk_at dksX2_ofFive_9 13 rfl rfl)
theorem dX2_ofFive_232 : decode cX2_ofFive 232 = .ok (.lcmp, 1) := dk_148 (dk_at dksX2_ofFive_9 16 rfl rfl)
theorem dX2_ofFive_233 : decode cX2_ofFive 233 = .ok (.ifCond .ne 7, 3) := dk_154 0 7 (dk_at dksX2_ofFive_9 17 rfl rfl)
theorem dX2_ofFive_236 : decode cX2_ofFive 236 = .ok (.ldc2_w 684, 3) := dk_20 2 172 (dk_at dksX2_ofFive_9 20 rfl rfl)
theorem dX2_ofFive_239 : decode cX2_ofFive 239 = .ok (.lreturn, 1) := dk_173 (dk_at dksX2_ofFive_9 23 rfl rfl)
theorem dX2_ofFive_240 : decode cX2_ofFive 240 = .ok (.lload_n 0, 1) := dk_30 (dk_at dksX2_ofFive_10 0 rfl rfl)
theorem dX2_ofFive_241 : decode cX2_ofFive 241 = .ok (.ldc2_w 686, 3) := dk_20 2 174 (dk_at dksX2_ofFive_10 1 rfl rfl)
theorem dX2_ofFive_244 : decode cX2_ofFive 244 = .ok (.lcmp, 1) := dk_148 (dk_at dksX2_ofFive_10 4 rfl rfl)
theorem dX2_ofFive_245 : decode cX2_ofFive 245 = .ok (.ifCond .ne 7, 3) := dk_154 0 7 (dk_at dksX2_ofFive_10 5 rfl rfl)
theorem dX2_ofFive_248 : decode cX2_ofFive 248 = .ok (.ldc2_w 688, 3) := dk_20 2 176 (dk_at dksX2_ofFive_10 8 rfl rfl)
theorem dX2_ofFive_251 : decode cX2_ofFive 251 = .ok (.lreturn, 1) := dk_173 (dk_at dksX2_ofFive_10 11 rfl rfl)
theorem dX2_ofFive_252 : decode cX2_ofFive 252 = .ok (.lload_n 0, 1) := dk_30 (dk_at dksX2_ofFive_10 12 rfl rfl)
theorem dX2_ofFive_253 : decode cX2_ofFive 253 = .ok (.ldc2_w 690, 3) := dk_20 2 178 (dk_at dksX2_ofFive_10 13 rfl rfl)
theorem dX2_ofFive_256 : decode cX2_ofFive 256 = .ok (.lcmp, 1) := dk_148 (dk_at dksX2_ofFive_10 16 rfl rfl)
theorem dX2_ofFive_257 : decode cX2_ofFive 257 = .ok (.ifCond .ne 7, 3) := dk_154 0 7 (dk_at dksX2_ofFive_10 17 rfl rfl)
theorem dX2_ofFive_260 : decode cX2_ofFive 260 = .ok (.ldc2_w 692, 3) := dk_20 2 180 (dk_at dksX2_ofFive_10 20 rfl rfl)
theorem dX2_ofFive_263 : decode cX2_ofFive 263 = .ok (.lreturn, 1) := dk_173 (dk_at dksX2_ofFive_10 23 rfl rfl)
theorem dX2_ofFive_264 : decode cX2_ofFive 264 = .ok (.lload_n 0, 1) := dk_30 (dk_at dksX2_ofFive_11 0 rfl rfl)
theorem dX2_ofFive_265 : decode cX2_ofFive 265 = .ok (.ldc2_w 694, 3) := dk_20 2 182 (dk_at dksX2_ofFive_11 1 rfl rfl)
theorem dX2_ofFive_268 : decode cX2_ofFive 268 = .ok (.lcmp, 1) := dk_148 (dk_at dksX2_ofFive_11 4 rfl rfl)
theorem dX2_ofFive_269 : decode cX2_ofFive 269 = .ok (.ifCond .ne 7, 3) := dk_154 0 7 (dk_at dksX2_ofFive_11 5 rfl rfl)
theorem dX2_ofFive_272 : decode cX2_ofFive 272 = .ok (.ldc2_w 696, 3) := dk_20 2 184 (dk_at dksX2_ofFive_11 8 rfl rfl)
theorem dX2_ofFive_275 : decode cX2_ofFive 275 = .ok (.lreturn, 1) := dk_173 (dk_at dksX2_ofFive_11 11 rfl rfl)
theorem dX2_ofFive_276 : decode cX2_ofFive 276 = .ok (.lload_n 0, 1) := dk_30 (dk_at dksX2_ofFive_11 12 rfl rfl)
theorem dX2_ofFive_277 : decode cX2_ofFive 277 = .ok (.ldc2_w 698, 3) := dk_20 2 186 (dk_at dksX2_ofFive_11 13 rfl rfl)
theorem dX2_ofFive_280 : decode cX2_ofFive 280 = .ok (.lcmp, 1) := dk_148 (dk_at dksX2_ofFive_11 16 rfl rfl)
theorem dX2_ofFive_281 : decode cX2_ofFive 281 = .ok (.ifCond .ne 7, 3) := dk_154 0 7 (dk_at dksX2_ofFive_11 17 rfl rfl)
theorem dX2_ofFive_284 : decode cX2_ofFive 284 = .ok (.ldc2_w 700, 3) := dk_20 2 188 (dk_at dksX2_ofFive_11 20 rfl rfl)
theorem dX2_ofFive_287 : decode cX2_ofFive 287 = .ok (.lreturn, 1) := dk_173 (dk_at dksX2_ofFive_11 23 rfl rfl)
theorem dX2_ofFive_288 : decode cX2_ofFive 288 = .ok (.lload_n 0, 1) := dk_30 (dk_at dksX2_ofFive_12 0 rfl rfl)
theorem dX2_ofFive_289 : decode cX2_ofFive 289 = .ok (.ldc2_w 702, 3) := dk_20 2 190 (dk_at dksX2_ofFive_12 1 rfl rfl)
theorem dX2_ofFive_292 : decode cX2_ofFive 292 = .ok (.lcmp, 1) := dk_148 (dk_at dksX2_ofFive_12 4 rfl rfl)
theorem dX2_ofFive_293 : decode cX2_ofFive 293 = .ok (.ifCond .ne 7, 3) := dk_154 0 7 (dk_at dksX2_ofFive_12 5 rfl rfl)
theorem dX2_ofFive_296 : decode cX2_ofFive 296 = .ok (.ldc2_w 704, 3) := dk_20 2 192 (dk_at dksX2_ofFive_12 8 rfl rfl)
theorem dX2_ofFive_299 : decode cX2_ofFive 299 = .ok (.lreturn, 1) := dk_173 (dk_at dksX2_ofFive_12 11 rfl rfl)
theorem dX2_ofFive_300 : decode cX2_ofFive 300 = .ok (.lload_n 0, 1) := dk_30 (dk_at dksX2_ofFive_12 12 rfl rfl)
theorem dX2_ofFive_301 : decode cX2_ofFive 301 = .ok (.ldc2_w 706, 3) := dk_20 2 194 (dk_at dksX2_ofFive_12 13 rfl rfl)
theorem dX2_ofFive_304 : decode cX2_ofFive 304 = .ok (.lcmp, 1) := dk_148 (dk_at dksX2_ofFive_12 16 rfl rfl)
theorem dX2_ofFive_305 : decode cX2_ofFive 305 = .ok (.ifCond .ne 7, 3) := dk_154 0 7 (dk_at dksX2_ofFive_12 17 rfl rfl)
theorem dX2_ofFive_308 : decode cX2_ofFive 308 = .ok (.ldc2_w 708, 3) := dk_20 2 196 (dk_at dksX2_ofFive_12 20 rfl rfl)
theorem dX2_ofFive_311 : decode cX2_ofFive 311 = .ok (.lreturn, 1) := dk_173 (dk_at dksX2_ofFive_12 23 rfl rfl)
theorem dX2_ofFive_312 : decode cX2_ofFive 312 = .ok (.lload_n 0, 1) := dk_30 (dk_at dksX2_ofFive_13 0 rfl rfl)
theorem dX2_ofFive_313 : decode cX2_ofFive 313 = .ok (.ldc2_w 710, 3) := dk_20 2 198 (dk_at dksX2_ofFive_13 1 rfl rfl)
theorem dX2_ofFive_316 : decode cX2_ofFive 316 = .ok (.lcmp, 1) := dk_148 (dk_at dksX2_ofFive_13 4 rfl rfl)
theorem dX2_ofFive_317 : decode cX2_ofFive 317 = .ok (.ifCond .ne 7, 3) := dk_154 0 7 (dk_at dksX2_ofFive_13 5 rfl rfl)
theorem dX2_ofFive_320 : decode cX2_ofFive 320 = .ok (.ldc2_w 712, 3) := dk_20 2 200 (dk_at dksX2_ofFive_13 8 rfl rfl)
theorem dX2_ofFive_323 : decode cX2_ofFive 323 = .ok (.lreturn, 1) := dk_173 (dk_at dksX2_ofFive_13 11 rfl rfl)
theorem dX2_ofFive_324 : decode cX2_ofFive 324 = .ok (.lload_n 0, 1) := dk_30 (dk_at dksX2_ofFive_13 12 rfl rfl)
theorem dX2_ofFive_325 : decode cX2_ofFive 325 = .ok (.ldc2_w 714, 3) := dk_20 2 202 (dk_at dksX2_ofFive_13 13 rfl rfl)
theorem dX2_ofFive_328 : decode cX2_ofFive 328 = .ok (.lcmp, 1) := dk_148 (dk_at dksX2_ofFive_13 16 rfl rfl)
theorem dX2_ofFive_329 : decode cX2_ofFive 329 = .ok (.ifCond .ne 7, 3) := dk_154 0 7 (dk_at dksX2_ofFive_13 17 rfl rfl)
theorem dX2_ofFive_332 : decode cX2_ofFive 332 = .ok (.ldc2_w 716, 3) := dk_20 2 204 (dk_at dksX2_ofFive_13 20 rfl rfl)
theorem dX2_ofFive_335 : decode cX2_ofFive 335 = .ok (.lreturn, 1) := dk_173 (dk_at dksX2_ofFive_13 23 rfl rfl)
theorem dX2_ofFive_336 : decode cX2_ofFive 336 = .ok (.lload_n 0, 1) := dk_30 (dk_at dksX2_ofFive_14 0 rfl rfl)
theorem dX2_ofFive_337 : decode cX2_ofFive 337 = .ok (.ldc2_w 718, 3) := dk_20 2 206 (dk_at dksX2_ofFive_14 1 rfl rfl)
theorem dX2_ofFive_340 : decode cX2_ofFive 340 = .ok (.lcmp, 1) := dk_148 (dk_at dksX2_ofFive_14 4 rfl rfl)
theorem dX2_ofFive_341 : decode cX2_ofFive 341 = .ok (.ifCond .ne 7, 3) := dk_154 0 7 (dk_at dksX2_ofFive_14 5 rfl rfl)
theorem dX2_ofFive_344 : decode cX2_ofFive 344 = .ok (.ldc2_w 720, 3) := dk_20 2 208 (dk_at dksX2_ofFive_14 8 rfl rfl)
theorem dX2_ofFive_347 : decode cX2_ofFive 347 = .ok (.lreturn, 1) := dk_173 (dk_at dksX2_ofFive_14 11 rfl rfl)
theorem dX2_ofFive_348 : decode cX2_ofFive 348 = .ok (.lload_n 0, 1) := dk_30 (dk_at dksX2_ofFive_14 12 rfl rfl)
theorem dX2_ofFive_349 : decode cX2_ofFive 349 = .ok (.ldc2_w 722, 3) := dk_20 2 210 (dk_at dksX2_ofFive_14 13 rfl rfl)
theorem dX2_ofFive_352 : decode cX2_ofFive 352 = .ok (.lcmp, 1) := dk_148 (dk_at dksX2_ofFive_14 16 rfl rfl)
theorem dX2_ofFive_353 : decode cX2_ofFive 353 = .ok (.ifCond .ne 7, 3) := dk_154 0 7 (dk_at dksX2_ofFive_14 17 rfl rfl)
theorem dX2_ofFive_356 : decode cX2_ofFive 356 = .ok (.ldc2_w 724, 3) := dk_20 2 212 (dk_at dksX2_ofFive_14 20 rfl rfl)
theorem dX2_ofFive_359 : decode cX2_ofFive 359 = .ok (.lreturn, 1) := dk_173 (dk_at dksX2_ofFive_14 23 rfl rfl)
theorem dX2_ofFive_360 : decode cX2_ofFive 360 = .ok (.ldc2_w 211, 3) := dk_20 0 211 (dk_at dksX2_ofFive_15 0 rfl rfl)
theorem dX2_ofFive_363 : decode cX2_ofFive 363 = .ok (.lreturn, 1) := dk_173 (dk_at dksX2_ofFive_15 3 rfl rfl)
abbrev cX2_ofFiveMore : ByteArray := prog_4_method_27_code
def yX2_ofFiveMore : MethodName := ⟨RX2, "ofFiveMore", "(J)J"⟩
def dkwX2_ofFiveMore_1 : List UInt8 := [30, 20, 2, 222, 148, 154, 0, 7, 20, 2, 224, 173, 20, 0, 211, 173]
abbrev dktX2_ofFiveMore_1 : List UInt8 := dkwX2_ofFiveMore_1 ++ []
def dkwX2_ofFiveMore_0 : List UInt8 := [30, 20, 2, 214, 148, 154, 0, 7, 20, 2, 216, 173, 30, 20, 2, 218, 148, 154, 0, 7, 20, 2, 220, 173]
abbrev dktX2_ofFiveMore_0 : List UInt8 := dkwX2_ofFiveMore_0 ++ dktX2_ofFiveMore_1
theorem dksX2_ofFiveMore_0 : cX2_ofFiveMore.data.toList.drop 0 = dktX2_ofFiveMore_0 := by decide +kernel
theorem dksX2_ofFiveMore_1 : cX2_ofFiveMore.data.toList.drop 24 = dktX2_ofFiveMore_1 := dk_seg dksX2_ofFiveMore_0 24 rfl rfl
theorem dX2_ofFiveMore_0 : decode cX2_ofFiveMore 0 = .ok (.lload_n 0, 1) := dk_30 (dk_at dksX2_ofFiveMore_0 0 rfl rfl)
theorem dX2_ofFiveMore_1 : decode cX2_ofFiveMore 1 = .ok (.ldc2_w 726, 3) := dk_20 2 214 (dk_at dksX2_ofFiveMore_0 1 rfl rfl)
theorem dX2_ofFiveMore_4 : decode cX2_ofFiveMore 4 = .ok (.lcmp, 1) := dk_148 (dk_at dksX2_ofFiveMore_0 4 rfl rfl)
theorem dX2_ofFiveMore_5 : decode cX2_ofFiveMore 5 = .ok (.ifCond .ne 7, 3) := dk_154 0 7 (dk_at dksX2_ofFiveMore_0 5 rfl rfl)
theorem dX2_ofFiveMore_8 : decode cX2_ofFiveMore 8 = .ok (.ldc2_w 728, 3) := dk_20 2 216 (dk_at dksX2_ofFiveMore_0 8 rfl rfl)
theorem dX2_ofFiveMore_11 : decode cX2_ofFiveMore 11 = .ok (.lreturn, 1) := dk_173 (dk_at dksX2_ofFiveMore_0 11 rfl rfl)
theorem dX2_ofFiveMore_12 : decode cX2_ofFiveMore 12 = .ok (.lload_n 0, 1) := dk_30 (dk_at dksX2_ofFiveMore_0 12 rfl rfl)
theorem dX2_ofFiveMore_13 : decode cX2_ofFiveMore 13 = .ok (.ldc2_w 730, 3) := dk_20 2 218 (dk_at dksX2_ofFiveMore_0 13 rfl rfl)
theorem dX2_ofFiveMore_16 : decode cX2_ofFiveMore 16 = .ok (.lcmp, 1) := dk_148 (dk_at dksX2_ofFiveMore_0 16 rfl rfl)
theorem dX2_ofFiveMore_17 : decode cX2_ofFiveMore 17 = .ok (.ifCond .ne 7, 3) := dk_154 0 7 (dk_at dksX2_ofFiveMore_0 17 rfl rfl)
theorem dX2_ofFiveMore_20 : decode cX2_ofFiveMore 20 = .ok (.ldc2_w 732, 3) := dk_20 2 220 (dk_at dksX2_ofFiveMore_0 20 rfl rfl)
theorem dX2_ofFiveMore_23 : decode cX2_ofFiveMore 23 = .ok (.lreturn, 1) := dk_173 (dk_at dksX2_ofFiveMore_0 23 rfl rfl)
theorem dX2_ofFiveMore_24 : decode cX2_ofFiveMore 24 = .ok (.lload_n 0, 1) := dk_30 (dk_at dksX2_ofFiveMore_1 0 rfl rfl)
theorem dX2_ofFiveMore_25 : decode cX2_ofFiveMore 25 = .ok (.ldc2_w 734, 3) := dk_20 2 222 (dk_at dksX2_ofFiveMore_1 1 rfl rfl)
theorem dX2_ofFiveMore_28 : decode cX2_ofFiveMore 28 = .ok (.lcmp, 1) := dk_148 (dk_at dksX2_ofFiveMore_1 4 rfl rfl)
theorem dX2_ofFiveMore_29 : decode cX2_ofFiveMore 29 = .ok (.ifCond .ne 7, 3) := dk_154 0 7 (dk_at dksX2_ofFiveMore_1 5 rfl rfl)
theorem dX2_ofFiveMore_32 : decode cX2_ofFiveMore 32 = .ok (.ldc2_w 736, 3) := dk_20 2 224 (dk_at dksX2_ofFiveMore_1 8 rfl rfl)
theorem dX2_ofFiveMore_35 : decode cX2_ofFiveMore 35 = .ok (.lreturn, 1) := dk_173 (dk_at dksX2_ofFiveMore_1 11 rfl rfl)
theorem dX2_ofFiveMore_36 : decode cX2_ofFiveMore 36 = .ok (.ldc2_w 211, 3) := dk_20 0 211 (dk_at dksX2_ofFiveMore_1 12 rfl rfl)
theorem dX2_ofFiveMore_39 : decode cX2_ofFiveMore 39 = .ok (.lreturn, 1) := dk_173 (dk_at dksX2_ofFiveMore_1 15 rfl rfl)
abbrev cX2_ofSix : ByteArray := prog_4_method_28_code
def yX2_ofSix : MethodName := ⟨RX2, "ofSix", "(J)J"⟩
def dkwX2_ofSix_9 : List UInt8 := [20, 0, 211, 173]
abbrev dktX2_ofSix_9 : List UInt8 := dkwX2_ofSix_9 ++ []
def dkwX2_ofSix_8 : List UInt8 := [30, 20, 3, 34, 148, 154, 0, 7, 20, 3, 36, 173, 30, 20, 3, 38, 148, 154, 0, 7, 20, 3, 40, 173]
abbrev dktX2_ofSix_8 : List UInt8 := dkwX2_ofSix_8 ++ dktX2_ofSix_9
def dkwX2_ofSix_7 : List UInt8 := [30, 20, 3, 26, 148, 154, 0, 7, 20, 3, 28, 173, 30, 20, 3, 30, 148, 154, 0, 7, 20, 3, 32, 173]
abbrev dktX2_ofSix_7 : List UInt8 := dkwX2_ofSix_7 ++ dktX2_ofSix_8
def dkwX2_ofSix_6 : List UInt8 := [30, 20, 3, 18, 148, 154, 0, 7, 20, 3, 20, 173, 30, 20, 3, 22, 148, 154, 0, 7, 20, 3, 24, 173]
abbrev dktX2_ofSix_6 : List UInt8 := dkwX2_ofSix_6 ++ dktX2_ofSix_7
def dkwX2_ofSix_5 : List UInt8 := [30, 20, 3, 10, 148, 154, 0, 7, 20, 3, 12, 173, 30, 20, 3, 14, 148, 154, 0, 7, 20, 3, 16, 173]
abbrev dktX2_ofSix_5 : List UInt8 := dkwX2_ofSix_5 ++ dktX2_ofSix_6
def dkwX2_ofSix_4 : List UInt8 := [30, 20, 3, 2, 148, 154, 0, 7, 20, 3, 4, 173, 30, 20, 3, 6, 148, 154, 0, 7, 20, 3, 8, 173]
abbrev dktX2_ofSix_4 : List UInt8 := dkwX2_ofSix_4 ++ dktX2_ofSix_5
def dkwX2_ofSix_3 : List UInt8 := [30, 20, 2, 250, 148, 154, 0, 7, 20, 2, 252, 173, 30, 20, 2, 254, 148, 154, 0, 7, 20, 3, 0, 173]
abbrev dktX2_ofSix_3 : List UInt8 := dkwX2_ofSix_3 ++ dktX2_ofSix_4
def dkwX2_ofSix_2 : List UInt8 := [30, 20, 2, 242, 148, 154, 0, 7, 20, 2, 244, 173, 30, 20, 2, 246, 148, 154, 0, 7, 20, 2, 248, 173]
abbrev dktX2_ofSix_2 : List UInt8 := dkwX2_ofSix_2 ++ dktX2_ofSix_3
def dkwX2_ofSix_1 : List UInt8 := [30, 20, 2, 234, 148, 154, 0, 7, 20, 2, 236, 173, 30, 20, 2, 238, 148, 154, 0, 7, 20, 2, 240, 173]
abbrev dktX2_ofSix_1 : List UInt8 := dkwX2_ofSix_1 ++ dktX2_ofSix_2
def dkwX2_ofSix_0 : List UInt8 := [30, 20, 2, 226, 148, 154, 0, 7, 20, 2, 228, 173, 30, 20, 2, 230, 148, 154, 0, 7, 20, 2, 232, 173]
abbrev dktX2_ofSix_0 : List UInt8 := dkwX2_ofSix_0 ++ dktX2_ofSix_1
theorem dksX2_ofSix_0 : cX2_ofSix.data.toList.drop 0 = dktX2_ofSix_0 := by decide +kernel
theorem dksX2_ofSix_1 : cX2_ofSix.data.toList.drop 24 = dktX2_ofSix_1 := dk_seg dksX2_ofSix_0 24 rfl rfl
theorem dksX2_ofSix_2 : cX2_ofSix.data.toList.drop 48 = dktX2_ofSix_2 := dk_seg dksX2_ofSix_1 24 rfl rfl
theorem dksX2_ofSix_3 : cX2_ofSix.data.toList.drop 72 = dktX2_ofSix_3 := dk_seg dksX2_ofSix_2 24 rfl rfl
theorem dksX2_ofSix_4 : cX2_ofSix.data.toList.drop 96 = dktX2_ofSix_4 := dk_seg dksX2_ofSix_3 24 rfl rfl
theorem dksX2_ofSix_5 : cX2_ofSix.data.toList.drop 120 = dktX2_ofSix_5 := dk_seg dksX2_ofSix_4 24 rfl rfl
theorem dksX2_ofSix_6 : cX2_ofSix.data.toList.drop 144 = dktX2_ofSix_6 := dk_seg dksX2_ofSix_5 24 rfl rfl
theorem dksX2_ofSix_7 : cX2_ofSix.data.toList.drop 168 = dktX2_ofSix_7 := dk_seg dksX2_ofSix_6 24 rfl rfl
theorem dksX2_ofSix_8 : cX2_ofSix.data.toList.drop 192 = dktX2_ofSix_8 := dk_seg dksX2_ofSix_7 24 rfl rfl
theorem dksX2_ofSix_9 : cX2_ofSix.data.toList.drop 216 = dktX2_ofSix_9 := dk_seg dksX2_ofSix_8 24 rfl rfl
theorem dX2_ofSix_0 : decode cX2_ofSix 0 = .ok (.lload_n 0, 1) := dk_30 (dk_at dksX2_ofSix_0 0 rfl rfl)
theorem dX2_ofSix_1 : decode cX2_ofSix 1 = .ok (.ldc2_w 738, 3) := dk_20 2 226 (dk_at dksX2_ofSix_0 1 rfl rfl)
theorem dX2_ofSix_4 : decode cX2_ofSix 4 = .ok (.lcmp, 1) := dk_148 (dk_at dksX2_ofSix_0 4 rfl rfl)
theorem dX2_ofSix_5 : decode cX2_ofSix 5 = .ok (.ifCond .ne 7, 3) := dk_154 0 7 (dk_at dksX2_ofSix_0 5 rfl rfl)
theorem dX2_ofSix_8 : decode cX2_ofSix 8 = .ok (.ldc2_w 740, 3) := dk_20 2 228 (dk_at dksX2_ofSix_0 8 rfl rfl)
theorem dX2_ofSix_11 : decode cX2_ofSix 11 = .ok (.lreturn, 1) := dk_173 (dk_at dksX2_ofSix_0 11 rfl rfl)
theorem dX2_ofSix_12 : decode cX2_ofSix 12 = .ok (.lload_n 0, 1) := dk_30 (dk_at dksX2_ofSix_0 12 rfl rfl)
theorem dX2_ofSix_13 : decode cX2_ofSix 13 = .ok (.ldc2_w 742, 3) := dk_20 2 230 (dk_at dksX2_ofSix_0 13 rfl rfl)
theorem dX2_ofSix_16 : decode cX2_ofSix 16 = .ok (.lcmp, 1) := dk_148 (dk_at dksX2_ofSix_0 16 rfl rfl)
theorem dX2_ofSix_17 : decode cX2_ofSix 17 = .ok (.ifCond .ne 7, 3) := dk_154 0 7 (dk_at dksX2_ofSix_0 17 rfl rfl)
theorem dX2_ofSix_20 : decode cX2_ofSix 20 = .ok (.ldc2_w 744, 3) := dk_20 2 232 (dk_at dksX2_ofSix_0 20 rfl rfl)
theorem dX2_ofSix_23 : decode cX2_ofSix 23 = .ok (.lreturn, 1) := dk_173 (dk_at dksX2_ofSix_0 23 rfl rfl)
theorem dX2_ofSix_24 : decode cX2_ofSix 24 = .ok (.lload_n 0, 1) := dk_30 (dk_at dksX2_ofSix_1 0 rfl rfl)
theorem dX2_ofSix_25 : decode cX2_ofSix 25 = .ok (.ldc2_w 746, 3) := dk_20 2 234 (dk_at dksX2_ofSix_1 1 rfl rfl)
theorem dX2_ofSix_28 : decode cX2_ofSix 28 = .ok (.lcmp, 1) := dk_148 (dk_at dksX2_ofSix_1 4 rfl rfl)
theorem dX2_ofSix_29 : decode cX2_ofSix 29 = .ok (.ifCond .ne 7, 3) := dk_154 0 7 (dk_at dksX2_ofSix_1 5 rfl rfl)
theorem dX2_ofSix_32 : decode cX2_ofSix 32 = .ok (.ldc2_w 748, 3) := dk_20 2 236 (dk_at dksX2_ofSix_1 8 rfl rfl)
theorem dX2_ofSix_35 : decode cX2_ofSix 35 = .ok (.lreturn, 1) := dk_173 (dk_at dksX2_ofSix_1 11 rfl rfl)
theorem dX2_ofSix_36 : decode cX2_ofSix 36 = .ok (.lload_n 0, 1) := dk_30 (dk_at dksX2_ofSix_1 12 rfl rfl)
theorem dX2_ofSix_37 : decode cX2_ofSix 37 = .ok (.ldc2_w 750, 3) := dk_20 2 238 (dk_at dksX2_ofSix_1 13 rfl rfl)
theorem dX2_ofSix_40 : decode cX2_ofSix 40 = .ok (.lcmp, 1) := dk_148 (dk_at dksX2_ofSix_1 16 rfl rfl)
theorem dX2_ofSix_41 : decode cX2_ofSix 41 = .ok (.ifCond .ne 7, 3) := dk_154 0 7 (dk_at dksX2_ofSix_1 17 rfl rfl)
theorem dX2_ofSix_44 : decode cX2_ofSix 44 = .ok (.ldc2_w 752, 3) := dk_20 2 240 (dk_at dksX2_ofSix_1 20 rfl rfl)
theorem dX2_ofSix_47 : decode cX2_ofSix 47 = .ok (.lreturn, 1) := dk_173 (dk_at dksX2_ofSix_1 23 rfl rfl)
theorem dX2_ofSix_48 : decode cX2_ofSix 48 = .ok (.lload_n 0, 1) := dk_30 (dk_at dksX2_ofSix_2 0 rfl rfl)
theorem dX2_ofSix_49 : decode cX2_ofSix 49 = .ok (.ldc2_w 754, 3) := dk_20 2 242 (dk_at dksX2_ofSix_2 1 rfl rfl)
theorem dX2_ofSix_52 : decode cX2_ofSix 52 = .ok (.lcmp, 1) := dk_148 (dk_at dksX2_ofSix_2 4 rfl rfl)
theorem dX2_ofSix_53 : decode cX2_ofSix 53 = .ok (.ifCond .ne 7, 3) := dk_154 0 7 (dk_at dksX2_ofSix_2 5 rfl rfl)
theorem dX2_ofSix_56 : decode cX2_ofSix 56 = .ok (.ldc2_w 756, 3) := dk_20 2 244 (dk_at dksX2_ofSix_2 8 rfl rfl)
theorem dX2_ofSix_59 : decode cX2_ofSix 59 = .ok (.lreturn, 1) := dk_173 (dk_at dksX2_ofSix_2 11 rfl rfl)
theorem dX2_ofSix_60 : decode cX2_ofSix 60 = .ok (.lload_n 0, 1) := dk_30 (dk_at dksX2_ofSix_2 12 rfl rfl)
theorem dX2_ofSix_61 : decode cX2_ofSix 61 = .ok (.ldc2_w 758, 3) := dk_20 2 246 (dk_at dksX2_ofSix_2 13 rfl rfl)
theorem dX2_ofSix_64 : decode cX2_ofSix 64 = .ok (.lcmp, 1) := dk_148 (dk_at dksX2_ofSix_2 16 rfl rfl)
theorem dX2_ofSix_65 : decode cX2_ofSix 65 = .ok (.ifCond .ne 7, 3) := dk_154 0 7 (dk_at dksX2_ofSix_2 17 rfl rfl)
theorem dX2_ofSix_68 : decode cX2_ofSix 68 = .ok (.ldc2_w 760, 3) := dk_20 2 248 (dk_at dksX2_ofSix_2 20 rfl rfl)
theorem dX2_ofSix_71 : decode cX2_ofSix 71 = .ok (.lreturn, 1) := dk_173 (dk_at dksX2_ofSix_2 23 rfl rfl)
theorem dX2_ofSix_72 : decode cX2_ofSix 72 = .ok (.lload_n 0, 1) := dk_30 (dk_at dksX2_ofSix_3 0 rfl rfl)
theorem dX2_ofSix_73 : decode cX2_ofSix 73 = .ok (.ldc2_w 762, 3) := dk_20 2 250 (dk_at dksX2_ofSix_3 1 rfl rfl)
theorem dX2_ofSix_76 : decode cX2_ofSix 76 = .ok (.lcmp, 1) := dk_148 (dk_at dksX2_ofSix_3 4 rfl rfl)
theorem dX2_ofSix_77 : decode cX2_ofSix 77 = .ok (.ifCond .ne 7, 3) := dk_154 0 7 (dk_at dksX2_ofSix_3 5 rfl rfl)
theorem dX2_ofSix_80 : decode cX2_ofSix 80 = .ok (.ldc2_w 764, 3) := dk_20 2 252 (dk_at dksX2_ofSix_3 8 rfl rfl)
theorem dX2_ofSix_83 : decode cX2_ofSix 83 = .ok (.lreturn, 1) := dk_173 (dk_at dksX2_ofSix_3 11 rfl rfl)
theorem dX2_ofSix_84 : decode cX2_ofSix 84 = .ok (.lload_n 0, 1) := dk_30 (dk_at dksX2_ofSix_3 12 rfl rfl)
theorem dX2_ofSix_85 : decode cX2_ofSix 85 = .ok (.ldc2_w 766, 3) := dk_20 2 254 (dk_at dksX2_ofSix_3 13 rfl rfl)
theorem dX2_ofSix_88 : decode cX2_ofSix 88 = .ok (.lcmp, 1) := dk_148 (dk_at dksX2_ofSix_3 16 rfl rfl)
theorem dX2_ofSix_89 : decode cX2_ofSix 89 = .ok (.ifCond .ne 7, 3) := dk_154 0 7 (dk_at dksX2_ofSix_3 17 rfl rfl)
theorem dX2_ofSix_92 : decode cX2_ofSix 92 = .ok (.ldc2_w 768, 3) := dk_20 3 0 (dk_at dksX2_ofSix_3 20 rfl rfl)
theorem dX2_ofSix_95 : decode cX2_ofSix 95 = .ok (.lreturn, 1) := dk_173 (dk_at dksX2_ofSix_3 23 rfl rfl)
theorem dX2_ofSix_96 : decode cX2_ofSix 96 = .ok (.lload_n 0, 1) := dk_30 (dk_at dksX2_ofSix_4 0 rfl rfl)
theorem dX2_ofSix_97 : decode cX2_ofSix 97 = .ok (.ldc2_w 770, 3) := dk_20 3 2 (dk_at dksX2_ofSix_4 1 rfl rfl)
theorem dX2_ofSix_100 : decode cX2_ofSix 100 = .ok (.lcmp, 1) := dk_148 (dk_at dksX2_ofSix_4 4 rfl rfl)
theorem dX2_ofSix_101 : decode cX2_ofSix 101 = .ok (.ifCond .ne 7, 3) := dk_154 0 7 (dk_at dksX2_ofSix_4 5 rfl rfl)
theorem dX2_ofSix_104 : decode cX2_ofSix 104 = .ok (.ldc2_w 772, 3) := dk_20 3 4 (dk_at dksX2_ofSix_4 8 rfl rfl)
theorem dX2_ofSix_107 : decode cX2_ofSix 107 = .ok (.lreturn, 1) := dk_173 (dk_at dksX2_ofSix_4 11 rfl rfl)
theorem dX2_ofSix_108 : decode cX2_ofSix 108 = .ok (.lload_n 0, 1) := dk_30 (dk_at dksX2_ofSix_4 12 rfl rfl)
theorem dX2_ofSix_109 : decode cX2_ofSix 109 = .ok (.ldc2_w 774, 3) := dk_20 3 6 (dk_at dksX2_ofSix_4 13 rfl rfl)
theorem dX2_ofSix_112 : decode cX2_ofSix 112 = .ok (.lcmp, 1) := dk_148 (dk_at dksX2_ofSix_4 16 rfl rfl)
theorem dX2_ofSix_113 : decode cX2_ofSix 113 = .ok (.ifCond .ne 7, 3) := dk_154 0 7 (dk_at dksX2_ofSix_4 17 rfl rfl)
theorem dX2_ofSix_116 : decode cX2_ofSix 116 = .ok (.ldc2_w 776, 3) := dk_20 3 8 (dk_at dksX2_ofSix_4 20 rfl rfl)
theorem dX2_ofSix_119 : decode cX2_ofSix 119 = .ok (.lreturn, 1) := dk_173 (dk_at dksX2_ofSix_4 23 rfl rfl)
theorem dX2_ofSix_120 : decode cX2_ofSix 120 = .ok (.lload_n 0, 1) := dk_30 (dk_at dksX2_ofSix_5 0 rfl rfl)
theorem dX2_ofSix_121 : decode cX2_ofSix 121 = .ok (.ldc2_w 778, 3) := dk_20 3 10 (dk_at dksX2_ofSix_5 1 rfl rfl)
theorem dX2_ofSix_124 : decode cX2_ofSix 124 = .ok (.lcmp, 1) := dk_148 (dk_at dksX2_ofSix_5 4 rfl rfl)
theorem dX2_ofSix_125 : decode cX2_ofSix 125 = .ok (.ifCond .ne 7, 3) := dk_154 0 7 (dk_at dksX2_ofSix_5 5 rfl rfl)
theorem dX2_ofSix_128 : decode cX2_ofSix 128 = .ok (.ldc2_w 780, 3) := dk_20 3 12 (dk_at dksX2_ofSix_5 8 rfl rfl)
theorem dX2_ofSix_131 : decode cX2_ofSix 131 = .ok (.lreturn, 1) := dk_173 (dk_at dksX2_ofSix_5 11 rfl rfl)
theorem dX2_ofSix_132 : decode cX2_ofSix 132 = .ok (.lload_n 0, 1) := dk_30 (dk_at dksX2_ofSix_5 12 rfl rfl)
theorem dX2_ofSix_133 : decode cX2_ofSix 133 = .ok (.ldc2_w 782, 3) := dk_20 3 14 (dk_at dksX2_ofSix_5 13 rfl rfl)
theorem dX2_ofSix_136 : decode cX2_ofSix 136 = .ok (.lcmp, 1) := dk_148 (dk_at dksX2_ofSix_5 16 rfl rfl)
theorem dX2_ofSix_137 : decode cX2_ofSix 137 = .ok (.ifCond .ne 7, 3) := dk_154 0 7 (dk_at dksX2_ofSix_5 17 rfl rfl)
theorem dX2_ofSix_140 : decode cX2_ofSix 140 = .ok (.ldc2_w 784, 3) := dk_20 3 16 (dk_at dksX2_ofSix_5 20 rfl rfl)
theorem dX2_ofSix_143 : decode cX2_ofSix 143 = .ok (.lreturn, 1) := dk_173 (dk_at dksX2_ofSix_5 23 rfl rfl)
theorem dX2_ofSix_144 : decode cX2_ofSix 144 = .ok (.lload_n 0, 1) := dk_30 (dk_at dksX2_ofSix_6 0 rfl rfl)
theorem dX2_ofSix_145 : decode cX2_ofSix 145 = .ok (.ldc2_w 786, 3) := dk_20 3 18 (dk_at dksX2_ofSix_6 1 rfl rfl)
theorem dX2_ofSix_148 : decode cX2_ofSix 148 = .ok (.lcmp, 1) := dk_148 (dk_at dksX2_ofSix_6 4 rfl rfl)
theorem dX2_ofSix_149 : decode cX2_ofSix 149 = .ok (.ifCond .ne 7, 3) := dk_154 0 7 (dk_at dksX2_ofSix_6 5 rfl rfl)
theorem dX2_ofSix_152 : decode cX2_ofSix 152 = .ok (.ldc2_w 788, 3) := dk_20 3 20 (dk_at dksX2_ofSix_6 8 rfl rfl)
theorem dX2_ofSix_155 : decode cX2_ofSix 155 = .ok (.lreturn, 1) := dk_173 (dk_at dksX2_ofSix_6 11 rfl rfl)
theorem dX2_ofSix_156 : decode cX2_ofSix 156 = .ok (.lload_n 0, 1) := dk_30 (dk_at dksX2_ofSix_6 12 rfl rfl)
theorem dX2_ofSix_157 : decode cX2_ofSix 157 = .ok (.ldc2_w 790, 3) := dk_20 3 22 (dk_at dksX2_ofSix_6 13 rfl rfl)
theorem dX2_ofSix_160 : decode cX2_ofSix 160 = .ok (.lcmp, 1) := dk_148 (dk_at dksX2_ofSix_6 16 rfl rfl)
theorem dX2_ofSix_161 : decode cX2_ofSix 161 = .ok (.ifCond .ne 7, 3) := dk_154 0 7 (dk_at dksX2_ofSix_6 17 rfl rfl)
theorem dX2_ofSix_164 : decode cX2_ofSix 164 = .ok (.ldc2_w 792, 3) := dk_20 3 24 (dk_at dksX2_ofSix_6 20 rfl rfl)
theorem dX2_ofSix_167 : decode cX2_ofSix 167 = .ok (.lreturn, 1) := dk_173 (dk_at dksX2_ofSix_6 23 rfl rfl)
theorem dX2_ofSix_168 : decode cX2_ofSix 168 = .ok (.lload_n 0, 1) := dk_30 (dk_at dksX2_ofSix_7 0 rfl rfl)
theorem dX2_ofSix_169 : decode cX2_ofSix 169 = .ok (.ldc2_w 794, 3) := dk_20 3 26 (dk_at dksX2_ofSix_7 1 rfl rfl)
theorem dX2_ofSix_172 : decode cX2_ofSix 172 = .ok (.lcmp, 1) := dk_148 (dk_at dksX2_ofSix_7 4 rfl rfl)
theorem dX2_ofSix_173 : decode cX2_ofSix 173 = .ok (.ifCond .ne 7, 3) := dk_154 0 7 (dk_at dksX2_ofSix_7 5 rfl rfl)
theorem dX2_ofSix_176 : decode cX2_ofSix 176 = .ok (.ldc2_w 796, 3) := dk_20 3 28 (dk_at dksX2_ofSix_7 8 rfl rfl)
theorem dX2_ofSix_179 : decode cX2_ofSix 179 = .ok (.lreturn, 1) := dk_173 (dk_at dksX2_ofSix_7 11 rfl rfl)
theorem dX2_ofSix_180 : decode cX2_ofSix 180 = .ok (.lload_n 0, 1) := dk_30 (dk_at dksX2_ofSix_7 12 rfl rfl)
theorem dX2_ofSix_181 : decode cX2_ofSix 181 = .ok (.ldc2_w 798, 3) := dk_20 3 30 (dk_at dksX2_ofSix_7 13 rfl rfl)
theorem dX2_ofSix_184 : decode cX2_ofSix 184 = .ok (.lcmp, 1) := dk_148 (dk_at dksX2_ofSix_7 16 rfl rfl)
theorem dX2_ofSix_185 : decode cX2_ofSix 185 = .ok (.ifCond .ne 7, 3) := dk_154 0 7 (dk_at dksX2_ofSix_7 17 rfl rfl)
theorem dX2_ofSix_188 : decode cX2_ofSix 188 = .ok (.ldc2_w 800, 3) := dk_20 3 32 (dk_at dksX2_ofSix_7 20 rfl rfl)
theorem dX2_ofSix_191 : decode cX2_ofSix 191 = .ok (.lreturn, 1) := dk_173 (dk_at dksX2_ofSix_7 23 rfl rfl)
theorem dX2_ofSix_192 : decode cX2_ofSix 192 = .ok (.lload_n 0, 1) := dk_30 (dk_at dksX2_ofSix_8 0 rfl rfl)
theorem dX2_ofSix_193 : decode cX2_ofSix 193 = .ok (.ldc2_w 802, 3) := dk_20 3 34 (dk_at dksX2_ofSix_8 1 rfl rfl)
theorem dX2_ofSix_196 : decode cX2_ofSix 196 = .ok (.lcmp, 1) := dk_148 (dk_at dksX2_ofSix_8 4 rfl rfl)
theorem dX2_ofSix_197 : decode cX2_ofSix 197 = .ok (.ifCond .ne 7, 3) := dk_154 0 7 (dk_at dksX2_ofSix_8 5 rfl rfl)
theorem dX2_ofSix_200 : decode cX2_ofSix 200 = .ok (.ldc2_w 804, 3) := dk_20 3 36 (dk_at dksX2_ofSix_8 8 rfl rfl)
theorem dX2_ofSix_203 : decode cX2_ofSix 203 = .ok (.lreturn, 1) := dk_173 (dk_at dksX2_ofSix_8 11 rfl rfl)
theorem dX2_ofSix_204 : decode cX2_ofSix 204 = .ok (.lload_n 0, 1) := dk_30 (dk_at dksX2_ofSix_8 12 rfl rfl)
theorem dX2_ofSix_205 : decode cX2_ofSix 205 = .ok (.ldc2_w 806, 3) := dk_20 3 38 (dk_at dksX2_ofSix_8 13 rfl rfl)
theorem dX2_ofSix_208 : decode cX2_ofSix 208 = .ok (.lcmp, 1) := dk_148 (dk_at dksX2_ofSix_8 16 rfl rfl)
theorem dX2_ofSix_209 : decode cX2_ofSix 209 = .ok (.ifCond .ne 7, 3) := dk_154 0 7 (dk_at dksX2_ofSix_8 17 rfl rfl)
theorem dX2_ofSix_212 : decode cX2_ofSix 212 = .ok (.ldc2_w 808, 3) := dk_20 3 40 (dk_at dksX2_ofSix_8 20 rfl rfl)
theorem dX2_ofSix_215 : decode cX2_ofSix 215 = .ok (.lreturn, 1) := dk_173 (dk_at dksX2_ofSix_8 23 rfl rfl)
theorem dX2_ofSix_216 : decode cX2_ofSix 216 = .ok (.ldc2_w 211, 3) := dk_20 0 211 (dk_at dksX2_ofSix_9 0 rfl rfl)
theorem dX2_ofSix_219 : decode cX2_ofSix 219 = .ok (.lreturn, 1) := dk_173 (dk_at dksX2_ofSix_9 3 rfl rfl)
abbrev cX2_ofMany : ByteArray := prog_4_method_29_code
def yX2_ofMany : MethodName := ⟨RX2, "ofMany", "(J)J"⟩
def dkwX2_ofMany_15 : List UInt8 := [20, 0, 211, 173]
abbrev dktX2_ofMany_15 : List UInt8 := dkwX2_ofMany_15 ++ []
def dkwX2_ofMany_14 : List UInt8 := [30, 20, 3, 154, 148, 154, 0, 7, 20, 3, 156, 173, 30, 20, 3, 158, 148, 154, 0, 7, 20, 3, 160, 173]
abbrev dktX2_ofMany_14 : List UInt8 := dkwX2_ofMany_14 ++ dktX2_ofMany_15
def dkwX2_ofMany_13 : List UInt8 := [30, 20, 3, 146, 148, 154, 0, 7, 20, 3, 148, 173, 30, 20, 3, 150, 148, 154, 0, 7, 20, 3, 152, 173]
abbrev dktX2_ofMany_13 : List UInt8 := dkwX2_ofMany_13 ++ dktX2_ofMany_14
def dkwX2_ofMany_12 : List UInt8 := [30, 20, 3, 138, 148, 154, 0, 7, 20, 3, 140, 173, 30, 20, 3, 142, 148, 154, 0, 7, 20, 3, 144, 173]
abbrev dktX2_ofMany_12 : List UInt8 := dkwX2_ofMany_12 ++ dktX2_ofMany_13
def dkwX2_ofMany_11 : List UInt8 := [30, 20, 3, 130, 148, 154, 0, 7, 20, 3, 132, 173, 30, 20, 3, 134, 148, 154, 0, 7, 20, 3, 136, 173]
abbrev dktX2_ofMany_11 : List UInt8 := dkwX2_ofMany_11 ++ dktX2_ofMany_12
def dkwX2_ofMany_10 : List UInt8 := [30, 20, 3, 122, 148, 154, 0, 7, 20, 3, 124, 173, 30, 20, 3, 126, 148, 154, 0, 7, 20, 3, 128, 173]
abbrev dktX2_ofMany_10 : List UInt8 := dkwX2_ofMany_10 ++ dktX2_ofMany_11
def dkwX2_ofMany_9 : List UInt8 := [30, 20, 3, 114, 148, 154, 0, 7, 20, 3, 116, 173, 30, 20, 3, 118, 148, 154, 0, 7, 20, 3, 120, 173]
abbrev dktX2_ofMany_9 : List UInt8 := dkwX2_ofMany_9 ++ dktX2_ofMany_10
def dkwX2_ofMany_8 : List UInt8 := [30, 20, 3, 106, 148, 154, 0, 7, 20, 3, 108, 173, 30, 20, 3, 110, 148, 154, 0, 7, 20, 3, 112, 173]
abbrev dktX2_ofMany_8 : List UInt8 := dkwX2_ofMany_8 ++ dktX2_ofMany_9
def dkwX2_ofMany_7 : List UInt8 := [30, 20, 3, 98, 148, 154, 0, 7, 20, 3, 100, 173, 30, 20, 3, 102, 148, 154, 0, 7, 20, 3, 104, 173]
abbrev dktX2_ofMany_7 : List UInt8 := dkwX2_ofMany_7 ++ dktX2_ofMany_8
def dkwX2_ofMany_6 : List UInt8 := [30, 20, 3, 90, 148, 154, 0, 7, 20, 3, 92, 173, 30, 20, 3, 94, 148, 154, 0, 7, 20, 3, 96, 173]
abbrev dktX2_ofMany_6 : List UInt8 := dkwX2_ofMany_6 ++ dktX2_ofMany_7
def dkwX2_ofMany_5 : List UInt8 := [30, 20, 3, 82, 148, 154, 0, 7, 20, 3, 84, 173, 30, 20, 3, 86, 148, 154, 0, 7, 20, 3, 88, 173]
abbrev dktX2_ofMany_5 : List UInt8 := dkwX2_ofMany_5 ++ dktX2_ofMany_6
def dkwX2_ofMany_4 : List UInt8 := [30, 20, 3, 74, 148, 154, 0, 7, 20, 3, 76, 173, 30, 20, 3, 78, 148, 154, 0, 7, 20, 3, 80, 173]
abbrev dktX2_ofMany_4 : List UInt8 := dkwX2_ofMany_4 ++ dktX2_ofMany_5
def dkwX2_ofMany_3 : List UInt8 := [30, 20, 3, 66, 148, 154, 0, 7, 20, 3, 68, 173, 30, 20, 3, 70, 148, 154, 0, 7, 20, 3, 72, 173]
abbrev dktX2_ofMany_3 : List UInt8 := dkwX2_ofMany_3 ++ dktX2_ofMany_4
def dkwX2_ofMany_2 : List UInt8 := [30, 20, 3, 58, 148, 154, 0, 7, 20, 3, 60, 173, 30, 20, 3, 62, 148, 154, 0, 7, 20, 3, 64, 173]
abbrev dktX2_ofMany_2 : List UInt8 := dkwX2_ofMany_2 ++ dktX2_ofMany_3
def dkwX2_ofMany_1 : List UInt8 := [30, 20, 3, 50, 148, 154, 0, 7, 20, 3, 52, 173, 30, 20, 3, 54, 148, 154, 0, 7, 20, 3, 56, 173]
abbrev dktX2_ofMany_1 : List UInt8 := dkwX2_ofMany_1 ++ dktX2_ofMany_2
def dkwX2_ofMany_0 : List UInt8 := [30, 20, 3, 42, 148, 154, 0, 7, 20, 3, 44, 173, 30, 20, 3, 46, 148, 154, 0, 7, 20, 3, 48, 173]
abbrev dktX2_ofMany_0 : List UInt8 := dkwX2_ofMany_0 ++ dktX2_ofMany_1
theorem dksX2_ofMany_0 : cX2_ofMany.data.toList.drop 0 = dktX2_ofMany_0 := by decide +kernel
theorem dksX2_ofMany_1 : cX2_ofMany.data.toList.drop 24 = dktX2_ofMany_1 := dk_seg dksX2_ofMany_0 24 rfl rfl
theorem dksX2_ofMany_2 : cX2_ofMany.data.toList.drop 48 = dktX2_ofMany_2 := dk_seg dksX2_ofMany_1 24 rfl rfl
theorem dksX2_ofMany_3 : cX2_ofMany.data.toList.drop 72 = dktX2_ofMany_3 := dk_seg dksX2_ofMany_2 24 rfl rfl
theorem dksX2_ofMany_4 : cX2_ofMany.data.toList.drop 96 = dktX2_ofMany_4 := dk_seg dksX2_ofMany_3 24 rfl rfl
theorem dksX2_ofMany_5 : cX2_ofMany.data.toList.drop 120 = dktX2_ofMany_5 := dk_seg dksX2_ofMany_4 24 rfl rfl
theorem dksX2_ofMany_6 : cX2_ofMany.data.toList.drop 144 = dktX2_ofMany_6 := dk_seg dksX2_ofMany_5 24 rfl rfl
theorem dksX2_ofMany_7 : cX2_ofMany.data.toList.drop 168 = dktX2_ofMany_7 := dk_seg dksX2_ofMany_6 24 rfl rfl
theorem dksX2_ofMany_8 : cX2_ofMany.data.toList.drop 192 = dktX2_ofMany_8 := dk_seg dksX2_ofMany_7 24 rfl rfl
theorem dksX2_ofMany_9 : cX2_ofMany.data.toList.drop 216 = dktX2_ofMany_9 := dk_seg dksX2_ofMany_8 24 rfl rfl
theorem dksX2_ofMany_10 : cX2_ofMany.data.toList.drop 240 = dktX2_ofMany_10 := dk_seg dksX2_ofMany_9 24 rfl rfl
theorem dksX2_ofMany_11 : cX2_ofMany.data.toList.drop 264 = dktX2_ofMany_11 := dk_seg dksX2_ofMany_10 24 rfl rfl
theorem dksX2_ofMany_12 : cX2_ofMany.data.toList.drop 288 = dktX2_ofMany_12 := dk_seg dksX2_ofMany_11 24 rfl rfl
theorem dksX2_ofMany_13 : cX2_ofMany.data.toList.drop 312 = dktX2_ofMany_13 := dk_seg dksX2_ofMany_12 24 rfl rfl
theorem dksX2_ofMany_14 : cX2_ofMany.data.toList.drop 336 = dktX2_ofMany_14 := dk_seg dksX2_ofMany_13 24 rfl rfl
theorem dksX2_ofMany_15 : cX2_ofMany.data.toList.drop 360 = dktX2_ofMany_15 := dk_seg dksX2_ofMany_14 24 rfl rfl
theorem dX2_ofMany_0 : decode cX2_ofMany 0 = .ok (.lload_n 0, 1) := dk_30 (dk_at dksX2_ofMany_0 0 rfl rfl)
theorem dX2_ofMany_1 : decode cX2_ofMany 1 = .ok (.ldc2_w 810, 3) := dk_20 3 42 (dk_at dksX2_ofMany_0 1 rfl rfl)
theorem dX2_ofMany_4 : decode cX2_ofMany 4 = .ok (.lcmp, 1) := dk_148 (dk_at dksX2_ofMany_0 4 rfl rfl)
theorem dX2_ofMany_5 : decode cX2_ofMany 5 = .ok (.ifCond .ne 7, 3) := dk_154 0 7 (dk_at dksX2_ofMany_0 5 rfl rfl)
theorem dX2_ofMany_8 : decode cX2_ofMany 8 = .ok (.ldc2_w 812, 3) := dk_20 3 44 (dk_at dksX2_ofMany_0 8 rfl rfl)
theorem dX2_ofMany_11 : decode cX2_ofMany 11 = .ok (.lreturn, 1) := dk_173 (dk_at dksX2_ofMany_0 11 rfl rfl)
theorem dX2_ofMany_12 : decode cX2_ofMany 12 = .ok (.lload_n 0, 1) := dk_30 (dk_at dksX2_ofMany_0 12 rfl rfl)
theorem dX2_ofMany_13 : decode cX2_ofMany 13 = .ok (.ldc2_w 814, 3) := dk_20 3 46 (dk_at dksX2_ofMany_0 13 rfl rfl)
theorem dX2_ofMany_16 : decode cX2_ofMany 16 = .ok (.lcmp, 1) := dk_148 (dk_at dksX2_ofMany_0 16 rfl rfl)
theorem dX2_ofMany_17 : decode cX2_ofMany 17 = .ok (.ifCond .ne 7, 3) := dk_154 0 7 (dk_at dksX2_ofMany_0 17 rfl rfl)
theorem dX2_ofMany_20 : decode cX2_ofMany 20 = .ok (.ldc2_w 816, 3) := dk_20 3 48 (dk_at dksX2_ofMany_0 20 rfl rfl)
theorem dX2_ofMany_23 : decode cX2_ofMany 23 = .ok (.lreturn, 1) := dk_173 (dk_at dksX2_ofMany_0 23 rfl rfl)
theorem dX2_ofMany_24 : decode cX2_ofMany 24 = .ok (.lload_n 0, 1) := dk_30 (dk_at dksX2_ofMany_1 0 rfl rfl)
theorem dX2_ofMany_25 : decode cX2_ofMany 25 = .ok (.ldc2_w 818, 3) := dk_20 3 50 (dk_at dksX2_ofMany_1 1 rfl rfl)
theorem dX2_ofMany_28 : decode cX2_ofMany 28 = .ok (.lcmp, 1) := dk_148 (dk_at dksX2_ofMany_1 4 rfl rfl)
theorem dX2_ofMany_29 : decode cX2_ofMany 29 = .ok (.ifCond .ne 7, 3) := dk_154 0 7 (dk_at dksX2_ofMany_1 5 rfl rfl)
theorem dX2_ofMany_32 : decode cX2_ofMany 32 = .ok (.ldc2_w 820, 3) := dk_20 3 52 (dk_at dksX2_ofMany_1 8 rfl rfl)
theorem dX2_ofMany_35 : decode cX2_ofMany 35 = .ok (.lreturn, 1) := dk_173 (dk_at dksX2_ofMany_1 11 rfl rfl)
theorem dX2_ofMany_36 : decode cX2_ofMany 36 = .ok (.lload_n 0, 1) := dk_30 (dk_at dksX2_ofMany_1 12 rfl rfl)
theorem dX2_ofMany_37 : decode cX2_ofMany 37 = .ok (.ldc2_w 822, 3) := dk_20 3 54 (dk_at dksX2_ofMany_1 13 rfl rfl)
theorem dX2_ofMany_40 : decode cX2_ofMany 40 = .ok (.lcmp, 1) := dk_148 (dk_at dksX2_ofMany_1 16 rfl rfl)
theorem dX2_ofMany_41 : decode cX2_ofMany 41 = .ok (.ifCond .ne 7, 3) := dk_154 0 7 (dk_at dksX2_ofMany_1 17 rfl rfl)
theorem dX2_ofMany_44 : decode cX2_ofMany 44 = .ok (.ldc2_w 824, 3) := dk_20 3 56 (dk_at dksX2_ofMany_1 20 rfl rfl)
theorem dX2_ofMany_47 : decode cX2_ofMany 47 = .ok (.lreturn, 1) := dk_173 (dk_at dksX2_ofMany_1 23 rfl rfl)
theorem dX2_ofMany_48 : decode cX2_ofMany 48 = .ok (.lload_n 0, 1) := dk_30 (dk_at dksX2_ofMany_2 0 rfl rfl)
theorem dX2_ofMany_49 : decode cX2_ofMany 49 = .ok (.ldc2_w 826, 3) := dk_20 3 58 (dk_at dksX2_ofMany_2 1 rfl rfl)
theorem dX2_ofMany_52 : decode cX2_ofMany 52 = .ok (.lcmp, 1) := dk_148 (dk_at dksX2_ofMany_2 4 rfl rfl)
theorem dX2_ofMany_53 : decode cX2_ofMany 53 = .ok (.ifCond .ne 7, 3) := dk_154 0 7 (dk_at dksX2_ofMany_2 5 rfl rfl)
theorem dX2_ofMany_56 : decode cX2_ofMany 56 = .ok (.ldc2_w 828, 3) := dk_20 3 60 (dk_at dksX2_ofMany_2 8 rfl rfl)
theorem dX2_ofMany_59 : decode cX2_ofMany 59 = .ok (.lreturn, 1) := dk_173 (dk_at dksX2_ofMany_2 11 rfl rfl)
theorem dX2_ofMany_60 : decode cX2_ofMany 60 = .ok (.lload_n 0, 1) := dk_30 (dk_at dksX2_ofMany_2 12 rfl rfl)
theorem dX2_ofMany_61 : decode cX2_ofMany 61 = .ok (.ldc2_w 830, 3) := dk_20 3 62 (dk_at dksX2_ofMany_2 13 rfl rfl)
theorem dX2_ofMany_64 : decode cX2_ofMany 64 = .ok (.lcmp, 1) := dk_148 (dk_at dksX2_ofMany_2 16 rfl rfl)
theorem dX2_ofMany_65 : decode cX2_ofMany 65 = .ok (.ifCond .ne 7, 3) := dk_154 0 7 (dk_at dksX2_ofMany_2 17 rfl rfl)
theorem dX2_ofMany_68 : decode cX2_ofMany 68 = .ok (.ldc2_w 832, 3) := dk_20 3 64 (dk_at dksX2_ofMany_2 20 rfl rfl)
theorem dX2_ofMany_71 : decode cX2_ofMany 71 = .ok (.lreturn, 1) := dk_173 (dk_at dksX2_ofMany_2 23 rfl rfl)
theorem dX2_ofMany_72 : decode cX2_ofMany 72 = .ok (.lload_n 0, 1) := dk_30 (dk_at dksX2_ofMany_3 0 rfl rfl)
theorem dX2_ofMany_73 : decode cX2_ofMany 73 = .ok (.ldc2_w 834, 3) := dk_20 3 66 (dk_at dksX2_ofMany_3 1 rfl rfl)
theorem dX2_ofMany_76 : decode cX2_ofMany 76 = .ok (.lcmp, 1) := dk_148 (dk_at dksX2_ofMany_3 4 rfl rfl)
theorem dX2_ofMany_77 : decode cX2_ofMany 77 = .ok (.ifCond .ne 7, 3) := dk_154 0 7 (dk_at dksX2_ofMany_3 5 rfl rfl)
theorem dX2_ofMany_80 : decode cX2_ofMany 80 = .ok (.ldc2_w 836, 3) := dk_20 3 68 (dk_at dksX2_ofMany_3 8 rfl rfl)
theorem dX2_ofMany_83 : decode cX2_ofMany 83 = .ok (.lreturn, 1) := dk_173 (dk_at dksX2_ofMany_3 11 rfl rfl)
theorem dX2_ofMany_84 : decode cX2_ofMany 84 = .ok (.lload_n 0, 1) := dk_30 (dk_at dksX2_ofMany_3 12 rfl rfl)
theorem dX2_ofMany_85 : decode cX2_ofMany 85 = .ok (.ldc2_w 838, 3) := dk_20 3 70 (dk_at dksX2_ofMany_3 13 rfl rfl)
theorem dX2_ofMany_88 : decode cX2_ofMany 88 = .ok (.lcmp, 1) := dk_148 (dk_at dksX2_ofMany_3 16 rfl rfl)
theorem dX2_ofMany_89 : decode cX2_ofMany 89 = .ok (.ifCond .ne 7, 3) := dk_154 0 7 (dk_at dksX2_ofMany_3 17 rfl rfl)
theorem dX2_ofMany_92 : decode cX2_ofMany 92 = .ok (.ldc2_w 840, 3) := dk_20 3 72 (dk_at dksX2_ofMany_3 20 rfl rfl)
theorem dX2_ofMany_95 : decode cX2_ofMany 95 = .ok (.lreturn, 1) := dk_173 (dk_at dksX2_ofMany_3 23 rfl rfl)
theorem dX2_ofMany_96 : decode cX2_ofMany 96 = .ok (.lload_n 0, 1) := dk_30 (dk_at dksX2_ofMany_4 0 rfl rfl)
theorem dX2_ofMany_97 : decode cX2_ofMany 97 = .ok (.ldc2_w 842, 3) := dk_20 3 74 (dk_at dksX2_ofMany_4 1 rfl rfl)
theorem dX2_ofMany_100 : decode cX2_ofMany 100 = .ok (.lcmp, 1) := dk_148 (dk_at dksX2_ofMany_4 4 rfl rfl)
theorem dX2_ofMany_101 : decode cX2_ofMany 101 = .ok (.ifCond .ne 7, 3) := dk_154 0 7 (dk_at dksX2_ofMany_4 5 rfl rfl)
theorem dX2_ofMany_104 : decode cX2_ofMany 104 = .ok (.ldc2_w 844, 3) := dk_20 3 76 (dk_at dksX2_ofMany_4 8 rfl rfl)
theorem dX2_ofMany_107 : decode cX2_ofMany 107 = .ok (.lreturn, 1) := dk_173 (dk_at dksX2_ofMany_4 11 rfl rfl)
theorem dX2_ofMany_108 : decode cX2_ofMany 108 = .ok (.lload_n 0, 1) := dk_30 (dk_at dksX2_ofMany_4 12 rfl rfl)
theorem dX2_ofMany_109 : decode cX2_ofMany 109 = .ok (.ldc2_w 846, 3) := dk_20 3 78 (dk_at dksX2_ofMany_4 13 rfl rfl)
theorem dX2_ofMany_112 : decode cX2_ofMany 112 = .ok (.lcmp, 1) := dk_148 (dk_at dksX2_ofMany_4 16 rfl rfl)
theorem dX2_ofMany_113 : decode cX2_ofMany 113 = .ok (.ifCond .ne 7, 3) := dk_154 0 7 (dk_at dksX2_ofMany_4 17 rfl rfl)
theorem dX2_ofMany_116 : decode cX2_ofMany 116 = .ok (.ldc2_w 848, 3) := dk_20 3 80 (dk_at dksX2_ofMany_4 20 rfl rfl)
theorem dX2_ofMany_119 : decode cX2_ofMany 119 = .ok (.lreturn, 1) := dk_173 (dk_at dksX2_ofMany_4 23 rfl rfl)
theorem dX2_ofMany_120 : decode cX2_ofMany 120 = .ok (.lload_n 0, 1) := dk_30 (dk_at dksX2_ofMany_5 0 rfl rfl)
theorem dX2_ofMany_121 : decode cX2_ofMany 121 = .ok (.ldc2_w 850, 3) := dk_20 3 82 (dk_at dksX2_ofMany_5 1 rfl rfl)
theorem dX2_ofMany_124 : decode cX2_ofMany 124 = .ok (.lcmp, 1) := dk_148 (dk_at dksX2_ofMany_5 4 rfl rfl)
theorem dX2_ofMany_125 : decode cX2_ofMany 125 = .ok (.ifCond .ne 7, 3) := dk_154 0 7 (dk_at dksX2_ofMany_5 5 rfl rfl)
theorem dX2_ofMany_128 : decode cX2_ofMany 128 = .ok (.ldc2_w 852, 3) := dk_20 3 84 (dk_at dksX2_ofMany_5 8 rfl rfl)
theorem dX2_ofMany_131 : decode cX2_ofMany 131 = .ok (.lreturn, 1) := dk_173 (dk_at dksX2_ofMany_5 11 rfl rfl)
theorem dX2_ofMany_132 : decode cX2_ofMany 132 = .ok (.lload_n 0, 1) := dk_30 (dk_at dksX2_ofMany_5 12 rfl rfl)
theorem dX2_ofMany_133 : decode cX2_ofMany 133 = .ok (.ldc2_w 854, 3) := dk_20 3 86 (dk_at dksX2_ofMany_5 13 rfl rfl)
theorem dX2_ofMany_136 : decode cX2_ofMany 136 = .ok (.lcmp, 1) := dk_148 (dk_at dksX2_ofMany_5 16 rfl rfl)
theorem dX2_ofMany_137 : decode cX2_ofMany 137 = .ok (.ifCond .ne 7, 3) := dk_154 0 7 (dk_at dksX2_ofMany_5 17 rfl rfl)
theorem dX2_ofMany_140 : decode cX2_ofMany 140 = .ok (.ldc2_w 856, 3) := dk_20 3 88 (dk_at dksX2_ofMany_5 20 rfl rfl)
theorem dX2_ofMany_143 : decode cX2_ofMany 143 = .ok (.lreturn, 1) := dk_173 (dk_at dksX2_ofMany_5 23 rfl rfl)
theorem dX2_ofMany_144 : decode cX2_ofMany 144 = .ok (.lload_n 0, 1) := dk_30 (dk_at dksX2_ofMany_6 0 rfl rfl)
theorem dX2_ofMany_145 : decode cX2_ofMany 145 = .ok (.ldc2_w 858, 3) := dk_20 3 90 (dk_at dksX2_ofMany_6 1 rfl rfl)
theorem dX2_ofMany_148 : decode cX2_ofMany 148 = .ok (.lcmp, 1) := dk_148 (dk_at dksX2_ofMany_6 4 rfl rfl)
theorem dX2_ofMany_149 : decode cX2_ofMany 149 = .ok (.ifCond .ne 7, 3) := dk_154 0 7 (dk_at dksX2_ofMany_6 5 rfl rfl)
theorem dX2_ofMany_152 : decode cX2_ofMany 152 = .ok (.ldc2_w 860, 3) := dk_20 3 92 (dk_at dksX2_ofMany_6 8 rfl rfl)
theorem dX2_ofMany_155 : decode cX2_ofMany 155 = .ok (.lreturn, 1) := dk_173 (dk_at dksX2_ofMany_6 11 rfl rfl)
theorem dX2_ofMany_156 : decode cX2_ofMany 156 = .ok (.lload_n 0, 1) := dk_30 (dk_at dksX2_ofMany_6 12 rfl rfl)
theorem dX2_ofMany_157 : decode cX2_ofMany 157 = .ok (.ldc2_w 862, 3) := dk_20 3 94 (dk_at dksX2_ofMany_6 13 rfl rfl)
theorem dX2_ofMany_160 : decode cX2_ofMany 160 = .ok (.lcmp, 1) := dk_148 (dk_at dksX2_ofMany_6 16 rfl rfl)
theorem dX2_ofMany_161 : decode cX2_ofMany 161 = .ok (.ifCond .ne 7, 3) := dk_154 0 7 (dk_at dksX2_ofMany_6 17 rfl rfl)
theorem dX2_ofMany_164 : decode cX2_ofMany 164 = .ok (.ldc2_w 864, 3) := dk_20 3 96 (dk_at dksX2_ofMany_6 20 rfl rfl)
theorem dX2_ofMany_167 : decode cX2_ofMany 167 = .ok (.lreturn, 1) := dk_173 (dk_at dksX2_ofMany_6 23 rfl rfl)
theorem dX2_ofMany_168 : decode cX2_ofMany 168 = .ok (.lload_n 0, 1) := dk_30 (dk_at dksX2_ofMany_7 0 rfl rfl)
theorem dX2_ofMany_169 : decode cX2_ofMany 169 = .ok (.ldc2_w 866, 3) := dk_20 3 98 (dk_at dksX2_ofMany_7 1 rfl rfl)
theorem dX2_ofMany_172 : decode cX2_ofMany 172 = .ok (.lcmp, 1) := dk_148 (dk_at dksX2_ofMany_7 4 rfl rfl)
theorem dX2_ofMany_173 : decode cX2_ofMany 173 = .ok (.ifCond .ne 7, 3) := dk_154 0 7 (dk_at dksX2_ofMany_7 5 rfl rfl)
theorem dX2_ofMany_176 : decode cX2_ofMany 176 = .ok (.ldc2_w 868, 3) := dk_20 3 100 (dk_at dksX2_ofMany_7 8 rfl rfl)
theorem dX2_ofMany_179 : decode cX2_ofMany 179 = .ok (.lreturn, 1) := dk_173 (dk_at dksX2_ofMany_7 11 rfl rfl)
theorem dX2_ofMany_180 : decode cX2_ofMany 180 = .ok (.lload_n 0, 1) := dk_30 (dk_at dksX2_ofMany_7 12 rfl rfl)
theorem dX2_ofMany_181 : decode cX2_ofMany 181 = .ok (.ldc2_w 870, 3) := dk_20 3 102 (dk_at dksX2_ofMany_7 13 rfl rfl)
theorem dX2_ofMany_184 : decode cX2_ofMany 184 = .ok (.lcmp, 1) := dk_148 (dk_at dksX2_ofMany_7 16 rfl rfl)
theorem dX2_ofMany_185 : decode cX2_ofMany 185 = .ok (.ifCond .ne 7, 3) := dk_154 0 7 (dk_at dksX2_ofMany_7 17 rfl rfl)
theorem dX2_ofMany_188 : decode cX2_ofMany 188 = .ok (.ldc2_w 872, 3) := dk_20 3 104 (dk_at dksX2_ofMany_7 20 rfl rfl)
theorem dX2_ofMany_191 : decode cX2_ofMany 191 = .ok (.lreturn, 1) := dk_173 (dk_at dksX2_ofMany_7 23 rfl rfl)
theorem dX2_ofMany_192 : decode cX2_ofMany 192 = .ok (.lload_n 0, 1) := dk_30 (dk_at dksX2_ofMany_8 0 rfl rfl)
theorem dX2_ofMany_193 : decode cX2_ofMany 193 = .ok (.ldc2_w 874, 3) := dk_20 3 106 (dk_at dksX2_ofMany_8 1 rfl rfl)
theorem dX2_ofMany_196 : decode cX2_ofMany 196 = .ok (.lcmp, 1) := dk_148 (dk_at dksX2_ofMany_8 4 rfl rfl)
theorem dX2_ofMany_197 : decode cX2_ofMany 197 = .ok (.ifCond .ne 7, 3) := dk_154 0 7 (dk_at dksX2_ofMany_8 5 rfl rfl)
theorem dX2_ofMany_200 : decode cX2_ofMany 200 = .ok (.ldc2_w 876, 3) := dk_20 3 108 (dk_at dksX2_ofMany_8 8 rfl rfl)
theorem dX2_ofMany_203 : decode cX2_ofMany 203 = .ok (.lreturn, 1) := dk_173 (dk_at dksX2_ofMany_8 11 rfl rfl)
theorem dX2_ofMany_204 : decode cX2_ofMany 204 = .ok (.lload_n 0, 1) := dk_30 (dk_at dksX2_ofMany_8 12 rfl rfl)
theorem dX2_ofMany_205 : decode cX2_ofMany 205 = .ok (.ldc2_w 878, 3) := dk_20 3 110 (dk_at dksX2_ofMany_8 13 rfl rfl)
theorem dX2_ofMany_208 : decode cX2_ofMany 208 = .ok (.lcmp, 1) := dk_148 (dk_at dksX2_ofMany_8 16 rfl rfl)
theorem dX2_ofMany_209 : decode cX2_ofMany 209 = .ok (.ifCond .ne 7, 3) := dk_154 0 7 (dk_at dksX2_ofMany_8 17 rfl rfl)
theorem dX2_ofMany_212 : decode cX2_ofMany 212 = .ok (.ldc2_w 880, 3) := dk_20 3 112 (dk_at dksX2_ofMany_8 20 rfl rfl)
theorem dX2_ofMany_215 : decode cX2_ofMany 215 = .ok (.lreturn, 1) := dk_173 (dk_at dksX2_ofMany_8 23 rfl rfl)
theorem dX2_ofMany_216 : decode cX2_ofMany 216 = .ok (.lload_n 0, 1) := dk_30 (dk_at dksX2_ofMany_9 0 rfl rfl)
theorem dX2_ofMany_217 : decode cX2_ofMany 217 = .ok (.ldc2_w 882, 3) := dk_20 3 114 (dk_at dksX2_ofMany_9 1 rfl rfl)
theorem dX2_ofMany_220 : decode cX2_ofMany 220 = .ok (.lcmp, 1) := dk_148 (dk_at dksX2_ofMany_9 4 rfl rfl)
theorem dX2_ofMany_221 : decode cX2_ofMany 221 = .ok (.ifCond .ne 7, 3) := dk_154 0 7 (dk_at dksX2_ofMany_9 5 rfl rfl)
theorem dX2_ofMany_224 : decode cX2_ofMany 224 = .ok (.ldc2_w 884, 3) := dk_20 3 116 (dk_at dksX2_ofMany_9 8 rfl rfl)
theorem dX2_ofMany_227 : decode cX2_ofMany 227 = .ok (.lreturn, 1) := dk_173 (dk_at dksX2_ofMany_9 11 rfl rfl)
theorem dX2_ofMany_228 : decode cX2_ofMany 228 = .ok (.lload_n 0, 1) := dk_30 (dk_at dksX2_ofMany_9 12 rfl rfl)
theorem dX2_ofMany_229 : decode cX2_ofMany 229 = .ok (.ldc2_w 886, 3) := dk_20 3 118 (dk_at dksX2_ofMany_9 13 rfl rfl)
theorem dX2_ofMany_232 : decode cX2_ofMany 232 = .ok (.lcmp, 1) := dk_148 (dk_at dksX2_ofMany_9 16 rfl rfl)
theorem dX2_ofMany_233 : decode cX2_ofMany 233 = .ok (.ifCond .ne 7, 3) := dk_154 0 7 (dk_at dksX2_ofMany_9 17 rfl rfl)
theorem dX2_ofMany_236 : decode cX2_ofMany 236 = .ok (.ldc2_w 888, 3) := dk_20 3 120 (dk_at dksX2_ofMany_9 20 rfl rfl)
theorem dX2_ofMany_239 : decode cX2_ofMany 239 = .ok (.lreturn, 1) := dk_173 (dk_at dksX2_ofMany_9 23 rfl rfl)
theorem dX2_ofMany_240 : decode cX2_ofMany 240 = .ok (.lload_n 0, 1) := dk_30 (dk_at dksX2_ofMany_10 0 rfl rfl)
theorem dX2_ofMany_241 : decode cX2_ofMany 241 = .ok (.ldc2_w 890, 3) := dk_20 3 122 (dk_at dksX2_ofMany_10 1 rfl rfl)
theorem dX2_ofMany_244 : decode cX2_ofMany 244 = .ok (.lcmp, 1) := dk_148 (dk_at dksX2_ofMany_10 4 rfl rfl)
theorem dX2_ofMany_245 : decode cX2_ofMany 245 = .ok (.ifCond .ne 7, 3) := dk_154 0 7 (dk_at dksX2_ofMany_10 5 rfl rfl)
theorem dX2_ofMany_248 : decode cX2_ofMany 248 = .ok (.ldc2_w 892, 3) := dk_20 3 124 (dk_at dksX2_ofMany_10 8 rfl rfl)
theorem dX2_ofMany_251 : decode cX2_ofMany 251 = .ok (.lreturn, 1) := dk_173 (dk_at dksX2_ofMany_10 11 rfl rfl)
theorem dX2_ofMany_252 : decode cX2_ofMany 252 = .ok (.lload_n 0, 1) := dk_30 (dk_at dksX2_ofMany_10 12 rfl rfl)
theorem dX2_ofMany_253 : decode cX2_ofMany 253 = .ok (.ldc2_w 894, 3) := dk_20 3 126 (dk_at dksX2_ofMany_10 13 rfl rfl)
theorem dX2_ofMany_256 : decode cX2_ofMany 256 = .ok (.lcmp, 1) := dk_148 (dk_at dksX2_ofMany_10 16 rfl rfl)
theorem dX2_ofMany_257 : decode cX2_ofMany 257 = .ok (.ifCond .ne 7, 3) := dk_154 0 7 (dk_at dksX2_ofMany_10 17 rfl rfl)
theorem dX2_ofMany_260 : decode cX2_ofMany 260 = .ok (.ldc2_w 896, 3) := dk_20 3 128 (dk_at dksX2_ofMany_10 20 rfl rfl)
theorem dX2_ofMany_263 : decode cX2_ofMany 263 = .ok (.lreturn, 1) := dk_173 (dk_at dksX2_ofMany_10 23 rfl rfl)
theorem dX2_ofMany_264 : decode cX2_ofMany 264 = .ok (.lload_n 0, 1) := dk_30 (dk_at dksX2_ofMany_11 0 rfl rfl)
theorem dX2_ofMany_265 : decode cX2_ofMany 265 = .ok (.ldc2_w 898, 3) := dk_20 3 130 (dk_at dksX2_ofMany_11 1 rfl rfl)
theorem dX2_ofMany_268 : decode cX2_ofMany 268 = .ok (.lcmp, 1) := dk_148 (dk_at dksX2_ofMany_11 4 rfl rfl)
theorem dX2_ofMany_269 : decode cX2_ofMany 269 = .ok (.ifCond .ne 7, 3) := dk_154 0 7 (dk_at dksX2_ofMany_11 5 rfl rfl)
theorem dX2_ofMany_272 : decode cX2_ofMany 272 = .ok (.ldc2_w 900, 3) := dk_20 3 132 (dk_at dksX2_ofMany_11 8 rfl rfl)
theorem dX2_ofMany_275 : decode cX2_ofMany 275 = .ok (.lreturn, 1) := dk_173 (dk_at dksX2_ofMany_11 11 rfl rfl)
theorem dX2_ofMany_276 : decode cX2_ofMany 276 = .ok (.lload_n 0, 1) := dk_30 (dk_at dksX2_ofMany_11 12 rfl rfl)
theorem dX2_ofMany_277 : decode cX2_ofMany 277 = .ok (.ldc2_w 902, 3) := dk_20 3 134 (dk_at dksX2_ofMany_11 13 rfl rfl)
theorem dX2_ofMany_280 : decode cX2_ofMany 280 = .ok (.lcmp, 1) := dk_148 (dk_at dksX2_ofMany_11 16 rfl rfl)
theorem dX2_ofMany_281 : decode cX2_ofMany 281 = .ok (.ifCond .ne 7, 3) := dk_154 0 7 (dk_at dksX2_ofMany_11 17 rfl rfl)
theorem dX2_ofMany_284 : decode cX2_ofMany 284 = .ok (.ldc2_w 904, 3) := dk_20 3 136 (dk_at dksX2_ofMany_11 20 rfl rfl)
theorem dX2_ofMany_287 : decode cX2_ofMany 287 = .ok (.lreturn, 1) := dk_173 (dk_at dksX2_ofMany_11 23 rfl rfl)
theorem dX2_ofMany_288 : decode cX2_ofMany 288 = .ok (.lload_n 0, 1) := dk_30 (dk_at dksX2_ofMany_12 0 rfl rfl)
theorem dX2_ofMany_289 : decode cX2_ofMany 289 = .ok (.ldc2_w 906, 3) := dk_20 3 138 (dk_at dksX2_ofMany_12 1 rfl rfl)
theorem dX2_ofMany_292 : decode cX2_ofMany 292 = .ok (.lcmp, 1) := dk_148 (dk_at dksX2_ofMany_12 4 rfl rfl)
theorem dX2_ofMany_293 : decode cX2_ofMany 293 = .ok (.ifCond .ne 7, 3) := dk_154 0 7 (dk_at dksX2_ofMany_12 5 rfl rfl)
theorem dX2_ofMany_296 : decode cX2_ofMany 296 = .ok (.ldc2_w 908, 3) := dk_20 3 140 (dk_at dksX2_ofMany_12 8 rfl rfl)
theorem dX2_ofMany_299 : decode cX2_ofMany 299 = .ok (.lreturn, 1) := dk_173 (dk_at dksX2_ofMany_12 11 rfl rfl)
theorem dX2_ofMany_300 : decode cX2_ofMany 300 = .ok (.lload_n 0, 1) := dk_30 (dk_at dksX2_ofMany_12 12 rfl rfl)
theorem dX2_ofMany_301 : decode cX2_ofMany 301 = .ok (.ldc2_w 910, 3) := dk_20 3 142 (dk_at dksX2_ofMany_12 13 rfl rfl)
theorem dX2_ofMany_304 : decode cX2_ofMany 304 = .ok (.lcmp, 1) := dk_148 (dk_at dksX2_ofMany_12 16 rfl rfl)
theorem dX2_ofMany_305 : decode cX2_ofMany 305 = .ok (.ifCond .ne 7, 3) := dk_154 0 7 (dk_at dksX2_ofMany_12 17 rfl rfl)
theorem dX2_ofMany_308 : decode cX2_ofMany 308 = .ok (.ldc2_w 912, 3) := dk_20 3 144 (dk_at dksX2_ofMany_12 20 rfl rfl)
theorem dX2_ofMany_311 : decode cX2_ofMany 311 = .ok (.lreturn, 1) := dk_173 (dk_at dksX2_ofMany_12 23 rfl rfl)
theorem dX2_ofMany_312 : decode cX2_ofMany 312 = .ok (.lload_n 0, 1) := dk_30 (dk_at dksX2_ofMany_13 0 rfl rfl)
theorem dX2_ofMany_313 : decode cX2_ofMany 313 = .ok (.ldc2_w 914, 3) := dk_20 3 146 (dk_at dksX2_ofMany_13 1 rfl rfl)
theorem dX2_ofMany_316 : decode cX2_ofMany 316 = .ok (.lcmp, 1) := dk_148 (dk_at dksX2_ofMany_13 4 rfl rfl)
theorem dX2_ofMany_317 : decode cX2_ofMany 317 = .ok (.ifCond .ne 7, 3) := dk_154 0 7 (dk_at dksX2_ofMany_13 5 rfl rfl)
theorem dX2_ofMany_320 : decode cX2_ofMany 320 = .ok (.ldc2_w 916, 3) := dk_20 3 148 (dk_at dksX2_ofMany_13 8 rfl rfl)
theorem dX2_ofMany_323 : decode cX2_ofMany 323 = .ok (.lreturn, 1) := dk_173 (dk_at dksX2_ofMany_13 11 rfl rfl)
theorem dX2_ofMany_324 : decode cX2_ofMany 324 = .ok (.lload_n 0, 1) := dk_30 (dk_at dksX2_ofMany_13 12 rfl rfl)
theorem dX2_ofMany_325 : decode cX2_ofMany 325 = .ok (.ldc2_w 918, 3) := dk_20 3 150 (dk_at dksX2_ofMany_13 13 rfl rfl)
theorem dX2_ofMany_328 : decode cX2_ofMany 328 = .ok (.lcmp, 1) := dk_148 (dk_at dksX2_ofMany_13 16 rfl rfl)
theorem dX2_ofMany_329 : decode cX2_ofMany 329 = .ok (.ifCond .ne 7, 3) := dk_154 0 7 (dk_at dksX2_ofMany_13 17 rfl rfl)
theorem dX2_ofMany_332 : decode cX2_ofMany 332 = .ok (.ldc2_w 920, 3) := dk_20 3 152 (dk_at dksX2_ofMany_13 20 rfl rfl)
theorem dX2_ofMany_335 : decode cX2_ofMany 335 = .ok (.lreturn, 1) := dk_173 (dk_at dksX2_ofMany_13 23 rfl rfl)
theorem dX2_ofMany_336 : decode cX2_ofMany 336 = .ok (.lload_n 0, 1) := dk_30 (dk_at dksX2_ofMany_14 0 rfl rfl)
theorem dX2_ofMany_337 : decode cX2_ofMany 337 = .ok (.ldc2_w 922, 3) := dk_20 3 154 (dk_at dksX2_ofMany_14 1 rfl rfl)
theorem dX2_ofMany_340 : decode cX2_ofMany 340 = .ok (.lcmp, 1) := dk_148 (dk_at dksX2_ofMany_14 4 rfl rfl)
theorem dX2_ofMany_341 : decode cX2_ofMany 341 = .ok (.ifCond .ne 7, 3) := dk_154 0 7 (dk_at dksX2_ofMany_14 5 rfl rfl)
theorem dX2_ofMany_344 : decode cX2_ofMany 344 = .ok (.ldc2_w 924, 3) := dk_20 3 156 (dk_at dksX2_ofMany_14 8 rfl rfl)
theorem dX2_ofMany_347 : decode cX2_ofMany 347 = .ok (.lreturn, 1) := dk_173 (dk_at dksX2_ofMany_14 11 rfl rfl)
theorem dX2_ofMany_348 : decode cX2_ofMany 348 = .ok (.lload_n 0, 1) := dk_30 (dk_at dksX2_ofMany_14 12 rfl rfl)
theorem dX2_ofMany_349 : decode cX2_ofMany 349 = .ok (.ldc2_w 926, 3) := dk_20 3 158 (dk_at dksX2_ofMany_14 13 rfl rfl)
theorem dX2_ofMany_352 : decode cX2_ofMany 352 = .ok (.lcmp, 1) := dk_148 (dk_at dksX2_ofMany_14 16 rfl rfl)
theorem dX2_ofMany_353 : decode cX2_ofMany 353 = .ok (.ifCond .ne 7, 3) := dk_154 0 7 (dk_at dksX2_ofMany_14 17 rfl rfl)
theorem dX2_ofMany_356 : decode cX2_ofMany 356 = .ok (.ldc2_w 928, 3) := dk_20 3 160 (dk_at dksX2_ofMany_14 20 rfl rfl)
theorem dX2_ofMany_359 : decode cX2_ofMany 359 = .ok (.lreturn, 1) := dk_173 (dk_at dksX2_ofMany_14 23 rfl rfl)
theorem dX2_ofMany_360 : decode cX2_ofMany 360 = .ok (.ldc2_w 211, 3) := dk_20 0 211 (dk_at dksX2_ofMany_15 0 rfl rfl)
theorem dX2_ofMany_363 : decode cX2_ofMany 363 = .ok (.lreturn, 1) := dk_173 (dk_at dksX2_ofMany_15 3 rfl rfl)
abbrev cX2_ofManyMore : ByteArray := prog_4_method_30_code
def yX2_ofManyMore : MethodName := ⟨RX2, "ofManyMore", "(J)J"⟩
def dkwX2_ofManyMore_3 : List UInt8 := [20, 0, 211, 173]
abbrev dktX2_ofManyMore_3 : List UInt8 := dkwX2_ofManyMore_3 ++ []
def dkwX2_ofManyMore_2 : List UInt8 := [30, 20, 3, 178, 148, 154, 0, 7, 20, 3, 180, 173, 30, 20, 3, 182, 148, 154, 0, 7, 20, 3, 184, 173]
abbrev dktX2_ofManyMore_2 : List UInt8 := dkwX2_ofManyMore_2 ++ dktX2_ofManyMore_3
def dkwX2_ofManyMore_1 : List UInt8 := [30, 20, 3, 170, 148, 154, 0, 7, 20, 3, 172, 173, 30, 20, 3, 174, 148, 154, 0, 7, 20, 3, 176, 173]
abbrev dktX2_ofManyMore_1 : List UInt8 := dkwX2_ofManyMore_1 ++ dktX2_ofManyMore_2
def dkwX2_ofManyMore_0 : List UInt8 := [30, 20, 3, 162, 148, 154, 0, 7, 20, 3, 164, 173, 30, 20, 3, 166, 148, 154, 0, 7, 20, 3, 168, 173]
abbrev dktX2_ofManyMore_0 : List UInt8 := dkwX2_ofManyMore_0 ++ dktX2_ofManyMore_1
theorem dksX2_ofManyMore_0 : cX2_ofManyMore.data.toList.drop 0 = dktX2_ofManyMore_0 := by decide +kernel
theorem dksX2_ofManyMore_1 : cX2_ofManyMore.data.toList.drop 24 = dktX2_ofManyMore_1 := dk_seg dksX2_ofManyMore_0 24 rfl rfl
theorem dksX2_ofManyMore_2 : cX2_ofManyMore.data.toList.drop 48 = dktX2_ofManyMore_2 := dk_seg dksX2_ofManyMore_1 24 rfl rfl
theorem dksX2_ofManyMore_3 : cX2_ofManyMore.data.toList.drop 72 = dktX2_ofManyMore_3 := dk_seg dksX2_ofManyMore_2 24 rfl rfl
theorem dX2_ofManyMore_0 : decode cX2_ofManyMore 0 = .ok (.lload_n 0, 1) := dk_30 (dk_at dksX2_ofManyMore_0 0 rfl rfl)
theorem dX2_ofManyMore_1 : decode cX2_ofManyMore 1 = .ok (.ldc2_w 930, 3) := dk_20 3 162 (dk_at dksX2_ofManyMore_0 1 rfl rfl)
theorem dX2_ofManyMore_4 : decode cX2_ofManyMore 4 = .ok (.lcmp, 1) := dk_148 (dk_at dksX2_ofManyMore_0 4 rfl rfl)
theorem dX2_ofManyMore_5 : decode cX2_ofManyMore 5 = .ok (.ifCond .ne 7, 3) := dk_154 0 7 (dk_at dksX2_ofManyMore_0 5 rfl rfl)
theorem dX2_ofManyMore_8 : decode cX2_ofManyMore 8 = .ok (.ldc2_w 932, 3) := dk_20 3 164 (dk_at dksX2_ofManyMore_0 8 rfl rfl)
theorem dX2_ofManyMore_11 : decode cX2_ofManyMore 11 = .ok (.lreturn, 1) := dk_173 (dk_at dksX2_ofManyMore_0 11 rfl rfl)
theorem dX2_ofManyMore_12 : decode cX2_ofManyMore 12 = .ok (.lload_n 0, 1) := dk_30 (dk_at dksX2_ofManyMore_0 12 rfl rfl)
theorem dX2_ofManyMore_13 : decode cX2_ofManyMore 13 = .ok (.ldc2_w 934, 3) := dk_20 3 166 (dk_at dksX2_ofManyMore_0 13 rfl rfl)
theorem dX2_ofManyMore_16 : decode cX2_ofManyMore 16 = .ok (.lcmp, 1) := dk_148 (dk_at dksX2_ofManyMore_0 16 rfl rfl)
theorem dX2_ofManyMore_17 : decode cX2_ofManyMore 17 = .ok (.ifCond .ne 7, 3) := dk_154 0 7 (dk_at dksX2_ofManyMore_0 17 rfl rfl)
theorem dX2_ofManyMore_20 : decode cX2_ofManyMore 20 = .ok (.ldc2_w 936, 3) := dk_20 3 168 (dk_at dksX2_ofManyMore_0 20 rfl rfl)
theorem dX2_ofManyMore_23 : decode cX2_ofManyMore 23 = .ok (.lreturn, 1) := dk_173 (dk_at dksX2_ofManyMore_0 23 rfl rfl)
theorem dX2_ofManyMore_24 : decode cX2_ofManyMore 24 = .ok (.lload_n 0, 1) := dk_30 (dk_at dksX2_ofManyMore_1 0 rfl rfl)
theorem dX2_ofManyMore_25 : decode cX2_ofManyMore 25 = .ok (.ldc2_w 938, 3) := dk_20 3 170 (dk_at dksX2_ofManyMore_1 1 rfl rfl)
theorem dX2_ofManyMore_28 : decode cX2_ofManyMore 28 = .ok (.lcmp, 1) := dk_148 (dk_at dksX2_ofManyMore_1 4 rfl rfl)
theorem dX2_ofManyMore_29 : decode cX2_ofManyMore 29 = .ok (.ifCond .ne 7, 3) := dk_154 0 7 (dk_at dksX2_ofManyMore_1 5 rfl rfl)
theorem dX2_ofManyMore_32 : decode cX2_ofManyMore 32 = .ok (.ldc2_w 940, 3) := dk_20 3 172 (dk_at dksX2_ofManyMore_1 8 rfl rfl)
theorem dX2_ofManyMore_35 : decode cX2_ofManyMore 35 = .ok (.lreturn, 1) := dk_173 (dk_at dksX2_ofManyMore_1 11 rfl rfl)
theorem dX2_ofManyMore_36 : decode cX2_ofManyMore 36 = .ok (.lload_n 0, 1) := dk_30 (dk_at dksX2_ofManyMore_1 12 rfl rfl)
theorem dX2_ofManyMore_37 : decode cX2_ofManyMore 37 = .ok (.ldc2_w 942, 3) := dk_20 3 174 (dk_at dksX2_ofManyMore_1 13 rfl rfl)
theorem dX2_ofManyMore_40 : decode cX2_ofManyMore 40 = .ok (.lcmp, 1) := dk_148 (dk_at dksX2_ofManyMore_1 16 rfl rfl)
theorem dX2_ofManyMore_41 : decode cX2_ofManyMore 41 = .ok (.ifCond .ne 7, 3) := dk_154 0 7 (dk_at dksX2_ofManyMore_1 17 rfl rfl)
theorem dX2_ofManyMore_44 : decode cX2_ofManyMore 44 = .ok (.ldc2_w 944, 3) := dk_20 3 176 (dk_at dksX2_ofManyMore_1 20 rfl rfl)
theorem dX2_ofManyMore_47 : decode cX2_ofManyMore 47 = .ok (.lreturn, 1) := dk_173 (dk_at dksX2_ofManyMore_1 23 rfl rfl)
theorem dX2_ofManyMore_48 : decode cX2_ofManyMore 48 = .ok (.lload_n 0, 1) := dk_30 (dk_at dksX2_ofManyMore_2 0 rfl rfl)
theorem dX2_ofManyMore_49 : decode cX2_ofManyMore 49 = .ok (.ldc2_w 946, 3) := dk_20 3 178 (dk_at dksX2_ofManyMore_2 1 rfl rfl)
theorem dX2_ofManyMore_52 : decode cX2_ofManyMore 52 = .ok (.lcmp, 1) := dk_148 (dk_at dksX2_ofManyMore_2 4 rfl rfl)
theorem dX2_ofManyMore_53 : decode cX2_ofManyMore 53 = .ok (.ifCond .ne 7, 3) := dk_154 0 7 (dk_at dksX2_ofManyMore_2 5 rfl rfl)
theorem dX2_ofManyMore_56 : decode cX2_ofManyMore 56 = .ok (.ldc2_w 948, 3) := dk_20 3 180 (dk_at dksX2_ofManyMore_2 8 rfl rfl)
theorem dX2_ofManyMore_59 : decode cX2_ofManyMore 59 = .ok (.lreturn, 1) := dk_173 (dk_at dksX2_ofManyMore_2 11 rfl rfl)
theorem dX2_ofManyMore_60 : decode cX2_ofManyMore 60 = .ok (.lload_n 0, 1) := dk_30 (dk_at dksX2_ofManyMore_2 12 rfl rfl)
theorem dX2_ofManyMore_61 : decode cX2_ofManyMore 61 = .ok (.ldc2_w 950, 3) := dk_20 3 182 (dk_at dksX2_ofManyMore_2 13 rfl rfl)
theorem dX2_ofManyMore_64 : decode cX2_ofManyMore 64 = .ok (.lcmp, 1) := dk_148 (dk_at dksX2_ofManyMore_2 16 rfl rfl)
theorem dX2_ofManyMore_65 : decode cX2_ofManyMore 65 = .ok (.ifCond .ne 7, 3) := dk_154 0 7 (dk_at dksX2_ofManyMore_2 17 rfl rfl)
theorem dX2_ofManyMore_68 : decode cX2_ofManyMore 68 = .ok (.ldc2_w 952, 3) := dk_20 3 184 (dk_at dksX2_ofManyMore_2 20 rfl rfl)
theorem dX2_ofManyMore_71 : decode cX2_ofManyMore 71 = .ok (.lreturn, 1) := dk_173 (dk_at dksX2_ofManyMore_2 23 rfl rfl)
theorem dX2_ofManyMore_72 : decode cX2_ofManyMore 72 = .ok (.ldc2_w 211, 3) := dk_20 0 211 (dk_at dksX2_ofManyMore_3 0 rfl rfl)
theorem dX2_ofManyMore_75 : decode cX2_ofManyMore 75 = .ok (.lreturn, 1) := dk_173 (dk_at dksX2_ofManyMore_3 3 rfl rfl)
abbrev cX2_mayStand : ByteArray := prog_4_method_68_code
def yX2_mayStand : MethodName := ⟨RX2, "mayStand", "(I)Z"⟩
def dkwX2_mayStand_4 : List UInt8 := [167, 0, 4, 3, 172]
abbrev dktX2_mayStand_4 : List UInt8 := dkwX2_mayStand_4 ++ []
def dkwX2_mayStand_3 : List UInt8 := [16, 44, 160, 0, 9, 28, 7, 112, 154, 0, 19, 27, 16, 45, 160, 0, 9, 28, 5, 112, 154, 0, 7, 4]
abbrev dktX2_mayStand_3 : List UInt8 := dkwX2_mayStand_3 ++ dktX2_mayStand_4
def dkwX2_mayStand_2 : List UInt8 := [27, 16, 47, 159, 0, 9, 27, 16, 48, 160, 0, 5, 4, 172, 42, 180, 4, 26, 5, 159, 0, 31, 27]
abbrev dktX2_mayStand_2 : List UInt8 := dkwX2_mayStand_2 ++ dktX2_mayStand_3
def dkwX2_mayStand_1 : List UInt8 := [180, 4, 26, 154, 0, 13, 28, 7, 112, 154, 0, 7, 4, 167, 0, 4, 3, 172, 27, 16, 44, 161, 0, 15]
abbrev dktX2_mayStand_1 : List UInt8 := dkwX2_mayStand_1 ++ dktX2_mayStand_2
def dkwX2_mayStand_0 : List UInt8 := [42, 180, 0, 17, 6, 42, 180, 3, 242, 104, 42, 180, 4, 26, 96, 46, 61, 27, 16, 40, 162, 0, 22, 42]
abbrev dktX2_mayStand_0 : List UInt8 := dkwX2_mayStand_0 ++ dktX2_mayStand_1
theorem dksX2_mayStand_0 : cX2_mayStand.data.toList.drop 0 = dktX2_mayStand_0 := by decide +kernel
theorem dksX2_mayStand_1 : cX2_mayStand.data.toList.drop 24 = dktX2_mayStand_1 := dk_seg dksX2_mayStand_0 24 rfl rfl
theorem dksX2_mayStand_2 : cX2_mayStand.data.toList.drop 48 = dktX2_mayStand_2 := dk_seg dksX2_mayStand_1 24 rfl rfl
theorem dksX2_mayStand_3 : cX2_mayStand.data.toList.drop 71 = dktX2_mayStand_3 := dk_seg dksX2_mayStand_2 23 rfl rfl
theorem dksX2_mayStand_4 : cX2_mayStand.data.toList.drop 95 = dktX2_mayStand_4 := dk_seg dksX2_mayStand_3 24 rfl rfl
theorem dX2_mayStand_0 : decode cX2_mayStand 0 = .ok (.aload_n 0, 1) := dk_42 (dk_at dksX2_mayStand_0 0 rfl rfl)
theorem dX2_mayStand_1 : decode cX2_mayStand 1 = .ok (.getfield 17, 3) := dk_180 0 17 (dk_at dksX2_mayStand_0 1 rfl rfl)
theorem dX2_mayStand_4 : decode cX2_mayStand 4 = .ok (.iconst 3, 1) := dk_6 (dk_at dksX2_mayStand_0 4 rfl rfl)
theorem dX2_mayStand_5 : decode cX2_mayStand 5 = .ok (.aload_n 0, 1) := dk_42 (dk_at dksX2_mayStand_0 5 rfl rfl)
theorem dX2_mayStand_6 : decode cX2_mayStand 6 = .ok (.getfield 1010, 3) := dk_180 3 242 (dk_at dksX2_mayStand_0 6 rfl rfl)
theorem dX2_mayStand_9 : decode cX2_mayStand 9 = .ok (.imul, 1) := dk_104 (dk_at dksX2_mayStand_0 9 rfl rfl)
theorem dX2_mayStand_10 : decode cX2_mayStand 10 = .ok (.aload_n 0, 1) := dk_42 (dk_at dksX2_mayStand_0 10 rfl rfl)
theorem dX2_mayStand_11 : decode cX2_mayStand 11 = .ok (.getfield 1050, 3) := dk_180 4 26 (dk_at dksX2_mayStand_0 11 rfl rfl)
theorem dX2_mayStand_14 : decode cX2_mayStand 14 = .ok (.iadd, 1) := dk_96 (dk_at dksX2_mayStand_0 14 rfl rfl)
theorem dX2_mayStand_15 : decode cX2_mayStand 15 = .ok (.iaload, 1) := dk_46 (dk_at dksX2_mayStand_0 15 rfl rfl)
theorem dX2_mayStand_16 : decode cX2_mayStand 16 = .ok (.istore_n 2, 1) := dk_61 (dk_at dksX2_mayStand_0 16 rfl rfl)
theorem dX2_mayStand_17 : decode cX2_mayStand 17 = .ok (.iload_n 1, 1) := dk_27 (dk_at dksX2_mayStand_0 17 rfl rfl)
theorem dX2_mayStand_18 : decode cX2_mayStand 18 = .ok (.bipush 40, 2) := dk_16 40 (dk_at dksX2_mayStand_0 18 rfl rfl)
theorem dX2_mayStand_20 : decode cX2_mayStand 20 = .ok (.if_icmp .ge 22, 3) := dk_162 0 22 (dk_at dksX2_mayStand_0 20 rfl rfl)
theorem dX2_mayStand_23 : decode cX2_mayStand 23 = .ok (.aload_n 0, 1) := dk_42 (dk_at dksX2_mayStand_0 23 rfl rfl)
theorem dX2_mayStand_24 : decode cX2_mayStand 24 = .ok (.getfield 1050, 3) := dk_180 4 26 (dk_at dksX2_mayStand_1 0 rfl rfl)
theorem dX2_mayStand_27 : decode cX2_mayStand 27 = .ok (.ifCond .ne 13, 3) := dk_154 0 13 (dk_at dksX2_mayStand_1 3 rfl rfl)
theorem dX2_mayStand_30 : decode cX2_mayStand 30 = .ok (.iload_n 2, 1) := dk_28 (dk_at dksX2_mayStand_1 6 rfl rfl)
theorem dX2_mayStand_31 : decode cX2_mayStand 31 = .ok (.iconst 4, 1) := dk_7 (dk_at dksX2_mayStand_1 7 rfl rfl)
theorem dX2_mayStand_32 : decode cX2_mayStand 32 = .ok (.irem, 1) := dk_112 (dk_at dksX2_mayStand_1 8 rfl rfl)
theorem dX2_mayStand_33 : decode cX2_mayStand 33 = .ok (.ifCond .ne 7, 3) := dk_154 0 7 (dk_at dksX2_mayStand_1 9 rfl rfl)
theorem dX2_mayStand_36 : decode cX2_mayStand 36 = .ok (.iconst 1, 1) := dk_4 (dk_at dksX2_mayStand_1 12 rfl rfl)
theorem dX2_mayStand_37 : decode cX2_mayStand 37 = .ok (.goto 4, 3) := dk_167 0 4 (dk_at dksX2_mayStand_1 13 rfl rfl)
theorem dX2_mayStand_40 : decode cX2_mayStand 40 = .ok (.iconst 0, 1) := dk_3 (dk_at dksX2_mayStand_1 16 rfl rfl)
theorem dX2_mayStand_41 : decode cX2_mayStand 41 = .ok (.ireturn, 1) := dk_172 (dk_at dksX2_mayStand_1 17 rfl rfl)
theorem dX2_mayStand_42 : decode cX2_mayStand 42 = .ok (.iload_n 1, 1) := dk_27 (dk_at dksX2_mayStand_1 18 rfl rfl)
theorem dX2_mayStand_43 : decode cX2_mayStand 43 = .ok (.bipush 44, 2) := dk_16 44 (dk_at dksX2_mayStand_1 19 rfl rfl)
theorem dX2_mayStand_45 : decode cX2_mayStand 45 = .ok (.if_icmp .lt 15, 3) := dk_161 0 15 (dk_at dksX2_mayStand_1 21 rfl rfl)
theorem dX2_mayStand_48 : decode cX2_mayStand 48 = .ok (.iload_n 1, 1) := dk_27 (dk_at dksX2_mayStand_2 0 rfl rfl)
theorem dX2_mayStand_49 : decode cX2_mayStand 49 = .ok (.bipush 47, 2) := dk_16 47 (dk_at dksX2_mayStand_2 1 rfl rfl)
theorem dX2_mayStand_51 : decode cX2_mayStand 51 = .ok (.if_icmp .eq 9, 3) := dk_159 0 9 (dk_at dksX2_mayStand_2 3 rfl rfl)
theorem dX2_mayStand_54 : decode cX2_mayStand 54 = .ok (.iload_n 1, 1) := dk_27 (dk_at dksX2_mayStand_2 6 rfl rfl)
theorem dX2_mayStand_55 : decode cX2_mayStand 55 = .ok (.bipush 48, 2) := dk_16 48 (dk_at dksX2_mayStand_2 7 rfl rfl)
theorem dX2_mayStand_57 : decode cX2_mayStand 57 = .ok (.if_icmp .ne 5, 3) := dk_160 0 5 (dk_at dksX2_mayStand_2 9 rfl rfl)
theorem dX2_mayStand_60 : decode cX2_mayStand 60 = .ok (.iconst 1, 1) := dk_4 (dk_at dksX2_mayStand_2 12 rfl rfl)
theorem dX2_mayStand_61 : decode cX2_mayStand 61 = .ok (.ireturn, 1) := dk_172 (dk_at dksX2_mayStand_2 13 rfl rfl)
theorem dX2_mayStand_62 : decode cX2_mayStand 62 = .ok (.aload_n 0, 1) := dk_42 (dk_at dksX2_mayStand_2 14 rfl rfl)
theorem dX2_mayStand_63 : decode cX2_mayStand 63 = .ok (.getfield 1050, 3) := dk_180 4 26 (dk_at dksX2_mayStand_2 15 rfl rfl)
theorem dX2_mayStand_66 : decode cX2_mayStand 66 = .ok (.iconst 2, 1) := dk_5 (dk_at dksX2_mayStand_2 18 rfl rfl)
theorem dX2_mayStand_67 : decode cX2_mayStand 67 = .ok (.if_icmp .eq 31, 3) := dk_159 0 31 (dk_at dksX2_mayStand_2 19 rfl rfl)
theorem dX2_mayStand_70 : decode cX2_mayStand 70 = .ok (.iload_n 1, 1) := dk_27 (dk_at dksX2_mayStand_2 22 rfl rfl)
theorem dX2_mayStand_71 : decode cX2_mayStand 71 = .ok (.bipush 44, 2) := dk_16 44 (dk_at dksX2_mayStand_3 0 rfl rfl)
theorem dX2_mayStand_73 : decode cX2_mayStand 73 = .ok (.if_icmp .ne 9, 3) := dk_160 0 9 (dk_at dksX2_mayStand_3 2 rfl rfl)
theorem dX2_mayStand_76 : decode cX2_mayStand 76 = .ok (.iload_n 2, 1) := dk_28 (dk_at dksX2_mayStand_3 5 rfl rfl)
theorem dX2_mayStand_77 : decode cX2_mayStand 77 = .ok (.iconst 4, 1) := dk_7 (dk_at dksX2_mayStand_3 6 rfl rfl)
theorem dX2_mayStand_78 : decode cX2_mayStand 78 = .ok (.irem, 1) := dk_112 (dk_at dksX2_mayStand_3 7 rfl rfl)
theorem dX2_mayStand_79 : decode cX2_mayStand 79 = .ok (.ifCond .ne 19, 3) := dk_154 0 19 (dk_at dksX2_mayStand_3 8 rfl rfl)
theorem dX2_mayStand_82 : decode cX2_mayStand 82 = .ok (.iload_n 1, 1) := dk_27 (dk_at dksX2_mayStand_3 11 rfl rfl)
theorem dX2_mayStand_83 : decode cX2_mayStand 83 = .ok (.bipush 45, 2) := dk_16 45 (dk_at dksX2_mayStand_3 12 rfl rfl)
theorem dX2_mayStand_85 : decode cX2_mayStand 85 = .ok (.if_icmp .ne 9, 3) := dk_160 0 9 (dk_at dksX2_mayStand_3 14 rfl rfl)
theorem dX2_mayStand_88 : decode cX2_mayStand 88 = .ok (.iload_n 2, 1) := dk_28 (dk_at dksX2_mayStand_3 17 rfl rfl)
theorem dX2_mayStand_89 : decode cX2_mayStand 89 = .ok (.iconst 2, 1) := dk_5 (dk_at dksX2_mayStand_3 18 rfl rfl)
theorem dX2_mayStand_90 : decode cX2_mayStand 90 = .ok (.irem, 1) := dk_112 (dk_at dksX2_mayStand_3 19 rfl rfl)
theorem dX2_mayStand_91 : decode cX2_mayStand 91 = .ok (.ifCond .ne 7, 3) := dk_154 0 7 (dk_at dksX2_mayStand_3 20 rfl rfl)
theorem dX2_mayStand_94 : decode cX2_mayStand 94 = .ok (.iconst 1, 1) := dk_4 (dk_at dksX2_mayStand_3 23 rfl rfl)
theorem dX2_mayStand_95 : decode cX2_mayStand 95 = .ok (.goto 4, 3) := dk_167 0 4 (dk_at dksX2_mayStand_4 0 rfl rfl)
theorem dX2_mayStand_98 : decode cX2_mayStand 98 = .ok (.iconst 0, 1) := dk_3 (dk_at dksX2_mayStand_4 3 rfl rfl)
theorem dX2_mayStand_99 : decode cX2_mayStand 99 = .ok (.ireturn, 1) := dk_172 (dk_at dksX2_mayStand_4 4 rfl rfl)
abbrev cX2_instruction : ByteArray := prog_4_method_55_code
def yX2_instruction : MethodName := ⟨RX2, "instruction", "(II)V"⟩
def dkwX2_instruction_3 : List UInt8 := [167, 0, 9, 42, 27, 28, 182, 4, 60, 42, 182, 4, 63, 177]
abbrev dktX2_instruction_3 : List UInt8 := dkwX2_instruction_3 ++ []
def dkwX2_instruction_2 : List UInt8 := [163, 0, 12, 42, 27, 28, 182, 4, 54, 167, 0, 24, 27, 16, 28, 163, 0, 12, 42, 27, 28, 182, 4, 57]
abbrev dktX2_instruction_2 : List UInt8 := dkwX2_instruction_2 ++ dktX2_instruction_3
def dkwX2_instruction_1 : List UInt8 := [182, 4, 48, 167, 0, 54, 27, 16, 19, 163, 0, 12, 42, 27, 28, 182, 4, 51, 167, 0, 39, 27, 16, 22]
abbrev dktX2_instruction_1 : List UInt8 := dkwX2_instruction_1 ++ dktX2_instruction_2
def dkwX2_instruction_0 : List UInt8 := [27, 16, 7, 163, 0, 12, 42, 27, 28, 182, 4, 45, 167, 0, 69, 27, 16, 12, 163, 0, 12, 42, 27, 28]
abbrev dktX2_instruction_0 : List UInt8 := dkwX2_instruction_0 ++ dktX2_instruction_1
theorem dksX2_instruction_0 : cX2_instruction.data.toList.drop 0 = dktX2_instruction_0 := by decide +kernel
theorem dksX2_instruction_1 : cX2_instruction.data.toList.drop 24 = dktX2_instruction_1 := dk_seg dksX2_instruction_0 24 rfl rfl
theorem dksX2_instruction_2 : cX2_instruction.data.toList.drop 48 = dktX2_instruction_2 := dk_seg dksX2_instruction_1 24 rfl rfl
theorem dksX2_instruction_3 : cX2_instruction.data.toList.drop 72 = dktX2_instruction_3 := dk_seg dksX2_instruction_2 24 rfl rfl
theorem dX2_instruction_0 : decode cX2_instruction 0 = .ok (.iload_n 1, 1) := dk_27 (dk_at dksX2_instruction_0 0 rfl rfl)
theorem dX2_instruction_1 : decode cX2_instruction 1 = .ok (.bipush 7, 2) := dk_16 7 (dk_at dksX2_instruction_0 1 rfl rfl)
theorem dX2_instruction_3 : decode cX2_instruction 3 = .ok (.if_icmp .gt 12, 3) := dk_163 0 12 (dk_at dksX2_instruction_0 3 rfl rfl)
theorem dX2_instruction_6 : decode cX2_instruction 6 = .ok (.aload_n 0, 1) := dk_42 (dk_at dksX2_instruction_0 6 rfl rfl)
theorem dX2_instruction_7 : decode cX2_instruction 7 = .ok (.iload_n 1, 1) := dk_27 (dk_at dksX2_instruction_0 7 rfl rfl)
theorem dX2_instruction_8 : decode cX2_instruction 8 = .ok (.iload_n 2, 1) := dk_28 (dk_at dksX2_instruction_0 8 rfl rfl)
theorem dX2_instruction_9 : decode cX2_instruction 9 = .ok (.invokevirtual 1069, 3) := dk_182 4 45 (dk_at dksX2_instruction_0 9 rfl rfl)
theorem dX2_instruction_12 : decode cX2_instruction 12 = .ok (.goto 69, 3) := dk_167 0 69 (dk_at dksX2_instruction_0 12 rfl rfl)
theorem dX2_instruction_15 : decode cX2_instruction 15 = .ok (.iload_n 1, 1) := dk_27 (dk_at dksX2_instruction_0 15 rfl rfl)
theorem dX2_instruction_16 : decode cX2_instruction 16 = .ok (.bipush 12, 2) := dk_16 12 (dk_at dksX2_instruction_0 16 rfl rfl)
theorem dX2_instruction_18 : decode cX2_instruction 18 = .ok (.if_icmp .gt 12, 3) := dk_163 0 12 (dk_at dksX2_instruction_0 18 rfl rfl)
theorem dX2_instruction_21 : decode cX2_instruction 21 = .ok (.aload_n 0, 1) := dk_42 (dk_at dksX2_instruction_0 21 rfl rfl)
theorem dX2_instruction_22 : decode cX2_instruction 22 = .ok (.iload_n 1, 1) := dk_27 (dk_at dksX2_instruction_0 22 rfl rfl)
theorem dX2_instruction_23 : decode cX2_instruction 23 = .ok (.iload_n 2, 1) := dk_28 (dk_at dksX2_instruction_0 23 rfl rfl)
theorem dX2_instruction_24 : decode cX2_instruction 24 = .ok (.invokevirtual 1072, 3) := dk_182 4 48 (dk_at dksX2_instruction_1 0 rfl rfl)
theorem dX2_instruction_27 : decode cX2_instruction 27 = .ok (.goto 54, 3) := dk_167 0 54 (dk_at dksX2_instruction_1 3 rfl rfl)
theorem dX2_instruction_30 : decode cX2_instruction 30 = .ok (.iload_n 1, 1) := dk_27 (dk_at dksX2_instruction_1 6 rfl rfl)
theorem dX2_instruction_31 : decode cX2_instruction 31 = .ok (.bipush 19, 2) := dk_16 19 (dk_at dksX2_instruction_1 7 rfl rfl)
theorem dX2_instruction_33 : decode cX2_instruction 33 = .ok (.if_icmp .gt 12, 3) := dk_163 0 12 (dk_at dksX2_instruction_1 9 rfl rfl)
theorem dX2_instruction_36 : decode cX2_instruction 36 = .ok (.aload_n 0, 1) := dk_42 (dk_at dksX2_instruction_1 12 rfl rfl)
theorem dX2_instruction_37 : decode cX2_instruction 37 = .ok (.iload_n 1, 1) := dk_27 (dk_at dksX2_instruction_1 13 rfl rfl)
theorem dX2_instruction_38 : decode cX2_instruction 38 = .ok (.iload_n 2, 1) := dk_28 (dk_at dksX2_instruction_1 14 rfl rfl)
theorem dX2_instruction_39 : decode cX2_instruction 39 = .ok (.invokevirtual 1075, 3) := dk_182 4 51 (dk_at dksX2_instruction_1 15 rfl rfl)
theorem dX2_instruction_42 : decode cX2_instruction 42 = .ok (.goto 39, 3) := dk_167 0 39 (dk_at dksX2_instruction_1 18 rfl rfl)
theorem dX2_instruction_45 : decode cX2_instruction 45 = .ok (.iload_n 1, 1) := dk_27 (dk_at dksX2_instruction_1 21 rfl rfl)
theorem dX2_instruction_46 : decode cX2_instruction 46 = .ok (.bipush 22, 2) := dk_16 22 (dk_at dksX2_instruction_1 22 rfl rfl)
theorem dX2_instruction_48 : decode cX2_instruction 48 = .ok (.if_icmp .gt 12, 3) := dk_163 0 12 (dk_at dksX2_instruction_2 0 rfl rfl)
theorem dX2_instruction_51 : decode cX2_instruction 51 = .ok (.aload_n 0, 1) := dk_42 (dk_at dksX2_instruction_2 3 rfl rfl)
theorem dX2_instruction_52 : decode cX2_instruction 52 = .ok (.iload_n 1, 1) := dk_27 (dk_at dksX2_instruction_2 4 rfl rfl)
theorem dX2_instruction_53 : decode cX2_instruction 53 = .ok (.iload_n 2, 1) := dk_28 (dk_at dksX2_instruction_2 5 rfl rfl)
theorem dX2_instruction_54 : decode cX2_instruction 54 = .ok (.invokevirtual 1078, 3) := dk_182 4 54 (dk_at dksX2_instruction_2 6 rfl rfl)
theorem dX2_instruction_57 : decode cX2_instruction 57 = .ok (.goto 24, 3) := dk_167 0 24 (dk_at dksX2_instruction_2 9 rfl rfl)
theorem dX2_instruction_60 : decode cX2_instruction 60 = .ok (.iload_n 1, 1) := dk_27 (dk_at dksX2_instruction_2 12 rfl rfl)
theorem dX2_instruction_61 : decode cX2_instruction 61 = .ok (.bipush 28, 2) := dk_16 28 (dk_at dksX2_instruction_2 13 rfl rfl)
theorem dX2_instruction_63 : decode cX2_instruction 63 = .ok (.if_icmp .gt 12, 3) := dk_163 0 12 (dk_at dksX2_instruction_2 15 rfl rfl)
theorem dX2_instruction_66 : decode cX2_instruction 66 = .ok (.aload_n 0, 1) := dk_42 (dk_at dksX2_instruction_2 18 rfl rfl)
theorem dX2_instruction_67 : decode cX2_instruction 67 = .ok (.iload_n 1, 1) := dk_27 (dk_at dksX2_instruction_2 19 rfl rfl)
theorem dX2_instruction_68 : decode cX2_instruction 68 = .ok (.iload_n 2, 1) := dk_28 (dk_at dksX2_instruction_2 20 rfl rfl)
theorem dX2_instruction_69 : decode cX2_instruction 69 = .ok (.invokevirtual 1081, 3) := dk_182 4 57 (dk_at dksX2_instruction_2 21 rfl rfl)
theorem dX2_instruction_72 : decode cX2_instruction 72 = .ok (.goto 9, 3) := dk_167 0 9 (dk_at dksX2_instruction_3 0 rfl rfl)
theorem dX2_instruction_75 : decode cX2_instruction 75 = .ok (.aload_n 0, 1) := dk_42 (dk_at dksX2_instruction_3 3 rfl rfl)
theorem dX2_instruction_76 : decode cX2_instruction 76 = .ok (.iload_n 1, 1) := dk_27 (dk_at dksX2_instruction_3 4 rfl rfl)
theorem dX2_instruction_77 : decode cX2_instruction 77 = .ok (.iload_n 2, 1) := dk_28 (dk_at dksX2_instruction_3 5 rfl rfl)
theorem dX2_instruction_78 : decode cX2_instruction 78 = .ok (.invokevirtual 1084, 3) := dk_182 4 60 (dk_at dksX2_instruction_3 6 rfl rfl)
theorem dX2_instruction_81 : decode cX2_instruction 81 = .ok (.aload_n 0, 1) := dk_42 (dk_at dksX2_instruction_3 9 rfl rfl)
theorem dX2_instruction_82 : decode cX2_instruction 82 = .ok (.invokevirtual 1087, 3) := dk_182 4 63 (dk_at dksX2_instruction_3 10 rfl rfl)
theorem dX2_instruction_85 : decode cX2_instruction 85 = .ok (.return_, 1) := dk_177 (dk_at dksX2_instruction_3 13 rfl rfl)
abbrev cX2_registers : ByteArray := prog_4_method_56_code
def yX2_registers : MethodName := ⟨RX2, "registers", "(II)V"⟩
def dkwX2_registers_9 : List UInt8 := [182, 4, 42, 167, 0, 15, 42, 28, 21, 4, 29, 29, 184, 4, 74, 182, 4, 42, 177]
abbrev dktX2_registers_9 : List UInt8 := dkwX2_registers_9 ++ []
def dkwX2_registers_8 : List UInt8 := [42, 28, 3, 3, 29, 184, 4, 74, 182, 4, 42, 167, 0, 29, 42, 28, 29, 3, 3, 184, 4, 74]
abbrev dktX2_registers_8 : List UInt8 := dkwX2_registers_8 ++ dktX2_registers_9
def dkwX2_registers_7 : List UInt8 := [184, 4, 74, 182, 4, 42, 167, 0, 58, 42, 28, 29, 21, 4, 3, 184, 4, 74, 182, 4, 42, 167, 0, 43]
abbrev dktX2_registers_7 : List UInt8 := dkwX2_registers_7 ++ dktX2_registers_8
def dkwX2_registers_6 : List UInt8 := [184, 4, 74, 21, 5, 16, 6, 120, 128, 182, 4, 42, 167, 0, 74, 42, 28, 21, 5, 21, 4, 29]
abbrev dktX2_registers_6 : List UInt8 := dkwX2_registers_6 ++ dktX2_registers_7
def dkwX2_registers_5 : List UInt8 := [42, 28, 21, 4, 21, 5, 29, 184, 4, 74, 182, 4, 42, 167, 0, 95, 42, 28, 3, 21, 4, 29]
abbrev dktX2_registers_5 : List UInt8 := dkwX2_registers_5 ++ dktX2_registers_6
def dkwX2_registers_4 : List UInt8 := [170, 0, 0, 0, 0, 134, 0, 0, 0, 1, 0, 0, 0, 6, 0, 0, 0, 38, 0, 0, 0, 54, 0, 0, 0, 75, 0, 0, 0, 91, 0, 0, 0, 106, 0, 0, 0, 120]
abbrev dktX2_registers_4 : List UInt8 := dkwX2_registers_4 ++ dktX2_registers_5
def dkwX2_registers_3 : List UInt8 := [162, 0, 10, 42, 182, 4, 66, 167, 0, 4, 3, 54, 5, 27]
abbrev dktX2_registers_3 : List UInt8 := dkwX2_registers_3 ++ dktX2_registers_4
def dkwX2_registers_2 : List UInt8 := [42, 182, 4, 69, 27, 5, 160, 0, 14, 42, 9, 20, 4, 72, 182, 4, 22, 167, 0, 16, 27, 7]
abbrev dktX2_registers_2 : List UInt8 := dkwX2_registers_2 ++ dktX2_registers_3
def dkwX2_registers_1 : List UInt8 := [161, 0, 9, 27, 16, 7, 160, 0, 10, 42, 182, 4, 66, 167, 0, 4, 3, 54, 4, 27, 7, 162, 0, 7]
abbrev dktX2_registers_1 : List UInt8 := dkwX2_registers_1 ++ dktX2_registers_2
def dkwX2_registers_0 : List UInt8 := [42, 182, 4, 66, 62, 27, 8, 161, 0, 9, 27, 16, 7, 160, 0, 7, 42, 182, 4, 69, 27, 8]
abbrev dktX2_registers_0 : List UInt8 := dkwX2_registers_0 ++ dktX2_registers_1
theorem dksX2_registers_0 : cX2_registers.data.toList.drop 0 = dktX2_registers_0 := by decide +kernel
theorem dksX2_registers_1 : cX2_registers.data.toList.drop 22 = dktX2_registers_1 := dk_seg dksX2_registers_0 22 rfl rfl
theorem dksX2_registers_2 : cX2_registers.data.toList.drop 46 = dktX2_registers_2 := dk_seg dksX2_registers_1 24 rfl rfl
theorem dksX2_registers_3 : cX2_registers.data.toList.drop 68 = dktX2_registers_3 := dk_seg dksX2_registers_2 22 rfl rfl
theorem dksX2_registers_4 : cX2_registers.data.toList.drop 82 = dktX2_registers_4 := dk_seg dksX2_registers_3 14 rfl rfl
theorem dksX2_registers_5 : cX2_registers.data.toList.drop 120 = dktX2_registers_5 := dk_seg dksX2_registers_4 38 rfl rfl
theorem dksX2_registers_6 : cX2_registers.data.toList.drop 142 = dktX2_registers_6 := dk_seg dksX2_registers_5 22 rfl rfl
theorem dksX2_registers_7 : cX2_registers.data.toList.drop 164 = dktX2_registers_7 := dk_seg dksX2_registers_6 22 rfl rfl
theorem dksX2_registers_8 : cX2_registers.data.toList.drop 188 = dktX2_registers_8 := dk_seg dksX2_registers_7 24 rfl rfl
theorem dksX2_registers_9 : cX2_registers.data.toList.drop 210 = dktX2_registers_9 := dk_seg dksX2_registers_8 22 rfl rfl
theorem dX2_registers_0 : decode cX2_registers 0 = .ok (.aload_n 0, 1) := dk_42 (dk_at dksX2_registers_0 0 rfl rfl)
theorem dX2_registers_1 : decode cX2_registers 1 = .ok (.invokevirtual 1090, 3) := dk_182 4 66 (dk_at dksX2_registers_0 1 rfl rfl)
theorem dX2_registers_4 : decode cX2_registers 4 = .ok (.istore_n 3, 1) := dk_62 (dk_at dksX2_registers_0 4 rfl rfl)
theorem dX2_registers_5 : decode cX2_registers 5 = .ok (.iload_n 1, 1) := dk_27 (dk_at dksX2_registers_0 5 rfl rfl)
theorem dX2_registers_6 : decode cX2_registers 6 = .ok (.iconst 5, 1) := dk_8 (dk_at dksX2_registers_0 6 rfl rfl)
theorem dX2_registers_7 : decode cX2_registers 7 = .ok (.if_icmp .lt 9, 3) := dk_161 0 9 (dk_at dksX2_registers_0 7 rfl rfl)
theorem dX2_registers_10 : decode cX2_registers 10 = .ok (.iload_n 1, 1) := dk_27 (dk_at dksX2_registers_0 10 rfl rfl)
theorem dX2_registers_11 : decode cX2_registers 11 = .ok (.bipush 7, 2) := dk_16 7 (dk_at dksX2_registers_0 11 rfl rfl)
theorem dX2_registers_13 : decode cX2_registers 13 = .ok (.if_icmp .ne 7, 3) := dk_160 0 7 (dk_at dksX2_registers_0 13 rfl rfl)
theorem dX2_registers_16 : decode cX2_registers 16 = .ok (.aload_n 0, 1) := dk_42 (dk_at dksX2_registers_0 16 rfl rfl)
theorem dX2_registers_17 : decode cX2_registers 17 = .ok (.invokevirtual 1093, 3) := dk_182 4 69 (dk_at dksX2_registers_0 17 rfl rfl)
theorem dX2_registers_20 : decode cX2_registers 20 = .ok (.iload_n 1, 1) := dk_27 (dk_at dksX2_registers_0 20 rfl rfl)
theorem dX2_registers_21 : decode cX2_registers 21 = .ok (.iconst 5, 1) := dk_8 (dk_at dksX2_registers_0 21 rfl rfl)
theorem dX2_registers_22 : decode cX2_registers 22 = .ok (.if_icmp .lt 9, 3) := dk_161 0 9 (dk_at dksX2_registers_1 0 rfl rfl)
theorem dX2_registers_25 : decode cX2_registers 25 = .ok (.iload_n 1, 1) := dk_27 (dk_at dksX2_registers_1 3 rfl rfl)
theorem dX2_registers_26 : decode cX2_registers 26 = .ok (.bipush 7, 2) := dk_16 7 (dk_at dksX2_registers_1 4 rfl rfl)
theorem dX2_registers_28 : decode cX2_registers 28 = .ok (.if_icmp .ne 10, 3) := dk_160 0 10 (dk_at dksX2_registers_1 6 rfl rfl)
theorem dX2_registers_31 : decode cX2_registers 31 = .ok (.aload_n 0, 1) := dk_42 (dk_at dksX2_registers_1 9 rfl rfl)
theorem dX2_registers_32 : decode cX2_registers 32 = .ok (.invokevirtual 1090, 3) := dk_182 4 66 (dk_at dksX2_registers_1 10 rfl rfl)
theorem dX2_registers_35 : decode cX2_registers 35 = .ok (.goto 4, 3) := dk_167 0 4 (dk_at dksX2_registers_1 13 rfl rfl)
theorem dX2_registers_38 : decode cX2_registers 38 = .ok (.iconst 0, 1) := dk_3 (dk_at dksX2_registers_1 16 rfl rfl)
theorem dX2_registers_39 : decode cX2_registers 39 = .ok (.istore 4, 2) := dk_54 4 (dk_at dksX2_registers_1 17 rfl rfl)
theorem dX2_registers_41 : decode cX2_registers 41 = .ok (.iload_n 1, 1) := dk_27 (dk_at dksX2_registers_1 19 rfl rfl)
theorem dX2_registers_42 : decode cX2_registers 42 = .ok (.iconst 4, 1) := dk_7 (dk_at dksX2_registers_1 20 rfl rfl)
theorem dX2_registers_43 : decode cX2_registers 43 = .ok (.if_icmp .ge 7, 3) := dk_162 0 7 (dk_at dksX2_registers_1 21 rfl rfl)
theorem dX2_registers_46 : decode cX2_registers 46 = .ok (.aload_n 0, 1) := dk_42 (dk_at dksX2_registers_2 0 rfl rfl)
theorem dX2_registers_47 : decode cX2_registers 47 = .ok (.invokevirtual 1093, 3) := dk_182 4 69 (dk_at dksX2_registers_2 1 rfl rfl)
theorem dX2_registers_50 : decode cX2_registers 50 = .ok (.iload_n 1, 1) := dk_27 (dk_at dksX2_registers_2 4 rfl rfl)
theorem dX2_registers_51 : decode cX2_registers 51 = .ok (.iconst 2, 1) := dk_5 (dk_at dksX2_registers_2 5 rfl rfl)
theorem dX2_registers_52 : decode cX2_registers 52 = .ok (.if_icmp .ne 14, 3) := dk_160 0 14 (dk_at dksX2_registers_2 6 rfl rfl)
theorem dX2_registers_55 : decode cX2_registers 55 = .ok (.aload_n 0, 1) := dk_42 (dk_at dksX2_registers_2 9 rfl rfl)
theorem dX2_registers_56 : decode cX2_registers 56 = .ok (.lconst 0, 1) := dk_9 (dk_at dksX2_registers_2 10 rfl rfl)
theorem dX2_registers_57 : decode cX2_registers 57 = .ok (.ldc2_w 1096, 3) := dk_20 4 72 (dk_at dksX2_registers_2 11 rfl rfl)
theorem dX2_registers_60 : decode cX2_registers 60 = .ok (.invokevirtual 1046, 3) := dk_182 4 22 (dk_at dksX2_registers_2 14 rfl rfl)
theorem dX2_registers_63 : decode cX2_registers 63 = .ok (.goto 16, 3) := dk_167 0 16 (dk_at dksX2_registers_2 17 rfl rfl)
theorem dX2_registers_66 : decode cX2_registers 66 = .ok (.iload_n 1, 1) := dk_27 (dk_at dksX2_registers_2 20 rfl rfl)
theorem dX2_registers_67 : decode cX2_registers 67 = .ok (.iconst 4, 1) := dk_7 (dk_at dksX2_registers_2 21 rfl rfl)
theorem dX2_registers_68 : decode cX2_registers 68 = .ok (.if_icmp .ge 10, 3) := dk_162 0 10 (dk_at dksX2_registers_3 0 rfl rfl)
theorem dX2_registers_71 : decode cX2_registers 71 = .ok (.aload_n 0, 1) := dk_42 (dk_at dksX2_registers_3 3 rfl rfl)
theorem dX2_registers_72 : decode cX2_registers 72 = .ok (.invokevirtual 1090, 3) := dk_182 4 66 (dk_at dksX2_registers_3 4 rfl rfl)
theorem dX2_registers_75 : decode cX2_registers 75 = .ok (.goto 4, 3) := dk_167 0 4 (dk_at dksX2_registers_3 7 rfl rfl)
theorem dX2_registers_78 : decode cX2_registers 78 = .ok (.iconst 0, 1) := dk_3 (dk_at dksX2_registers_3 10 rfl rfl)
theorem dX2_registers_79 : decode cX2_registers 79 = .ok (.istore 5, 2) := dk_54 5 (dk_at dksX2_registers_3 11 rfl rfl)
theorem dX2_registers_81 : decode cX2_registers 81 = .ok (.iload_n 1, 1) := dk_27 (dk_at dksX2_registers_3 13 rfl rfl)
theorem dX2_registers_82 : decode cX2_registers 82 = .ok (.tableswitch 134 1 6 #[38, 54, 75, 91, 106, 120], 38) := by decide +kernel
theorem dX2_registers_120 : decode cX2_registers 120 = .ok (.aload_n 0, 1) := dk_42 (dk_at dksX2_registers_5 0 rfl rfl)
theorem dX2_registers_121 : decode cX2_registers 121 = .ok (.iload_n 2, 1) := dk_28 (dk_at dksX2_registers_5 1 rfl rfl)
theorem dX2_registers_122 : decode cX2_registers 122 = .ok (.iload 4, 2) := dk_21 4 (dk_at dksX2_registers_5 2 rfl rfl)
theorem dX2_registers_124 : decode cX2_registers 124 = .ok (.iload 5, 2) := dk_21 5 (dk_at dksX2_registers_5 4 rfl rfl)
theorem dX2_registers_126 : decode cX2_registers 126 = .ok (.iload_n 3, 1) := dk_29 (dk_at dksX2_registers_5 6 rfl rfl)
theorem dX2_registers_127 : decode cX2_registers 127 = .ok (.invokestatic 1098, 3) := dk_184 4 74 (dk_at dksX2_registers_5 7 rfl rfl)
theorem dX2_registers_130 : decode cX2_registers 130 = .ok (.invokevirtual 1066, 3) := dk_182 4 42 (dk_at dksX2_registers_5 10 rfl rfl)
theorem dX2_registers_133 : decode cX2_registers 133 = .ok (.goto 95, 3) := dk_167 0 95 (dk_at dksX2_registers_5 13 rfl rfl)
theorem dX2_registers_136 : decode cX2_registers 136 = .ok (.aload_n 0, 1) := dk_42 (dk_at dksX2_registers_5 16 rfl rfl)
theorem dX2_registers_137 : decode cX2_registers 137 = .ok (.iload_n 2, 1) := dk_28 (dk_at dksX2_registers_5 17 rfl rfl)
theorem dX2_registers_138 : decode cX2_registers 138 = .ok (.iconst 0, 1) := dk_3 (dk_at dksX2_registers_5 18 rfl rfl)
theorem dX2_registers_139 : decode cX2_registers 139 = .ok (.iload 4, 2) := dk_21 4 (dk_at dksX2_registers_5 19 rfl rfl)
theorem dX2_registers_141 : decode cX2_registers 141 = .ok (.iload_n 3, 1) := dk_29 (dk_at dksX2_registers_5 21 rfl rfl)
theorem dX2_registers_142 : decode cX2_registers 142 = .ok (.invokestatic 1098, 3) := dk_184 4 74 (dk_at dksX2_registers_6 0 rfl rfl)
theorem dX2_registers_145 : decode cX2_registers 145 = .ok (.iload 5, 2) := dk_21 5 (dk_at dksX2_registers_6 3 rfl rfl)
theorem dX2_registers_147 : decode cX2_registers 147 = .ok (.bipush 6, 2) := dk_16 6 (dk_at dksX2_registers_6 5 rfl rfl)
theorem dX2_registers_149 : decode cX2_registers 149 = .ok (.ishl, 1) := dk_120 (dk_at dksX2_registers_6 7 rfl rfl)
theorem dX2_registers_150 : decode cX2_registers 150 = .ok (.ior, 1) := dk_128 (dk_at dksX2_registers_6 8 rfl rfl)
theorem dX2_registers_151 : decode cX2_registers 151 = .ok (.invokevirtual 1066, 3) := dk_182 4 42 (dk_at dksX2_registers_6 9 rfl rfl)
theorem dX2_registers_154 : decode cX2_registers 154 = .ok (.goto 74, 3) := dk_167 0 74 (dk_at dksX2_registers_6 12 rfl rfl)
theorem dX2_registers_157 : decode cX2_registers 157 = .ok (.aload_n 0, 1) := dk_42 (dk_at dksX2_registers_6 15 rfl rfl)
theorem dX2_registers_158 : decode cX2_registers 158 = .ok (.iload_n 2, 1) := dk_28 (dk_at dksX2_registers_6 16 rfl rfl)
theorem dX2_registers_159 : decode cX2_registers 159 = .ok (.iload 5, 2) := dk_21 5 (dk_at dksX2_registers_6 17 rfl rfl)
theorem dX2_registers_161 : decode cX2_registers 161 = .ok (.iload 4, 2) := dk_21 4 (dk_at dksX2_registers_6 19 rfl rfl)
theorem dX2_registers_163 : decode cX2_registers 163 = .ok (.iload_n 3, 1) := dk_29 (dk_at dksX2_registers_6 21 rfl rfl)
theorem dX2_registers_164 : decode cX2_registers 164 = .ok (.invokestatic 1098, 3) := dk_184 4 74 (dk_at dksX2_registers_7 0 rfl rfl)
theorem dX2_registers_167 : decode cX2_registers 167 = .ok (.invokevirtual 1066, 3) := dk_182 4 42 (dk_at dksX2_registers_7 3 rfl rfl)
theorem dX2_registers_170 : decode cX2_registers 170 = .ok (.goto 58, 3) := dk_167 0 58 (dk_at dksX2_registers_7 6 rfl rfl)
theorem dX2_registers_173 : decode cX2_registers 173 = .ok (.aload_n 0, 1) := dk_42 (dk_at dksX2_registers_7 9 rfl rfl)
theorem dX2_registers_174 : decode cX2_registers 174 = .ok (.iload_n 2, 1) := dk_28 (dk_at dksX2_registers_7 10 rfl rfl)
theorem dX2_registers_175 : decode cX2_registers 175 = .ok (.iload_n 3, 1) := dk_29 (dk_at dksX2_registers_7 11 rfl rfl)
theorem dX2_registers_176 : decode cX2_registers 176 = .ok (.iload 4, 2) := dk_21 4 (dk_at dksX2_registers_7 12 rfl rfl)
theorem dX2_registers_178 : decode cX2_registers 178 = .ok (.iconst 0, 1) := dk_3 (dk_at dksX2_registers_7 14 rfl rfl)
theorem dX2_registers_179 : decode cX2_registers 179 = .ok (.invokestatic 1098, 3) := dk_184 4 74 (dk_at dksX2_registers_7 15 rfl rfl)
theorem dX2_registers_182 : decode cX2_registers 182 = .ok (.invokevirtual 1066, 3) := dk_182 4 42 (dk_at dksX2_registers_7 18 rfl rfl)
theorem dX2_registers_185 : decode cX2_registers 185 = .ok (.goto 43, 3) := dk_167 0 43 (dk_at dksX2_registers_7 21 rfl rfl)
theorem dX2_registers_188 : decode cX2_registers 188 = .ok (.aload_n 0, 1) := dk_42 (dk_at dksX2_registers_8 0 rfl rfl)
theorem dX2_registers_189 : decode cX2_registers 189 = .ok (.iload_n 2, 1) := dk_28 (dk_at dksX2_registers_8 1 rfl rfl)
theorem dX2_registers_190 : decode cX2_registers 190 = .ok (.iconst 0, 1) := dk_3 (dk_at dksX2_registers_8 2 rfl rfl)
theorem dX2_registers_191 : decode cX2_registers 191 = .ok (.iconst 0, 1) := dk_3 (dk_at dksX2_registers_8 3 rfl rfl)
theorem dX2_registers_192 : decode cX2_registers 192 = .ok (.iload_n 3, 1) := dk_29 (dk_at dksX2_registers_8 4 rfl rfl)
theorem dX2_registers_193 : decode cX2_registers 193 = .ok (.invokestatic 1098, 3) := dk_184 4 74 (dk_at dksX2_registers_8 5 rfl rfl)
theorem dX2_registers_196 : decode cX2_registers 196 = .ok (.invokevirtual 1066, 3) := dk_182 4 42 (dk_at dksX2_registers_8 8 rfl rfl)
theorem dX2_registers_199 : decode cX2_registers 199 = .ok (.goto 29, 3) := dk_167 0 29 (dk_at dksX2_registers_8 11 rfl rfl)
theorem dX2_registers_202 : decode cX2_registers 202 = .ok (.aload_n 0, 1) := dk_42 (dk_at dksX2_registers_8 14 rfl rfl)
theorem dX2_registers_203 : decode cX2_registers 203 = .ok (.iload_n 2, 1) := dk_28 (dk_at dksX2_registers_8 15 rfl rfl)
theorem dX2_registers_204 : decode cX2_registers 204 = .ok (.iload_n 3, 1) := dk_29 (dk_at dksX2_registers_8 16 rfl rfl)
theorem dX2_registers_205 : decode cX2_registers 205 = .ok (.iconst 0, 1) := dk_3 (dk_at dksX2_registers_8 17 rfl rfl)
theorem dX2_registers_206 : decode cX2_registers 206 = .ok (.iconst 0, 1) := dk_3 (dk_at dksX2_registers_8 18 rfl rfl)
theorem dX2_registers_207 : decode cX2_registers 207 = .ok (.invokestatic 1098, 3) := dk_184 4 74 (dk_at dksX2_registers_8 19 rfl rfl)
theorem dX2_registers_210 : decode cX2_registers 210 = .ok (.invokevirtual 1066, 3) := dk_182 4 42 (dk_at dksX2_registers_9 0 rfl rfl)
theorem dX2_registers_213 : decode cX2_registers 213 = .ok (.goto 15, 3) := dk_167 0 15 (dk_at dksX2_registers_9 3 rfl rfl)
theorem dX2_registers_216 : decode cX2_registers 216 = .ok (.aload_n 0, 1) := dk_42 (dk_at dksX2_registers_9 6 rfl rfl)
theorem dX2_registers_217 : decode cX2_registers 217 = .ok (.iload_n 2, 1) := dk_28 (dk_at dksX2_registers_9 7 rfl rfl)
theorem dX2_registers_218 : decode cX2_registers 218 = .ok (.iload 4, 2) := dk_21 4 (dk_at dksX2_registers_9 8 rfl rfl)
theorem dX2_registers_220 : decode cX2_registers 220 = .ok (.iload_n 3, 1) := dk_29 (dk_at dksX2_registers_9 10 rfl rfl)
theorem dX2_registers_221 : decode cX2_registers 221 = .ok (.iload_n 3, 1) := dk_29 (dk_at dksX2_registers_9 11 rfl rfl)
theorem dX2_registers_222 : decode cX2_registers 222 = .ok (.invokestatic 1098, 3) := dk_184 4 74 (dk_at dksX2_registers_9 12 rfl rfl)
theorem dX2_registers_225 : decode cX2_registers 225 = .ok (.invokevirtual 1066, 3) := dk_182 4 42 (dk_at dksX2_registers_9 15 rfl rfl)
theorem dX2_registers_228 : decode cX2_registers 228 = .ok (.return_, 1) := dk_177 (dk_at dksX2_registers_9 18 rfl rfl)
abbrev cX2_reg : ByteArray := prog_4_method_38_code
def yX2_reg : MethodName := ⟨RX2, "reg", "()I"⟩
def dkwX2_reg_1 : List UInt8 := [180, 0, 181, 60, 42, 182, 3, 230, 27, 172]
abbrev dktX2_reg_1 : List UInt8 := dkwX2_reg_1 ++ []
def dkwX2_reg_0 : List UInt8 := [42, 42, 180, 0, 119, 5, 160, 0, 7, 4, 167, 0, 4, 3, 182, 3, 226, 154, 0, 5, 3, 172, 42]
abbrev dktX2_reg_0 : List UInt8 := dkwX2_reg_0 ++ dktX2_reg_1
theorem dksX2_reg_0 : cX2_reg.data.toList.drop 0 = dktX2_reg_0 := by decide +kernel
theorem dksX2_reg_1 : cX2_reg.data.toList.drop 23 = dktX2_reg_1 := dk_seg dksX2_reg_0 23 rfl rfl
theorem dX2_reg_0 : decode cX2_reg 0 = .ok (.aload_n 0, 1) := dk_42 (dk_at dksX2_reg_0 0 rfl rfl)
theorem dX2_reg_1 : decode cX2_reg 1 = .ok (.aload_n 0, 1) := dk_42 (dk_at dksX2_reg_0 1 rfl rfl)
theorem dX2_reg_2 : decode cX2_reg 2 = .ok (.getfield 119, 3) := dk_180 0 119 (dk_at dksX2_reg_0 2 rfl rfl)
theorem dX2_reg_5 : decode cX2_reg 5 = .ok (.iconst 2, 1) := dk_5 (dk_at dksX2_reg_0 5 rfl rfl)
theorem dX2_reg_6 : decode cX2_reg 6 = .ok (.if_icmp .ne 7, 3) := dk_160 0 7 (dk_at dksX2_reg_0 6 rfl rfl)
theorem dX2_reg_9 : decode cX2_reg 9 = .ok (.iconst 1, 1) := dk_4 (dk_at dksX2_reg_0 9 rfl rfl)
theorem dX2_reg_10 : decode cX2_reg 10 = .ok (.goto 4, 3) := dk_167 0 4 (dk_at dksX2_reg_0 10 rfl rfl)
theorem dX2_reg_13 : decode cX2_reg 13 = .ok (.iconst 0, 1) := dk_3 (dk_at dksX2_reg_0 13 rfl rfl)
theorem dX2_reg_14 : decode cX2_reg 14 = .ok (.invokevirtual 994, 3) := dk_182 3 226 (dk_at dksX2_reg_0 14 rfl rfl)
theorem dX2_reg_17 : decode cX2_reg 17 = .ok (.ifCond .ne 5, 3) := dk_154 0 5 (dk_at dksX2_reg_0 17 rfl rfl)
theorem dX2_reg_20 : decode cX2_reg 20 = .ok (.iconst 0, 1) := dk_3 (dk_at dksX2_reg_0 20 rfl rfl)
theorem dX2_reg_21 : decode cX2_reg 21 = .ok (.ireturn, 1) := dk_172 (dk_at dksX2_reg_0 21 rfl rfl)
theorem dX2_reg_22 : decode cX2_reg 22 = .ok (.aload_n 0, 1) := dk_42 (dk_at dksX2_reg_0 22 rfl rfl)
theorem dX2_reg_23 : decode cX2_reg 23 = .ok (.getfield 181, 3) := dk_180 0 181 (dk_at dksX2_reg_1 0 rfl rfl)
theorem dX2_reg_26 : decode cX2_reg 26 = .ok (.istore_n 1, 1) := dk_60 (dk_at dksX2_reg_1 3 rfl rfl)
theorem dX2_reg_27 : decode cX2_reg 27 = .ok (.aload_n 0, 1) := dk_42 (dk_at dksX2_reg_1 4 rfl rfl)
theorem dX2_reg_28 : decode cX2_reg 28 = .ok (.invokevirtual 998, 3) := dk_182 3 230 (dk_at dksX2_reg_1 5 rfl rfl)
theorem dX2_reg_31 : decode cX2_reg 31 = .ok (.iload_n 1, 1) := dk_27 (dk_at dksX2_reg_1 8 rfl rfl)
theorem dX2_reg_32 : decode cX2_reg 32 = .ok (.ireturn, 1) := dk_172 (dk_at dksX2_reg_1 9 rfl rfl)
abbrev cX2_comma : ByteArray := prog_4_method_37_code
def yX2_comma : MethodName := ⟨RX2, "comma", "()V"⟩
def dkwX2_comma_0 : List UInt8 := [42, 16, 44, 182, 3, 233, 177]
abbrev dktX2_comma_0 : List UInt8 := dkwX2_comma_0 ++ []
theorem dksX2_comma_0 : cX2_comma.data.toList.drop 0 = dktX2_comma_0 := by decide +kernel
theorem dX2_comma_0 : decode cX2_comma 0 = .ok (.aload_n 0, 1) := dk_42 (dk_at dksX2_comma_0 0 rfl rfl)
theorem dX2_comma_1 : decode cX2_comma 1 = .ok (.bipush 44, 2) := dk_16 44 (dk_at dksX2_comma_0 1 rfl rfl)
theorem dX2_comma_3 : decode cX2_comma 3 = .ok (.invokevirtual 1001, 3) := dk_182 3 233 (dk_at dksX2_comma_0 3 rfl rfl)
theorem dX2_comma_6 : decode cX2_comma 6 = .ok (.return_, 1) := dk_177 (dk_at dksX2_comma_0 6 rfl rfl)
abbrev cX2_take : ByteArray := prog_4_method_36_code
def yX2_take : MethodName := ⟨RX2, "take", "(I)V"⟩
def dkwX2_take_0 : List UInt8 := [42, 42, 27, 182, 3, 223, 182, 3, 226, 153, 0, 7, 42, 182, 3, 230, 177]
abbrev dktX2_take_0 : List UInt8 := dkwX2_take_0 ++ []
theorem dksX2_take_0 : cX2_take.data.toList.drop 0 = dktX2_take_0 := by decide +kernel
theorem dX2_take_0 : decode cX2_take 0 = .ok (.aload_n 0, 1) := dk_42 (dk_at dksX2_take_0 0 rfl rfl)
theorem dX2_take_1 : decode cX2_take 1 = .ok (.aload_n 0, 1) := dk_42 (dk_at dksX2_take_0 1 rfl rfl)
theorem dX2_take_2 : decode cX2_take 2 = .ok (.iload_n 1, 1) := dk_27 (dk_at dksX2_take_0 2 rfl rfl)
theorem dX2_take_3 : decode cX2_take 3 = .ok (.invokevirtual 991, 3) := dk_182 3 223 (dk_at dksX2_take_0 3 rfl rfl)
theorem dX2_take_6 : decode cX2_take 6 = .ok (.invokevirtual 994, 3) := dk_182 3 226 (dk_at dksX2_take_0 6 rfl rfl)
theorem dX2_take_9 : decode cX2_take 9 = .ok (.ifCond .eq 7, 3) := dk_153 0 7 (dk_at dksX2_take_0 9 rfl rfl)
theorem dX2_take_12 : decode cX2_take 12 = .ok (.aload_n 0, 1) := dk_42 (dk_at dksX2_take_0 12 rfl rfl)
theorem dX2_take_13 : decode cX2_take 13 = .ok (.invokevirtual 998, 3) := dk_182 3 230 (dk_at dksX2_take_0 13 rfl rfl)
theorem dX2_take_16 : decode cX2_take 16 = .ok (.return_, 1) := dk_177 (dk_at dksX2_take_0 16 rfl rfl)
abbrev cX2_bounded : ByteArray := prog_4_method_42_code
def yX2_bounded : MethodName := ⟨RX2, "bounded", "(JJ)I"⟩
def dkwX2_bounded_1 : List UInt8 := [158, 0, 8, 42, 7, 182, 3, 220, 22, 5, 136, 172]
abbrev dktX2_bounded_1 : List UInt8 := dkwX2_bounded_1 ++ []
def dkwX2_bounded_0 : List UInt8 := [42, 182, 3, 238, 55, 5, 42, 182, 3, 217, 153, 0, 22, 22, 5, 31, 148, 155, 0, 10, 22, 5, 33, 148]
abbrev dktX2_bounded_0 : List UInt8 := dkwX2_bounded_0 ++ dktX2_bounded_1
theorem dksX2_bounded_0 : cX2_bounded.data.toList.drop 0 = dktX2_bounded_0 := by decide +kernel
theorem dksX2_bounded_1 : cX2_bounded.data.toList.drop 24 = dktX2_bounded_1 := dk_seg dksX2_bounded_0 24 rfl rfl
theorem dX2_bounded_0 : decode cX2_bounded 0 = .ok (.aload_n 0, 1) := dk_42 (dk_at dksX2_bounded_0 0 rfl rfl)
theorem dX2_bounded_1 : decode cX2_bounded 1 = .ok (.invokevirtual 1006, 3) := dk_182 3 238 (dk_at dksX2_bounded_0 1 rfl rfl)
theorem dX2_bounded_4 : decode cX2_bounded 4 = .ok (.lstore 5, 2) := dk_55 5 (dk_at dksX2_bounded_0 4 rfl rfl)
theorem dX2_bounded_6 : decode cX2_bounded 6 = .ok (.aload_n 0, 1) := dk_42 (dk_at dksX2_bounded_0 6 rfl rfl)
theorem dX2_bounded_7 : decode cX2_bounded 7 = .ok (.invokevirtual 985, 3) := dk_182 3 217 (dk_at dksX2_bounded_0 7 rfl rfl)
theorem dX2_bounded_10 : decode cX2_bounded 10 = .ok (.ifCond .eq 22, 3) := dk_153 0 22 (dk_at dksX2_bounded_0 10 rfl rfl)
theorem dX2_bounded_13 : decode cX2_bounded 13 = .ok (.lload 5, 2) := dk_22 5 (dk_at dksX2_bounded_0 13 rfl rfl)
theorem dX2_bounded_15 : decode cX2_bounded 15 = .ok (.lload_n 1, 1) := dk_31 (dk_at dksX2_bounded_0 15 rfl rfl)
theorem dX2_bounded_16 : decode cX2_bounded 16 = .ok (.lcmp, 1) := dk_148 (dk_at dksX2_bounded_0 16 rfl rfl)
theorem dX2_bounded_17 : decode cX2_bounded 17 = .ok (.ifCond .lt 10, 3) := dk_155 0 10 (dk_at dksX2_bounded_0 17 rfl rfl)
theorem dX2_bounded_20 : decode cX2_bounded 20 = .ok (.lload 5, 2) := dk_22 5 (dk_at dksX2_bounded_0 20 rfl rfl)
theorem dX2_bounded_22 : decode cX2_bounded 22 = .ok (.lload_n 3, 1) := dk_33 (dk_at dksX2_bounded_0 22 rfl rfl)
theorem dX2_bounded_23 : decode cX2_bounded 23 = .ok (.lcmp, 1) := dk_148 (dk_at dksX2_bounded_0 23 rfl rfl)
theorem dX2_bounded_24 : decode cX2_bounded 24 = .ok (.ifCond .le 8, 3) := dk_158 0 8 (dk_at dksX2_bounded_1 0 rfl rfl)
theorem dX2_bounded_27 : decode cX2_bounded 27 = .ok (.aload_n 0, 1) := dk_42 (dk_at dksX2_bounded_1 3 rfl rfl)
theorem dX2_bounded_28 : decode cX2_bounded 28 = .ok (.iconst 4, 1) := dk_7 (dk_at dksX2_bounded_1 4 rfl rfl)
theorem dX2_bounded_29 : decode cX2_bounded 29 = .ok (.invokevirtual 988, 3) := dk_182 3 220 (dk_at dksX2_bounded_1 5 rfl rfl)
theorem dX2_bounded_32 : decode cX2_bounded 32 = .ok (.lload 5, 2) := dk_22 5 (dk_at dksX2_bounded_1 8 rfl rfl)
theorem dX2_bounded_34 : decode cX2_bounded 34 = .ok (.l2i, 1) := dk_136 (dk_at dksX2_bounded_1 10 rfl rfl)
theorem dX2_bounded_35 : decode cX2_bounded 35 = .ok (.ireturn, 1) := dk_172 (dk_at dksX2_bounded_1 11 rfl rfl)
abbrev cX2_signed : ByteArray := prog_4_method_41_code
def yX2_signed : MethodName := ⟨RX2, "signed", "()J"⟩
def dkwX2_signed_3 : List UInt8 := [182, 3, 230, 32, 173]
abbrev dktX2_signed_3 : List UInt8 := dkwX2_signed_3 ++ []
def dkwX2_signed_2 : List UInt8 := [167, 0, 7, 42, 180, 0, 165, 65, 32, 20, 3, 236, 148, 156, 0, 8, 42, 4, 182, 3, 220, 42]
abbrev dktX2_signed_2 : List UInt8 := dkwX2_signed_2 ++ dktX2_signed_3
def dkwX2_signed_1 : List UInt8 := [4, 167, 0, 4, 3, 182, 3, 226, 154, 0, 5, 9, 173, 27, 153, 0, 11, 42, 180, 0, 165, 117]
abbrev dktX2_signed_1 : List UInt8 := dkwX2_signed_1 ++ dktX2_signed_2
def dkwX2_signed_0 : List UInt8 := [42, 16, 45, 182, 3, 223, 60, 27, 153, 0, 7, 42, 182, 3, 230, 42, 42, 180, 0, 119, 7, 160, 0, 7]
abbrev dktX2_signed_0 : List UInt8 := dkwX2_signed_0 ++ dktX2_signed_1
theorem dksX2_signed_0 : cX2_signed.data.toList.drop 0 = dktX2_signed_0 := by decide +kernel
theorem dksX2_signed_1 : cX2_signed.data.toList.drop 24 = dktX2_signed_1 := dk_seg dksX2_signed_0 24 rfl rfl
theorem dksX2_signed_2 : cX2_signed.data.toList.drop 46 = dktX2_signed_2 := dk_seg dksX2_signed_1 22 rfl rfl
theorem dksX2_signed_3 : cX2_signed.data.toList.drop 68 = dktX2_signed_3 := dk_seg dksX2_signed_2 22 rfl rfl
theorem dX2_signed_0 : decode cX2_signed 0 = .ok (.aload_n 0, 1) := dk_42 (dk_at dksX2_signed_0 0 rfl rfl)
theorem dX2_signed_1 : decode cX2_signed 1 = .ok (.bipush 45, 2) := dk_16 45 (dk_at dksX2_signed_0 1 rfl rfl)
theorem dX2_signed_3 : decode cX2_signed 3 = .ok (.invokevirtual 991, 3) := dk_182 3 223 (dk_at dksX2_signed_0 3 rfl rfl)
theorem dX2_signed_6 : decode cX2_signed 6 = .ok (.istore_n 1, 1) := dk_60 (dk_at dksX2_signed_0 6 rfl rfl)
theorem dX2_signed_7 : decode cX2_signed 7 = .ok (.iload_n 1, 1) := dk_27 (dk_at dksX2_signed_0 7 rfl rfl)
theorem dX2_signed_8 : decode cX2_signed 8 = .ok (.ifCond .eq 7, 3) := dk_153 0 7 (dk_at dksX2_signed_0 8 rfl rfl)
theorem dX2_signed_11 : decode cX2_signed 11 = .ok (.aload_n 0, 1) := dk_42 (dk_at dksX2_signed_0 11 rfl rfl)
theorem dX2_signed_12 : decode cX2_signed 12 = .ok (.invokevirtual 998, 3) := dk_182 3 230 (dk_at dksX2_signed_0 12 rfl rfl)
theorem dX2_signed_15 : decode cX2_signed 15 = .ok (.aload_n 0, 1) := dk_42 (dk_at dksX2_signed_0 15 rfl rfl)
theorem dX2_signed_16 : decode cX2_signed 16 = .ok (.aload_n 0, 1) := dk_42 (dk_at dksX2_signed_0 16 rfl rfl)
theorem dX2_signed_17 : decode cX2_signed 17 = .ok (.getfield 119, 3) := dk_180 0 119 (dk_at dksX2_signed_0 17 rfl rfl)
theorem dX2_signed_20 : decode cX2_signed 20 = .ok (.iconst 4, 1) := dk_7 (dk_at dksX2_signed_0 20 rfl rfl)
theorem dX2_signed_21 : decode cX2_signed 21 = .ok (.if_icmp .ne 7, 3) := dk_160 0 7 (dk_at dksX2_signed_0 21 rfl rfl)
theorem dX2_signed_24 : decode cX2_signed 24 = .ok (.iconst 1, 1) := dk_4 (dk_at dksX2_signed_1 0 rfl rfl)
theorem dX2_signed_25 : decode cX2_signed 25 = .ok (.goto 4, 3) := dk_167 0 4 (dk_at dksX2_signed_1 1 rfl rfl)
theorem dX2_signed_28 : decode cX2_signed 28 = .ok (.iconst 0, 1) := dk_3 (dk_at dksX2_signed_1 4 rfl rfl)
theorem dX2_signed_29 : decode cX2_signed 29 = .ok (.invokevirtual 994, 3) := dk_182 3 226 (dk_at dksX2_signed_1 5 rfl rfl)
theorem dX2_signed_32 : decode cX2_signed 32 = .ok (.ifCond .ne 5, 3) := dk_154 0 5 (dk_at dksX2_signed_1 8 rfl rfl)
theorem dX2_signed_35 : decode cX2_signed 35 = .ok (.lconst 0, 1) := dk_9 (dk_at dksX2_signed_1 11 rfl rfl)
theorem dX2_signed_36 : decode cX2_signed 36 = .ok (.lreturn, 1) := dk_173 (dk_at dksX2_signed_1 12 rfl rfl)
theorem dX2_signed_37 : decode cX2_signed 37 = .ok (.iload_n 1, 1) := dk_27 (dk_at dksX2_signed_1 13 rfl rfl)
theorem dX2_signed_38 : decode cX2_signed 38 = .ok (.ifCond .eq 11, 3) := dk_153 0 11 (dk_at dksX2_signed_1 14 rfl rfl)
theorem dX2_signed_41 : decode cX2_signed 41 = .ok (.aload_n 0, 1) := dk_42 (dk_at dksX2_signed_1 17 rfl rfl)
theorem dX2_signed_42 : decode cX2_signed 42 = .ok (.getfield 165, 3) := dk_180 0 165 (dk_at dksX2_signed_1 18 rfl rfl)
theorem dX2_signed_45 : decode cX2_signed 45 = .ok (.lneg, 1) := dk_117 (dk_at dksX2_signed_1 21 rfl rfl)
theorem dX2_signed_46 : decode cX2_signed 46 = .ok (.goto 7, 3) := dk_167 0 7 (dk_at dksX2_signed_2 0 rfl rfl)
theorem dX2_signed_49 : decode cX2_signed 49 = .ok (.aload_n 0, 1) := dk_42 (dk_at dksX2_signed_2 3 rfl rfl)
theorem dX2_signed_50 : decode cX2_signed 50 = .ok (.getfield 165, 3) := dk_180 0 165 (dk_at dksX2_signed_2 4 rfl rfl)
theorem dX2_signed_53 : decode cX2_signed 53 = .ok (.lstore_n 2, 1) := dk_65 (dk_at dksX2_signed_2 7 rfl rfl)
theorem dX2_signed_54 : decode cX2_signed 54 = .ok (.lload_n 2, 1) := dk_32 (dk_at dksX2_signed_2 8 rfl rfl)
theorem dX2_signed_55 : decode cX2_signed 55 = .ok (.ldc2_w 1004, 3) := dk_20 3 236 (dk_at dksX2_signed_2 9 rfl rfl)
theorem dX2_signed_58 : decode cX2_signed 58 = .ok (.lcmp, 1) := dk_148 (dk_at dksX2_signed_2 12 rfl rfl)
theorem dX2_signed_59 : decode cX2_signed 59 = .ok (.ifCond .ge 8, 3) := dk_156 0 8 (dk_at dksX2_signed_2 13 rfl rfl)
theorem dX2_signed_62 : decode cX2_signed 62 = .ok (.aload_n 0, 1) := dk_42 (dk_at dksX2_signed_2 16 rfl rfl)
theorem dX2_signed_63 : decode cX2_signed 63 = .ok (.iconst 1, 1) := dk_4 (dk_at dksX2_signed_2 17 rfl rfl)
theorem dX2_signed_64 : decode cX2_signed 64 = .ok (.invokevirtual 988, 3) := dk_182 3 220 (dk_at dksX2_signed_2 18 rfl rfl)
theorem dX2_signed_67 : decode cX2_signed 67 = .ok (.aload_n 0, 1) := dk_42 (dk_at dksX2_signed_2 21 rfl rfl)
theorem dX2_signed_68 : decode cX2_signed 68 = .ok (.invokevirtual 998, 3) := dk_182 3 230 (dk_at dksX2_signed_3 0 rfl rfl)
theorem dX2_signed_71 : decode cX2_signed 71 = .ok (.lload_n 2, 1) := dk_32 (dk_at dksX2_signed_3 3 rfl rfl)
theorem dX2_signed_72 : decode cX2_signed 72 = .ok (.lreturn, 1) := dk_173 (dk_at dksX2_signed_3 4 rfl rfl)
abbrev cX2_of : ByteArray := prog_4_method_54_code
def yX2_of : MethodName := ⟨RX2, "of", "(IIII)I"⟩
def dkwX2_of_0 : List UInt8 := [26, 27, 16, 21, 120, 128, 28, 16, 16, 120, 128, 29, 16, 11, 120, 128, 172]
abbrev dktX2_of_0 : List UInt8 := dkwX2_of_0 ++ []
theorem dksX2_of_0 : cX2_of.data.toList.drop 0 = dktX2_of_0 := by decide +kernel
theorem dX2_of_0 : decode cX2_of 0 = .ok (.iload_n 0, 1) := dk_26 (dk_at dksX2_of_0 0 rfl rfl)
theorem dX2_of_1 : decode cX2_of 1 = .ok (.iload_n 1, 1) := dk_27 (dk_at dksX2_of_0 1 rfl rfl)
theorem dX2_of_2 : decode cX2_of 2 = .ok (.bipush 21, 2) := dk_16 21 (dk_at dksX2_of_0 2 rfl rfl)
theorem dX2_of_4 : decode cX2_of 4 = .ok (.ishl, 1) := dk_120 (dk_at dksX2_of_0 4 rfl rfl)
theorem dX2_of_5 : decode cX2_of 5 = .ok (.ior, 1) := dk_128 (dk_at dksX2_of_0 5 rfl rfl)
theorem dX2_of_6 : decode cX2_of 6 = .ok (.iload_n 2, 1) := dk_28 (dk_at dksX2_of_0 6 rfl rfl)
theorem dX2_of_7 : decode cX2_of 7 = .ok (.bipush 16, 2) := dk_16 16 (dk_at dksX2_of_0 7 rfl rfl)
theorem dX2_of_9 : decode cX2_of 9 = .ok (.ishl, 1) := dk_120 (dk_at dksX2_of_0 9 rfl rfl)
theorem dX2_of_10 : decode cX2_of 10 = .ok (.ior, 1) := dk_128 (dk_at dksX2_of_0 10 rfl rfl)
theorem dX2_of_11 : decode cX2_of 11 = .ok (.iload_n 3, 1) := dk_29 (dk_at dksX2_of_0 11 rfl rfl)
theorem dX2_of_12 : decode cX2_of 12 = .ok (.bipush 11, 2) := dk_16 11 (dk_at dksX2_of_0 12 rfl rfl)
theorem dX2_of_14 : decode cX2_of 14 = .ok (.ishl, 1) := dk_120 (dk_at dksX2_of_0 14 rfl rfl)
theorem dX2_of_15 : decode cX2_of 15 = .ok (.ior, 1) := dk_128 (dk_at dksX2_of_0 15 rfl rfl)
theorem dX2_of_16 : decode cX2_of 16 = .ok (.ireturn, 1) := dk_172 (dk_at dksX2_of_0 16 rfl rfl)
abbrev cX2_emit : ByteArray := prog_4_method_51_code
def yX2_emit : MethodName := ⟨RX2, "emit", "(I)V"⟩
def dkwX2_emit_0 : List UInt8 := [42, 182, 3, 217, 153, 0, 9, 42, 27, 7, 182, 4, 34, 177]
abbrev dktX2_emit_0 : List UInt8 := dkwX2_emit_0 ++ []
theorem dksX2_emit_0 : cX2_emit.data.toList.drop 0 = dktX2_emit_0 := by decide +kernel
theorem dX2_emit_0 : decode cX2_emit 0 = .ok (.aload_n 0, 1) := dk_42 (dk_at dksX2_emit_0 0 rfl rfl)
theorem dX2_emit_1 : decode cX2_emit 1 = .ok (.invokevirtual 985, 3) := dk_182 3 217 (dk_at dksX2_emit_0 1 rfl rfl)
theorem dX2_emit_4 : decode cX2_emit 4 = .ok (.ifCond .eq 9, 3) := dk_153 0 9 (dk_at dksX2_emit_0 4 rfl rfl)
theorem dX2_emit_7 : decode cX2_emit 7 = .ok (.aload_n 0, 1) := dk_42 (dk_at dksX2_emit_0 7 rfl rfl)
theorem dX2_emit_8 : decode cX2_emit 8 = .ok (.iload_n 1, 1) := dk_27 (dk_at dksX2_emit_0 8 rfl rfl)
theorem dX2_emit_9 : decode cX2_emit 9 = .ok (.iconst 4, 1) := dk_7 (dk_at dksX2_emit_0 9 rfl rfl)
theorem dX2_emit_10 : decode cX2_emit 10 = .ok (.invokevirtual 1058, 3) := dk_182 4 34 (dk_at dksX2_emit_0 10 rfl rfl)
theorem dX2_emit_13 : decode cX2_emit 13 = .ok (.return_, 1) := dk_177 (dk_at dksX2_emit_0 13 rfl rfl)
abbrev cX2_putAll : ByteArray := prog_4_method_49_code
def yX2_putAll : MethodName := ⟨RX2, "putAll", "(II)V"⟩
def dkwX2_putAll_2 : List UInt8 := [16, 8, 29, 104, 122, 182, 4, 28, 132, 3, 255, 167, 255, 232, 177]
abbrev dktX2_putAll_2 : List UInt8 := dkwX2_putAll_2 ++ []
def dkwX2_putAll_1 : List UInt8 := [42, 16, 7, 182, 3, 220, 28, 4, 100, 62, 29, 155, 0, 26, 42, 182, 3, 217, 153, 0, 19, 42, 27]
abbrev dktX2_putAll_1 : List UInt8 := dkwX2_putAll_1 ++ dktX2_putAll_2
def dkwX2_putAll_0 : List UInt8 := [42, 180, 0, 17, 6, 42, 180, 3, 242, 104, 42, 180, 4, 26, 96, 46, 28, 96, 17, 16, 0, 164, 0, 9]
abbrev dktX2_putAll_0 : List UInt8 := dkwX2_putAll_0 ++ dktX2_putAll_1
theorem dksX2_putAll_0 : cX2_putAll.data.toList.drop 0 = dktX2_putAll_0 := by decide +kernel
theorem dksX2_putAll_1 : cX2_putAll.data.toList.drop 24 = dktX2_putAll_1 := dk_seg dksX2_putAll_0 24 rfl rfl
theorem dksX2_putAll_2 : cX2_putAll.data.toList.drop 47 = dktX2_putAll_2 := dk_seg dksX2_putAll_1 23 rfl rfl
theorem dX2_putAll_0 : decode cX2_putAll 0 = .ok (.aload_n 0, 1) := dk_42 (dk_at dksX2_putAll_0 0 rfl rfl)
theorem dX2_putAll_1 : decode cX2_putAll 1 = .ok (.getfield 17, 3) := dk_180 0 17 (dk_at dksX2_putAll_0 1 rfl rfl)
theorem dX2_putAll_4 : decode cX2_putAll 4 = .ok (.iconst 3, 1) := dk_6 (dk_at dksX2_putAll_0 4 rfl rfl)
theorem dX2_putAll_5 : decode cX2_putAll 5 = .ok (.aload_n 0, 1) := dk_42 (dk_at dksX2_putAll_0 5 rfl rfl)
theorem dX2_putAll_6 : decode cX2_putAll 6 = .ok (.getfield 1010, 3) := dk_180 3 242 (dk_at dksX2_putAll_0 6 rfl rfl)
theorem dX2_putAll_9 : decode cX2_putAll 9 = .ok (.imul, 1) := dk_104 (dk_at dksX2_putAll_0 9 rfl rfl)
theorem dX2_putAll_10 : decode cX2_putAll 10 = .ok (.aload_n 0, 1) := dk_42 (dk_at dksX2_putAll_0 10 rfl rfl)
theorem dX2_putAll_11 : decode cX2_putAll 11 = .ok (.getfield 1050, 3) := dk_180 4 26 (dk_at dksX2_putAll_0 11 rfl rfl)
theorem dX2_putAll_14 : decode cX2_putAll 14 = .ok (.iadd, 1) := dk_96 (dk_at dksX2_putAll_0 14 rfl rfl)
theorem dX2_putAll_15 : decode cX2_putAll 15 = .ok (.iaload, 1) := dk_46 (dk_at dksX2_putAll_0 15 rfl rfl)
theorem dX2_putAll_16 : decode cX2_putAll 16 = .ok (.iload_n 2, 1) := dk_28 (dk_at dksX2_putAll_0 16 rfl rfl)
theorem dX2_putAll_17 : decode cX2_putAll 17 = .ok (.iadd, 1) := dk_96 (dk_at dksX2_putAll_0 17 rfl rfl)
theorem dX2_putAll_18 : decode cX2_putAll 18 = .ok (.sipush 4096, 3) := dk_17 16 0 (dk_at dksX2_putAll_0 18 rfl rfl)
theorem dX2_putAll_21 : decode cX2_putAll 21 = .ok (.if_icmp .le 9, 3) := dk_164 0 9 (dk_at dksX2_putAll_0 21 rfl rfl)
theorem dX2_putAll_24 : decode cX2_putAll 24 = .ok (.aload_n 0, 1) := dk_42 (dk_at dksX2_putAll_1 0 rfl rfl)
theorem dX2_putAll_25 : decode cX2_putAll 25 = .ok (.bipush 7, 2) := dk_16 7 (dk_at dksX2_putAll_1 1 rfl rfl)
theorem dX2_putAll_27 : decode cX2_putAll 27 = .ok (.invokevirtual 988, 3) := dk_182 3 220 (dk_at dksX2_putAll_1 3 rfl rfl)
theorem dX2_putAll_30 : decode cX2_putAll 30 = .ok (.iload_n 2, 1) := dk_28 (dk_at dksX2_putAll_1 6 rfl rfl)
theorem dX2_putAll_31 : decode cX2_putAll 31 = .ok (.iconst 1, 1) := dk_4 (dk_at dksX2_putAll_1 7 rfl rfl)
theorem dX2_putAll_32 : decode cX2_putAll 32 = .ok (.isub, 1) := dk_100 (dk_at dksX2_putAll_1 8 rfl rfl)
theorem dX2_putAll_33 : decode cX2_putAll 33 = .ok (.istore_n 3, 1) := dk_62 (dk_at dksX2_putAll_1 9 rfl rfl)
theorem dX2_putAll_34 : decode cX2_putAll 34 = .ok (.iload_n 3, 1) := dk_29 (dk_at dksX2_putAll_1 10 rfl rfl)
theorem dX2_putAll_35 : decode cX2_putAll 35 = .ok (.ifCond .lt 26, 3) := dk_155 0 26 (dk_at dksX2_putAll_1 11 rfl rfl)
theorem dX2_putAll_38 : decode cX2_putAll 38 = .ok (.aload_n 0, 1) := dk_42 (dk_at dksX2_putAll_1 14 rfl rfl)
theorem dX2_putAll_39 : decode cX2_putAll 39 = .ok (.invokevirtual 985, 3) := dk_182 3 217 (dk_at dksX2_putAll_1 15 rfl rfl)
theorem dX2_putAll_42 : decode cX2_putAll 42 = .ok (.ifCond .eq 19, 3) := dk_153 0 19 (dk_at dksX2_putAll_1 18 rfl rfl)
theorem dX2_putAll_45 : decode cX2_putAll 45 = .ok (.aload_n 0, 1) := dk_42 (dk_at dksX2_putAll_1 21 rfl rfl)
theorem dX2_putAll_46 : decode cX2_putAll 46 = .ok (.iload_n 1, 1) := dk_27 (dk_at dksX2_putAll_1 22 rfl rfl)
theorem dX2_putAll_47 : decode cX2_putAll 47 = .ok (.bipush 8, 2) := dk_16 8 (dk_at dksX2_putAll_2 0 rfl rfl)
theorem dX2_putAll_49 : decode cX2_putAll 49 = .ok (.iload_n 3, 1) := dk_29 (dk_at dksX2_putAll_2 2 rfl rfl)
theorem dX2_putAll_50 : decode cX2_putAll 50 = .ok (.imul, 1) := dk_104 (dk_at dksX2_putAll_2 3 rfl rfl)
theorem dX2_putAll_51 : decode cX2_putAll 51 = .ok (.ishr, 1) := dk_122 (dk_at dksX2_putAll_2 4 rfl rfl)
theorem dX2_putAll_52 : decode cX2_putAll 52 = .ok (.invokevirtual 1052, 3) := dk_182 4 28 (dk_at dksX2_putAll_2 5 rfl rfl)
theorem dX2_putAll_55 : decode cX2_putAll 55 = .ok (.iinc 3 (-1), 3) := dk_132 3 255 (dk_at dksX2_putAll_2 8 rfl rfl)
theorem dX2_putAll_58 : decode cX2_putAll 58 = .ok (.goto (-24), 3) := dk_167 255 232 (dk_at dksX2_putAll_2 11 rfl rfl)
theorem dX2_putAll_61 : decode cX2_putAll 61 = .ok (.return_, 1) := dk_177 (dk_at dksX2_putAll_2 14 rfl rfl)
abbrev cX2_put : ByteArray := prog_4_method_48_code
def yX2_put : MethodName := ⟨RX2, "put", "(I)V"⟩
def dkwX2_put_3 : List UInt8 := [28, 92, 46, 4, 96, 79, 177]
abbrev dktX2_put_3 : List UInt8 := dkwX2_put_3 ++ []
def dkwX2_put_2 : List UInt8 := [180, 3, 242, 104, 42, 180, 4, 26, 96, 104, 42, 180, 0, 17, 28, 46, 96, 27, 145, 84, 42, 180, 0, 17]
abbrev dktX2_put_2 : List UInt8 := dkwX2_put_2 ++ dktX2_put_3
def dkwX2_put_1 : List UInt8 := [42, 16, 7, 182, 3, 220, 177, 42, 180, 4, 26, 5, 159, 0, 32, 42, 180, 0, 14, 17, 16, 0, 5, 42]
abbrev dktX2_put_1 : List UInt8 := dkwX2_put_1 ++ dktX2_put_2
def dkwX2_put_0 : List UInt8 := [6, 42, 180, 3, 242, 104, 42, 180, 4, 26, 96, 61, 42, 180, 0, 17, 28, 46, 17, 16, 0, 160, 0, 10]
abbrev dktX2_put_0 : List UInt8 := dkwX2_put_0 ++ dktX2_put_1
theorem dksX2_put_0 : cX2_put.data.toList.drop 0 = dktX2_put_0 := by decide +kernel
theorem dksX2_put_1 : cX2_put.data.toList.drop 24 = dktX2_put_1 := dk_seg dksX2_put_0 24 rfl rfl
theorem dksX2_put_2 : cX2_put.data.toList.drop 48 = dktX2_put_2 := dk_seg dksX2_put_1 24 rfl rfl
theorem dksX2_put_3 : cX2_put.data.toList.drop 72 = dktX2_put_3 := dk_seg dksX2_put_2 24 rfl rfl
theorem dX2_put_0 : decode cX2_put 0 = .ok (.iconst 3, 1) := dk_6 (dk_at dksX2_put_0 0 rfl rfl)
theorem dX2_put_1 : decode cX2_put 1 = .ok (.aload_n 0, 1) := dk_42 (dk_at dksX2_put_0 1 rfl rfl)
theorem dX2_put_2 : decode cX2_put 2 = .ok (.getfield 1010, 3) := dk_180 3 242 (dk_at dksX2_put_0 2 rfl rfl)
theorem dX2_put_5 : decode cX2_put 5 = .ok (.imul, 1) := dk_104 (dk_at dksX2_put_0 5 rfl rfl)
theorem dX2_put_6 : decode cX2_put 6 = .ok (.aload_n 0, 1) := dk_42 (dk_at dksX2_put_0 6 rfl rfl)
theorem dX2_put_7 : decode cX2_put 7 = .ok (.getfield 1050, 3) := dk_180 4 26 (dk_at dksX2_put_0 7 rfl rfl)
theorem dX2_put_10 : decode cX2_put 10 = .ok (.iadd, 1) := dk_96 (dk_at dksX2_put_0 10 rfl rfl)
theorem dX2_put_11 : decode cX2_put 11 = .ok (.istore_n 2, 1) := dk_61 (dk_at dksX2_put_0 11 rfl rfl)
theorem dX2_put_12 : decode cX2_put 12 = .ok (.aload_n 0, 1) := dk_42 (dk_at dksX2_put_0 12 rfl rfl)
theorem dX2_put_13 : decode cX2_put 13 = .ok (.getfield 17, 3) := dk_180 0 17 (dk_at dksX2_put_0 13 rfl rfl)
theorem dX2_put_16 : decode cX2_put 16 = .ok (.iload_n 2, 1) := dk_28 (dk_at dksX2_put_0 16 rfl rfl)
theorem dX2_put_17 : decode cX2_put 17 = .ok (.iaload, 1) := dk_46 (dk_at dksX2_put_0 17 rfl rfl)
theorem dX2_put_18 : decode cX2_put 18 = .ok (.sipush 4096, 3) := dk_17 16 0 (dk_at dksX2_put_0 18 rfl rfl)
theorem dX2_put_21 : decode cX2_put 21 = .ok (.if_icmp .ne 10, 3) := dk_160 0 10 (dk_at dksX2_put_0 21 rfl rfl)
theorem dX2_put_24 : decode cX2_put 24 = .ok (.aload_n 0, 1) := dk_42 (dk_at dksX2_put_1 0 rfl rfl)
theorem dX2_put_25 : decode cX2_put 25 = .ok (.bipush 7, 2) := dk_16 7 (dk_at dksX2_put_1 1 rfl rfl)
theorem dX2_put_27 : decode cX2_put 27 = .ok (.invokevirtual 988, 3) := dk_182 3 220 (dk_at dksX2_put_1 3 rfl rfl)
theorem dX2_put_30 : decode cX2_put 30 = .ok (.return_, 1) := dk_177 (dk_at dksX2_put_1 6 rfl rfl)
theorem dX2_put_31 : decode cX2_put 31 = .ok (.aload_n 0, 1) := dk_42 (dk_at dksX2_put_1 7 rfl rfl)
theorem dX2_put_32 : decode cX2_put 32 = .ok (.getfield 1050, 3) := dk_180 4 26 (dk_at dksX2_put_1 8 rfl rfl)
theorem dX2_put_35 : decode cX2_put 35 = .ok (.iconst 2, 1) := dk_5 (dk_at dksX2_put_1 11 rfl rfl)
theorem dX2_put_36 : decode cX2_put 36 = .ok (.if_icmp .eq 32, 3) := dk_159 0 32 (dk_at dksX2_put_1 12 rfl rfl)
theorem dX2_put_39 : decode cX2_put 39 = .ok (.aload_n 0, 1) := dk_42 (dk_at dksX2_put_1 15 rfl rfl)
theorem dX2_put_40 : decode cX2_put 40 = .ok (.getfield 14, 3) := dk_180 0 14 (dk_at dksX2_put_1 16 rfl rfl)
theorem dX2_put_43 : decode cX2_put 43 = .ok (.sipush 4096, 3) := dk_17 16 0 (dk_at dksX2_put_1 19 rfl rfl)
theorem dX2_put_46 : decode cX2_put 46 = .ok (.iconst 2, 1) := dk_5 (dk_at dksX2_put_1 22 rfl rfl)
theorem dX2_put_47 : decode cX2_put 47 = .ok (.aload_n 0, 1) := dk_42 (dk_at dksX2_put_1 23 rfl rfl)
theorem dX2_put_48 : decode cX2_put 48 = .ok (.getfield 1010, 3) := dk_180 3 242 (dk_at dksX2_put_2 0 rfl rfl)
theorem dX2_put_51 : decode cX2_put 51 = .ok (.imul, 1) := dk_104 (dk_at dksX2_put_2 3 rfl rfl)
theorem dX2_put_52 : decode cX2_put 52 = .ok (.aload_n 0, 1) := dk_42 (dk_at dksX2_put_2 4 rfl rfl)
theorem dX2_put_53 : decode cX2_put 53 = .ok (.getfield 1050, 3) := dk_180 4 26 (dk_at dksX2_put_2 5 rfl rfl)
theorem dX2_put_56 : decode cX2_put 56 = .ok (.iadd, 1) := dk_96 (dk_at dksX2_put_2 8 rfl rfl)
theorem dX2_put_57 : decode cX2_put 57 = .ok (.imul, 1) := dk_104 (dk_at dksX2_put_2 9 rfl rfl)
theorem dX2_put_58 : decode cX2_put 58 = .ok (.aload_n 0, 1) := dk_42 (dk_at dksX2_put_2 10 rfl rfl)
theorem dX2_put_59 : decode cX2_put 59 = .ok (.getfield 17, 3) := dk_180 0 17 (dk_at dksX2_put_2 11 rfl rfl)
theorem dX2_put_62 : decode cX2_put 62 = .ok (.iload_n 2, 1) := dk_28 (dk_at dksX2_put_2 14 rfl rfl)
theorem dX2_put_63 : decode cX2_put 63 = .ok (.iaload, 1) := dk_46 (dk_at dksX2_put_2 15 rfl rfl)
theorem dX2_put_64 : decode cX2_put 64 = .ok (.iadd, 1) := dk_96 (dk_at dksX2_put_2 16 rfl rfl)
theorem dX2_put_65 : decode cX2_put 65 = .ok (.iload_n 1, 1) := dk_27 (dk_at dksX2_put_2 17 rfl rfl)
theorem dX2_put_66 : decode cX2_put 66 = .ok (.i2b, 1) := dk_145 (dk_at dksX2_put_2 18 rfl rfl)
theorem dX2_put_67 : decode cX2_put 67 = .ok (.bastore, 1) := dk_84 (dk_at dksX2_put_2 19 rfl rfl)
theorem dX2_put_68 : decode cX2_put 68 = .ok (.aload_n 0, 1) := dk_42 (dk_at dksX2_put_2 20 rfl rfl)
theorem dX2_put_69 : decode cX2_put 69 = .ok (.getfield 17, 3) := dk_180 0 17 (dk_at dksX2_put_2 21 rfl rfl)
theorem dX2_put_72 : decode cX2_put 72 = .ok (.iload_n 2, 1) := dk_28 (dk_at dksX2_put_3 0 rfl rfl)
theorem dX2_put_73 : decode cX2_put 73 = .ok (.dup2, 1) := dk_92 (dk_at dksX2_put_3 1 rfl rfl)
theorem dX2_put_74 : decode cX2_put 74 = .ok (.iaload, 1) := dk_46 (dk_at dksX2_put_3 2 rfl rfl)
theorem dX2_put_75 : decode cX2_put 75 = .ok (.iconst 1, 1) := dk_4 (dk_at dksX2_put_3 3 rfl rfl)
theorem dX2_put_76 : decode cX2_put 76 = .ok (.iadd, 1) := dk_96 (dk_at dksX2_put_3 4 rfl rfl)
theorem dX2_put_77 : decode cX2_put 77 = .ok (.iastore, 1) := dk_79 (dk_at dksX2_put_3 5 rfl rfl)
theorem dX2_put_78 : decode cX2_put 78 = .ok (.return_, 1) := dk_177 (dk_at dksX2_put_3 6 rfl rfl)
abbrev cX2_halves : ByteArray := prog_4_method_57_code
def yX2_halves : MethodName := ⟨RX2, "halves", "(II)V"⟩
def dkwX2_halves_5 : List UInt8 := [182, 4, 94, 177]
abbrev dktX2_halves_5 : List UInt8 := dkwX2_halves_5 ++ []
def dkwX2_halves_4 : List UInt8 := [21, 4, 29, 3, 184, 4, 74, 42, 180, 4, 15, 128, 42, 180, 4, 11, 42, 180, 3, 248, 42, 180, 3, 251]
abbrev dktX2_halves_4 : List UInt8 := dkwX2_halves_4 ++ dktX2_halves_5
def dkwX2_halves_3 : List UInt8 := [20, 4, 84, 20, 4, 86, 3, 182, 4, 88, 167, 0, 12, 42, 9, 20, 4, 92, 4, 182, 4, 88, 42, 28]
abbrev dktX2_halves_3 : List UInt8 := dkwX2_halves_3 ++ dktX2_halves_4
def dkwX2_halves_2 : List UInt8 := [167, 0, 4, 3, 54, 4, 27, 16, 10, 162, 0, 7, 42, 182, 4, 69, 27, 16, 8, 160, 0, 17, 42]
abbrev dktX2_halves_2 : List UInt8 := dkwX2_halves_2 ++ dktX2_halves_3
def dkwX2_halves_1 : List UInt8 := [16, 10, 164, 0, 10, 42, 28, 29, 182, 4, 81, 177, 27, 16, 10, 162, 0, 10, 42, 182, 4, 66]
abbrev dktX2_halves_1 : List UInt8 := dkwX2_halves_1 ++ dktX2_halves_2
def dkwX2_halves_0 : List UInt8 := [27, 16, 12, 160, 0, 10, 42, 182, 4, 78, 167, 0, 7, 42, 182, 4, 66, 62, 42, 182, 4, 69, 27]
abbrev dktX2_halves_0 : List UInt8 := dkwX2_halves_0 ++ dktX2_halves_1
theorem dksX2_halves_0 : cX2_halves.data.toList.drop 0 = dktX2_halves_0 := by decide +kernel
theorem dksX2_halves_1 : cX2_halves.data.toList.drop 23 = dktX2_halves_1 := dk_seg dksX2_halves_0 23 rfl rfl
theorem dksX2_halves_2 : cX2_halves.data.toList.drop 45 = dktX2_halves_2 := dk_seg dksX2_halves_1 22 rfl rfl
theorem dksX2_halves_3 : cX2_halves.data.toList.drop 68 = dktX2_halves_3 := dk_seg dksX2_halves_2 23 rfl rfl
theorem dksX2_halves_4 : cX2_halves.data.toList.drop 92 = dktX2_halves_4 := dk_seg dksX2_halves_3 24 rfl rfl
theorem dksX2_halves_5 : cX2_halves.data.toList.drop 116 = dktX2_halves_5 := dk_seg dksX2_halves_4 24 rfl rfl
theorem dX2_halves_0 : decode cX2_halves 0 = .ok (.iload_n 1, 1) := dk_27 (dk_at dksX2_halves_0 0 rfl rfl)
theorem dX2_halves_1 : decode cX2_halves 1 = .ok (.bipush 12, 2) := dk_16 12 (dk_at dksX2_halves_0 1 rfl rfl)
theorem dX2_halves_3 : decode cX2_halves 3 = .ok (.if_icmp .ne 10, 3) := dk_160 0 10 (dk_at dksX2_halves_0 3 rfl rfl)
theorem dX2_halves_6 : decode cX2_halves 6 = .ok (.aload_n 0, 1) := dk_42 (dk_at dksX2_halves_0 6 rfl rfl)
theorem dX2_halves_7 : decode cX2_halves 7 = .ok (.invokevirtual 1102, 3) := dk_182 4 78 (dk_at dksX2_halves_0 7 rfl rfl)
theorem dX2_halves_10 : decode cX2_halves 10 = .ok (.goto 7, 3) := dk_167 0 7 (dk_at dksX2_halves_0 10 rfl rfl)
theorem dX2_halves_13 : decode cX2_halves 13 = .ok (.aload_n 0, 1) := dk_42 (dk_at dksX2_halves_0 13 rfl rfl)
theorem dX2_halves_14 : decode cX2_halves 14 = .ok (.invokevirtual 1090, 3) := dk_182 4 66 (dk_at dksX2_halves_0 14 rfl rfl)
theorem dX2_halves_17 : decode cX2_halves 17 = .ok (.istore_n 3, 1) := dk_62 (dk_at dksX2_halves_0 17 rfl rfl)
theorem dX2_halves_18 : decode cX2_halves 18 = .ok (.aload_n 0, 1) := dk_42 (dk_at dksX2_halves_0 18 rfl rfl)
theorem dX2_halves_19 : decode cX2_halves 19 = .ok (.invokevirtual 1093, 3) := dk_182 4 69 (dk_at dksX2_halves_0 19 rfl rfl)
theorem dX2_halves_22 : decode cX2_halves 22 = .ok (.iload_n 1, 1) := dk_27 (dk_at dksX2_halves_0 22 rfl rfl)
theorem dX2_halves_23 : decode cX2_halves 23 = .ok (.bipush 10, 2) := dk_16 10 (dk_at dksX2_halves_1 0 rfl rfl)
theorem dX2_halves_25 : decode cX2_halves 25 = .ok (.if_icmp .le 10, 3) := dk_164 0 10 (dk_at dksX2_halves_1 2 rfl rfl)
theorem dX2_halves_28 : decode cX2_halves 28 = .ok (.aload_n 0, 1) := dk_42 (dk_at dksX2_halves_1 5 rfl rfl)
theorem dX2_halves_29 : decode cX2_halves 29 = .ok (.iload_n 2, 1) := dk_28 (dk_at dksX2_halves_1 6 rfl rfl)
theorem dX2_halves_30 : decode cX2_halves 30 = .ok (.iload_n 3, 1) := dk_29 (dk_at dksX2_halves_1 7 rfl rfl)
theorem dX2_halves_31 : decode cX2_halves 31 = .ok (.invokevirtual 1105, 3) := dk_182 4 81 (dk_at dksX2_halves_1 8 rfl rfl)
theorem dX2_halves_34 : decode cX2_halves 34 = .ok (.return_, 1) := dk_177 (dk_at dksX2_halves_1 11 rfl rfl)
theorem dX2_halves_35 : decode cX2_halves 35 = .ok (.iload_n 1, 1) := dk_27 (dk_at dksX2_halves_1 12 rfl rfl)
theorem dX2_halves_36 : decode cX2_halves 36 = .ok (.bipush 10, 2) := dk_16 10 (dk_at dksX2_halves_1 13 rfl rfl)
theorem dX2_halves_38 : decode cX2_halves 38 = .ok (.if_icmp .ge 10, 3) := dk_162 0 10 (dk_at dksX2_halves_1 15 rfl rfl)
theorem dX2_halves_41 : decode cX2_halves 41 = .ok (.aload_n 0, 1) := dk_42 (dk_at dksX2_halves_1 18 rfl rfl)
theorem dX2_halves_42 : decode cX2_halves 42 = .ok (.invokevirtual 1090, 3) := dk_182 4 66 (dk_at dksX2_halves_1 19 rfl rfl)
theorem dX2_halves_45 : decode cX2_halves 45 = .ok (.goto 4, 3) := dk_167 0 4 (dk_at dksX2_halves_2 0 rfl rfl)
theorem dX2_halves_48 : decode cX2_halves 48 = .ok (.iconst 0, 1) := dk_3 (dk_at dksX2_halves_2 3 rfl rfl)
theorem dX2_halves_49 : decode cX2_halves 49 = .ok (.istore 4, 2) := dk_54 4 (dk_at dksX2_halves_2 4 rfl rfl)
theorem dX2_halves_51 : decode cX2_halves 51 = .ok (.iload_n 1, 1) := dk_27 (dk_at dksX2_halves_2 6 rfl rfl)
theorem dX2_halves_52 : decode cX2_halves 52 = .ok (.bipush 10, 2) := dk_16 10 (dk_at dksX2_halves_2 7 rfl rfl)
theorem dX2_halves_54 : decode cX2_halves 54 = .ok (.if_icmp .ge 7, 3) := dk_162 0 7 (dk_at dksX2_halves_2 9 rfl rfl)
theorem dX2_halves_57 : decode cX2_halves 57 = .ok (.aload_n 0, 1) := dk_42 (dk_at dksX2_halves_2 12 rfl rfl)
theorem dX2_halves_58 : decode cX2_halves 58 = .ok (.invokevirtual 1093, 3) := dk_182 4 69 (dk_at dksX2_halves_2 13 rfl rfl)
theorem dX2_halves_61 : decode cX2_halves 61 = .ok (.iload_n 1, 1) := dk_27 (dk_at dksX2_halves_2 16 rfl rfl)
theorem dX2_halves_62 : decode cX2_halves 62 = .ok (.bipush 8, 2) := dk_16 8 (dk_at dksX2_halves_2 17 rfl rfl)
theorem dX2_halves_64 : decode cX2_halves 64 = .ok (.if_icmp .ne 17, 3) := dk_160 0 17 (dk_at dksX2_halves_2 19 rfl rfl)
theorem dX2_halves_67 : decode cX2_halves 67 = .ok (.aload_n 0, 1) := dk_42 (dk_at dksX2_halves_2 22 rfl rfl)
theorem dX2_halves_68 : decode cX2_halves 68 = .ok (.ldc2_w 1108, 3) := dk_20 4 84 (dk_at dksX2_halves_3 0 rfl rfl)
theorem dX2_halves_71 : decode cX2_halves 71 = .ok (.ldc2_w 1110, 3) := dk_20 4 86 (dk_at dksX2_halves_3 3 rfl rfl)
theorem dX2_halves_74 : decode cX2_halves 74 = .ok (.iconst 0, 1) := dk_3 (dk_at dksX2_halves_3 6 rfl rfl)
theorem dX2_halves_75 : decode cX2_halves 75 = .ok (.invokevirtual 1112, 3) := dk_182 4 88 (dk_at dksX2_halves_3 7 rfl rfl)
theorem dX2_halves_78 : decode cX2_halves 78 = .ok (.goto 12, 3) := dk_167 0 12 (dk_at dksX2_halves_3 10 rfl rfl)
theorem dX2_halves_81 : decode cX2_halves 81 = .ok (.aload_n 0, 1) := dk_42 (dk_at dksX2_halves_3 13 rfl rfl)
theorem dX2_halves_82 : decode cX2_halves 82 = .ok (.lconst 0, 1) := dk_9 (dk_at dksX2_halves_3 14 rfl rfl)
theorem dX2_halves_83 : decode cX2_halves 83 = .ok (.ldc2_w 1116, 3) := dk_20 4 92 (dk_at dksX2_halves_3 15 rfl rfl)
theorem dX2_halves_86 : decode cX2_halves 86 = .ok (.iconst 1, 1) := dk_4 (dk_at dksX2_halves_3 18 rfl rfl)
theorem dX2_halves_87 : decode cX2_halves 87 = .ok (.invokevirtual 1112, 3) := dk_182 4 88 (dk_at dksX2_halves_3 19 rfl rfl)
theorem dX2_halves_90 : decode cX2_halves 90 = .ok (.aload_n 0, 1) := dk_42 (dk_at dksX2_halves_3 22 rfl rfl)
theorem dX2_halves_91 : decode cX2_halves 91 = .ok (.iload_n 2, 1) := dk_28 (dk_at dksX2_halves_3 23 rfl rfl)
theorem dX2_halves_92 : decode cX2_halves 92 = .ok (.iload 4, 2) := dk_21 4 (dk_at dksX2_halves_4 0 rfl rfl)
theorem dX2_halves_94 : decode cX2_halves 94 = .ok (.iload_n 3, 1) := dk_29 (dk_at dksX2_halves_4 2 rfl rfl)
theorem dX2_halves_95 : decode cX2_halves 95 = .ok (.iconst 0, 1) := dk_3 (dk_at dksX2_halves_4 3 rfl rfl)
theorem dX2_halves_96 : decode cX2_halves 96 = .ok (.invokestatic 1098, 3) := dk_184 4 74 (dk_at dksX2_halves_4 4 rfl rfl)
theorem dX2_halves_99 : decode cX2_halves 99 = .ok (.aload_n 0, 1) := dk_42 (dk_at dksX2_halves_4 7 rfl rfl)
theorem dX2_halves_100 : decode cX2_halves 100 = .ok (.getfield 1039, 3) := dk_180 4 15 (dk_at dksX2_halves_4 8 rfl rfl)
theorem dX2_halves_103 : decode cX2_halves 103 = .ok (.ior, 1) := dk_128 (dk_at dksX2_halves_4 11 rfl rfl)
theorem dX2_halves_104 : decode cX2_halves 104 = .ok (.aload_n 0, 1) := dk_42 (dk_at dksX2_halves_4 12 rfl rfl)
theorem dX2_halves_105 : decode cX2_halves 105 = .ok (.getfield 1035, 3) := dk_180 4 11 (dk_at dksX2_halves_4 13 rfl rfl)
theorem dX2_halves_108 : decode cX2_halves 108 = .ok (.aload_n 0, 1) := dk_42 (dk_at dksX2_halves_4 16 rfl rfl)
theorem dX2_halves_109 : decode cX2_halves 109 = .ok (.getfield 1016, 3) := dk_180 3 248 (dk_at dksX2_halves_4 17 rfl rfl)
theorem dX2_halves_112 : decode cX2_halves 112 = .ok (.aload_n 0, 1) := dk_42 (dk_at dksX2_halves_4 20 rfl rfl)
theorem dX2_halves_113 : decode cX2_halves 113 = .ok (.getfield 1019, 3) := dk_180 3 251 (dk_at dksX2_halves_4 21 rfl rfl)
theorem dX2_halves_116 : decode cX2_halves 116 = .ok (.invokevirtual 1118, 3) := dk_182 4 94 (dk_at dksX2_halves_5 0 rfl rfl)
theorem dX2_halves_119 : decode cX2_halves 119 = .ok (.return_, 1) := dk_177 (dk_at dksX2_halves_5 3 rfl rfl)
abbrev cX2_frac : ByteArray := prog_4_method_39_code
def yX2_frac : MethodName := ⟨RX2, "frac", "()I"⟩
def dkwX2_frac_1 : List UInt8 := [180, 0, 181, 60, 42, 182, 3, 230, 27, 172]
abbrev dktX2_frac_1 : List UInt8 := dkwX2_frac_1 ++ []
def dkwX2_frac_0 : List UInt8 := [42, 42, 180, 0, 119, 6, 160, 0, 7, 4, 167, 0, 4, 3, 182, 3, 226, 154, 0, 5, 3, 172, 42]
abbrev dktX2_frac_0 : List UInt8 := dkwX2_frac_0 ++ dktX2_frac_1
theorem dksX2_frac_0 : cX2_frac.data.toList.drop 0 = dktX2_frac_0 := by decide +kernel
theorem dksX2_frac_1 : cX2_frac.data.toList.drop 23 = dktX2_frac_1 := dk_seg dksX2_frac_0 23 rfl rfl
theorem dX2_frac_0 : decode cX2_frac 0 = .ok (.aload_n 0, 1) := dk_42 (dk_at dksX2_frac_0 0 rfl rfl)
theorem dX2_frac_1 : decode cX2_frac 1 = .ok (.aload_n 0, 1) := dk_42 (dk_at dksX2_frac_0 1 rfl rfl)
theorem dX2_frac_2 : decode cX2_frac 2 = .ok (.getfield 119, 3) := dk_180 0 119 (dk_at dksX2_frac_0 2 rfl rfl)
theorem dX2_frac_5 : decode cX2_frac 5 = .ok (.iconst 3, 1) := dk_6 (dk_at dksX2_frac_0 5 rfl rfl)
theorem dX2_frac_6 : decode cX2_frac 6 = .ok (.if_icmp .ne 7, 3) := dk_160 0 7 (dk_at dksX2_frac_0 6 rfl rfl)
theorem dX2_frac_9 : decode cX2_frac 9 = .ok (.iconst 1, 1) := dk_4 (dk_at dksX2_frac_0 9 rfl rfl)
theorem dX2_frac_10 : decode cX2_frac 10 = .ok (.goto 4, 3) := dk_167 0 4 (dk_at dksX2_frac_0 10 rfl rfl)
theorem dX2_frac_13 : decode cX2_frac 13 = .ok (.iconst 0, 1) := dk_3 (dk_at dksX2_frac_0 13 rfl rfl)
theorem dX2_frac_14 : decode cX2_frac 14 = .ok (.invokevirtual 994, 3) := dk_182 3 226 (dk_at dksX2_frac_0 14 rfl rfl)
theorem dX2_frac_17 : decode cX2_frac 17 = .ok (.ifCond .ne 5, 3) := dk_154 0 5 (dk_at dksX2_frac_0 17 rfl rfl)
theorem dX2_frac_20 : decode cX2_frac 20 = .ok (.iconst 0, 1) := dk_3 (dk_at dksX2_frac_0 20 rfl rfl)
theorem dX2_frac_21 : decode cX2_frac 21 = .ok (.ireturn, 1) := dk_172 (dk_at dksX2_frac_0 21 rfl rfl)
theorem dX2_frac_22 : decode cX2_frac 22 = .ok (.aload_n 0, 1) := dk_42 (dk_at dksX2_frac_0 22 rfl rfl)
theorem dX2_frac_23 : decode cX2_frac 23 = .ok (.getfield 181, 3) := dk_180 0 181 (dk_at dksX2_frac_1 0 rfl rfl)
theorem dX2_frac_26 : decode cX2_frac 26 = .ok (.istore_n 1, 1) := dk_60 (dk_at dksX2_frac_1 3 rfl rfl)
theorem dX2_frac_27 : decode cX2_frac 27 = .ok (.aload_n 0, 1) := dk_42 (dk_at dksX2_frac_1 4 rfl rfl)
theorem dX2_frac_28 : decode cX2_frac 28 = .ok (.invokevirtual 998, 3) := dk_182 3 230 (dk_at dksX2_frac_1 5 rfl rfl)
theorem dX2_frac_31 : decode cX2_frac 31 = .ok (.iload_n 1, 1) := dk_27 (dk_at dksX2_frac_1 8 rfl rfl)
theorem dX2_frac_32 : decode cX2_frac 32 = .ok (.ireturn, 1) := dk_172 (dk_at dksX2_frac_1 9 rfl rfl)
abbrev cX2_memory : ByteArray := prog_4_method_58_code
def yX2_memory : MethodName := ⟨RX2, "memory", "(II)V"⟩
def dkwX2_memory_6 : List UInt8 := [21, 4, 182, 4, 94, 177]
abbrev dktX2_memory_6 : List UInt8 := dkwX2_memory_6 ++ []
def dkwX2_memory_5 : List UInt8 := [16, 41, 182, 3, 233, 42, 27, 21, 5, 28, 3, 184, 4, 74, 42, 180, 4, 15, 128, 42, 180, 4, 11, 29]
abbrev dktX2_memory_5 : List UInt8 := dkwX2_memory_5 ++ dktX2_memory_6
def dkwX2_memory_4 : List UInt8 := [180, 3, 248, 62, 42, 180, 3, 251, 54, 4, 42, 16, 40, 182, 3, 233, 42, 182, 4, 66, 54, 5, 42]
abbrev dktX2_memory_4 : List UInt8 := dkwX2_memory_4 ++ dktX2_memory_5
def dkwX2_memory_3 : List UInt8 := [181, 4, 15, 42, 16, 40, 182, 3, 223, 154, 0, 14, 42, 20, 4, 84, 20, 4, 86, 3, 182, 4, 88, 42]
abbrev dktX2_memory_3 : List UInt8 := dkwX2_memory_3 ++ dktX2_memory_4
def dkwX2_memory_2 : List UInt8 := [184, 4, 74, 16, 6, 29, 21, 4, 182, 4, 94, 177, 42, 2, 181, 3, 248, 42, 3, 181, 4, 11, 42, 3]
abbrev dktX2_memory_2 : List UInt8 := dkwX2_memory_2 ++ dktX2_memory_3
def dkwX2_memory_1 : List UInt8 := [42, 180, 3, 251, 54, 4, 42, 19, 4, 98, 8, 29, 21, 4, 182, 4, 94, 42, 27, 4, 28, 3]
abbrev dktX2_memory_1 : List UInt8 := dkwX2_memory_1 ++ dktX2_memory_2
def dkwX2_memory_0 : List UInt8 := [42, 182, 3, 217, 153, 0, 54, 42, 180, 0, 119, 4, 160, 0, 46, 42, 182, 4, 1, 42, 180, 3, 248, 62]
abbrev dktX2_memory_0 : List UInt8 := dkwX2_memory_0 ++ dktX2_memory_1
theorem dksX2_memory_0 : cX2_memory.data.toList.drop 0 = dktX2_memory_0 := by decide +kernel
theorem dksX2_memory_1 : cX2_memory.data.toList.drop 24 = dktX2_memory_1 := dk_seg dksX2_memory_0 24 rfl rfl
theorem dksX2_memory_2 : cX2_memory.data.toList.drop 46 = dktX2_memory_2 := dk_seg dksX2_memory_1 22 rfl rfl
theorem dksX2_memory_3 : cX2_memory.data.toList.drop 70 = dktX2_memory_3 := dk_seg dksX2_memory_2 24 rfl rfl
theorem dksX2_memory_4 : cX2_memory.data.toList.drop 94 = dktX2_memory_4 := dk_seg dksX2_memory_3 24 rfl rfl
theorem dksX2_memory_5 : cX2_memory.data.toList.drop 117 = dktX2_memory_5 := dk_seg dksX2_memory_4 23 rfl rfl
theorem dksX2_memory_6 : cX2_memory.data.toList.drop 141 = dktX2_memory_6 := dk_seg dksX2_memory_5 24 rfl rfl
theorem dX2_memory_0 : decode cX2_memory 0 = .ok (.aload_n 0, 1) := dk_42 (dk_at dksX2_memory_0 0 rfl rfl)
theorem dX2_memory_1 : decode cX2_memory 1 = .ok (.invokevirtual 985, 3) := dk_182 3 217 (dk_at dksX2_memory_0 1 rfl rfl)
theorem dX2_memory_4 : decode cX2_memory 4 = .ok (.ifCond .eq 54, 3) := dk_153 0 54 (dk_at dksX2_memory_0 4 rfl rfl)
theorem dX2_memory_7 : decode cX2_memory 7 = .ok (.aload_n 0, 1) := dk_42 (dk_at dksX2_memory_0 7 rfl rfl)
theorem dX2_memory_8 : decode cX2_memory 8 = .ok (.getfield 119, 3) := dk_180 0 119 (dk_at dksX2_memory_0 8 rfl rfl)
theorem dX2_memory_11 : decode cX2_memory 11 = .ok (.iconst 1, 1) := dk_4 (dk_at dksX2_memory_0 11 rfl rfl)
theorem dX2_memory_12 : decode cX2_memory 12 = .ok (.if_icmp .ne 46, 3) := dk_160 0 46 (dk_at dksX2_memory_0 12 rfl rfl)
theorem dX2_memory_15 : decode cX2_memory 15 = .ok (.aload_n 0, 1) := dk_42 (dk_at dksX2_memory_0 15 rfl rfl)
theorem dX2_memory_16 : decode cX2_memory 16 = .ok (.invokevirtual 1025, 3) := dk_182 4 1 (dk_at dksX2_memory_0 16 rfl rfl)
theorem dX2_memory_19 : decode cX2_memory 19 = .ok (.aload_n 0, 1) := dk_42 (dk_at dksX2_memory_0 19 rfl rfl)
theorem dX2_memory_20 : decode cX2_memory 20 = .ok (.getfield 1016, 3) := dk_180 3 248 (dk_at dksX2_memory_0 20 rfl rfl)
theorem dX2_memory_23 : decode cX2_memory 23 = .ok (.istore_n 3, 1) := dk_62 (dk_at dksX2_memory_0 23 rfl rfl)
theorem dX2_memory_24 : decode cX2_memory 24 = .ok (.aload_n 0, 1) := dk_42 (dk_at dksX2_memory_1 0 rfl rfl)
theorem dX2_memory_25 : decode cX2_memory 25 = .ok (.getfield 1019, 3) := dk_180 3 251 (dk_at dksX2_memory_1 1 rfl rfl)
theorem dX2_memory_28 : decode cX2_memory 28 = .ok (.istore 4, 2) := dk_54 4 (dk_at dksX2_memory_1 4 rfl rfl)
theorem dX2_memory_30 : decode cX2_memory 30 = .ok (.aload_n 0, 1) := dk_42 (dk_at dksX2_memory_1 6 rfl rfl)
theorem dX2_memory_31 : decode cX2_memory 31 = .ok (.ldc_w 1122, 3) := dk_19 4 98 (dk_at dksX2_memory_1 7 rfl rfl)
theorem dX2_memory_34 : decode cX2_memory 34 = .ok (.iconst 5, 1) := dk_8 (dk_at dksX2_memory_1 10 rfl rfl)
theorem dX2_memory_35 : decode cX2_memory 35 = .ok (.iload_n 3, 1) := dk_29 (dk_at dksX2_memory_1 11 rfl rfl)
theorem dX2_memory_36 : decode cX2_memory 36 = .ok (.iload 4, 2) := dk_21 4 (dk_at dksX2_memory_1 12 rfl rfl)
theorem dX2_memory_38 : decode cX2_memory 38 = .ok (.invokevirtual 1118, 3) := dk_182 4 94 (dk_at dksX2_memory_1 14 rfl rfl)
theorem dX2_memory_41 : decode cX2_memory 41 = .ok (.aload_n 0, 1) := dk_42 (dk_at dksX2_memory_1 17 rfl rfl)
theorem dX2_memory_42 : decode cX2_memory 42 = .ok (.iload_n 1, 1) := dk_27 (dk_at dksX2_memory_1 18 rfl rfl)
theorem dX2_memory_43 : decode cX2_memory 43 = .ok (.iconst 1, 1) := dk_4 (dk_at dksX2_memory_1 19 rfl rfl)
theorem dX2_memory_44 : decode cX2_memory 44 = .ok (.iload_n 2, 1) := dk_28 (dk_at dksX2_memory_1 20 rfl rfl)
theorem dX2_memory_45 : decode cX2_memory 45 = .ok (.iconst 0, 1) := dk_3 (dk_at dksX2_memory_1 21 rfl rfl)
theorem dX2_memory_46 : decode cX2_memory 46 = .ok (.invokestatic 1098, 3) := dk_184 4 74 (dk_at dksX2_memory_2 0 rfl rfl)
theorem dX2_memory_49 : decode cX2_memory 49 = .ok (.bipush 6, 2) := dk_16 6 (dk_at dksX2_memory_2 3 rfl rfl)
theorem dX2_memory_51 : decode cX2_memory 51 = .ok (.iload_n 3, 1) := dk_29 (dk_at dksX2_memory_2 5 rfl rfl)
theorem dX2_memory_52 : decode cX2_memory 52 = .ok (.iload 4, 2) := dk_21 4 (dk_at dksX2_memory_2 6 rfl rfl)
theorem dX2_memory_54 : decode cX2_memory 54 = .ok (.invokevirtual 1118, 3) := dk_182 4 94 (dk_at dksX2_memory_2 8 rfl rfl)
theorem dX2_memory_57 : decode cX2_memory 57 = .ok (.return_, 1) := dk_177 (dk_at dksX2_memory_2 11 rfl rfl)
theorem dX2_memory_58 : decode cX2_memory 58 = .ok (.aload_n 0, 1) := dk_42 (dk_at dksX2_memory_2 12 rfl rfl)
theorem dX2_memory_59 : decode cX2_memory 59 = .ok (.iconst (-1), 1) := dk_2 (dk_at dksX2_memory_2 13 rfl rfl)
theorem dX2_memory_60 : decode cX2_memory 60 = .ok (.putfield 1016, 3) := dk_181 3 248 (dk_at dksX2_memory_2 14 rfl rfl)
theorem dX2_memory_63 : decode cX2_memory 63 = .ok (.aload_n 0, 1) := dk_42 (dk_at dksX2_memory_2 17 rfl rfl)
theorem dX2_memory_64 : decode cX2_memory 64 = .ok (.iconst 0, 1) := dk_3 (dk_at dksX2_memory_2 18 rfl rfl)
theorem dX2_memory_65 : decode cX2_memory 65 = .ok (.putfield 1035, 3) := dk_181 4 11 (dk_at dksX2_memory_2 19 rfl rfl)
theorem dX2_memory_68 : decode cX2_memory 68 = .ok (.aload_n 0, 1) := dk_42 (dk_at dksX2_memory_2 22 rfl rfl)
theorem dX2_memory_69 : decode cX2_memory 69 = .ok (.iconst 0, 1) := dk_3 (dk_at dksX2_memory_2 23 rfl rfl)
theorem dX2_memory_70 : decode cX2_memory 70 = .ok (.putfield 1039, 3) := dk_181 4 15 (dk_at dksX2_memory_3 0 rfl rfl)
theorem dX2_memory_73 : decode cX2_memory 73 = .ok (.aload_n 0, 1) := dk_42 (dk_at dksX2_memory_3 3 rfl rfl)
theorem dX2_memory_74 : decode cX2_memory 74 = .ok (.bipush 40, 2) := dk_16 40 (dk_at dksX2_memory_3 4 rfl rfl)
theorem dX2_memory_76 : decode cX2_memory 76 = .ok (.invokevirtual 991, 3) := dk_182 3 223 (dk_at dksX2_memory_3 6 rfl rfl)
theorem dX2_memory_79 : decode cX2_memory 79 = .ok (.ifCond .ne 14, 3) := dk_154 0 14 (dk_at dksX2_memory_3 9 rfl rfl)
theorem dX2_memory_82 : decode cX2_memory 82 = .ok (.aload_n 0, 1) := dk_42 (dk_at dksX2_memory_3 12 rfl rfl)
theorem dX2_memory_83 : decode cX2_memory 83 = .ok (.ldc2_w 1108, 3) := dk_20 4 84 (dk_at dksX2_memory_3 13 rfl rfl)
theorem dX2_memory_86 : decode cX2_memory 86 = .ok (.ldc2_w 1110, 3) := dk_20 4 86 (dk_at dksX2_memory_3 16 rfl rfl)
theorem dX2_memory_89 : decode cX2_memory 89 = .ok (.iconst 0, 1) := dk_3 (dk_at dksX2_memory_3 19 rfl rfl)
theorem dX2_memory_90 : decode cX2_memory 90 = .ok (.invokevirtual 1112, 3) := dk_182 4 88 (dk_at dksX2_memory_3 20 rfl rfl)
theorem dX2_memory_93 : decode cX2_memory 93 = .ok (.aload_n 0, 1) := dk_42 (dk_at dksX2_memory_3 23 rfl rfl)
theorem dX2_memory_94 : decode cX2_memory 94 = .ok (.getfield 1016, 3) := dk_180 3 248 (dk_at dksX2_memory_4 0 rfl rfl)
theorem dX2_memory_97 : decode cX2_memory 97 = .ok (.istore_n 3, 1) := dk_62 (dk_at dksX2_memory_4 3 rfl rfl)
theorem dX2_memory_98 : decode cX2_memory 98 = .ok (.aload_n 0, 1) := dk_42 (dk_at dksX2_memory_4 4 rfl rfl)
theorem dX2_memory_99 : decode cX2_memory 99 = .ok (.getfield 1019, 3) := dk_180 3 251 (dk_at dksX2_memory_4 5 rfl rfl)
theorem dX2_memory_102 : decode cX2_memory 102 = .ok (.istore 4, 2) := dk_54 4 (dk_at dksX2_memory_4 8 rfl rfl)
theorem dX2_memory_104 : decode cX2_memory 104 = .ok (.aload_n 0, 1) := dk_42 (dk_at dksX2_memory_4 10 rfl rfl)
theorem dX2_memory_105 : decode cX2_memory 105 = .ok (.bipush 40, 2) := dk_16 40 (dk_at dksX2_memory_4 11 rfl rfl)
theorem dX2_memory_107 : decode cX2_memory 107 = .ok (.invokevirtual 1001, 3) := dk_182 3 233 (dk_at dksX2_memory_4 13 rfl rfl)
theorem dX2_memory_110 : decode cX2_memory 110 = .ok (.aload_n 0, 1) := dk_42 (dk_at dksX2_memory_4 16 rfl rfl)
theorem dX2_memory_111 : decode cX2_memory 111 = .ok (.invokevirtual 1090, 3) := dk_182 4 66 (dk_at dksX2_memory_4 17 rfl rfl)
theorem dX2_memory_114 : decode cX2_memory 114 = .ok (.istore 5, 2) := dk_54 5 (dk_at dksX2_memory_4 20 rfl rfl)
theorem dX2_memory_116 : decode cX2_memory 116 = .ok (.aload_n 0, 1) := dk_42 (dk_at dksX2_memory_4 22 rfl rfl)
theorem dX2_memory_117 : decode cX2_memory 117 = .ok (.bipush 41, 2) := dk_16 41 (dk_at dksX2_memory_5 0 rfl rfl)
theorem dX2_memory_119 : decode cX2_memory 119 = .ok (.invokevirtual 1001, 3) := dk_182 3 233 (dk_at dksX2_memory_5 2 rfl rfl)
theorem dX2_memory_122 : decode cX2_memory 122 = .ok (.aload_n 0, 1) := dk_42 (dk_at dksX2_memory_5 5 rfl rfl)
theorem dX2_memory_123 : decode cX2_memory 123 = .ok (.iload_n 1, 1) := dk_27 (dk_at dksX2_memory_5 6 rfl rfl)
theorem dX2_memory_124 : decode cX2_memory 124 = .ok (.iload 5, 2) := dk_21 5 (dk_at dksX2_memory_5 7 rfl rfl)
theorem dX2_memory_126 : decode cX2_memory 126 = .ok (.iload_n 2, 1) := dk_28 (dk_at dksX2_memory_5 9 rfl rfl)
theorem dX2_memory_127 : decode cX2_memory 127 = .ok (.iconst 0, 1) := dk_3 (dk_at dksX2_memory_5 10 rfl rfl)
theorem dX2_memory_128 : decode cX2_memory 128 = .ok (.invokestatic 1098, 3) := dk_184 4 74 (dk_at dksX2_memory_5 11 rfl rfl)
theorem dX2_memory_131 : decode cX2_memory 131 = .ok (.aload_n 0, 1) := dk_42 (dk_at dksX2_memory_5 14 rfl rfl)
theorem dX2_memory_132 : decode cX2_memory 132 = .ok (.getfield 1039, 3) := dk_180 4 15 (dk_at dksX2_memory_5 15 rfl rfl)
theorem dX2_memory_135 : decode cX2_memory 135 = .ok (.ior, 1) := dk_128 (dk_at dksX2_memory_5 18 rfl rfl)
theorem dX2_memory_136 : decode cX2_memory 136 = .ok (.aload_n 0, 1) := dk_42 (dk_at dksX2_memory_5 19 rfl rfl)
theorem dX2_memory_137 : decode cX2_memory 137 = .ok (.getfield 1035, 3) := dk_180 4 11 (dk_at dksX2_memory_5 20 rfl rfl)
theorem dX2_memory_140 : decode cX2_memory 140 = .ok (.iload_n 3, 1) := dk_29 (dk_at dksX2_memory_5 23 rfl rfl)
theorem dX2_memory_141 : decode cX2_memory 141 = .ok (.iload 4, 2) := dk_21 4 (dk_at dksX2_memory_6 0 rfl rfl)
theorem dX2_memory_143 : decode cX2_memory 143 = .ok (.invokevirtual 1118, 3) := dk_182 4 94 (dk_at dksX2_memory_6 2 rfl rfl)
theorem dX2_memory_146 : decode cX2_memory 146 = .ok (.return_, 1) := dk_177 (dk_at dksX2_memory_6 5 rfl rfl)
abbrev cX2_bearing : ByteArray := prog_4_method_44_code
def yX2_bearing : MethodName := ⟨RX2, "bearing", "()V"⟩
def dkwX2_bearing_4 : List UInt8 := [42, 180, 0, 165, 117, 167, 0, 7, 42, 180, 0, 165, 136, 181, 3, 251, 42, 182, 3, 230, 177]
abbrev dktX2_bearing_4 : List UInt8 := dkwX2_bearing_4 ++ []
def dkwX2_bearing_3 : List UInt8 := [180, 0, 119, 7, 160, 0, 7, 4, 167, 0, 4, 3, 182, 3, 226, 154, 0, 4, 177, 42, 27, 153, 0, 11]
abbrev dktX2_bearing_3 : List UInt8 := dkwX2_bearing_3 ++ dktX2_bearing_4
def dkwX2_bearing_2 : List UInt8 := [42, 16, 45, 182, 3, 223, 154, 0, 4, 177, 42, 16, 45, 182, 3, 223, 60, 42, 182, 3, 230, 42, 42]
abbrev dktX2_bearing_2 : List UInt8 := dkwX2_bearing_2 ++ dktX2_bearing_3
def dkwX2_bearing_1 : List UInt8 := [182, 3, 245, 181, 3, 248, 42, 3, 181, 3, 251, 42, 182, 3, 230, 42, 16, 43, 182, 3, 223, 154, 0, 13]
abbrev dktX2_bearing_1 : List UInt8 := dkwX2_bearing_1 ++ dktX2_bearing_2
def dkwX2_bearing_0 : List UInt8 := [42, 42, 180, 0, 119, 4, 160, 0, 7, 4, 167, 0, 4, 3, 182, 3, 226, 154, 0, 4, 177, 42, 42]
abbrev dktX2_bearing_0 : List UInt8 := dkwX2_bearing_0 ++ dktX2_bearing_1
theorem dksX2_bearing_0 : cX2_bearing.data.toList.drop 0 = dktX2_bearing_0 := by decide +kernel
theorem dksX2_bearing_1 : cX2_bearing.data.toList.drop 23 = dktX2_bearing_1 := dk_seg dksX2_bearing_0 23 rfl rfl
theorem dksX2_bearing_2 : cX2_bearing.data.toList.drop 47 = dktX2_bearing_2 := dk_seg dksX2_bearing_1 24 rfl rfl
theorem dksX2_bearing_3 : cX2_bearing.data.toList.drop 70 = dktX2_bearing_3 := dk_seg dksX2_bearing_2 23 rfl rfl
theorem dksX2_bearing_4 : cX2_bearing.data.toList.drop 94 = dktX2_bearing_4 := dk_seg dksX2_bearing_3 24 rfl rfl
theorem dX2_bearing_0 : decode cX2_bearing 0 = .ok (.aload_n 0, 1) := dk_42 (dk_at dksX2_bearing_0 0 rfl rfl)
theorem dX2_bearing_1 : decode cX2_bearing 1 = .ok (.aload_n 0, 1) := dk_42 (dk_at dksX2_bearing_0 1 rfl rfl)
theorem dX2_bearing_2 : decode cX2_bearing 2 = .ok (.getfield 119, 3) := dk_180 0 119 (dk_at dksX2_bearing_0 2 rfl rfl)
theorem dX2_bearing_5 : decode cX2_bearing 5 = .ok (.iconst 1, 1) := dk_4 (dk_at dksX2_bearing_0 5 rfl rfl)
theorem dX2_bearing_6 : decode cX2_bearing 6 = .ok (.if_icmp .ne 7, 3) := dk_160 0 7 (dk_at dksX2_bearing_0 6 rfl rfl)
theorem dX2_bearing_9 : decode cX2_bearing 9 = .ok (.iconst 1, 1) := dk_4 (dk_at dksX2_bearing_0 9 rfl rfl)
theorem dX2_bearing_10 : decode cX2_bearing 10 = .ok (.goto 4, 3) := dk_167 0 4 (dk_at dksX2_bearing_0 10 rfl rfl)
theorem dX2_bearing_13 : decode cX2_bearing 13 = .ok (.iconst 0, 1) := dk_3 (dk_at dksX2_bearing_0 13 rfl rfl)
theorem dX2_bearing_14 : decode cX2_bearing 14 = .ok (.invokevirtual 994, 3) := dk_182 3 226 (dk_at dksX2_bearing_0 14 rfl rfl)
theorem dX2_bearing_17 : decode cX2_bearing 17 = .ok (.ifCond .ne 4, 3) := dk_154 0 4 (dk_at dksX2_bearing_0 17 rfl rfl)
theorem dX2_bearing_20 : decode cX2_bearing 20 = .ok (.return_, 1) := dk_177 (dk_at dksX2_bearing_0 20 rfl rfl)
theorem dX2_bearing_21 : decode cX2_bearing 21 = .ok (.aload_n 0, 1) := dk_42 (dk_at dksX2_bearing_0 21 rfl rfl)
theorem dX2_bearing_22 : decode cX2_bearing 22 = .ok (.aload_n 0, 1) := dk_42 (dk_at dksX2_bearing_0 22 rfl rfl)
theorem dX2_bearing_23 : decode cX2_bearing 23 = .ok (.invokevirtual 1013, 3) := dk_182 3 245 (dk_at dksX2_bearing_1 0 rfl rfl)
theorem dX2_bearing_26 : decode cX2_bearing 26 = .ok (.putfield 1016, 3) := dk_181 3 248 (dk_at dksX2_bearing_1 3 rfl rfl)
theorem dX2_bearing_29 : decode cX2_bearing 29 = .ok (.aload_n 0, 1) := dk_42 (dk_at dksX2_bearing_1 6 rfl rfl)
theorem dX2_bearing_30 : decode cX2_bearing 30 = .ok (.iconst 0, 1) := dk_3 (dk_at dksX2_bearing_1 7 rfl rfl)
theorem dX2_bearing_31 : decode cX2_bearing 31 = .ok (.putfield 1019, 3) := dk_181 3 251 (dk_at dksX2_bearing_1 8 rfl rfl)
theorem dX2_bearing_34 : decode cX2_bearing 34 = .ok (.aload_n 0, 1) := dk_42 (dk_at dksX2_bearing_1 11 rfl rfl)
theorem dX2_bearing_35 : decode cX2_bearing 35 = .ok (.invokevirtual 998, 3) := dk_182 3 230 (dk_at dksX2_bearing_1 12 rfl rfl)
theorem dX2_bearing_38 : decode cX2_bearing 38 = .ok (.aload_n 0, 1) := dk_42 (dk_at dksX2_bearing_1 15 rfl rfl)
theorem dX2_bearing_39 : decode cX2_bearing 39 = .ok (.bipush 43, 2) := dk_16 43 (dk_at dksX2_bearing_1 16 rfl rfl)
theorem dX2_bearing_41 : decode cX2_bearing 41 = .ok (.invokevirtual 991, 3) := dk_182 3 223 (dk_at dksX2_bearing_1 18 rfl rfl)
theorem dX2_bearing_44 : decode cX2_bearing 44 = .ok (.ifCond .ne 13, 3) := dk_154 0 13 (dk_at dksX2_bearing_1 21 rfl rfl)
theorem dX2_bearing_47 : decode cX2_bearing 47 = .ok (.aload_n 0, 1) := dk_42 (dk_at dksX2_bearing_2 0 rfl rfl)
theorem dX2_bearing_48 : decode cX2_bearing 48 = .ok (.bipush 45, 2) := dk_16 45 (dk_at dksX2_bearing_2 1 rfl rfl)
theorem dX2_bearing_50 : decode cX2_bearing 50 = .ok (.invokevirtual 991, 3) := dk_182 3 223 (dk_at dksX2_bearing_2 3 rfl rfl)
theorem dX2_bearing_53 : decode cX2_bearing 53 = .ok (.ifCond .ne 4, 3) := dk_154 0 4 (dk_at dksX2_bearing_2 6 rfl rfl)
theorem dX2_bearing_56 : decode cX2_bearing 56 = .ok (.return_, 1) := dk_177 (dk_at dksX2_bearing_2 9 rfl rfl)
theorem dX2_bearing_57 : decode cX2_bearing 57 = .ok (.aload_n 0, 1) := dk_42 (dk_at dksX2_bearing_2 10 rfl rfl)
theorem dX2_bearing_58 : decode cX2_bearing 58 = .ok (.bipush 45, 2) := dk_16 45 (dk_at dksX2_bearing_2 11 rfl rfl)
theorem dX2_bearing_60 : decode cX2_bearing 60 = .ok (.invokevirtual 991, 3) := dk_182 3 223 (dk_at dksX2_bearing_2 13 rfl rfl)
theorem dX2_bearing_63 : decode cX2_bearing 63 = .ok (.istore_n 1, 1) := dk_60 (dk_at dksX2_bearing_2 16 rfl rfl)
theorem dX2_bearing_64 : decode cX2_bearing 64 = .ok (.aload_n 0, 1) := dk_42 (dk_at dksX2_bearing_2 17 rfl rfl)
theorem dX2_bearing_65 : decode cX2_bearing 65 = .ok (.invokevirtual 998, 3) := dk_182 3 230 (dk_at dksX2_bearing_2 18 rfl rfl)
theorem dX2_bearing_68 : decode cX2_bearing 68 = .ok (.aload_n 0, 1) := dk_42 (dk_at dksX2_bearing_2 21 rfl rfl)
theorem dX2_bearing_69 : decode cX2_bearing 69 = .ok (.aload_n 0, 1) := dk_42 (dk_at dksX2_bearing_2 22 rfl rfl)
theorem dX2_bearing_70 : decode cX2_bearing 70 = .ok (.getfield 119, 3) := dk_180 0 119 (dk_at dksX2_bearing_3 0 rfl rfl)
theorem dX2_bearing_73 : decode cX2_bearing 73 = .ok (.iconst 4, 1) := dk_7 (dk_at dksX2_bearing_3 3 rfl rfl)
theorem dX2_bearing_74 : decode cX2_bearing 74 = .ok (.if_icmp .ne 7, 3) := dk_160 0 7 (dk_at dksX2_bearing_3 4 rfl rfl)
theorem dX2_bearing_77 : decode cX2_bearing 77 = .ok (.iconst 1, 1) := dk_4 (dk_at dksX2_bearing_3 7 rfl rfl)
theorem dX2_bearing_78 : decode cX2_bearing 78 = .ok (.goto 4, 3) := dk_167 0 4 (dk_at dksX2_bearing_3 8 rfl rfl)
theorem dX2_bearing_81 : decode cX2_bearing 81 = .ok (.iconst 0, 1) := dk_3 (dk_at dksX2_bearing_3 11 rfl rfl)
theorem dX2_bearing_82 : decode cX2_bearing 82 = .ok (.invokevirtual 994, 3) := dk_182 3 226 (dk_at dksX2_bearing_3 12 rfl rfl)
theorem dX2_bearing_85 : decode cX2_bearing 85 = .ok (.ifCond .ne 4, 3) := dk_154 0 4 (dk_at dksX2_bearing_3 15 rfl rfl)
theorem dX2_bearing_88 : decode cX2_bearing 88 = .ok (.return_, 1) := dk_177 (dk_at dksX2_bearing_3 18 rfl rfl)
theorem dX2_bearing_89 : decode cX2_bearing 89 = .ok (.aload_n 0, 1) := dk_42 (dk_at dksX2_bearing_3 19 rfl rfl)
theorem dX2_bearing_90 : decode cX2_bearing 90 = .ok (.iload_n 1, 1) := dk_27 (dk_at dksX2_bearing_3 20 rfl rfl)
theorem dX2_bearing_91 : decode cX2_bearing 91 = .ok (.ifCond .eq 11, 3) := dk_153 0 11 (dk_at dksX2_bearing_3 21 rfl rfl)
theorem dX2_bearing_94 : decode cX2_bearing 94 = .ok (.aload_n 0, 1) := dk_42 (dk_at dksX2_bearing_4 0 rfl rfl)
theorem dX2_bearing_95 : decode cX2_bearing 95 = .ok (.getfield 165, 3) := dk_180 0 165 (dk_at dksX2_bearing_4 1 rfl rfl)
theorem dX2_bearing_98 : decode cX2_bearing 98 = .ok (.lneg, 1) := dk_117 (dk_at dksX2_bearing_4 4 rfl rfl)
theorem dX2_bearing_99 : decode cX2_bearing 99 = .ok (.goto 7, 3) := dk_167 0 7 (dk_at dksX2_bearing_4 5 rfl rfl)
theorem dX2_bearing_102 : decode cX2_bearing 102 = .ok (.aload_n 0, 1) := dk_42 (dk_at dksX2_bearing_4 8 rfl rfl)
theorem dX2_bearing_103 : decode cX2_bearing 103 = .ok (.getfield 165, 3) := dk_180 0 165 (dk_at dksX2_bearing_4 9 rfl rfl)
theorem dX2_bearing_106 : decode cX2_bearing 106 = .ok (.l2i, 1) := dk_136 (dk_at dksX2_bearing_4 12 rfl rfl)
theorem dX2_bearing_107 : decode cX2_bearing 107 = .ok (.putfield 1019, 3) := dk_181 3 251 (dk_at dksX2_bearing_4 13 rfl rfl)
theorem dX2_bearing_110 : decode cX2_bearing 110 = .ok (.aload_n 0, 1) := dk_42 (dk_at dksX2_bearing_4 16 rfl rfl)
theorem dX2_bearing_111 : decode cX2_bearing 111 = .ok (.invokevirtual 998, 3) := dk_182 3 230 (dk_at dksX2_bearing_4 17 rfl rfl)
theorem dX2_bearing_114 : decode cX2_bearing 114 = .ok (.return_, 1) := dk_177 (dk_at dksX2_bearing_4 20 rfl rfl)
abbrev cX2_wordFor : ByteArray := prog_4_method_52_code
def yX2_wordFor : MethodName := ⟨RX2, "wordFor", "(IIII)V"⟩
def dkwX2_wordFor_1 : List UInt8 := [42, 27, 182, 4, 42, 177]
abbrev dktX2_wordFor_1 : List UInt8 := dkwX2_wordFor_1 ++ []
def dkwX2_wordFor_0 : List UInt8 := [28, 153, 0, 23, 29, 2, 159, 0, 18, 42, 182, 3, 217, 153, 0, 11, 42, 28, 29, 21, 4, 182, 4, 38]
abbrev dktX2_wordFor_0 : List UInt8 := dkwX2_wordFor_0 ++ dktX2_wordFor_1
theorem dksX2_wordFor_0 : cX2_wordFor.data.toList.drop 0 = dktX2_wordFor_0 := by decide +kernel
theorem dksX2_wordFor_1 : cX2_wordFor.data.toList.drop 24 = dktX2_wordFor_1 := dk_seg dksX2_wordFor_0 24 rfl rfl
theorem dX2_wordFor_0 : decode cX2_wordFor 0 = .ok (.iload_n 2, 1) := dk_28 (dk_at dksX2_wordFor_0 0 rfl rfl)
theorem dX2_wordFor_1 : decode cX2_wordFor 1 = .ok (.ifCond .eq 23, 3) := dk_153 0 23 (dk_at dksX2_wordFor_0 1 rfl rfl)
theorem dX2_wordFor_4 : decode cX2_wordFor 4 = .ok (.iload_n 3, 1) := dk_29 (dk_at dksX2_wordFor_0 4 rfl rfl)
theorem dX2_wordFor_5 : decode cX2_wordFor 5 = .ok (.iconst (-1), 1) := dk_2 (dk_at dksX2_wordFor_0 5 rfl rfl)
theorem dX2_wordFor_6 : decode cX2_wordFor 6 = .ok (.if_icmp .eq 18, 3) := dk_159 0 18 (dk_at dksX2_wordFor_0 6 rfl rfl)
theorem dX2_wordFor_9 : decode cX2_wordFor 9 = .ok (.aload_n 0, 1) := dk_42 (dk_at dksX2_wordFor_0 9 rfl rfl)
theorem dX2_wordFor_10 : decode cX2_wordFor 10 = .ok (.invokevirtual 985, 3) := dk_182 3 217 (dk_at dksX2_wordFor_0 10 rfl rfl)
theorem dX2_wordFor_13 : decode cX2_wordFor 13 = .ok (.ifCond .eq 11, 3) := dk_153 0 11 (dk_at dksX2_wordFor_0 13 rfl rfl)
theorem dX2_wordFor_16 : decode cX2_wordFor 16 = .ok (.aload_n 0, 1) := dk_42 (dk_at dksX2_wordFor_0 16 rfl rfl)
theorem dX2_wordFor_17 : decode cX2_wordFor 17 = .ok (.iload_n 2, 1) := dk_28 (dk_at dksX2_wordFor_0 17 rfl rfl)
theorem dX2_wordFor_18 : decode cX2_wordFor 18 = .ok (.iload_n 3, 1) := dk_29 (dk_at dksX2_wordFor_0 18 rfl rfl)
theorem dX2_wordFor_19 : decode cX2_wordFor 19 = .ok (.iload 4, 2) := dk_21 4 (dk_at dksX2_wordFor_0 19 rfl rfl)
theorem dX2_wordFor_21 : decode cX2_wordFor 21 = .ok (.invokevirtual 1062, 3) := dk_182 4 38 (dk_at dksX2_wordFor_0 21 rfl rfl)
theorem dX2_wordFor_24 : decode cX2_wordFor 24 = .ok (.aload_n 0, 1) := dk_42 (dk_at dksX2_wordFor_1 0 rfl rfl)
theorem dX2_wordFor_25 : decode cX2_wordFor 25 = .ok (.iload_n 1, 1) := dk_27 (dk_at dksX2_wordFor_1 1 rfl rfl)
theorem dX2_wordFor_26 : decode cX2_wordFor 26 = .ok (.invokevirtual 1066, 3) := dk_182 4 42 (dk_at dksX2_wordFor_1 2 rfl rfl)
theorem dX2_wordFor_29 : decode cX2_wordFor 29 = .ok (.return_, 1) := dk_177 (dk_at dksX2_wordFor_1 5 rfl rfl)
abbrev cX2_refers : ByteArray := prog_4_method_50_code
def yX2_refers : MethodName := ⟨RX2, "refers", "(III)V"⟩
def dkwX2_refers_5 : List UInt8 := [180, 4, 31, 79, 42, 180, 0, 24, 42, 180, 3, 242, 92, 46, 4, 96, 79, 177]
abbrev dktX2_refers_5 : List UInt8 := dkwX2_refers_5 ++ []
def dkwX2_refers_4 : List UInt8 := [42, 180, 0, 59, 21, 5, 28, 79, 42, 180, 0, 62, 21, 5, 29, 79, 42, 180, 0, 65, 21, 4, 42]
abbrev dktX2_refers_4 : List UInt8 := dkwX2_refers_4 ++ dktX2_refers_5
def dkwX2_refers_3 : List UInt8 := [180, 0, 17, 6, 42, 180, 3, 242, 104, 42, 180, 4, 26, 96, 46, 79, 42, 180, 0, 56, 21, 5, 27, 79]
abbrev dktX2_refers_3 : List UInt8 := dkwX2_refers_3 ++ dktX2_refers_4
def dkwX2_refers_2 : List UInt8 := [104, 21, 4, 96, 54, 5, 42, 180, 0, 50, 21, 5, 42, 180, 4, 26, 79, 42, 180, 0, 53, 21, 5, 42]
abbrev dktX2_refers_2 : List UInt8 := dkwX2_refers_2 ++ dktX2_refers_3
def dkwX2_refers_1 : List UInt8 := [160, 0, 9, 42, 16, 7, 182, 3, 220, 42, 182, 3, 217, 154, 0, 4, 177, 17, 1, 0, 42, 180, 3, 242]
abbrev dktX2_refers_1 : List UInt8 := dkwX2_refers_1 ++ dktX2_refers_2
def dkwX2_refers_0 : List UInt8 := [42, 180, 0, 24, 42, 180, 3, 242, 46, 54, 4, 42, 182, 3, 217, 153, 0, 17, 21, 4, 17, 1, 0]
abbrev dktX2_refers_0 : List UInt8 := dkwX2_refers_0 ++ dktX2_refers_1
theorem dksX2_refers_0 : cX2_refers.data.toList.drop 0 = dktX2_refers_0 := by decide +kernel
theorem dksX2_refers_1 : cX2_refers.data.toList.drop 23 = dktX2_refers_1 := dk_seg dksX2_refers_0 23 rfl rfl
theorem dksX2_refers_2 : cX2_refers.data.toList.drop 47 = dktX2_refers_2 := dk_seg dksX2_refers_1 24 rfl rfl
theorem dksX2_refers_3 : cX2_refers.data.toList.drop 71 = dktX2_refers_3 := dk_seg dksX2_refers_2 24 rfl rfl
theorem dksX2_refers_4 : cX2_refers.data.toList.drop 95 = dktX2_refers_4 := dk_seg dksX2_refers_3 24 rfl rfl
theorem dksX2_refers_5 : cX2_refers.data.toList.drop 118 = dktX2_refers_5 := dk_seg dksX2_refers_4 23 rfl rfl
theorem dX2_refers_0 : decode cX2_refers 0 = .ok (.aload_n 0, 1) := dk_42 (dk_at dksX2_refers_0 0 rfl rfl)
theorem dX2_refers_1 : decode cX2_refers 1 = .ok (.getfield 24, 3) := dk_180 0 24 (dk_at dksX2_refers_0 1 rfl rfl)
theorem dX2_refers_4 : decode cX2_refers 4 = .ok (.aload_n 0, 1) := dk_42 (dk_at dksX2_refers_0 4 rfl rfl)
theorem dX2_refers_5 : decode cX2_refers 5 = .ok (.getfield 1010, 3) := dk_180 3 242 (dk_at dksX2_refers_0 5 rfl rfl)
theorem dX2_refers_8 : decode cX2_refers 8 = .ok (.iaload, 1) := dk_46 (dk_at dksX2_refers_0 8 rfl rfl)
theorem dX2_refers_9 : decode cX2_refers 9 = .ok (.istore 4, 2) := dk_54 4 (dk_at dksX2_refers_0 9 rfl rfl)
theorem dX2_refers_11 : decode cX2_refers 11 = .ok (.aload_n 0, 1) := dk_42 (dk_at dksX2_refers_0 11 rfl rfl)
theorem dX2_refers_12 : decode cX2_refers 12 = .ok (.invokevirtual 985, 3) := dk_182 3 217 (dk_at dksX2_refers_0 12 rfl rfl)
theorem dX2_refers_15 : decode cX2_refers 15 = .ok (.ifCond .eq 17, 3) := dk_153 0 17 (dk_at dksX2_refers_0 15 rfl rfl)
theorem dX2_refers_18 : decode cX2_refers 18 = .ok (.iload 4, 2) := dk_21 4 (dk_at dksX2_refers_0 18 rfl rfl)
theorem dX2_refers_20 : decode cX2_refers 20 = .ok (.sipush 256, 3) := dk_17 1 0 (dk_at dksX2_refers_0 20 rfl rfl)
theorem dX2_refers_23 : decode cX2_refers 23 = .ok (.if_icmp .ne 9, 3) := dk_160 0 9 (dk_at dksX2_refers_1 0 rfl rfl)
theorem dX2_refers_26 : decode cX2_refers 26 = .ok (.aload_n 0, 1) := dk_42 (dk_at dksX2_refers_1 3 rfl rfl)
theorem dX2_refers_27 : decode cX2_refers 27 = .ok (.bipush 7, 2) := dk_16 7 (dk_at dksX2_refers_1 4 rfl rfl)
theorem dX2_refers_29 : decode cX2_refers 29 = .ok (.invokevirtual 988, 3) := dk_182 3 220 (dk_at dksX2_refers_1 6 rfl rfl)
theorem dX2_refers_32 : decode cX2_refers 32 = .ok (.aload_n 0, 1) := dk_42 (dk_at dksX2_refers_1 9 rfl rfl)
theorem dX2_refers_33 : decode cX2_refers 33 = .ok (.invokevirtual 985, 3) := dk_182 3 217 (dk_at dksX2_refers_1 10 rfl rfl)
theorem dX2_refers_36 : decode cX2_refers 36 = .ok (.ifCond .ne 4, 3) := dk_154 0 4 (dk_at dksX2_refers_1 13 rfl rfl)
theorem dX2_refers_39 : decode cX2_refers 39 = .ok (.return_, 1) := dk_177 (dk_at dksX2_refers_1 16 rfl rfl)
theorem dX2_refers_40 : decode cX2_refers 40 = .ok (.sipush 256, 3) := dk_17 1 0 (dk_at dksX2_refers_1 17 rfl rfl)
theorem dX2_refers_43 : decode cX2_refers 43 = .ok (.aload_n 0, 1) := dk_42 (dk_at dksX2_refers_1 20 rfl rfl)
theorem dX2_refers_44 : decode cX2_refers 44 = .ok (.getfield 1010, 3) := dk_180 3 242 (dk_at dksX2_refers_1 21 rfl rfl)
theorem dX2_refers_47 : decode cX2_refers 47 = .ok (.imul, 1) := dk_104 (dk_at dksX2_refers_2 0 rfl rfl)
theorem dX2_refers_48 : decode cX2_refers 48 = .ok (.iload 4, 2) := dk_21 4 (dk_at dksX2_refers_2 1 rfl rfl)
theorem dX2_refers_50 : decode cX2_refers 50 = .ok (.iadd, 1) := dk_96 (dk_at dksX2_refers_2 3 rfl rfl)
theorem dX2_refers_51 : decode cX2_refers 51 = .ok (.istore 5, 2) := dk_54 5 (dk_at dksX2_refers_2 4 rfl rfl)
theorem dX2_refers_53 : decode cX2_refers 53 = .ok (.aload_n 0, 1) := dk_42 (dk_at dksX2_refers_2 6 rfl rfl)
theorem dX2_refers_54 : decode cX2_refers 54 = .ok (.getfield 50, 3) := dk_180 0 50 (dk_at dksX2_refers_2 7 rfl rfl)
theorem dX2_refers_57 : decode cX2_refers 57 = .ok (.iload 5, 2) := dk_21 5 (dk_at dksX2_refers_2 10 rfl rfl)
theorem dX2_refers_59 : decode cX2_refers 59 = .ok (.aload_n 0, 1) := dk_42 (dk_at dksX2_refers_2 12 rfl rfl)
theorem dX2_refers_60 : decode cX2_refers 60 = .ok (.getfield 1050, 3) := dk_180 4 26 (dk_at dksX2_refers_2 13 rfl rfl)
theorem dX2_refers_63 : decode cX2_refers 63 = .ok (.iastore, 1) := dk_79 (dk_at dksX2_refers_2 16 rfl rfl)
theorem dX2_refers_64 : decode cX2_refers 64 = .ok (.aload_n 0, 1) := dk_42 (dk_at dksX2_refers_2 17 rfl rfl)
theorem dX2_refers_65 : decode cX2_refers 65 = .ok (.getfield 53, 3) := dk_180 0 53 (dk_at dksX2_refers_2 18 rfl rfl)
theorem dX2_refers_68 : decode cX2_refers 68 = .ok (.iload 5, 2) := dk_21 5 (dk_at dksX2_refers_2 21 rfl rfl)
theorem dX2_refers_70 : decode cX2_refers 70 = .ok (.aload_n 0, 1) := dk_42 (dk_at dksX2_refers_2 23 rfl rfl)
theorem dX2_refers_71 : decode cX2_refers 71 = .ok (.getfield 17, 3) := dk_180 0 17 (dk_at dksX2_refers_3 0 rfl rfl)
theorem dX2_refers_74 : decode cX2_refers 74 = .ok (.iconst 3, 1) := dk_6 (dk_at dksX2_refers_3 3 rfl rfl)
theorem dX2_refers_75 : decode cX2_refers 75 = .ok (.aload_n 0, 1) := dk_42 (dk_at dksX2_refers_3 4 rfl rfl)
theorem dX2_refers_76 : decode cX2_refers 76 = .ok (.getfield 1010, 3) := dk_180 3 242 (dk_at dksX2_refers_3 5 rfl rfl)
theorem dX2_refers_79 : decode cX2_refers 79 = .ok (.imul, 1) := dk_104 (dk_at dksX2_refers_3 8 rfl rfl)
theorem dX2_refers_80 : decode cX2_refers 80 = .ok (.aload_n 0, 1) := dk_42 (dk_at dksX2_refers_3 9 rfl rfl)
theorem dX2_refers_81 : decode cX2_refers 81 = .ok (.getfield 1050, 3) := dk_180 4 26 (dk_at dksX2_refers_3 10 rfl rfl)
theorem dX2_refers_84 : decode cX2_refers 84 = .ok (.iadd, 1) := dk_96 (dk_at dksX2_refers_3 13 rfl rfl)
theorem dX2_refers_85 : decode cX2_refers 85 = .ok (.iaload, 1) := dk_46 (dk_at dksX2_refers_3 14 rfl rfl)
theorem dX2_refers_86 : decode cX2_refers 86 = .ok (.iastore, 1) := dk_79 (dk_at dksX2_refers_3 15 rfl rfl)
theorem dX2_refers_87 : decode cX2_refers 87 = .ok (.aload_n 0, 1) := dk_42 (dk_at dksX2_refers_3 16 rfl rfl)
theorem dX2_refers_88 : decode cX2_refers 88 = .ok (.getfield 56, 3) := dk_180 0 56 (dk_at dksX2_refers_3 17 rfl rfl)
theorem dX2_refers_91 : decode cX2_refers 91 = .ok (.iload 5, 2) := dk_21 5 (dk_at dksX2_refers_3 20 rfl rfl)
theorem dX2_refers_93 : decode cX2_refers 93 = .ok (.iload_n 1, 1) := dk_27 (dk_at dksX2_refers_3 22 rfl rfl)
theorem dX2_refers_94 : decode cX2_refers 94 = .ok (.iastore, 1) := dk_79 (dk_at dksX2_refers_3 23 rfl rfl)
theorem dX2_refers_95 : decode cX2_refers 95 = .ok (.aload_n 0, 1) := dk_42 (dk_at dksX2_refers_4 0 rfl rfl)
theorem dX2_refers_96 : decode cX2_refers 96 = .ok (.getfield 59, 3) := dk_180 0 59 (dk_at dksX2_refers_4 1 rfl rfl)
theorem dX2_refers_99 : decode cX2_refers 99 = .ok (.iload 5, 2) := dk_21 5 (dk_at dksX2_refers_4 4 rfl rfl)
theorem dX2_refers_101 : decode cX2_refers 101 = .ok (.iload_n 2, 1) := dk_28 (dk_at dksX2_refers_4 6 rfl rfl)
theorem dX2_refers_102 : decode cX2_refers 102 = .ok (.iastore, 1) := dk_79 (dk_at dksX2_refers_4 7 rfl rfl)
theorem dX2_refers_103 : decode cX2_refers 103 = .ok (.aload_n 0, 1) := dk_42 (dk_at dksX2_refers_4 8 rfl rfl)
theorem dX2_refers_104 : decode cX2_refers 104 = .ok (.getfield 62, 3) := dk_180 0 62 (dk_at dksX2_refers_4 9 rfl rfl)
theorem dX2_refers_107 : decode cX2_refers 107 = .ok (.iload 5, 2) := dk_21 5 (dk_at dksX2_refers_4 12 rfl rfl)
theorem dX2_refers_109 : decode cX2_refers 109 = .ok (.iload_n 3, 1) := dk_29 (dk_at dksX2_refers_4 14 rfl rfl)
theorem dX2_refers_110 : decode cX2_refers 110 = .ok (.iastore, 1) := dk_79 (dk_at dksX2_refers_4 15 rfl rfl)
theorem dX2_refers_111 : decode cX2_refers 111 = .ok (.aload_n 0, 1) := dk_42 (dk_at dksX2_refers_4 16 rfl rfl)
theorem dX2_refers_112 : decode cX2_refers 112 = .ok (.getfield 65, 3) := dk_180 0 65 (dk_at dksX2_refers_4 17 rfl rfl)
theorem dX2_refers_115 : decode cX2_refers 115 = .ok (.iload 4, 2) := dk_21 4 (dk_at dksX2_refers_4 20 rfl rfl)
theorem dX2_refers_117 : decode cX2_refers 117 = .ok (.aload_n 0, 1) := dk_42 (dk_at dksX2_refers_4 22 rfl rfl)
theorem dX2_refers_118 : decode cX2_refers 118 = .ok (.getfield 1055, 3) := dk_180 4 31 (dk_at dksX2_refers_5 0 rfl rfl)
theorem dX2_refers_121 : decode cX2_refers 121 = .ok (.iastore, 1) := dk_79 (dk_at dksX2_refers_5 3 rfl rfl)
theorem dX2_refers_122 : decode cX2_refers 122 = .ok (.aload_n 0, 1) := dk_42 (dk_at dksX2_refers_5 4 rfl rfl)
theorem dX2_refers_123 : decode cX2_refers 123 = .ok (.getfield 24, 3) := dk_180 0 24 (dk_at dksX2_refers_5 5 rfl rfl)
theorem dX2_refers_126 : decode cX2_refers 126 = .ok (.aload_n 0, 1) := dk_42 (dk_at dksX2_refers_5 8 rfl rfl)
theorem dX2_refers_127 : decode cX2_refers 127 = .ok (.getfield 1010, 3) := dk_180 3 242 (dk_at dksX2_refers_5 9 rfl rfl)
theorem dX2_refers_130 : decode cX2_refers 130 = .ok (.dup2, 1) := dk_92 (dk_at dksX2_refers_5 12 rfl rfl)
theorem dX2_refers_131 : decode cX2_refers 131 = .ok (.iaload, 1) := dk_46 (dk_at dksX2_refers_5 13 rfl rfl)
theorem dX2_refers_132 : decode cX2_refers 132 = .ok (.iconst 1, 1) := dk_4 (dk_at dksX2_refers_5 14 rfl rfl)
theorem dX2_refers_133 : decode cX2_refers 133 = .ok (.iadd, 1) := dk_96 (dk_at dksX2_refers_5 15 rfl rfl)
theorem dX2_refers_134 : decode cX2_refers 134 = .ok (.iastore, 1) := dk_79 (dk_at dksX2_refers_5 16 rfl rfl)
theorem dX2_refers_135 : decode cX2_refers 135 = .ok (.return_, 1) := dk_177 (dk_at dksX2_refers_5 17 rfl rfl)
abbrev cX2_halved : ByteArray := prog_4_method_47_code
def yX2_halved : MethodName := ⟨RX2, "halved", "(JJZ)V"⟩
def dkwX2_halved_1 : List UInt8 := [182, 4, 18, 167, 0, 17, 42, 42, 31, 33, 182, 4, 22, 19, 4, 14, 126, 181, 4, 15, 177]
abbrev dktX2_halved_1 : List UInt8 := dkwX2_halved_1 ++ []
def dkwX2_halved_0 : List UInt8 := [42, 2, 181, 3, 248, 42, 3, 181, 4, 11, 42, 16, 37, 182, 3, 223, 153, 0, 12, 42, 21, 5]
abbrev dktX2_halved_0 : List UInt8 := dkwX2_halved_0 ++ dktX2_halved_1
theorem dksX2_halved_0 : cX2_halved.data.toList.drop 0 = dktX2_halved_0 := by decide +kernel
theorem dksX2_halved_1 : cX2_halved.data.toList.drop 22 = dktX2_halved_1 := dk_seg dksX2_halved_0 22 rfl rfl
theorem dX2_halved_0 : decode cX2_halved 0 = .ok (.aload_n 0, 1) := dk_42 (dk_at dksX2_halved_0 0 rfl rfl)
theorem dX2_halved_1 : decode cX2_halved 1 = .ok (.iconst (-1), 1) := dk_2 (dk_at dksX2_halved_0 1 rfl rfl)
theorem dX2_halved_2 : decode cX2_halved 2 = .ok (.putfield 1016, 3) := dk_181 3 248 (dk_at dksX2_halved_0 2 rfl rfl)
theorem dX2_halved_5 : decode cX2_halved 5 = .ok (.aload_n 0, 1) := dk_42 (dk_at dksX2_halved_0 5 rfl rfl)
theorem dX2_halved_6 : decode cX2_halved 6 = .ok (.iconst 0, 1) := dk_3 (dk_at dksX2_halved_0 6 rfl rfl)
theorem dX2_halved_7 : decode cX2_halved 7 = .ok (.putfield 1035, 3) := dk_181 4 11 (dk_at dksX2_halved_0 7 rfl rfl)
theorem dX2_halved_10 : decode cX2_halved 10 = .ok (.aload_n 0, 1) := dk_42 (dk_at dksX2_halved_0 10 rfl rfl)
theorem dX2_halved_11 : decode cX2_halved 11 = .ok (.bipush 37, 2) := dk_16 37 (dk_at dksX2_halved_0 11 rfl rfl)
theorem dX2_halved_13 : decode cX2_halved 13 = .ok (.invokevirtual 991, 3) := dk_182 3 223 (dk_at dksX2_halved_0 13 rfl rfl)
theorem dX2_halved_16 : decode cX2_halved 16 = .ok (.ifCond .eq 12, 3) := dk_153 0 12 (dk_at dksX2_halved_0 16 rfl rfl)
theorem dX2_halved_19 : decode cX2_halved 19 = .ok (.aload_n 0, 1) := dk_42 (dk_at dksX2_halved_0 19 rfl rfl)
theorem dX2_halved_20 : decode cX2_halved 20 = .ok (.iload 5, 2) := dk_21 5 (dk_at dksX2_halved_0 20 rfl rfl)
theorem dX2_halved_22 : decode cX2_halved 22 = .ok (.invokevirtual 1042, 3) := dk_182 4 18 (dk_at dksX2_halved_1 0 rfl rfl)
theorem dX2_halved_25 : decode cX2_halved 25 = .ok (.goto 17, 3) := dk_167 0 17 (dk_at dksX2_halved_1 3 rfl rfl)
theorem dX2_halved_28 : decode cX2_halved 28 = .ok (.aload_n 0, 1) := dk_42 (dk_at dksX2_halved_1 6 rfl rfl)
theorem dX2_halved_29 : decode cX2_halved 29 = .ok (.aload_n 0, 1) := dk_42 (dk_at dksX2_halved_1 7 rfl rfl)
theorem dX2_halved_30 : decode cX2_halved 30 = .ok (.lload_n 1, 1) := dk_31 (dk_at dksX2_halved_1 8 rfl rfl)
theorem dX2_halved_31 : decode cX2_halved 31 = .ok (.lload_n 3, 1) := dk_33 (dk_at dksX2_halved_1 9 rfl rfl)
theorem dX2_halved_32 : decode cX2_halved 32 = .ok (.invokevirtual 1046, 3) := dk_182 4 22 (dk_at dksX2_halved_1 10 rfl rfl)
theorem dX2_halved_35 : decode cX2_halved 35 = .ok (.ldc_w 1038, 3) := dk_19 4 14 (dk_at dksX2_halved_1 13 rfl rfl)
theorem dX2_halved_38 : decode cX2_halved 38 = .ok (.iand, 1) := dk_126 (dk_at dksX2_halved_1 16 rfl rfl)
theorem dX2_halved_39 : decode cX2_halved 39 = .ok (.putfield 1039, 3) := dk_181 4 15 (dk_at dksX2_halved_1 17 rfl rfl)
theorem dX2_halved_42 : decode cX2_halved 42 = .ok (.return_, 1) := dk_177 (dk_at dksX2_halved_1 20 rfl rfl)
abbrev cX2_part : ByteArray := prog_4_method_46_code
def yX2_part : MethodName := ⟨RX2, "part", "(Z)V"⟩
def dkwX2_part_8 : List UInt8 := [19, 4, 14, 126, 181, 4, 15, 177]
abbrev dktX2_part_8 : List UInt8 := dkwX2_part_8 ++ []
def dkwX2_part_7 : List UInt8 := [167, 0, 28, 28, 153, 0, 16, 42, 180, 3, 251, 18, 75, 96, 16, 16, 124, 167, 0, 11, 42, 180, 3, 251]
abbrev dktX2_part_7 : List UInt8 := dkwX2_part_7 ++ dktX2_part_8
def dkwX2_part_6 : List UInt8 := [153, 0, 7, 8, 167, 0, 5, 16, 6, 181, 4, 11, 42, 42, 180, 3, 248, 2, 159, 0, 7, 3]
abbrev dktX2_part_6 : List UInt8 := dkwX2_part_6 ++ dktX2_part_7
def dkwX2_part_5 : List UInt8 := [182, 3, 233, 42, 182, 3, 217, 153, 0, 7, 42, 182, 4, 8, 42, 16, 41, 182, 3, 233, 42, 28]
abbrev dktX2_part_5 : List UInt8 := dkwX2_part_5 ++ dktX2_part_6
def dkwX2_part_4 : List UInt8 := [153, 0, 7, 4, 167, 0, 4, 3, 182, 3, 226, 154, 0, 4, 177, 42, 182, 3, 230, 42, 16, 40]
abbrev dktX2_part_4 : List UInt8 := dkwX2_part_4 ++ dktX2_part_5
def dkwX2_part_3 : List UInt8 := [20, 4, 6, 148, 154, 0, 7, 4, 167, 0, 4, 3, 62, 42, 29, 154, 0, 11, 28, 153, 0, 11, 27]
abbrev dktX2_part_3 : List UInt8 := dkwX2_part_3 ++ dktX2_part_4
def dkwX2_part_2 : List UInt8 := [153, 0, 34, 42, 180, 0, 119, 4, 160, 0, 26, 42, 180, 0, 162, 5, 160, 0, 18, 42, 180, 0, 150]
abbrev dktX2_part_2 : List UInt8 := dkwX2_part_2 ++ dktX2_part_3
def dkwX2_part_1 : List UInt8 := [160, 0, 18, 42, 180, 0, 150, 20, 4, 4, 148, 154, 0, 7, 4, 167, 0, 4, 3, 61, 42, 182, 3, 217]
abbrev dktX2_part_1 : List UInt8 := dkwX2_part_1 ++ dktX2_part_2
def dkwX2_part_0 : List UInt8 := [42, 182, 3, 230, 42, 182, 3, 217, 153, 0, 34, 42, 180, 0, 119, 4, 160, 0, 26, 42, 180, 0, 162, 5]
abbrev dktX2_part_0 : List UInt8 := dkwX2_part_0 ++ dktX2_part_1
theorem dksX2_part_0 : cX2_part.data.toList.drop 0 = dktX2_part_0 := by decide +kernel
theorem dksX2_part_1 : cX2_part.data.toList.drop 24 = dktX2_part_1 := dk_seg dksX2_part_0 24 rfl rfl
theorem dksX2_part_2 : cX2_part.data.toList.drop 48 = dktX2_part_2 := dk_seg dksX2_part_1 24 rfl rfl
theorem dksX2_part_3 : cX2_part.data.toList.drop 71 = dktX2_part_3 := dk_seg dksX2_part_2 23 rfl rfl
theorem dksX2_part_4 : cX2_part.data.toList.drop 94 = dktX2_part_4 := dk_seg dksX2_part_3 23 rfl rfl
theorem dksX2_part_5 : cX2_part.data.toList.drop 116 = dktX2_part_5 := dk_seg dksX2_part_4 22 rfl rfl
theorem dksX2_part_6 : cX2_part.data.toList.drop 138 = dktX2_part_6 := dk_seg dksX2_part_5 22 rfl rfl
theorem dksX2_part_7 : cX2_part.data.toList.drop 160 = dktX2_part_7 := dk_seg dksX2_part_6 22 rfl rfl
theorem dksX2_part_8 : cX2_part.data.toList.drop 184 = dktX2_part_8 := dk_seg dksX2_part_7 24 rfl rfl
theorem dX2_part_0 : decode cX2_part 0 = .ok (.aload_n 0, 1) := dk_42 (dk_at dksX2_part_0 0 rfl rfl)
theorem dX2_part_1 : decode cX2_part 1 = .ok (.invokevirtual 998, 3) := dk_182 3 230 (dk_at dksX2_part_0 1 rfl rfl)
theorem dX2_part_4 : decode cX2_part 4 = .ok (.aload_n 0, 1) := dk_42 (dk_at dksX2_part_0 4 rfl rfl)
theorem dX2_part_5 : decode cX2_part 5 = .ok (.invokevirtual 985, 3) := dk_182 3 217 (dk_at dksX2_part_0 5 rfl rfl)
theorem dX2_part_8 : decode cX2_part 8 = .ok (.ifCond .eq 34, 3) := dk_153 0 34 (dk_at dksX2_part_0 8 rfl rfl)
theorem dX2_part_11 : decode cX2_part 11 = .ok (.aload_n 0, 1) := dk_42 (dk_at dksX2_part_0 11 rfl rfl)
theorem dX2_part_12 : decode cX2_part 12 = .ok (.getfield 119, 3) := dk_180 0 119 (dk_at dksX2_part_0 12 rfl rfl)
theorem dX2_part_15 : decode cX2_part 15 = .ok (.iconst 1, 1) := dk_4 (dk_at dksX2_part_0 15 rfl rfl)
theorem dX2_part_16 : decode cX2_part 16 = .ok (.if_icmp .ne 26, 3) := dk_160 0 26 (dk_at dksX2_part_0 16 rfl rfl)
theorem dX2_part_19 : decode cX2_part 19 = .ok (.aload_n 0, 1) := dk_42 (dk_at dksX2_part_0 19 rfl rfl)
theorem dX2_part_20 : decode cX2_part 20 = .ok (.getfield 162, 3) := dk_180 0 162 (dk_at dksX2_part_0 20 rfl rfl)
theorem dX2_part_23 : decode cX2_part 23 = .ok (.iconst 2, 1) := dk_5 (dk_at dksX2_part_0 23 rfl rfl)
theorem dX2_part_24 : decode cX2_part 24 = .ok (.if_icmp .ne 18, 3) := dk_160 0 18 (dk_at dksX2_part_1 0 rfl rfl)
theorem dX2_part_27 : decode cX2_part 27 = .ok (.aload_n 0, 1) := dk_42 (dk_at dksX2_part_1 3 rfl rfl)
theorem dX2_part_28 : decode cX2_part 28 = .ok (.getfield 150, 3) := dk_180 0 150 (dk_at dksX2_part_1 4 rfl rfl)
theorem dX2_part_31 : decode cX2_part 31 = .ok (.ldc2_w 1028, 3) := dk_20 4 4 (dk_at dksX2_part_1 7 rfl rfl)
theorem dX2_part_34 : decode cX2_part 34 = .ok (.lcmp, 1) := dk_148 (dk_at dksX2_part_1 10 rfl rfl)
theorem dX2_part_35 : decode cX2_part 35 = .ok (.ifCond .ne 7, 3) := dk_154 0 7 (dk_at dksX2_part_1 11 rfl rfl)
theorem dX2_part_38 : decode cX2_part 38 = .ok (.iconst 1, 1) := dk_4 (dk_at dksX2_part_1 14 rfl rfl)
theorem dX2_part_39 : decode cX2_part 39 = .ok (.goto 4, 3) := dk_167 0 4 (dk_at dksX2_part_1 15 rfl rfl)
theorem dX2_part_42 : decode cX2_part 42 = .ok (.iconst 0, 1) := dk_3 (dk_at dksX2_part_1 18 rfl rfl)
theorem dX2_part_43 : decode cX2_part 43 = .ok (.istore_n 2, 1) := dk_61 (dk_at dksX2_part_1 19 rfl rfl)
theorem dX2_part_44 : decode cX2_part 44 = .ok (.aload_n 0, 1) := dk_42 (dk_at dksX2_part_1 20 rfl rfl)
theorem dX2_part_45 : decode cX2_part 45 = .ok (.invokevirtual 985, 3) := dk_182 3 217 (dk_at dksX2_part_1 21 rfl rfl)
theorem dX2_part_48 : decode cX2_part 48 = .ok (.ifCond .eq 34, 3) := dk_153 0 34 (dk_at dksX2_part_2 0 rfl rfl)
theorem dX2_part_51 : decode cX2_part 51 = .ok (.aload_n 0, 1) := dk_42 (dk_at dksX2_part_2 3 rfl rfl)
theorem dX2_part_52 : decode cX2_part 52 = .ok (.getfield 119, 3) := dk_180 0 119 (dk_at dksX2_part_2 4 rfl rfl)
theorem dX2_part_55 : decode cX2_part 55 = .ok (.iconst 1, 1) := dk_4 (dk_at dksX2_part_2 7 rfl rfl)
theorem dX2_part_56 : decode cX2_part 56 = .ok (.if_icmp .ne 26, 3) := dk_160 0 26 (dk_at dksX2_part_2 8 rfl rfl)
theorem dX2_part_59 : decode cX2_part 59 = .ok (.aload_n 0, 1) := dk_42 (dk_at dksX2_part_2 11 rfl rfl)
theorem dX2_part_60 : decode cX2_part 60 = .ok (.getfield 162, 3) := dk_180 0 162 (dk_at dksX2_part_2 12 rfl rfl)
theorem dX2_part_63 : decode cX2_part 63 = .ok (.iconst 2, 1) := dk_5 (dk_at dksX2_part_2 15 rfl rfl)
theorem dX2_part_64 : decode cX2_part 64 = .ok (.if_icmp .ne 18, 3) := dk_160 0 18 (dk_at dksX2_part_2 16 rfl rfl)
theorem dX2_part_67 : decode cX2_part 67 = .ok (.aload_n 0, 1) := dk_42 (dk_at dksX2_part_2 19 rfl rfl)
theorem dX2_part_68 : decode cX2_part 68 = .ok (.getfield 150, 3) := dk_180 0 150 (dk_at dksX2_part_2 20 rfl rfl)
theorem dX2_part_71 : decode cX2_part 71 = .ok (.ldc2_w 1030, 3) := dk_20 4 6 (dk_at dksX2_part_3 0 rfl rfl)
theorem dX2_part_74 : decode cX2_part 74 = .ok (.lcmp, 1) := dk_148 (dk_at dksX2_part_3 3 rfl rfl)
theorem dX2_part_75 : decode cX2_part 75 = .ok (.ifCond .ne 7, 3) := dk_154 0 7 (dk_at dksX2_part_3 4 rfl rfl)
theorem dX2_part_78 : decode cX2_part 78 = .ok (.iconst 1, 1) := dk_4 (dk_at dksX2_part_3 7 rfl rfl)
theorem dX2_part_79 : decode cX2_part 79 = .ok (.goto 4, 3) := dk_167 0 4 (dk_at dksX2_part_3 8 rfl rfl)
theorem dX2_part_82 : decode cX2_part 82 = .ok (.iconst 0, 1) := dk_3 (dk_at dksX2_part_3 11 rfl rfl)
theorem dX2_part_83 : decode cX2_part 83 = .ok (.istore_n 3, 1) := dk_62 (dk_at dksX2_part_3 12 rfl rfl)
theorem dX2_part_84 : decode cX2_part 84 = .ok (.aload_n 0, 1) := dk_42 (dk_at dksX2_part_3 13 rfl rfl)
theorem dX2_part_85 : decode cX2_part 85 = .ok (.iload_n 3, 1) := dk_29 (dk_at dksX2_part_3 14 rfl rfl)
theorem dX2_part_86 : decode cX2_part 86 = .ok (.ifCond .ne 11, 3) := dk_154 0 11 (dk_at dksX2_part_3 15 rfl rfl)
theorem dX2_part_89 : decode cX2_part 89 = .ok (.iload_n 2, 1) := dk_28 (dk_at dksX2_part_3 18 rfl rfl)
theorem dX2_part_90 : decode cX2_part 90 = .ok (.ifCond .eq 11, 3) := dk_153 0 11 (dk_at dksX2_part_3 19 rfl rfl)
theorem dX2_part_93 : decode cX2_part 93 = .ok (.iload_n 1, 1) := dk_27 (dk_at dksX2_part_3 22 rfl rfl)
theorem dX2_part_94 : decode cX2_part 94 = .ok (.ifCond .eq 7, 3) := dk_153 0 7 (dk_at dksX2_part_4 0 rfl rfl)
theorem dX2_part_97 : decode cX2_part 97 = .ok (.iconst 1, 1) := dk_4 (dk_at dksX2_part_4 3 rfl rfl)
theorem dX2_part_98 : decode cX2_part 98 = .ok (.goto 4, 3) := dk_167 0 4 (dk_at dksX2_part_4 4 rfl rfl)
theorem dX2_part_101 : decode cX2_part 101 = .ok (.iconst 0, 1) := dk_3 (dk_at dksX2_part_4 7 rfl rfl)
theorem dX2_part_102 : decode cX2_part 102 = .ok (.invokevirtual 994, 3) := dk_182 3 226 (dk_at dksX2_part_4 8 rfl rfl)
theorem dX2_part_105 : decode cX2_part 105 = .ok (.ifCond .ne 4, 3) := dk_154 0 4 (dk_at dksX2_part_4 11 rfl rfl)
theorem dX2_part_108 : decode cX2_part 108 = .ok (.return_, 1) := dk_177 (dk_at dksX2_part_4 14 rfl rfl)
theorem dX2_part_109 : decode cX2_part 109 = .ok (.aload_n 0, 1) := dk_42 (dk_at dksX2_part_4 15 rfl rfl)
theorem dX2_part_110 : decode cX2_part 110 = .ok (.invokevirtual 998, 3) := dk_182 3 230 (dk_at dksX2_part_4 16 rfl rfl)
theorem dX2_part_113 : decode cX2_part 113 = .ok (.aload_n 0, 1) := dk_42 (dk_at dksX2_part_4 19 rfl rfl)
theorem dX2_part_114 : decode cX2_part 114 = .ok (.bipush 40, 2) := dk_16 40 (dk_at dksX2_part_4 20 rfl rfl)
theorem dX2_part_116 : decode cX2_part 116 = .ok (.invokevirtual 1001, 3) := dk_182 3 233 (dk_at dksX2_part_5 0 rfl rfl)
theorem dX2_part_119 : decode cX2_part 119 = .ok (.aload_n 0, 1) := dk_42 (dk_at dksX2_part_5 3 rfl rfl)
theorem dX2_part_120 : decode cX2_part 120 = .ok (.invokevirtual 985, 3) := dk_182 3 217 (dk_at dksX2_part_5 4 rfl rfl)
theorem dX2_part_123 : decode cX2_part 123 = .ok (.ifCond .eq 7, 3) := dk_153 0 7 (dk_at dksX2_part_5 7 rfl rfl)
theorem dX2_part_126 : decode cX2_part 126 = .ok (.aload_n 0, 1) := dk_42 (dk_at dksX2_part_5 10 rfl rfl)
theorem dX2_part_127 : decode cX2_part 127 = .ok (.invokevirtual 1032, 3) := dk_182 4 8 (dk_at dksX2_part_5 11 rfl rfl)
theorem dX2_part_130 : decode cX2_part 130 = .ok (.aload_n 0, 1) := dk_42 (dk_at dksX2_part_5 14 rfl rfl)
theorem dX2_part_131 : decode cX2_part 131 = .ok (.bipush 41, 2) := dk_16 41 (dk_at dksX2_part_5 15 rfl rfl)
theorem dX2_part_133 : decode cX2_part 133 = .ok (.invokevirtual 1001, 3) := dk_182 3 233 (dk_at dksX2_part_5 17 rfl rfl)
theorem dX2_part_136 : decode cX2_part 136 = .ok (.aload_n 0, 1) := dk_42 (dk_at dksX2_part_5 20 rfl rfl)
theorem dX2_part_137 : decode cX2_part 137 = .ok (.iload_n 2, 1) := dk_28 (dk_at dksX2_part_5 21 rfl rfl)
theorem dX2_part_138 : decode cX2_part 138 = .ok (.ifCond .eq 7, 3) := dk_153 0 7 (dk_at dksX2_part_6 0 rfl rfl)
theorem dX2_part_141 : decode cX2_part 141 = .ok (.iconst 5, 1) := dk_8 (dk_at dksX2_part_6 3 rfl rfl)
theorem dX2_part_142 : decode cX2_part 142 = .ok (.goto 5, 3) := dk_167 0 5 (dk_at dksX2_part_6 4 rfl rfl)
theorem dX2_part_145 : decode cX2_part 145 = .ok (.bipush 6, 2) := dk_16 6 (dk_at dksX2_part_6 7 rfl rfl)
theorem dX2_part_147 : decode cX2_part 147 = .ok (.putfield 1035, 3) := dk_181 4 11 (dk_at dksX2_part_6 9 rfl rfl)
theorem dX2_part_150 : decode cX2_part 150 = .ok (.aload_n 0, 1) := dk_42 (dk_at dksX2_part_6 12 rfl rfl)
theorem dX2_part_151 : decode cX2_part 151 = .ok (.aload_n 0, 1) := dk_42 (dk_at dksX2_part_6 13 rfl rfl)
theorem dX2_part_152 : decode cX2_part 152 = .ok (.getfield 1016, 3) := dk_180 3 248 (dk_at dksX2_part_6 14 rfl rfl)
theorem dX2_part_155 : decode cX2_part 155 = .ok (.iconst (-1), 1) := dk_2 (dk_at dksX2_part_6 17 rfl rfl)
theorem dX2_part_156 : decode cX2_part 156 = .ok (.if_icmp .eq 7, 3) := dk_159 0 7 (dk_at dksX2_part_6 18 rfl rfl)
theorem dX2_part_159 : decode cX2_part 159 = .ok (.iconst 0, 1) := dk_3 (dk_at dksX2_part_6 21 rfl rfl)
theorem dX2_part_160 : decode cX2_part 160 = .ok (.goto 28, 3) := dk_167 0 28 (dk_at dksX2_part_7 0 rfl rfl)
theorem dX2_part_163 : decode cX2_part 163 = .ok (.iload_n 2, 1) := dk_28 (dk_at dksX2_part_7 3 rfl rfl)
theorem dX2_part_164 : decode cX2_part 164 = .ok (.ifCond .eq 16, 3) := dk_153 0 16 (dk_at dksX2_part_7 4 rfl rfl)
theorem dX2_part_167 : decode cX2_part 167 = .ok (.aload_n 0, 1) := dk_42 (dk_at dksX2_part_7 7 rfl rfl)
theorem dX2_part_168 : decode cX2_part 168 = .ok (.getfield 1019, 3) := dk_180 3 251 (dk_at dksX2_part_7 8 rfl rfl)
theorem dX2_part_171 : decode cX2_part 171 = .ok (.ldc 75, 2) := dk_18 75 (dk_at dksX2_part_7 11 rfl rfl)
theorem dX2_part_173 : decode cX2_part 173 = .ok (.iadd, 1) := dk_96 (dk_at dksX2_part_7 13 rfl rfl)
theorem dX2_part_174 : decode cX2_part 174 = .ok (.bipush 16, 2) := dk_16 16 (dk_at dksX2_part_7 14 rfl rfl)
theorem dX2_part_176 : decode cX2_part 176 = .ok (.iushr, 1) := dk_124 (dk_at dksX2_part_7 16 rfl rfl)
theorem dX2_part_177 : decode cX2_part 177 = .ok (.goto 11, 3) := dk_167 0 11 (dk_at dksX2_part_7 17 rfl rfl)
theorem dX2_part_180 : decode cX2_part 180 = .ok (.aload_n 0, 1) := dk_42 (dk_at dksX2_part_7 20 rfl rfl)
theorem dX2_part_181 : decode cX2_part 181 = .ok (.getfield 1019, 3) := dk_180 3 251 (dk_at dksX2_part_7 21 rfl rfl)
theorem dX2_part_184 : decode cX2_part 184 = .ok (.ldc_w 1038, 3) := dk_19 4 14 (dk_at dksX2_part_8 0 rfl rfl)
theorem dX2_part_187 : decode cX2_part 187 = .ok (.iand, 1) := dk_126 (dk_at dksX2_part_8 3 rfl rfl)
theorem dX2_part_188 : decode cX2_part 188 = .ok (.putfield 1039, 3) := dk_181 4 15 (dk_at dksX2_part_8 4 rfl rfl)
theorem dX2_part_191 : decode cX2_part 191 = .ok (.return_, 1) := dk_177 (dk_at dksX2_part_8 7 rfl rfl)
abbrev cX2_expression : ByteArray := prog_4_method_45_code
def yX2_expression : MethodName := ⟨RX2, "expression", "()V"⟩
def dkwX2_expression_1 : List UInt8 := [42, 182, 4, 1, 177]
abbrev dktX2_expression_1 : List UInt8 := dkwX2_expression_1 ++ []
def dkwX2_expression_0 : List UInt8 := [42, 2, 181, 3, 248, 42, 182, 3, 254, 153, 0, 15, 42, 42, 182, 3, 238, 136, 181, 3, 251, 167, 0, 7]
abbrev dktX2_expression_0 : List UInt8 := dkwX2_expression_0 ++ dktX2_expression_1
theorem dksX2_expression_0 : cX2_expression.data.toList.drop 0 = dktX2_expression_0 := by decide +kernel
theorem dksX2_expression_1 : cX2_expression.data.toList.drop 24 = dktX2_expression_1 := dk_seg dksX2_expression_0 24 rfl rfl
theorem dX2_expression_0 : decode cX2_expression 0 = .ok (.aload_n 0, 1) := dk_42 (dk_at dksX2_expression_0 0 rfl rfl)
theorem dX2_expression_1 : decode cX2_expression 1 = .ok (.iconst (-1), 1) := dk_2 (dk_at dksX2_expression_0 1 rfl rfl)
theorem dX2_expression_2 : decode cX2_expression 2 = .ok (.putfield 1016, 3) := dk_181 3 248 (dk_at dksX2_expression_0 2 rfl rfl)
theorem dX2_expression_5 : decode cX2_expression 5 = .ok (.aload_n 0, 1) := dk_42 (dk_at dksX2_expression_0 5 rfl rfl)
theorem dX2_expression_6 : decode cX2_expression 6 = .ok (.invokevirtual 1022, 3) := dk_182 3 254 (dk_at dksX2_expression_0 6 rfl rfl)
theorem dX2_expression_9 : decode cX2_expression 9 = .ok (.ifCond .eq 15, 3) := dk_153 0 15 (dk_at dksX2_expression_0 9 rfl rfl)
theorem dX2_expression_12 : decode cX2_expression 12 = .ok (.aload_n 0, 1) := dk_42 (dk_at dksX2_expression_0 12 rfl rfl)
theorem dX2_expression_13 : decode cX2_expression 13 = .ok (.aload_n 0, 1) := dk_42 (dk_at dksX2_expression_0 13 rfl rfl)
theorem dX2_expression_14 : decode cX2_expression 14 = .ok (.invokevirtual 1006, 3) := dk_182 3 238 (dk_at dksX2_expression_0 14 rfl rfl)
theorem dX2_expression_17 : decode cX2_expression 17 = .ok (.l2i, 1) := dk_136 (dk_at dksX2_expression_0 17 rfl rfl)
theorem dX2_expression_18 : decode cX2_expression 18 = .ok (.putfield 1019, 3) := dk_181 3 251 (dk_at dksX2_expression_0 18 rfl rfl)
theorem dX2_expression_21 : decode cX2_expression 21 = .ok (.goto 7, 3) := dk_167 0 7 (dk_at dksX2_expression_0 21 rfl rfl)
theorem dX2_expression_24 : decode cX2_expression 24 = .ok (.aload_n 0, 1) := dk_42 (dk_at dksX2_expression_1 0 rfl rfl)
theorem dX2_expression_25 : decode cX2_expression 25 = .ok (.invokevirtual 1025, 3) := dk_182 4 1 (dk_at dksX2_expression_1 1 rfl rfl)
theorem dX2_expression_28 : decode cX2_expression 28 = .ok (.return_, 1) := dk_177 (dk_at dksX2_expression_1 4 rfl rfl)
abbrev cX2_isNumber : ByteArray := prog_4_method_40_code
def yX2_isNumber : MethodName := ⟨RX2, "isNumber", "()Z"⟩
def dkwX2_isNumber_1 : List UInt8 := [4, 167, 0, 4, 3, 172]
abbrev dktX2_isNumber_1 : List UInt8 := dkwX2_isNumber_1 ++ []
def dkwX2_isNumber_0 : List UInt8 := [42, 182, 3, 217, 153, 0, 24, 42, 180, 0, 119, 7, 159, 0, 12, 42, 16, 45, 182, 3, 223, 153, 0, 7]
abbrev dktX2_isNumber_0 : List UInt8 := dkwX2_isNumber_0 ++ dktX2_isNumber_1
theorem dksX2_isNumber_0 : cX2_isNumber.data.toList.drop 0 = dktX2_isNumber_0 := by decide +kernel
theorem dksX2_isNumber_1 : cX2_isNumber.data.toList.drop 24 = dktX2_isNumber_1 := dk_seg dksX2_isNumber_0 24 rfl rfl
theorem dX2_isNumber_0 : decode cX2_isNumber 0 = .ok (.aload_n 0, 1) := dk_42 (dk_at dksX2_isNumber_0 0 rfl rfl)
theorem dX2_isNumber_1 : decode cX2_isNumber 1 = .ok (.invokevirtual 985, 3) := dk_182 3 217 (dk_at dksX2_isNumber_0 1 rfl rfl)
theorem dX2_isNumber_4 : decode cX2_isNumber 4 = .ok (.ifCond .eq 24, 3) := dk_153 0 24 (dk_at dksX2_isNumber_0 4 rfl rfl)
theorem dX2_isNumber_7 : decode cX2_isNumber 7 = .ok (.aload_n 0, 1) := dk_42 (dk_at dksX2_isNumber_0 7 rfl rfl)
theorem dX2_isNumber_8 : decode cX2_isNumber 8 = .ok (.getfield 119, 3) := dk_180 0 119 (dk_at dksX2_isNumber_0 8 rfl rfl)
theorem dX2_isNumber_11 : decode cX2_isNumber 11 = .ok (.iconst 4, 1) := dk_7 (dk_at dksX2_isNumber_0 11 rfl rfl)
theorem dX2_isNumber_12 : decode cX2_isNumber 12 = .ok (.if_icmp .eq 12, 3) := dk_159 0 12 (dk_at dksX2_isNumber_0 12 rfl rfl)
theorem dX2_isNumber_15 : decode cX2_isNumber 15 = .ok (.aload_n 0, 1) := dk_42 (dk_at dksX2_isNumber_0 15 rfl rfl)
theorem dX2_isNumber_16 : decode cX2_isNumber 16 = .ok (.bipush 45, 2) := dk_16 45 (dk_at dksX2_isNumber_0 16 rfl rfl)
theorem dX2_isNumber_18 : decode cX2_isNumber 18 = .ok (.invokevirtual 991, 3) := dk_182 3 223 (dk_at dksX2_isNumber_0 18 rfl rfl)
theorem dX2_isNumber_21 : decode cX2_isNumber 21 = .ok (.ifCond .eq 7, 3) := dk_153 0 7 (dk_at dksX2_isNumber_0 21 rfl rfl)
theorem dX2_isNumber_24 : decode cX2_isNumber 24 = .ok (.iconst 1, 1) := dk_4 (dk_at dksX2_isNumber_1 0 rfl rfl)
theorem dX2_isNumber_25 : decode cX2_isNumber 25 = .ok (.goto 4, 3) := dk_167 0 4 (dk_at dksX2_isNumber_1 1 rfl rfl)
theorem dX2_isNumber_28 : decode cX2_isNumber 28 = .ok (.iconst 0, 1) := dk_3 (dk_at dksX2_isNumber_1 4 rfl rfl)
theorem dX2_isNumber_29 : decode cX2_isNumber 29 = .ok (.ireturn, 1) := dk_172 (dk_at dksX2_isNumber_1 5 rfl rfl)
abbrev cX2_others : ByteArray := prog_4_method_60_code
def yX2_others : MethodName := ⟨RX2, "others", "(II)V"⟩
def dkwX2_others_8 : List UInt8 := [120, 128, 182, 4, 42, 177]
abbrev dktX2_others_8 : List UInt8 := dkwX2_others_8 ++ []
def dkwX2_others_7 : List UInt8 := [180, 0, 119, 153, 0, 14, 42, 9, 20, 4, 104, 182, 4, 22, 167, 0, 4, 3, 62, 42, 28, 29, 16, 6]
abbrev dktX2_others_7 : List UInt8 := dkwX2_others_7 ++ dktX2_others_8
def dkwX2_others_6 : List UInt8 := [42, 28, 3, 29, 21, 4, 184, 4, 74, 182, 4, 42, 167, 0, 39, 27, 16, 19, 160, 0, 21, 42]
abbrev dktX2_others_6 : List UInt8 := dkwX2_others_6 ++ dktX2_others_7
def dkwX2_others_5 : List UInt8 := [167, 0, 75, 27, 16, 17, 160, 0, 33, 42, 182, 4, 66, 62, 42, 182, 4, 69, 42, 182, 4, 78, 54, 4]
abbrev dktX2_others_5 : List UInt8 := dkwX2_others_5 ++ dktX2_others_6
def dkwX2_others_4 : List UInt8 := [16, 18, 120, 128, 16, 10, 182, 4, 99, 167, 0, 90, 27, 16, 16, 160, 0, 12, 42, 28, 7, 182, 4, 99]
abbrev dktX2_others_4 : List UInt8 := dkwX2_others_4 ++ dktX2_others_5
def dkwX2_others_3 : List UInt8 := [42, 182, 3, 254, 153, 0, 16, 42, 9, 20, 4, 102, 182, 4, 22, 62, 42, 182, 4, 69, 42, 28, 29]
abbrev dktX2_others_3 : List UInt8 := dkwX2_others_3 ++ dktX2_others_4
def dkwX2_others_2 : List UInt8 := [28, 29, 21, 4, 3, 184, 4, 74, 16, 10, 182, 4, 99, 167, 0, 133, 27, 16, 15, 160, 0, 40, 3, 62]
abbrev dktX2_others_2 : List UInt8 := dkwX2_others_2 ++ dktX2_others_3
def dkwX2_others_1 : List UInt8 := [160, 0, 10, 42, 182, 4, 66, 167, 0, 4, 3, 54, 4, 27, 16, 13, 160, 0, 7, 42, 182, 4, 69, 42]
abbrev dktX2_others_1 : List UInt8 := dkwX2_others_1 ++ dktX2_others_2
def dkwX2_others_0 : List UInt8 := [27, 16, 13, 159, 0, 9, 27, 16, 14, 160, 0, 55, 42, 182, 4, 66, 62, 42, 182, 4, 69, 27, 16, 13]
abbrev dktX2_others_0 : List UInt8 := dkwX2_others_0 ++ dktX2_others_1
theorem dksX2_others_0 : cX2_others.data.toList.drop 0 = dktX2_others_0 := by decide +kernel
theorem dksX2_others_1 : cX2_others.data.toList.drop 24 = dktX2_others_1 := dk_seg dksX2_others_0 24 rfl rfl
theorem dksX2_others_2 : cX2_others.data.toList.drop 48 = dktX2_others_2 := dk_seg dksX2_others_1 24 rfl rfl
theorem dksX2_others_3 : cX2_others.data.toList.drop 72 = dktX2_others_3 := dk_seg dksX2_others_2 24 rfl rfl
theorem dksX2_others_4 : cX2_others.data.toList.drop 95 = dktX2_others_4 := dk_seg dksX2_others_3 23 rfl rfl
theorem dksX2_others_5 : cX2_others.data.toList.drop 119 = dktX2_others_5 := dk_seg dksX2_others_4 24 rfl rfl
theorem dksX2_others_6 : cX2_others.data.toList.drop 143 = dktX2_others_6 := dk_seg dksX2_others_5 24 rfl rfl
theorem dksX2_others_7 : cX2_others.data.toList.drop 165 = dktX2_others_7 := dk_seg dksX2_others_6 22 rfl rfl
theorem dksX2_others_8 : cX2_others.data.toList.drop 189 = dktX2_others_8 := dk_seg dksX2_others_7 24 rfl rfl
theorem dX2_others_0 : decode cX2_others 0 = .ok (.iload_n 1, 1) := dk_27 (dk_at dksX2_others_0 0 rfl rfl)
theorem dX2_others_1 : decode cX2_others 1 = .ok (.bipush 13, 2) := dk_16 13 (dk_at dksX2_others_0 1 rfl rfl)
theorem dX2_others_3 : decode cX2_others 3 = .ok (.if_icmp .eq 9, 3) := dk_159 0 9 (dk_at dksX2_others_0 3 rfl rfl)
theorem dX2_others_6 : decode cX2_others 6 = .ok (.iload_n 1, 1) := dk_27 (dk_at dksX2_others_0 6 rfl rfl)
theorem dX2_others_7 : decode cX2_others 7 = .ok (.bipush 14, 2) := dk_16 14 (dk_at dksX2_others_0 7 rfl rfl)
theorem dX2_others_9 : decode cX2_others 9 = .ok (.if_icmp .ne 55, 3) := dk_160 0 55 (dk_at dksX2_others_0 9 rfl rfl)
theorem dX2_others_12 : decode cX2_others 12 = .ok (.aload_n 0, 1) := dk_42 (dk_at dksX2_others_0 12 rfl rfl)
theorem dX2_others_13 : decode cX2_others 13 = .ok (.invokevirtual 1090, 3) := dk_182 4 66 (dk_at dksX2_others_0 13 rfl rfl)
theorem dX2_others_16 : decode cX2_others 16 = .ok (.istore_n 3, 1) := dk_62 (dk_at dksX2_others_0 16 rfl rfl)
theorem dX2_others_17 : decode cX2_others 17 = .ok (.aload_n 0, 1) := dk_42 (dk_at dksX2_others_0 17 rfl rfl)
theorem dX2_others_18 : decode cX2_others 18 = .ok (.invokevirtual 1093, 3) := dk_182 4 69 (dk_at dksX2_others_0 18 rfl rfl)
theorem dX2_others_21 : decode cX2_others 21 = .ok (.iload_n 1, 1) := dk_27 (dk_at dksX2_others_0 21 rfl rfl)
theorem dX2_others_22 : decode cX2_others 22 = .ok (.bipush 13, 2) := dk_16 13 (dk_at dksX2_others_0 22 rfl rfl)
theorem dX2_others_24 : decode cX2_others 24 = .ok (.if_icmp .ne 10, 3) := dk_160 0 10 (dk_at dksX2_others_1 0 rfl rfl)
theorem dX2_others_27 : decode cX2_others 27 = .ok (.aload_n 0, 1) := dk_42 (dk_at dksX2_others_1 3 rfl rfl)
theorem dX2_others_28 : decode cX2_others 28 = .ok (.invokevirtual 1090, 3) := dk_182 4 66 (dk_at dksX2_others_1 4 rfl rfl)
theorem dX2_others_31 : decode cX2_others 31 = .ok (.goto 4, 3) := dk_167 0 4 (dk_at dksX2_others_1 7 rfl rfl)
theorem dX2_others_34 : decode cX2_others 34 = .ok (.iconst 0, 1) := dk_3 (dk_at dksX2_others_1 10 rfl rfl)
theorem dX2_others_35 : decode cX2_others 35 = .ok (.istore 4, 2) := dk_54 4 (dk_at dksX2_others_1 11 rfl rfl)
theorem dX2_others_37 : decode cX2_others 37 = .ok (.iload_n 1, 1) := dk_27 (dk_at dksX2_others_1 13 rfl rfl)
theorem dX2_others_38 : decode cX2_others 38 = .ok (.bipush 13, 2) := dk_16 13 (dk_at dksX2_others_1 14 rfl rfl)
theorem dX2_others_40 : decode cX2_others 40 = .ok (.if_icmp .ne 7, 3) := dk_160 0 7 (dk_at dksX2_others_1 16 rfl rfl)
theorem dX2_others_43 : decode cX2_others 43 = .ok (.aload_n 0, 1) := dk_42 (dk_at dksX2_others_1 19 rfl rfl)
theorem dX2_others_44 : decode cX2_others 44 = .ok (.invokevirtual 1093, 3) := dk_182 4 69 (dk_at dksX2_others_1 20 rfl rfl)
theorem dX2_others_47 : decode cX2_others 47 = .ok (.aload_n 0, 1) := dk_42 (dk_at dksX2_others_1 23 rfl rfl)
theorem dX2_others_48 : decode cX2_others 48 = .ok (.iload_n 2, 1) := dk_28 (dk_at dksX2_others_2 0 rfl rfl)
theorem dX2_others_49 : decode cX2_others 49 = .ok (.iload_n 3, 1) := dk_29 (dk_at dksX2_others_2 1 rfl rfl)
theorem dX2_others_50 : decode cX2_others 50 = .ok (.iload 4, 2) := dk_21 4 (dk_at dksX2_others_2 2 rfl rfl)
theorem dX2_others_52 : decode cX2_others 52 = .ok (.iconst 0, 1) := dk_3 (dk_at dksX2_others_2 4 rfl rfl)
theorem dX2_others_53 : decode cX2_others 53 = .ok (.invokestatic 1098, 3) := dk_184 4 74 (dk_at dksX2_others_2 5 rfl rfl)
theorem dX2_others_56 : decode cX2_others 56 = .ok (.bipush 10, 2) := dk_16 10 (dk_at dksX2_others_2 8 rfl rfl)
theorem dX2_others_58 : decode cX2_others 58 = .ok (.invokevirtual 1123, 3) := dk_182 4 99 (dk_at dksX2_others_2 10 rfl rfl)
theorem dX2_others_61 : decode cX2_others 61 = .ok (.goto 133, 3) := dk_167 0 133 (dk_at dksX2_others_2 13 rfl rfl)
theorem dX2_others_64 : decode cX2_others 64 = .ok (.iload_n 1, 1) := dk_27 (dk_at dksX2_others_2 16 rfl rfl)
theorem dX2_others_65 : decode cX2_others 65 = .ok (.bipush 15, 2) := dk_16 15 (dk_at dksX2_others_2 17 rfl rfl)
theorem dX2_others_67 : decode cX2_others 67 = .ok (.if_icmp .ne 40, 3) := dk_160 0 40 (dk_at dksX2_others_2 19 rfl rfl)
theorem dX2_others_70 : decode cX2_others 70 = .ok (.iconst 0, 1) := dk_3 (dk_at dksX2_others_2 22 rfl rfl)
theorem dX2_others_71 : decode cX2_others 71 = .ok (.istore_n 3, 1) := dk_62 (dk_at dksX2_others_2 23 rfl rfl)
theorem dX2_others_72 : decode cX2_others 72 = .ok (.aload_n 0, 1) := dk_42 (dk_at dksX2_others_3 0 rfl rfl)
theorem dX2_others_73 : decode cX2_others 73 = .ok (.invokevirtual 1022, 3) := dk_182 3 254 (dk_at dksX2_others_3 1 rfl rfl)
theorem dX2_others_76 : decode cX2_others 76 = .ok (.ifCond .eq 16, 3) := dk_153 0 16 (dk_at dksX2_others_3 4 rfl rfl)
theorem dX2_others_79 : decode cX2_others 79 = .ok (.aload_n 0, 1) := dk_42 (dk_at dksX2_others_3 7 rfl rfl)
theorem dX2_others_80 : decode cX2_others 80 = .ok (.lconst 0, 1) := dk_9 (dk_at dksX2_others_3 8 rfl rfl)
theorem dX2_others_81 : decode cX2_others 81 = .ok (.ldc2_w 1126, 3) := dk_20 4 102 (dk_at dksX2_others_3 9 rfl rfl)
theorem dX2_others_84 : decode cX2_others 84 = .ok (.invokevirtual 1046, 3) := dk_182 4 22 (dk_at dksX2_others_3 12 rfl rfl)
theorem dX2_others_87 : decode cX2_others 87 = .ok (.istore_n 3, 1) := dk_62 (dk_at dksX2_others_3 15 rfl rfl)
theorem dX2_others_88 : decode cX2_others 88 = .ok (.aload_n 0, 1) := dk_42 (dk_at dksX2_others_3 16 rfl rfl)
theorem dX2_others_89 : decode cX2_others 89 = .ok (.invokevirtual 1093, 3) := dk_182 4 69 (dk_at dksX2_others_3 17 rfl rfl)
theorem dX2_others_92 : decode cX2_others 92 = .ok (.aload_n 0, 1) := dk_42 (dk_at dksX2_others_3 20 rfl rfl)
theorem dX2_others_93 : decode cX2_others 93 = .ok (.iload_n 2, 1) := dk_28 (dk_at dksX2_others_3 21 rfl rfl)
theorem dX2_others_94 : decode cX2_others 94 = .ok (.iload_n 3, 1) := dk_29 (dk_at dksX2_others_3 22 rfl rfl)
theorem dX2_others_95 : decode cX2_others 95 = .ok (.bipush 18, 2) := dk_16 18 (dk_at dksX2_others_4 0 rfl rfl)
theorem dX2_others_97 : decode cX2_others 97 = .ok (.ishl, 1) := dk_120 (dk_at dksX2_others_4 2 rfl rfl)
theorem dX2_others_98 : decode cX2_others 98 = .ok (.ior, 1) := dk_128 (dk_at dksX2_others_4 3 rfl rfl)
theorem dX2_others_99 : decode cX2_others 99 = .ok (.bipush 10, 2) := dk_16 10 (dk_at dksX2_others_4 4 rfl rfl)
theorem dX2_others_101 : decode cX2_others 101 = .ok (.invokevirtual 1123, 3) := dk_182 4 99 (dk_at dksX2_others_4 6 rfl rfl)
theorem dX2_others_104 : decode cX2_others 104 = .ok (.goto 90, 3) := dk_167 0 90 (dk_at dksX2_others_4 9 rfl rfl)
theorem dX2_others_107 : decode cX2_others 107 = .ok (.iload_n 1, 1) := dk_27 (dk_at dksX2_others_4 12 rfl rfl)
theorem dX2_others_108 : decode cX2_others 108 = .ok (.bipush 16, 2) := dk_16 16 (dk_at dksX2_others_4 13 rfl rfl)
theorem dX2_others_110 : decode cX2_others 110 = .ok (.if_icmp .ne 12, 3) := dk_160 0 12 (dk_at dksX2_others_4 15 rfl rfl)
theorem dX2_others_113 : decode cX2_others 113 = .ok (.aload_n 0, 1) := dk_42 (dk_at dksX2_others_4 18 rfl rfl)
theorem dX2_others_114 : decode cX2_others 114 = .ok (.iload_n 2, 1) := dk_28 (dk_at dksX2_others_4 19 rfl rfl)
theorem dX2_others_115 : decode cX2_others 115 = .ok (.iconst 4, 1) := dk_7 (dk_at dksX2_others_4 20 rfl rfl)
theorem dX2_others_116 : decode cX2_others 116 = .ok (.invokevirtual 1123, 3) := dk_182 4 99 (dk_at dksX2_others_4 21 rfl rfl)
theorem dX2_others_119 : decode cX2_others 119 = .ok (.goto 75, 3) := dk_167 0 75 (dk_at dksX2_others_5 0 rfl rfl)
theorem dX2_others_122 : decode cX2_others 122 = .ok (.iload_n 1, 1) := dk_27 (dk_at dksX2_others_5 3 rfl rfl)
theorem dX2_others_123 : decode cX2_others 123 = .ok (.bipush 17, 2) := dk_16 17 (dk_at dksX2_others_5 4 rfl rfl)
theorem dX2_others_125 : decode cX2_others 125 = .ok (.if_icmp .ne 33, 3) := dk_160 0 33 (dk_at dksX2_others_5 6 rfl rfl)
theorem dX2_others_128 : decode cX2_others 128 = .ok (.aload_n 0, 1) := dk_42 (dk_at dksX2_others_5 9 rfl rfl)
theorem dX2_others_129 : decode cX2_others 129 = .ok (.invokevirtual 1090, 3) := dk_182 4 66 (dk_at dksX2_others_5 10 rfl rfl)
theorem dX2_others_132 : decode cX2_others 132 = .ok (.istore_n 3, 1) := dk_62 (dk_at dksX2_others_5 13 rfl rfl)
theorem dX2_others_133 : decode cX2_others 133 = .ok (.aload_n 0, 1) := dk_42 (dk_at dksX2_others_5 14 rfl rfl)
theorem dX2_others_134 : decode cX2_others 134 = .ok (.invokevirtual 1093, 3) := dk_182 4 69 (dk_at dksX2_others_5 15 rfl rfl)
theorem dX2_others_137 : decode cX2_others 137 = .ok (.aload_n 0, 1) := dk_42 (dk_at dksX2_others_5 18 rfl rfl)
theorem dX2_others_138 : decode cX2_others 138 = .ok (.invokevirtual 1102, 3) := dk_182 4 78 (dk_at dksX2_others_5 19 rfl rfl)
theorem dX2_others_141 : decode cX2_others 141 = .ok (.istore 4, 2) := dk_54 4 (dk_at dksX2_others_5 22 rfl rfl)
theorem dX2_others_143 : decode cX2_others 143 = .ok (.aload_n 0, 1) := dk_42 (dk_at dksX2_others_6 0 rfl rfl)
theorem dX2_others_144 : decode cX2_others 144 = .ok (.iload_n 2, 1) := dk_28 (dk_at dksX2_others_6 1 rfl rfl)
theorem dX2_others_145 : decode cX2_others 145 = .ok (.iconst 0, 1) := dk_3 (dk_at dksX2_others_6 2 rfl rfl)
theorem dX2_others_146 : decode cX2_others 146 = .ok (.iload_n 3, 1) := dk_29 (dk_at dksX2_others_6 3 rfl rfl)
theorem dX2_others_147 : decode cX2_others 147 = .ok (.iload 4, 2) := dk_21 4 (dk_at dksX2_others_6 4 rfl rfl)
theorem dX2_others_149 : decode cX2_others 149 = .ok (.invokestatic 1098, 3) := dk_184 4 74 (dk_at dksX2_others_6 6 rfl rfl)
theorem dX2_others_152 : decode cX2_others 152 = .ok (.invokevirtual 1066, 3) := dk_182 4 42 (dk_at dksX2_others_6 9 rfl rfl)
theorem dX2_others_155 : decode cX2_others 155 = .ok (.goto 39, 3) := dk_167 0 39 (dk_at dksX2_others_6 12 rfl rfl)
theorem dX2_others_158 : decode cX2_others 158 = .ok (.iload_n 1, 1) := dk_27 (dk_at dksX2_others_6 15 rfl rfl)
theorem dX2_others_159 : decode cX2_others 159 = .ok (.bipush 19, 2) := dk_16 19 (dk_at dksX2_others_6 16 rfl rfl)
theorem dX2_others_161 : decode cX2_others 161 = .ok (.if_icmp .ne 21, 3) := dk_160 0 21 (dk_at dksX2_others_6 18 rfl rfl)
theorem dX2_others_164 : decode cX2_others 164 = .ok (.aload_n 0, 1) := dk_42 (dk_at dksX2_others_6 21 rfl rfl)
theorem dX2_others_165 : decode cX2_others 165 = .ok (.getfield 119, 3) := dk_180 0 119 (dk_at dksX2_others_7 0 rfl rfl)
theorem dX2_others_168 : decode cX2_others 168 = .ok (.ifCond .eq 14, 3) := dk_153 0 14 (dk_at dksX2_others_7 3 rfl rfl)
theorem dX2_others_171 : decode cX2_others 171 = .ok (.aload_n 0, 1) := dk_42 (dk_at dksX2_others_7 6 rfl rfl)
theorem dX2_others_172 : decode cX2_others 172 = .ok (.lconst 0, 1) := dk_9 (dk_at dksX2_others_7 7 rfl rfl)
theorem dX2_others_173 : decode cX2_others 173 = .ok (.ldc2_w 1128, 3) := dk_20 4 104 (dk_at dksX2_others_7 8 rfl rfl)
theorem dX2_others_176 : decode cX2_others 176 = .ok (.invokevirtual 1046, 3) := dk_182 4 22 (dk_at dksX2_others_7 11 rfl rfl)
theorem dX2_others_179 : decode cX2_others 179 = .ok (.goto 4, 3) := dk_167 0 4 (dk_at dksX2_others_7 14 rfl rfl)
theorem dX2_others_182 : decode cX2_others 182 = .ok (.iconst 0, 1) := dk_3 (dk_at dksX2_others_7 17 rfl rfl)
theorem dX2_others_183 : decode cX2_others 183 = .ok (.istore_n 3, 1) := dk_62 (dk_at dksX2_others_7 18 rfl rfl)
theorem dX2_others_184 : decode cX2_others 184 = .ok (.aload_n 0, 1) := dk_42 (dk_at dksX2_others_7 19 rfl rfl)
theorem dX2_others_185 : decode cX2_others 185 = .ok (.iload_n 2, 1) := dk_28 (dk_at dksX2_others_7 20 rfl rfl)
theorem dX2_others_186 : decode cX2_others 186 = .ok (.iload_n 3, 1) := dk_29 (dk_at dksX2_others_7 21 rfl rfl)
theorem dX2_others_187 : decode cX2_others 187 = .ok (.bipush 6, 2) := dk_16 6 (dk_at dksX2_others_7 22 rfl rfl)
theorem dX2_others_189 : decode cX2_others 189 = .ok (.ishl, 1) := dk_120 (dk_at dksX2_others_8 0 rfl rfl)
theorem dX2_others_190 : decode cX2_others 190 = .ok (.ior, 1) := dk_128 (dk_at dksX2_others_8 1 rfl rfl)
theorem dX2_others_191 : decode cX2_others 191 = .ok (.invokevirtual 1066, 3) := dk_182 4 42 (dk_at dksX2_others_8 2 rfl rfl)
theorem dX2_others_194 : decode cX2_others 194 = .ok (.return_, 1) := dk_177 (dk_at dksX2_others_8 5 rfl rfl)
abbrev cX2_target : ByteArray := prog_4_method_59_code
def yX2_target : MethodName := ⟨RX2, "target", "(II)V"⟩
def dkwX2_target_0 : List UInt8 := [42, 182, 4, 1, 42, 27, 28, 42, 180, 3, 248, 42, 180, 3, 251, 182, 4, 94, 177]
abbrev dktX2_target_0 : List UInt8 := dkwX2_target_0 ++ []
theorem dksX2_target_0 : cX2_target.data.toList.drop 0 = dktX2_target_0 := by decide +kernel
theorem dX2_target_0 : decode cX2_target 0 = .ok (.aload_n 0, 1) := dk_42 (dk_at dksX2_target_0 0 rfl rfl)
theorem dX2_target_1 : decode cX2_target 1 = .ok (.invokevirtual 1025, 3) := dk_182 4 1 (dk_at dksX2_target_0 1 rfl rfl)
theorem dX2_target_4 : decode cX2_target 4 = .ok (.aload_n 0, 1) := dk_42 (dk_at dksX2_target_0 4 rfl rfl)
theorem dX2_target_5 : decode cX2_target 5 = .ok (.iload_n 1, 1) := dk_27 (dk_at dksX2_target_0 5 rfl rfl)
theorem dX2_target_6 : decode cX2_target 6 = .ok (.iload_n 2, 1) := dk_28 (dk_at dksX2_target_0 6 rfl rfl)
theorem dX2_target_7 : decode cX2_target 7 = .ok (.aload_n 0, 1) := dk_42 (dk_at dksX2_target_0 7 rfl rfl)
theorem dX2_target_8 : decode cX2_target 8 = .ok (.getfield 1016, 3) := dk_180 3 248 (dk_at dksX2_target_0 8 rfl rfl)
theorem dX2_target_11 : decode cX2_target 11 = .ok (.aload_n 0, 1) := dk_42 (dk_at dksX2_target_0 11 rfl rfl)
theorem dX2_target_12 : decode cX2_target 12 = .ok (.getfield 1019, 3) := dk_180 3 251 (dk_at dksX2_target_0 12 rfl rfl)
theorem dX2_target_15 : decode cX2_target 15 = .ok (.invokevirtual 1118, 3) := dk_182 4 94 (dk_at dksX2_target_0 15 rfl rfl)
theorem dX2_target_18 : decode cX2_target 18 = .ok (.return_, 1) := dk_177 (dk_at dksX2_target_0 18 rfl rfl)
abbrev cX2_fractions : ByteArray := prog_4_method_61_code
def yX2_fractions : MethodName := ⟨RX2, "fractions", "(II)V"⟩
def dkwX2_fractions_5 : List UInt8 := [120, 128, 182, 4, 42, 177]
abbrev dktX2_fractions_5 : List UInt8 := dkwX2_fractions_5 ++ []
def dkwX2_fractions_4 : List UInt8 := [182, 4, 42, 167, 0, 26, 42, 28, 21, 6, 16, 16, 120, 128, 21, 5, 16, 11, 120, 128, 21, 4, 16, 6]
abbrev dktX2_fractions_4 : List UInt8 := dkwX2_fractions_4 ++ dktX2_fractions_5
def dkwX2_fractions_3 : List UInt8 := [16, 22, 160, 0, 28, 42, 28, 29, 16, 8, 120, 128, 21, 5, 16, 16, 120, 128, 21, 4, 16, 11, 120, 128]
abbrev dktX2_fractions_3 : List UInt8 := dkwX2_fractions_3 ++ dktX2_fractions_4
def dkwX2_fractions_2 : List UInt8 := [160, 0, 7, 42, 182, 4, 69, 27, 16, 20, 160, 0, 10, 42, 182, 4, 78, 167, 0, 4, 3, 54, 6, 27]
abbrev dktX2_fractions_2 : List UInt8 := dkwX2_fractions_2 ++ dktX2_fractions_3
def dkwX2_fractions_1 : List UInt8 := [42, 182, 4, 69, 42, 182, 4, 78, 54, 4, 42, 182, 4, 69, 42, 182, 4, 78, 54, 5, 27, 16, 20]
abbrev dktX2_fractions_1 : List UInt8 := dkwX2_fractions_1 ++ dktX2_fractions_2
def dkwX2_fractions_0 : List UInt8 := [3, 62, 27, 16, 22, 160, 0, 23, 42, 182, 3, 254, 153, 0, 16, 42, 9, 20, 4, 102, 182, 4, 22, 62]
abbrev dktX2_fractions_0 : List UInt8 := dkwX2_fractions_0 ++ dktX2_fractions_1
theorem dksX2_fractions_0 : cX2_fractions.data.toList.drop 0 = dktX2_fractions_0 := by decide +kernel
theorem dksX2_fractions_1 : cX2_fractions.data.toList.drop 24 = dktX2_fractions_1 := dk_seg dksX2_fractions_0 24 rfl rfl
theorem dksX2_fractions_2 : cX2_fractions.data.toList.drop 47 = dktX2_fractions_2 := dk_seg dksX2_fractions_1 23 rfl rfl
theorem dksX2_fractions_3 : cX2_fractions.data.toList.drop 71 = dktX2_fractions_3 := dk_seg dksX2_fractions_2 24 rfl rfl
theorem dksX2_fractions_4 : cX2_fractions.data.toList.drop 95 = dktX2_fractions_4 := dk_seg dksX2_fractions_3 24 rfl rfl
theorem dksX2_fractions_5 : cX2_fractions.data.toList.drop 119 = dktX2_fractions_5 := dk_seg dksX2_fractions_4 24 rfl rfl
theorem dX2_fractions_0 : decode cX2_fractions 0 = .ok (.iconst 0, 1) := dk_3 (dk_at dksX2_fractions_0 0 rfl rfl)
theorem dX2_fractions_1 : decode cX2_fractions 1 = .ok (.istore_n 3, 1) := dk_62 (dk_at dksX2_fractions_0 1 rfl rfl)
theorem dX2_fractions_2 : decode cX2_fractions 2 = .ok (.iload_n 1, 1) := dk_27 (dk_at dksX2_fractions_0 2 rfl rfl)
theorem dX2_fractions_3 : decode cX2_fractions 3 = .ok (.bipush 22, 2) := dk_16 22 (dk_at dksX2_fractions_0 3 rfl rfl)
theorem dX2_fractions_5 : decode cX2_fractions 5 = .ok (.if_icmp .ne 23, 3) := dk_160 0 23 (dk_at dksX2_fractions_0 5 rfl rfl)
theorem dX2_fractions_8 : decode cX2_fractions 8 = .ok (.aload_n 0, 1) := dk_42 (dk_at dksX2_fractions_0 8 rfl rfl)
theorem dX2_fractions_9 : decode cX2_fractions 9 = .ok (.invokevirtual 1022, 3) := dk_182 3 254 (dk_at dksX2_fractions_0 9 rfl rfl)
theorem dX2_fractions_12 : decode cX2_fractions 12 = .ok (.ifCond .eq 16, 3) := dk_153 0 16 (dk_at dksX2_fractions_0 12 rfl rfl)
theorem dX2_fractions_15 : decode cX2_fractions 15 = .ok (.aload_n 0, 1) := dk_42 (dk_at dksX2_fractions_0 15 rfl rfl)
theorem dX2_fractions_16 : decode cX2_fractions 16 = .ok (.lconst 0, 1) := dk_9 (dk_at dksX2_fractions_0 16 rfl rfl)
theorem dX2_fractions_17 : decode cX2_fractions 17 = .ok (.ldc2_w 1126, 3) := dk_20 4 102 (dk_at dksX2_fractions_0 17 rfl rfl)
theorem dX2_fractions_20 : decode cX2_fractions 20 = .ok (.invokevirtual 1046, 3) := dk_182 4 22 (dk_at dksX2_fractions_0 20 rfl rfl)
theorem dX2_fractions_23 : decode cX2_fractions 23 = .ok (.istore_n 3, 1) := dk_62 (dk_at dksX2_fractions_0 23 rfl rfl)
theorem dX2_fractions_24 : decode cX2_fractions 24 = .ok (.aload_n 0, 1) := dk_42 (dk_at dksX2_fractions_1 0 rfl rfl)
theorem dX2_fractions_25 : decode cX2_fractions 25 = .ok (.invokevirtual 1093, 3) := dk_182 4 69 (dk_at dksX2_fractions_1 1 rfl rfl)
theorem dX2_fractions_28 : decode cX2_fractions 28 = .ok (.aload_n 0, 1) := dk_42 (dk_at dksX2_fractions_1 4 rfl rfl)
theorem dX2_fractions_29 : decode cX2_fractions 29 = .ok (.invokevirtual 1102, 3) := dk_182 4 78 (dk_at dksX2_fractions_1 5 rfl rfl)
theorem dX2_fractions_32 : decode cX2_fractions 32 = .ok (.istore 4, 2) := dk_54 4 (dk_at dksX2_fractions_1 8 rfl rfl)
theorem dX2_fractions_34 : decode cX2_fractions 34 = .ok (.aload_n 0, 1) := dk_42 (dk_at dksX2_fractions_1 10 rfl rfl)
theorem dX2_fractions_35 : decode cX2_fractions 35 = .ok (.invokevirtual 1093, 3) := dk_182 4 69 (dk_at dksX2_fractions_1 11 rfl rfl)
theorem dX2_fractions_38 : decode cX2_fractions 38 = .ok (.aload_n 0, 1) := dk_42 (dk_at dksX2_fractions_1 14 rfl rfl)
theorem dX2_fractions_39 : decode cX2_fractions 39 = .ok (.invokevirtual 1102, 3) := dk_182 4 78 (dk_at dksX2_fractions_1 15 rfl rfl)
theorem dX2_fractions_42 : decode cX2_fractions 42 = .ok (.istore 5, 2) := dk_54 5 (dk_at dksX2_fractions_1 18 rfl rfl)
theorem dX2_fractions_44 : decode cX2_fractions 44 = .ok (.iload_n 1, 1) := dk_27 (dk_at dksX2_fractions_1 20 rfl rfl)
theorem dX2_fractions_45 : decode cX2_fractions 45 = .ok (.bipush 20, 2) := dk_16 20 (dk_at dksX2_fractions_1 21 rfl rfl)
theorem dX2_fractions_47 : decode cX2_fractions 47 = .ok (.if_icmp .ne 7, 3) := dk_160 0 7 (dk_at dksX2_fractions_2 0 rfl rfl)
theorem dX2_fractions_50 : decode cX2_fractions 50 = .ok (.aload_n 0, 1) := dk_42 (dk_at dksX2_fractions_2 3 rfl rfl)
theorem dX2_fractions_51 : decode cX2_fractions 51 = .ok (.invokevirtual 1093, 3) := dk_182 4 69 (dk_at dksX2_fractions_2 4 rfl rfl)
theorem dX2_fractions_54 : decode cX2_fractions 54 = .ok (.iload_n 1, 1) := dk_27 (dk_at dksX2_fractions_2 7 rfl rfl)
theorem dX2_fractions_55 : decode cX2_fractions 55 = .ok (.bipush 20, 2) := dk_16 20 (dk_at dksX2_fractions_2 8 rfl rfl)
theorem dX2_fractions_57 : decode cX2_fractions 57 = .ok (.if_icmp .ne 10, 3) := dk_160 0 10 (dk_at dksX2_fractions_2 10 rfl rfl)
theorem dX2_fractions_60 : decode cX2_fractions 60 = .ok (.aload_n 0, 1) := dk_42 (dk_at dksX2_fractions_2 13 rfl rfl)
theorem dX2_fractions_61 : decode cX2_fractions 61 = .ok (.invokevirtual 1102, 3) := dk_182 4 78 (dk_at dksX2_fractions_2 14 rfl rfl)
theorem dX2_fractions_64 : decode cX2_fractions 64 = .ok (.goto 4, 3) := dk_167 0 4 (dk_at dksX2_fractions_2 17 rfl rfl)
theorem dX2_fractions_67 : decode cX2_fractions 67 = .ok (.iconst 0, 1) := dk_3 (dk_at dksX2_fractions_2 20 rfl rfl)
theorem dX2_fractions_68 : decode cX2_fractions 68 = .ok (.istore 6, 2) := dk_54 6 (dk_at dksX2_fractions_2 21 rfl rfl)
theorem dX2_fractions_70 : decode cX2_fractions 70 = .ok (.iload_n 1, 1) := dk_27 (dk_at dksX2_fractions_2 23 rfl rfl)
theorem dX2_fractions_71 : decode cX2_fractions 71 = .ok (.bipush 22, 2) := dk_16 22 (dk_at dksX2_fractions_3 0 rfl rfl)
theorem dX2_fractions_73 : decode cX2_fractions 73 = .ok (.if_icmp .ne 28, 3) := dk_160 0 28 (dk_at dksX2_fractions_3 2 rfl rfl)
theorem dX2_fractions_76 : decode cX2_fractions 76 = .ok (.aload_n 0, 1) := dk_42 (dk_at dksX2_fractions_3 5 rfl rfl)
theorem dX2_fractions_77 : decode cX2_fractions 77 = .ok (.iload_n 2, 1) := dk_28 (dk_at dksX2_fractions_3 6 rfl rfl)
theorem dX2_fractions_78 : decode cX2_fractions 78 = .ok (.iload_n 3, 1) := dk_29 (dk_at dksX2_fractions_3 7 rfl rfl)
theorem dX2_fractions_79 : decode cX2_fractions 79 = .ok (.bipush 8, 2) := dk_16 8 (dk_at dksX2_fractions_3 8 rfl rfl)
theorem dX2_fractions_81 : decode cX2_fractions 81 = .ok (.ishl, 1) := dk_120 (dk_at dksX2_fractions_3 10 rfl rfl)
theorem dX2_fractions_82 : decode cX2_fractions 82 = .ok (.ior, 1) := dk_128 (dk_at dksX2_fractions_3 11 rfl rfl)
theorem dX2_fractions_83 : decode cX2_fractions 83 = .ok (.iload 5, 2) := dk_21 5 (dk_at dksX2_fractions_3 12 rfl rfl)
theorem dX2_fractions_85 : decode cX2_fractions 85 = .ok (.bipush 16, 2) := dk_16 16 (dk_at dksX2_fractions_3 14 rfl rfl)
theorem dX2_fractions_87 : decode cX2_fractions 87 = .ok (.ishl, 1) := dk_120 (dk_at dksX2_fractions_3 16 rfl rfl)
theorem dX2_fractions_88 : decode cX2_fractions 88 = .ok (.ior, 1) := dk_128 (dk_at dksX2_fractions_3 17 rfl rfl)
theorem dX2_fractions_89 : decode cX2_fractions 89 = .ok (.iload 4, 2) := dk_21 4 (dk_at dksX2_fractions_3 18 rfl rfl)
theorem dX2_fractions_91 : decode cX2_fractions 91 = .ok (.bipush 11, 2) := dk_16 11 (dk_at dksX2_fractions_3 20 rfl rfl)
theorem dX2_fractions_93 : decode cX2_fractions 93 = .ok (.ishl, 1) := dk_120 (dk_at dksX2_fractions_3 22 rfl rfl)
theorem dX2_fractions_94 : decode cX2_fractions 94 = .ok (.ior, 1) := dk_128 (dk_at dksX2_fractions_3 23 rfl rfl)
theorem dX2_fractions_95 : decode cX2_fractions 95 = .ok (.invokevirtual 1066, 3) := dk_182 4 42 (dk_at dksX2_fractions_4 0 rfl rfl)
theorem dX2_fractions_98 : decode cX2_fractions 98 = .ok (.goto 26, 3) := dk_167 0 26 (dk_at dksX2_fractions_4 3 rfl rfl)
theorem dX2_fractions_101 : decode cX2_fractions 101 = .ok (.aload_n 0, 1) := dk_42 (dk_at dksX2_fractions_4 6 rfl rfl)
theorem dX2_fractions_102 : decode cX2_fractions 102 = .ok (.iload_n 2, 1) := dk_28 (dk_at dksX2_fractions_4 7 rfl rfl)
theorem dX2_fractions_103 : decode cX2_fractions 103 = .ok (.iload 6, 2) := dk_21 6 (dk_at dksX2_fractions_4 8 rfl rfl)
theorem dX2_fractions_105 : decode cX2_fractions 105 = .ok (.bipush 16, 2) := dk_16 16 (dk_at dksX2_fractions_4 10 rfl rfl)
theorem dX2_fractions_107 : decode cX2_fractions 107 = .ok (.ishl, 1) := dk_120 (dk_at dksX2_fractions_4 12 rfl rfl)
theorem dX2_fractions_108 : decode cX2_fractions 108 = .ok (.ior, 1) := dk_128 (dk_at dksX2_fractions_4 13 rfl rfl)
theorem dX2_fractions_109 : decode cX2_fractions 109 = .ok (.iload 5, 2) := dk_21 5 (dk_at dksX2_fractions_4 14 rfl rfl)
theorem dX2_fractions_111 : decode cX2_fractions 111 = .ok (.bipush 11, 2) := dk_16 11 (dk_at dksX2_fractions_4 16 rfl rfl)
theorem dX2_fractions_113 : decode cX2_fractions 113 = .ok (.ishl, 1) := dk_120 (dk_at dksX2_fractions_4 18 rfl rfl)
theorem dX2_fractions_114 : decode cX2_fractions 114 = .ok (.ior, 1) := dk_128 (dk_at dksX2_fractions_4 19 rfl rfl)
theorem dX2_fractions_115 : decode cX2_fractions 115 = .ok (.iload 4, 2) := dk_21 4 (dk_at dksX2_fractions_4 20 rfl rfl)
theorem dX2_fractions_117 : decode cX2_fractions 117 = .ok (.bipush 6, 2) := dk_16 6 (dk_at dksX2_fractions_4 22 rfl rfl)
theorem dX2_fractions_119 : decode cX2_fractions 119 = .ok (.ishl, 1) := dk_120 (dk_at dksX2_fractions_5 0 rfl rfl)
theorem dX2_fractions_120 : decode cX2_fractions 120 = .ok (.ior, 1) := dk_128 (dk_at dksX2_fractions_5 1 rfl rfl)
theorem dX2_fractions_121 : decode cX2_fractions 121 = .ok (.invokevirtual 1066, 3) := dk_182 4 42 (dk_at dksX2_fractions_5 2 rfl rfl)
theorem dX2_fractions_124 : decode cX2_fractions 124 = .ok (.return_, 1) := dk_177 (dk_at dksX2_fractions_5 5 rfl rfl)
abbrev cX2_written : ByteArray := prog_4_method_62_code
def yX2_written : MethodName := ⟨RX2, "written", "(II)V"⟩
def dkwX2_written_4 : List UInt8 := [167, 0, 11, 28, 21, 4, 3, 29, 184, 4, 74, 182, 4, 42, 177]
abbrev dktX2_written_4 : List UInt8 := dkwX2_written_4 ++ []
def dkwX2_written_3 : List UInt8 := [177, 42, 182, 4, 66, 54, 4, 42, 27, 16, 25, 160, 0, 14, 28, 3, 21, 4, 29, 184, 4, 74]
abbrev dktX2_written_3 : List UInt8 := dkwX2_written_3 ++ dktX2_written_4
def dkwX2_written_2 : List UInt8 := [177, 42, 182, 4, 69, 27, 16, 28, 160, 0, 17, 42, 28, 29, 3, 3, 184, 4, 74, 16, 10, 182, 4, 99]
abbrev dktX2_written_2 : List UInt8 := dkwX2_written_2 ++ dktX2_written_3
def dkwX2_written_1 : List UInt8 := [160, 0, 25, 42, 16, 44, 182, 3, 223, 154, 0, 16, 42, 28, 29, 3, 16, 31, 184, 4, 74, 182, 4, 42]
abbrev dktX2_written_1 : List UInt8 := dkwX2_written_1 ++ dktX2_written_2
def dkwX2_written_0 : List UInt8 := [27, 16, 27, 160, 0, 11, 42, 28, 16, 10, 182, 4, 99, 177, 42, 182, 4, 66, 62, 27, 16, 26]
abbrev dktX2_written_0 : List UInt8 := dkwX2_written_0 ++ dktX2_written_1
theorem dksX2_written_0 : cX2_written.data.toList.drop 0 = dktX2_written_0 := by decide +kernel
theorem dksX2_written_1 : cX2_written.data.toList.drop 22 = dktX2_written_1 := dk_seg dksX2_written_0 22 rfl rfl
theorem dksX2_written_2 : cX2_written.data.toList.drop 46 = dktX2_written_2 := dk_seg dksX2_written_1 24 rfl rfl
theorem dksX2_written_3 : cX2_written.data.toList.drop 70 = dktX2_written_3 := dk_seg dksX2_written_2 24 rfl rfl
theorem dksX2_written_4 : cX2_written.data.toList.drop 92 = dktX2_written_4 := dk_seg dksX2_written_3 22 rfl rfl
theorem dX2_written_0 : decode cX2_written 0 = .ok (.iload_n 1, 1) := dk_27 (dk_at dksX2_written_0 0 rfl rfl)
theorem dX2_written_1 : decode cX2_written 1 = .ok (.bipush 27, 2) := dk_16 27 (dk_at dksX2_written_0 1 rfl rfl)
theorem dX2_written_3 : decode cX2_written 3 = .ok (.if_icmp .ne 11, 3) := dk_160 0 11 (dk_at dksX2_written_0 3 rfl rfl)
theorem dX2_written_6 : decode cX2_written 6 = .ok (.aload_n 0, 1) := dk_42 (dk_at dksX2_written_0 6 rfl rfl)
theorem dX2_written_7 : decode cX2_written 7 = .ok (.iload_n 2, 1) := dk_28 (dk_at dksX2_written_0 7 rfl rfl)
theorem dX2_written_8 : decode cX2_written 8 = .ok (.bipush 10, 2) := dk_16 10 (dk_at dksX2_written_0 8 rfl rfl)
theorem dX2_written_10 : decode cX2_written 10 = .ok (.invokevirtual 1123, 3) := dk_182 4 99 (dk_at dksX2_written_0 10 rfl rfl)
theorem dX2_written_13 : decode cX2_written 13 = .ok (.return_, 1) := dk_177 (dk_at dksX2_written_0 13 rfl rfl)
theorem dX2_written_14 : decode cX2_written 14 = .ok (.aload_n 0, 1) := dk_42 (dk_at dksX2_written_0 14 rfl rfl)
theorem dX2_written_15 : decode cX2_written 15 = .ok (.invokevirtual 1090, 3) := dk_182 4 66 (dk_at dksX2_written_0 15 rfl rfl)
theorem dX2_written_18 : decode cX2_written 18 = .ok (.istore_n 3, 1) := dk_62 (dk_at dksX2_written_0 18 rfl rfl)
theorem dX2_written_19 : decode cX2_written 19 = .ok (.iload_n 1, 1) := dk_27 (dk_at dksX2_written_0 19 rfl rfl)
theorem dX2_written_20 : decode cX2_written 20 = .ok (.bipush 26, 2) := dk_16 26 (dk_at dksX2_written_0 20 rfl rfl)
theorem dX2_written_22 : decode cX2_written 22 = .ok (.if_icmp .ne 25, 3) := dk_160 0 25 (dk_at dksX2_written_1 0 rfl rfl)
theorem dX2_written_25 : decode cX2_written 25 = .ok (.aload_n 0, 1) := dk_42 (dk_at dksX2_written_1 3 rfl rfl)
theorem dX2_written_26 : decode cX2_written 26 = .ok (.bipush 44, 2) := dk_16 44 (dk_at dksX2_written_1 4 rfl rfl)
theorem dX2_written_28 : decode cX2_written 28 = .ok (.invokevirtual 991, 3) := dk_182 3 223 (dk_at dksX2_written_1 6 rfl rfl)
theorem dX2_written_31 : decode cX2_written 31 = .ok (.ifCond .ne 16, 3) := dk_154 0 16 (dk_at dksX2_written_1 9 rfl rfl)
theorem dX2_written_34 : decode cX2_written 34 = .ok (.aload_n 0, 1) := dk_42 (dk_at dksX2_written_1 12 rfl rfl)
theorem dX2_written_35 : decode cX2_written 35 = .ok (.iload_n 2, 1) := dk_28 (dk_at dksX2_written_1 13 rfl rfl)
theorem dX2_written_36 : decode cX2_written 36 = .ok (.iload_n 3, 1) := dk_29 (dk_at dksX2_written_1 14 rfl rfl)
theorem dX2_written_37 : decode cX2_written 37 = .ok (.iconst 0, 1) := dk_3 (dk_at dksX2_written_1 15 rfl rfl)
theorem dX2_written_38 : decode cX2_written 38 = .ok (.bipush 31, 2) := dk_16 31 (dk_at dksX2_written_1 16 rfl rfl)
theorem dX2_written_40 : decode cX2_written 40 = .ok (.invokestatic 1098, 3) := dk_184 4 74 (dk_at dksX2_written_1 18 rfl rfl)
theorem dX2_written_43 : decode cX2_written 43 = .ok (.invokevirtual 1066, 3) := dk_182 4 42 (dk_at dksX2_written_1 21 rfl rfl)
theorem dX2_written_46 : decode cX2_written 46 = .ok (.return_, 1) := dk_177 (dk_at dksX2_written_2 0 rfl rfl)
theorem dX2_written_47 : decode cX2_written 47 = .ok (.aload_n 0, 1) := dk_42 (dk_at dksX2_written_2 1 rfl rfl)
theorem dX2_written_48 : decode cX2_written 48 = .ok (.invokevirtual 1093, 3) := dk_182 4 69 (dk_at dksX2_written_2 2 rfl rfl)
theorem dX2_written_51 : decode cX2_written 51 = .ok (.iload_n 1, 1) := dk_27 (dk_at dksX2_written_2 5 rfl rfl)
theorem dX2_written_52 : decode cX2_written 52 = .ok (.bipush 28, 2) := dk_16 28 (dk_at dksX2_written_2 6 rfl rfl)
theorem dX2_written_54 : decode cX2_written 54 = .ok (.if_icmp .ne 17, 3) := dk_160 0 17 (dk_at dksX2_written_2 8 rfl rfl)
theorem dX2_written_57 : decode cX2_written 57 = .ok (.aload_n 0, 1) := dk_42 (dk_at dksX2_written_2 11 rfl rfl)
theorem dX2_written_58 : decode cX2_written 58 = .ok (.iload_n 2, 1) := dk_28 (dk_at dksX2_written_2 12 rfl rfl)
theorem dX2_written_59 : decode cX2_written 59 = .ok (.iload_n 3, 1) := dk_29 (dk_at dksX2_written_2 13 rfl rfl)
theorem dX2_written_60 : decode cX2_written 60 = .ok (.iconst 0, 1) := dk_3 (dk_at dksX2_written_2 14 rfl rfl)
theorem dX2_written_61 : decode cX2_written 61 = .ok (.iconst 0, 1) := dk_3 (dk_at dksX2_written_2 15 rfl rfl)
theorem dX2_written_62 : decode cX2_written 62 = .ok (.invokestatic 1098, 3) := dk_184 4 74 (dk_at dksX2_written_2 16 rfl rfl)
theorem dX2_written_65 : decode cX2_written 65 = .ok (.bipush 10, 2) := dk_16 10 (dk_at dksX2_written_2 19 rfl rfl)
theorem dX2_written_67 : decode cX2_written 67 = .ok (.invokevirtual 1123, 3) := dk_182 4 99 (dk_at dksX2_written_2 21 rfl rfl)
theorem dX2_written_70 : decode cX2_written 70 = .ok (.return_, 1) := dk_177 (dk_at dksX2_written_3 0 rfl rfl)
theorem dX2_written_71 : decode cX2_written 71 = .ok (.aload_n 0, 1) := dk_42 (dk_at dksX2_written_3 1 rfl rfl)
theorem dX2_written_72 : decode cX2_written 72 = .ok (.invokevirtual 1090, 3) := dk_182 4 66 (dk_at dksX2_written_3 2 rfl rfl)
theorem dX2_written_75 : decode cX2_written 75 = .ok (.istore 4, 2) := dk_54 4 (dk_at dksX2_written_3 5 rfl rfl)
theorem dX2_written_77 : decode cX2_written 77 = .ok (.aload_n 0, 1) := dk_42 (dk_at dksX2_written_3 7 rfl rfl)
theorem dX2_written_78 : decode cX2_written 78 = .ok (.iload_n 1, 1) := dk_27 (dk_at dksX2_written_3 8 rfl rfl)
theorem dX2_written_79 : decode cX2_written 79 = .ok (.bipush 25, 2) := dk_16 25 (dk_at dksX2_written_3 9 rfl rfl)
theorem dX2_written_81 : decode cX2_written 81 = .ok (.if_icmp .ne 14, 3) := dk_160 0 14 (dk_at dksX2_written_3 11 rfl rfl)
theorem dX2_written_84 : decode cX2_written 84 = .ok (.iload_n 2, 1) := dk_28 (dk_at dksX2_written_3 14 rfl rfl)
theorem dX2_written_85 : decode cX2_written 85 = .ok (.iconst 0, 1) := dk_3 (dk_at dksX2_written_3 15 rfl rfl)
theorem dX2_written_86 : decode cX2_written 86 = .ok (.iload 4, 2) := dk_21 4 (dk_at dksX2_written_3 16 rfl rfl)
theorem dX2_written_88 : decode cX2_written 88 = .ok (.iload_n 3, 1) := dk_29 (dk_at dksX2_written_3 18 rfl rfl)
theorem dX2_written_89 : decode cX2_written 89 = .ok (.invokestatic 1098, 3) := dk_184 4 74 (dk_at dksX2_written_3 19 rfl rfl)
theorem dX2_written_92 : decode cX2_written 92 = .ok (.goto 11, 3) := dk_167 0 11 (dk_at dksX2_written_4 0 rfl rfl)
theorem dX2_written_95 : decode cX2_written 95 = .ok (.iload_n 2, 1) := dk_28 (dk_at dksX2_written_4 3 rfl rfl)
theorem dX2_written_96 : decode cX2_written 96 = .ok (.iload 4, 2) := dk_21 4 (dk_at dksX2_written_4 4 rfl rfl)
theorem dX2_written_98 : decode cX2_written 98 = .ok (.iconst 0, 1) := dk_3 (dk_at dksX2_written_4 6 rfl rfl)
theorem dX2_written_99 : decode cX2_written 99 = .ok (.iload_n 3, 1) := dk_29 (dk_at dksX2_written_4 7 rfl rfl)
theorem dX2_written_100 : decode cX2_written 100 = .ok (.invokestatic 1098, 3) := dk_184 4 74 (dk_at dksX2_written_4 8 rfl rfl)
theorem dX2_written_103 : decode cX2_written 103 = .ok (.invokevirtual 1066, 3) := dk_182 4 42 (dk_at dksX2_written_4 11 rfl rfl)
theorem dX2_written_106 : decode cX2_written 106 = .ok (.return_, 1) := dk_177 (dk_at dksX2_written_4 14 rfl rfl)
abbrev cX2_longer : ByteArray := prog_4_method_63_code
def yX2_longer : MethodName := ⟨RX2, "longer", "(II)V"⟩
def dkwX2_longer_9 : List UInt8 := [167, 0, 10, 42, 27, 28, 29, 182, 4, 111, 177]
abbrev dktX2_longer_9 : List UInt8 := dkwX2_longer_9 ++ []
def dkwX2_longer_8 : List UInt8 := [16, 26, 120, 4, 3, 3, 184, 4, 74, 16, 10, 42, 180, 3, 248, 42, 180, 3, 251, 182, 4, 94]
abbrev dktX2_longer_8 : List UInt8 := dkwX2_longer_8 ++ dktX2_longer_9
def dkwX2_longer_7 : List UInt8 := [21, 5, 153, 0, 7, 29, 167, 0, 5, 21, 4, 4, 184, 4, 74, 182, 4, 42, 42, 28, 16, 8, 122]
abbrev dktX2_longer_7 : List UInt8 := dkwX2_longer_7 ++ dktX2_longer_8
def dkwX2_longer_6 : List UInt8 := [4, 167, 0, 4, 3, 54, 5, 42, 28, 16, 63, 126, 21, 5, 153, 0, 8, 21, 4, 167, 0, 4, 29]
abbrev dktX2_longer_6 : List UInt8 := dkwX2_longer_6 ++ dktX2_longer_7
def dkwX2_longer_5 : List UInt8 := [160, 0, 95, 42, 182, 4, 66, 54, 4, 42, 182, 4, 69, 42, 182, 4, 1, 28, 16, 64, 126, 153, 0, 7]
abbrev dktX2_longer_5 : List UInt8 := dkwX2_longer_5 ++ dktX2_longer_6
def dkwX2_longer_4 : List UInt8 := [19, 4, 110, 29, 29, 3, 184, 4, 74, 16, 6, 21, 4, 21, 5, 182, 4, 94, 167, 0, 108, 27, 16, 31]
abbrev dktX2_longer_4 : List UInt8 := dkwX2_longer_4 ++ dktX2_longer_5
def dkwX2_longer_3 : List UInt8 := [180, 3, 251, 54, 5, 42, 19, 4, 109, 29, 16, 16, 120, 128, 8, 21, 4, 21, 5, 182, 4, 94, 42]
abbrev dktX2_longer_3 : List UInt8 := dkwX2_longer_3 ++ dktX2_longer_4
def dkwX2_longer_2 : List UInt8 := [182, 4, 106, 167, 0, 169, 27, 16, 30, 160, 0, 58, 42, 182, 4, 1, 42, 180, 3, 248, 54, 4, 42]
abbrev dktX2_longer_2 : List UInt8 := dkwX2_longer_2 ++ dktX2_longer_3
def dkwX2_longer_1 : List UInt8 := [42, 182, 3, 217, 153, 0, 11, 42, 182, 3, 238, 136, 167, 0, 4, 3, 54, 4, 42, 29, 21, 4]
abbrev dktX2_longer_1 : List UInt8 := dkwX2_longer_1 ++ dktX2_longer_2
def dkwX2_longer_0 : List UInt8 := [42, 182, 4, 66, 62, 42, 182, 4, 69, 27, 16, 29, 160, 0, 40, 42, 42, 182, 3, 254, 182, 3, 226, 87]
abbrev dktX2_longer_0 : List UInt8 := dkwX2_longer_0 ++ dktX2_longer_1
theorem dksX2_longer_0 : cX2_longer.data.toList.drop 0 = dktX2_longer_0 := by decide +kernel
theorem dksX2_longer_1 : cX2_longer.data.toList.drop 24 = dktX2_longer_1 := dk_seg dksX2_longer_0 24 rfl rfl
theorem dksX2_longer_2 : cX2_longer.data.toList.drop 46 = dktX2_longer_2 := dk_seg dksX2_longer_1 22 rfl rfl
theorem dksX2_longer_3 : cX2_longer.data.toList.drop 69 = dktX2_longer_3 := dk_seg dksX2_longer_2 23 rfl rfl
theorem dksX2_longer_4 : cX2_longer.data.toList.drop 92 = dktX2_longer_4 := dk_seg dksX2_longer_3 23 rfl rfl
theorem dksX2_longer_5 : cX2_longer.data.toList.drop 116 = dktX2_longer_5 := dk_seg dksX2_longer_4 24 rfl rfl
theorem dksX2_longer_6 : cX2_longer.data.toList.drop 140 = dktX2_longer_6 := dk_seg dksX2_longer_5 24 rfl rfl
theorem dksX2_longer_7 : cX2_longer.data.toList.drop 163 = dktX2_longer_7 := dk_seg dksX2_longer_6 23 rfl rfl
theorem dksX2_longer_8 : cX2_longer.data.toList.drop 186 = dktX2_longer_8 := dk_seg dksX2_longer_7 23 rfl rfl
theorem dksX2_longer_9 : cX2_longer.data.toList.drop 208 = dktX2_longer_9 := dk_seg dksX2_longer_8 22 rfl rfl
theorem dX2_longer_0 : decode cX2_longer 0 = .ok (.aload_n 0, 1) := dk_42 (dk_at dksX2_longer_0 0 rfl rfl)
theorem dX2_longer_1 : decode cX2_longer 1 = .ok (.invokevirtual 1090, 3) := dk_182 4 66 (dk_at dksX2_longer_0 1 rfl rfl)
theorem dX2_longer_4 : decode cX2_longer 4 = .ok (.istore_n 3, 1) := dk_62 (dk_at dksX2_longer_0 4 rfl rfl)
theorem dX2_longer_5 : decode cX2_longer 5 = .ok (.aload_n 0, 1) := dk_42 (dk_at dksX2_longer_0 5 rfl rfl)
theorem dX2_longer_6 : decode cX2_longer 6 = .ok (.invokevirtual 1093, 3) := dk_182 4 69 (dk_at dksX2_longer_0 6 rfl rfl)
theorem dX2_longer_9 : decode cX2_longer 9 = .ok (.iload_n 1, 1) := dk_27 (dk_at dksX2_longer_0 9 rfl rfl)
theorem dX2_longer_10 : decode cX2_longer 10 = .ok (.bipush 29, 2) := dk_16 29 (dk_at dksX2_longer_0 10 rfl rfl)
theorem dX2_longer_12 : decode cX2_longer 12 = .ok (.if_icmp .ne 40, 3) := dk_160 0 40 (dk_at dksX2_longer_0 12 rfl rfl)
theorem dX2_longer_15 : decode cX2_longer 15 = .ok (.aload_n 0, 1) := dk_42 (dk_at dksX2_longer_0 15 rfl rfl)
theorem dX2_longer_16 : decode cX2_longer 16 = .ok (.aload_n 0, 1) := dk_42 (dk_at dksX2_longer_0 16 rfl rfl)
theorem dX2_longer_17 : decode cX2_longer 17 = .ok (.invokevirtual 1022, 3) := dk_182 3 254 (dk_at dksX2_longer_0 17 rfl rfl)
theorem dX2_longer_20 : decode cX2_longer 20 = .ok (.invokevirtual 994, 3) := dk_182 3 226 (dk_at dksX2_longer_0 20 rfl rfl)
theorem dX2_longer_23 : decode cX2_longer 23 = .ok (.pop, 1) := dk_87 (dk_at dksX2_longer_0 23 rfl rfl)
theorem dX2_longer_24 : decode cX2_longer 24 = .ok (.aload_n 0, 1) := dk_42 (dk_at dksX2_longer_1 0 rfl rfl)
theorem dX2_longer_25 : decode cX2_longer 25 = .ok (.invokevirtual 985, 3) := dk_182 3 217 (dk_at dksX2_longer_1 1 rfl rfl)
theorem dX2_longer_28 : decode cX2_longer 28 = .ok (.ifCond .eq 11, 3) := dk_153 0 11 (dk_at dksX2_longer_1 4 rfl rfl)
theorem dX2_longer_31 : decode cX2_longer 31 = .ok (.aload_n 0, 1) := dk_42 (dk_at dksX2_longer_1 7 rfl rfl)
theorem dX2_longer_32 : decode cX2_longer 32 = .ok (.invokevirtual 1006, 3) := dk_182 3 238 (dk_at dksX2_longer_1 8 rfl rfl)
theorem dX2_longer_35 : decode cX2_longer 35 = .ok (.l2i, 1) := dk_136 (dk_at dksX2_longer_1 11 rfl rfl)
theorem dX2_longer_36 : decode cX2_longer 36 = .ok (.goto 4, 3) := dk_167 0 4 (dk_at dksX2_longer_1 12 rfl rfl)
theorem dX2_longer_39 : decode cX2_longer 39 = .ok (.iconst 0, 1) := dk_3 (dk_at dksX2_longer_1 15 rfl rfl)
theorem dX2_longer_40 : decode cX2_longer 40 = .ok (.istore 4, 2) := dk_54 4 (dk_at dksX2_longer_1 16 rfl rfl)
theorem dX2_longer_42 : decode cX2_longer 42 = .ok (.aload_n 0, 1) := dk_42 (dk_at dksX2_longer_1 18 rfl rfl)
theorem dX2_longer_43 : decode cX2_longer 43 = .ok (.iload_n 3, 1) := dk_29 (dk_at dksX2_longer_1 19 rfl rfl)
theorem dX2_longer_44 : decode cX2_longer 44 = .ok (.iload 4, 2) := dk_21 4 (dk_at dksX2_longer_1 20 rfl rfl)
theorem dX2_longer_46 : decode cX2_longer 46 = .ok (.invokevirtual 1130, 3) := dk_182 4 106 (dk_at dksX2_longer_2 0 rfl rfl)
theorem dX2_longer_49 : decode cX2_longer 49 = .ok (.goto 169, 3) := dk_167 0 169 (dk_at dksX2_longer_2 3 rfl rfl)
theorem dX2_longer_52 : decode cX2_longer 52 = .ok (.iload_n 1, 1) := dk_27 (dk_at dksX2_longer_2 6 rfl rfl)
theorem dX2_longer_53 : decode cX2_longer 53 = .ok (.bipush 30, 2) := dk_16 30 (dk_at dksX2_longer_2 7 rfl rfl)
theorem dX2_longer_55 : decode cX2_longer 55 = .ok (.if_icmp .ne 58, 3) := dk_160 0 58 (dk_at dksX2_longer_2 9 rfl rfl)
theorem dX2_longer_58 : decode cX2_longer 58 = .ok (.aload_n 0, 1) := dk_42 (dk_at dksX2_longer_2 12 rfl rfl)
theorem dX2_longer_59 : decode cX2_longer 59 = .ok (.invokevirtual 1025, 3) := dk_182 4 1 (dk_at dksX2_longer_2 13 rfl rfl)
theorem dX2_longer_62 : decode cX2_longer 62 = .ok (.aload_n 0, 1) := dk_42 (dk_at dksX2_longer_2 16 rfl rfl)
theorem dX2_longer_63 : decode cX2_longer 63 = .ok (.getfield 1016, 3) := dk_180 3 248 (dk_at dksX2_longer_2 17 rfl rfl)
theorem dX2_longer_66 : decode cX2_longer 66 = .ok (.istore 4, 2) := dk_54 4 (dk_at dksX2_longer_2 20 rfl rfl)
theorem dX2_longer_68 : decode cX2_longer 68 = .ok (.aload_n 0, 1) := dk_42 (dk_at dksX2_longer_2 22 rfl rfl)
theorem dX2_longer_69 : decode cX2_longer 69 = .ok (.getfield 1019, 3) := dk_180 3 251 (dk_at dksX2_longer_3 0 rfl rfl)
theorem dX2_longer_72 : decode cX2_longer 72 = .ok (.istore 5, 2) := dk_54 5 (dk_at dksX2_longer_3 3 rfl rfl)
theorem dX2_longer_74 : decode cX2_longer 74 = .ok (.aload_n 0, 1) := dk_42 (dk_at dksX2_longer_3 5 rfl rfl)
theorem dX2_longer_75 : decode cX2_longer 75 = .ok (.ldc_w 1133, 3) := dk_19 4 109 (dk_at dksX2_longer_3 6 rfl rfl)
theorem dX2_longer_78 : decode cX2_longer 78 = .ok (.iload_n 3, 1) := dk_29 (dk_at dksX2_longer_3 9 rfl rfl)
theorem dX2_longer_79 : decode cX2_longer 79 = .ok (.bipush 16, 2) := dk_16 16 (dk_at dksX2_longer_3 10 rfl rfl)
theorem dX2_longer_81 : decode cX2_longer 81 = .ok (.ishl, 1) := dk_120 (dk_at dksX2_longer_3 12 rfl rfl)
theorem dX2_longer_82 : decode cX2_longer 82 = .ok (.ior, 1) := dk_128 (dk_at dksX2_longer_3 13 rfl rfl)
theorem dX2_longer_83 : decode cX2_longer 83 = .ok (.iconst 5, 1) := dk_8 (dk_at dksX2_longer_3 14 rfl rfl)
theorem dX2_longer_84 : decode cX2_longer 84 = .ok (.iload 4, 2) := dk_21 4 (dk_at dksX2_longer_3 15 rfl rfl)
theorem dX2_longer_86 : decode cX2_longer 86 = .ok (.iload 5, 2) := dk_21 5 (dk_at dksX2_longer_3 17 rfl rfl)
theorem dX2_longer_88 : decode cX2_longer 88 = .ok (.invokevirtual 1118, 3) := dk_182 4 94 (dk_at dksX2_longer_3 19 rfl rfl)
theorem dX2_longer_91 : decode cX2_longer 91 = .ok (.aload_n 0, 1) := dk_42 (dk_at dksX2_longer_3 22 rfl rfl)
theorem dX2_longer_92 : decode cX2_longer 92 = .ok (.ldc_w 1134, 3) := dk_19 4 110 (dk_at dksX2_longer_4 0 rfl rfl)
theorem dX2_longer_95 : decode cX2_longer 95 = .ok (.iload_n 3, 1) := dk_29 (dk_at dksX2_longer_4 3 rfl rfl)
theorem dX2_longer_96 : decode cX2_longer 96 = .ok (.iload_n 3, 1) := dk_29 (dk_at dksX2_longer_4 4 rfl rfl)
theorem dX2_longer_97 : decode cX2_longer 97 = .ok (.iconst 0, 1) := dk_3 (dk_at dksX2_longer_4 5 rfl rfl)
theorem dX2_longer_98 : decode cX2_longer 98 = .ok (.invokestatic 1098, 3) := dk_184 4 74 (dk_at dksX2_longer_4 6 rfl rfl)
theorem dX2_longer_101 : decode cX2_longer 101 = .ok (.bipush 6, 2) := dk_16 6 (dk_at dksX2_longer_4 9 rfl rfl)
theorem dX2_longer_103 : decode cX2_longer 103 = .ok (.iload 4, 2) := dk_21 4 (dk_at dksX2_longer_4 11 rfl rfl)
theorem dX2_longer_105 : decode cX2_longer 105 = .ok (.iload 5, 2) := dk_21 5 (dk_at dksX2_longer_4 13 rfl rfl)
theorem dX2_longer_107 : decode cX2_longer 107 = .ok (.invokevirtual 1118, 3) := dk_182 4 94 (dk_at dksX2_longer_4 15 rfl rfl)
theorem dX2_longer_110 : decode cX2_longer 110 = .ok (.goto 108, 3) := dk_167 0 108 (dk_at dksX2_longer_4 18 rfl rfl)
theorem dX2_longer_113 : decode cX2_longer 113 = .ok (.iload_n 1, 1) := dk_27 (dk_at dksX2_longer_4 21 rfl rfl)
theorem dX2_longer_114 : decode cX2_longer 114 = .ok (.bipush 31, 2) := dk_16 31 (dk_at dksX2_longer_4 22 rfl rfl)
theorem dX2_longer_116 : decode cX2_longer 116 = .ok (.if_icmp .ne 95, 3) := dk_160 0 95 (dk_at dksX2_longer_5 0 rfl rfl)
theorem dX2_longer_119 : decode cX2_longer 119 = .ok (.aload_n 0, 1) := dk_42 (dk_at dksX2_longer_5 3 rfl rfl)
theorem dX2_longer_120 : decode cX2_longer 120 = .ok (.invokevirtual 1090, 3) := dk_182 4 66 (dk_at dksX2_longer_5 4 rfl rfl)
theorem dX2_longer_123 : decode cX2_longer 123 = .ok (.istore 4, 2) := dk_54 4 (dk_at dksX2_longer_5 7 rfl rfl)
theorem dX2_longer_125 : decode cX2_longer 125 = .ok (.aload_n 0, 1) := dk_42 (dk_at dksX2_longer_5 9 rfl rfl)
theorem dX2_longer_126 : decode cX2_longer 126 = .ok (.invokevirtual 1093, 3) := dk_182 4 69 (dk_at dksX2_longer_5 10 rfl rfl)
theorem dX2_longer_129 : decode cX2_longer 129 = .ok (.aload_n 0, 1) := dk_42 (dk_at dksX2_longer_5 13 rfl rfl)
theorem dX2_longer_130 : decode cX2_longer 130 = .ok (.invokevirtual 1025, 3) := dk_182 4 1 (dk_at dksX2_longer_5 14 rfl rfl)
theorem dX2_longer_133 : decode cX2_longer 133 = .ok (.iload_n 2, 1) := dk_28 (dk_at dksX2_longer_5 17 rfl rfl)
theorem dX2_longer_134 : decode cX2_longer 134 = .ok (.bipush 64, 2) := dk_16 64 (dk_at dksX2_longer_5 18 rfl rfl)
theorem dX2_longer_136 : decode cX2_longer 136 = .ok (.iand, 1) := dk_126 (dk_at dksX2_longer_5 20 rfl rfl)
theorem dX2_longer_137 : decode cX2_longer 137 = .ok (.ifCond .eq 7, 3) := dk_153 0 7 (dk_at dksX2_longer_5 21 rfl rfl)
theorem dX2_longer_140 : decode cX2_longer 140 = .ok (.iconst 1, 1) := dk_4 (dk_at dksX2_longer_6 0 rfl rfl)
theorem dX2_longer_141 : decode cX2_longer 141 = .ok (.goto 4, 3) := dk_167 0 4 (dk_at dksX2_longer_6 1 rfl rfl)
theorem dX2_longer_144 : decode cX2_longer 144 = .ok (.iconst 0, 1) := dk_3 (dk_at dksX2_longer_6 4 rfl rfl)
theorem dX2_longer_145 : decode cX2_longer 145 = .ok (.istore 5, 2) := dk_54 5 (dk_at dksX2_longer_6 5 rfl rfl)
theorem dX2_longer_147 : decode cX2_longer 147 = .ok (.aload_n 0, 1) := dk_42 (dk_at dksX2_longer_6 7 rfl rfl)
theorem dX2_longer_148 : decode cX2_longer 148 = .ok (.iload_n 2, 1) := dk_28 (dk_at dksX2_longer_6 8 rfl rfl)
theorem dX2_longer_149 : decode cX2_longer 149 = .ok (.bipush 63, 2) := dk_16 63 (dk_at dksX2_longer_6 9 rfl rfl)
theorem dX2_longer_151 : decode cX2_longer 151 = .ok (.iand, 1) := dk_126 (dk_at dksX2_longer_6 11 rfl rfl)
theorem dX2_longer_152 : decode cX2_longer 152 = .ok (.iload 5, 2) := dk_21 5 (dk_at dksX2_longer_6 12 rfl rfl)
theorem dX2_longer_154 : decode cX2_longer 154 = .ok (.ifCond .eq 8, 3) := dk_153 0 8 (dk_at dksX2_longer_6 14 rfl rfl)
theorem dX2_longer_157 : decode cX2_longer 157 = .ok (.iload 4, 2) := dk_21 4 (dk_at dksX2_longer_6 17 rfl rfl)
theorem dX2_longer_159 : decode cX2_longer 159 = .ok (.goto 4, 3) := dk_167 0 4 (dk_at dksX2_longer_6 19 rfl rfl)
theorem dX2_longer_162 : decode cX2_longer 162 = .ok (.iload_n 3, 1) := dk_29 (dk_at dksX2_longer_6 22 rfl rfl)
theorem dX2_longer_163 : decode cX2_longer 163 = .ok (.iload 5, 2) := dk_21 5 (dk_at dksX2_longer_7 0 rfl rfl)
theorem dX2_longer_165 : decode cX2_longer 165 = .ok (.ifCond .eq 7, 3) := dk_153 0 7 (dk_at dksX2_longer_7 2 rfl rfl)
theorem dX2_longer_168 : decode cX2_longer 168 = .ok (.iload_n 3, 1) := dk_29 (dk_at dksX2_longer_7 5 rfl rfl)
theorem dX2_longer_169 : decode cX2_longer 169 = .ok (.goto 5, 3) := dk_167 0 5 (dk_at dksX2_longer_7 6 rfl rfl)
theorem dX2_longer_172 : decode cX2_longer 172 = .ok (.iload 4, 2) := dk_21 4 (dk_at dksX2_longer_7 9 rfl rfl)
theorem dX2_longer_174 : decode cX2_longer 174 = .ok (.iconst 1, 1) := dk_4 (dk_at dksX2_longer_7 11 rfl rfl)
theorem dX2_longer_175 : decode cX2_longer 175 = .ok (.invokestatic 1098, 3) := dk_184 4 74 (dk_at dksX2_longer_7 12 rfl rfl)
theorem dX2_longer_178 : decode cX2_longer 178 = .ok (.invokevirtual 1066, 3) := dk_182 4 42 (dk_at dksX2_longer_7 15 rfl rfl)
theorem dX2_longer_181 : decode cX2_longer 181 = .ok (.aload_n 0, 1) := dk_42 (dk_at dksX2_longer_7 18 rfl rfl)
theorem dX2_longer_182 : decode cX2_longer 182 = .ok (.iload_n 2, 1) := dk_28 (dk_at dksX2_longer_7 19 rfl rfl)
theorem dX2_longer_183 : decode cX2_longer 183 = .ok (.bipush 8, 2) := dk_16 8 (dk_at dksX2_longer_7 20 rfl rfl)
theorem dX2_longer_185 : decode cX2_longer 185 = .ok (.ishr, 1) := dk_122 (dk_at dksX2_longer_7 22 rfl rfl)
theorem dX2_longer_186 : decode cX2_longer 186 = .ok (.bipush 26, 2) := dk_16 26 (dk_at dksX2_longer_8 0 rfl rfl)
theorem dX2_longer_188 : decode cX2_longer 188 = .ok (.ishl, 1) := dk_120 (dk_at dksX2_longer_8 2 rfl rfl)
theorem dX2_longer_189 : decode cX2_longer 189 = .ok (.iconst 1, 1) := dk_4 (dk_at dksX2_longer_8 3 rfl rfl)
theorem dX2_longer_190 : decode cX2_longer 190 = .ok (.iconst 0, 1) := dk_3 (dk_at dksX2_longer_8 4 rfl rfl)
theorem dX2_longer_191 : decode cX2_longer 191 = .ok (.iconst 0, 1) := dk_3 (dk_at dksX2_longer_8 5 rfl rfl)
theorem dX2_longer_192 : decode cX2_longer 192 = .ok (.invokestatic 1098, 3) := dk_184 4 74 (dk_at dksX2_longer_8 6 rfl rfl)
theorem dX2_longer_195 : decode cX2_longer 195 = .ok (.bipush 10, 2) := dk_16 10 (dk_at dksX2_longer_8 9 rfl rfl)
theorem dX2_longer_197 : decode cX2_longer 197 = .ok (.aload_n 0, 1) := dk_42 (dk_at dksX2_longer_8 11 rfl rfl)
theorem dX2_longer_198 : decode cX2_longer 198 = .ok (.getfield 1016, 3) := dk_180 3 248 (dk_at dksX2_longer_8 12 rfl rfl)
theorem dX2_longer_201 : decode cX2_longer 201 = .ok (.aload_n 0, 1) := dk_42 (dk_at dksX2_longer_8 15 rfl rfl)
theorem dX2_longer_202 : decode cX2_longer 202 = .ok (.getfield 1019, 3) := dk_180 3 251 (dk_at dksX2_longer_8 16 rfl rfl)
theorem dX2_longer_205 : decode cX2_longer 205 = .ok (.invokevirtual 1118, 3) := dk_182 4 94 (dk_at dksX2_longer_8 19 rfl rfl)
theorem dX2_longer_208 : decode cX2_longer 208 = .ok (.goto 10, 3) := dk_167 0 10 (dk_at dksX2_longer_9 0 rfl rfl)
theorem dX2_longer_211 : decode cX2_longer 211 = .ok (.aload_n 0, 1) := dk_42 (dk_at dksX2_longer_9 3 rfl rfl)
theorem dX2_longer_212 : decode cX2_longer 212 = .ok (.iload_n 1, 1) := dk_27 (dk_at dksX2_longer_9 4 rfl rfl)
theorem dX2_longer_213 : decode cX2_longer 213 = .ok (.iload_n 2, 1) := dk_28 (dk_at dksX2_longer_9 5 rfl rfl)
theorem dX2_longer_214 : decode cX2_longer 214 = .ok (.iload_n 3, 1) := dk_29 (dk_at dksX2_longer_9 6 rfl rfl)
theorem dX2_longer_215 : decode cX2_longer 215 = .ok (.invokevirtual 1135, 3) := dk_182 4 111 (dk_at dksX2_longer_9 7 rfl rfl)
theorem dX2_longer_218 : decode cX2_longer 218 = .ok (.return_, 1) := dk_177 (dk_at dksX2_longer_9 10 rfl rfl)
abbrev cX2_loads : ByteArray := prog_4_method_64_code
def yX2_loads : MethodName := ⟨RX2, "loads", "(II)V"⟩
def dkwX2_loads_4 : List UInt8 := [3, 184, 4, 74, 28, 19, 4, 14, 126, 128, 182, 4, 42, 177]
abbrev dktX2_loads_4 : List UInt8 := dkwX2_loads_4 ++ []
def dkwX2_loads_3 : List UInt8 := [120, 128, 28, 16, 16, 124, 128, 182, 4, 42, 28, 19, 4, 14, 126, 153, 0, 22, 42, 19, 4, 114, 27, 27]
abbrev dktX2_loads_3 : List UInt8 := dkwX2_loads_3 ++ dktX2_loads_4
def dkwX2_loads_2 : List UInt8 := [19, 4, 114, 3, 27, 3, 184, 4, 74, 28, 128, 182, 4, 42, 167, 0, 47, 42, 19, 4, 109, 27, 16, 16]
abbrev dktX2_loads_2 : List UInt8 := dkwX2_loads_2 ++ dktX2_loads_3
def dkwX2_loads_1 : List UInt8 := [19, 4, 14, 126, 128, 182, 4, 42, 167, 0, 75, 28, 155, 0, 27, 28, 18, 13, 162, 0, 21, 42]
abbrev dktX2_loads_1 : List UInt8 := dkwX2_loads_1 ++ dktX2_loads_2
def dkwX2_loads_0 : List UInt8 := [28, 17, 128, 0, 161, 0, 31, 28, 18, 75, 162, 0, 25, 42, 19, 4, 110, 3, 27, 3, 184, 4, 74, 28]
abbrev dktX2_loads_0 : List UInt8 := dkwX2_loads_0 ++ dktX2_loads_1
theorem dksX2_loads_0 : cX2_loads.data.toList.drop 0 = dktX2_loads_0 := by decide +kernel
theorem dksX2_loads_1 : cX2_loads.data.toList.drop 24 = dktX2_loads_1 := dk_seg dksX2_loads_0 24 rfl rfl
theorem dksX2_loads_2 : cX2_loads.data.toList.drop 46 = dktX2_loads_2 := dk_seg dksX2_loads_1 22 rfl rfl
theorem dksX2_loads_3 : cX2_loads.data.toList.drop 70 = dktX2_loads_3 := dk_seg dksX2_loads_2 24 rfl rfl
theorem dksX2_loads_4 : cX2_loads.data.toList.drop 94 = dktX2_loads_4 := dk_seg dksX2_loads_3 24 rfl rfl
theorem dX2_loads_0 : decode cX2_loads 0 = .ok (.iload_n 2, 1) := dk_28 (dk_at dksX2_loads_0 0 rfl rfl)
theorem dX2_loads_1 : decode cX2_loads 1 = .ok (.sipush (-32768), 3) := dk_17 128 0 (dk_at dksX2_loads_0 1 rfl rfl)
theorem dX2_loads_4 : decode cX2_loads 4 = .ok (.if_icmp .lt 31, 3) := dk_161 0 31 (dk_at dksX2_loads_0 4 rfl rfl)
theorem dX2_loads_7 : decode cX2_loads 7 = .ok (.iload_n 2, 1) := dk_28 (dk_at dksX2_loads_0 7 rfl rfl)
theorem dX2_loads_8 : decode cX2_loads 8 = .ok (.ldc 75, 2) := dk_18 75 (dk_at dksX2_loads_0 8 rfl rfl)
theorem dX2_loads_10 : decode cX2_loads 10 = .ok (.if_icmp .ge 25, 3) := dk_162 0 25 (dk_at dksX2_loads_0 10 rfl rfl)
theorem dX2_loads_13 : decode cX2_loads 13 = .ok (.aload_n 0, 1) := dk_42 (dk_at dksX2_loads_0 13 rfl rfl)
theorem dX2_loads_14 : decode cX2_loads 14 = .ok (.ldc_w 1134, 3) := dk_19 4 110 (dk_at dksX2_loads_0 14 rfl rfl)
theorem dX2_loads_17 : decode cX2_loads 17 = .ok (.iconst 0, 1) := dk_3 (dk_at dksX2_loads_0 17 rfl rfl)
theorem dX2_loads_18 : decode cX2_loads 18 = .ok (.iload_n 1, 1) := dk_27 (dk_at dksX2_loads_0 18 rfl rfl)
theorem dX2_loads_19 : decode cX2_loads 19 = .ok (.iconst 0, 1) := dk_3 (dk_at dksX2_loads_0 19 rfl rfl)
theorem dX2_loads_20 : decode cX2_loads 20 = .ok (.invokestatic 1098, 3) := dk_184 4 74 (dk_at dksX2_loads_0 20 rfl rfl)
theorem dX2_loads_23 : decode cX2_loads 23 = .ok (.iload_n 2, 1) := dk_28 (dk_at dksX2_loads_0 23 rfl rfl)
theorem dX2_loads_24 : decode cX2_loads 24 = .ok (.ldc_w 1038, 3) := dk_19 4 14 (dk_at dksX2_loads_1 0 rfl rfl)
theorem dX2_loads_27 : decode cX2_loads 27 = .ok (.iand, 1) := dk_126 (dk_at dksX2_loads_1 3 rfl rfl)
theorem dX2_loads_28 : decode cX2_loads 28 = .ok (.ior, 1) := dk_128 (dk_at dksX2_loads_1 4 rfl rfl)
theorem dX2_loads_29 : decode cX2_loads 29 = .ok (.invokevirtual 1066, 3) := dk_182 4 42 (dk_at dksX2_loads_1 5 rfl rfl)
theorem dX2_loads_32 : decode cX2_loads 32 = .ok (.goto 75, 3) := dk_167 0 75 (dk_at dksX2_loads_1 8 rfl rfl)
theorem dX2_loads_35 : decode cX2_loads 35 = .ok (.iload_n 2, 1) := dk_28 (dk_at dksX2_loads_1 11 rfl rfl)
theorem dX2_loads_36 : decode cX2_loads 36 = .ok (.ifCond .lt 27, 3) := dk_155 0 27 (dk_at dksX2_loads_1 12 rfl rfl)
theorem dX2_loads_39 : decode cX2_loads 39 = .ok (.iload_n 2, 1) := dk_28 (dk_at dksX2_loads_1 15 rfl rfl)
theorem dX2_loads_40 : decode cX2_loads 40 = .ok (.ldc 13, 2) := dk_18 13 (dk_at dksX2_loads_1 16 rfl rfl)
theorem dX2_loads_42 : decode cX2_loads 42 = .ok (.if_icmp .ge 21, 3) := dk_162 0 21 (dk_at dksX2_loads_1 18 rfl rfl)
theorem dX2_loads_45 : decode cX2_loads 45 = .ok (.aload_n 0, 1) := dk_42 (dk_at dksX2_loads_1 21 rfl rfl)
theorem dX2_loads_46 : decode cX2_loads 46 = .ok (.ldc_w 1138, 3) := dk_19 4 114 (dk_at dksX2_loads_2 0 rfl rfl)
theorem dX2_loads_49 : decode cX2_loads 49 = .ok (.iconst 0, 1) := dk_3 (dk_at dksX2_loads_2 3 rfl rfl)
theorem dX2_loads_50 : decode cX2_loads 50 = .ok (.iload_n 1, 1) := dk_27 (dk_at dksX2_loads_2 4 rfl rfl)
theorem dX2_loads_51 : decode cX2_loads 51 = .ok (.iconst 0, 1) := dk_3 (dk_at dksX2_loads_2 5 rfl rfl)
theorem dX2_loads_52 : decode cX2_loads 52 = .ok (.invokestatic 1098, 3) := dk_184 4 74 (dk_at dksX2_loads_2 6 rfl rfl)
theorem dX2_loads_55 : decode cX2_loads 55 = .ok (.iload_n 2, 1) := dk_28 (dk_at dksX2_loads_2 9 rfl rfl)
theorem dX2_loads_56 : decode cX2_loads 56 = .ok (.ior, 1) := dk_128 (dk_at dksX2_loads_2 10 rfl rfl)
theorem dX2_loads_57 : decode cX2_loads 57 = .ok (.invokevirtual 1066, 3) := dk_182 4 42 (dk_at dksX2_loads_2 11 rfl rfl)
theorem dX2_loads_60 : decode cX2_loads 60 = .ok (.goto 47, 3) := dk_167 0 47 (dk_at dksX2_loads_2 14 rfl rfl)
theorem dX2_loads_63 : decode cX2_loads 63 = .ok (.aload_n 0, 1) := dk_42 (dk_at dksX2_loads_2 17 rfl rfl)
theorem dX2_loads_64 : decode cX2_loads 64 = .ok (.ldc_w 1133, 3) := dk_19 4 109 (dk_at dksX2_loads_2 18 rfl rfl)
theorem dX2_loads_67 : decode cX2_loads 67 = .ok (.iload_n 1, 1) := dk_27 (dk_at dksX2_loads_2 21 rfl rfl)
theorem dX2_loads_68 : decode cX2_loads 68 = .ok (.bipush 16, 2) := dk_16 16 (dk_at dksX2_loads_2 22 rfl rfl)
theorem dX2_loads_70 : decode cX2_loads 70 = .ok (.ishl, 1) := dk_120 (dk_at dksX2_loads_3 0 rfl rfl)
theorem dX2_loads_71 : decode cX2_loads 71 = .ok (.ior, 1) := dk_128 (dk_at dksX2_loads_3 1 rfl rfl)
theorem dX2_loads_72 : decode cX2_loads 72 = .ok (.iload_n 2, 1) := dk_28 (dk_at dksX2_loads_3 2 rfl rfl)
theorem dX2_loads_73 : decode cX2_loads 73 = .ok (.bipush 16, 2) := dk_16 16 (dk_at dksX2_loads_3 3 rfl rfl)
theorem dX2_loads_75 : decode cX2_loads 75 = .ok (.iushr, 1) := dk_124 (dk_at dksX2_loads_3 5 rfl rfl)
theorem dX2_loads_76 : decode cX2_loads 76 = .ok (.ior, 1) := dk_128 (dk_at dksX2_loads_3 6 rfl rfl)
theorem dX2_loads_77 : decode cX2_loads 77 = .ok (.invokevirtual 1066, 3) := dk_182 4 42 (dk_at dksX2_loads_3 7 rfl rfl)
theorem dX2_loads_80 : decode cX2_loads 80 = .ok (.iload_n 2, 1) := dk_28 (dk_at dksX2_loads_3 10 rfl rfl)
theorem dX2_loads_81 : decode cX2_loads 81 = .ok (.ldc_w 1038, 3) := dk_19 4 14 (dk_at dksX2_loads_3 11 rfl rfl)
theorem dX2_loads_84 : decode cX2_loads 84 = .ok (.iand, 1) := dk_126 (dk_at dksX2_loads_3 14 rfl rfl)
theorem dX2_loads_85 : decode cX2_loads 85 = .ok (.ifCond .eq 22, 3) := dk_153 0 22 (dk_at dksX2_loads_3 15 rfl rfl)
theorem dX2_loads_88 : decode cX2_loads 88 = .ok (.aload_n 0, 1) := dk_42 (dk_at dksX2_loads_3 18 rfl rfl)
theorem dX2_loads_89 : decode cX2_loads 89 = .ok (.ldc_w 1138, 3) := dk_19 4 114 (dk_at dksX2_loads_3 19 rfl rfl)
theorem dX2_loads_92 : decode cX2_loads 92 = .ok (.iload_n 1, 1) := dk_27 (dk_at dksX2_loads_3 22 rfl rfl)
theorem dX2_loads_93 : decode cX2_loads 93 = .ok (.iload_n 1, 1) := dk_27 (dk_at dksX2_loads_3 23 rfl rfl)
theorem dX2_loads_94 : decode cX2_loads 94 = .ok (.iconst 0, 1) := dk_3 (dk_at dksX2_loads_4 0 rfl rfl)
theorem dX2_loads_95 : decode cX2_loads 95 = .ok (.invokestatic 1098, 3) := dk_184 4 74 (dk_at dksX2_loads_4 1 rfl rfl)
theorem dX2_loads_98 : decode cX2_loads 98 = .ok (.iload_n 2, 1) := dk_28 (dk_at dksX2_loads_4 4 rfl rfl)
theorem dX2_loads_99 : decode cX2_loads 99 = .ok (.ldc_w 1038, 3) := dk_19 4 14 (dk_at dksX2_loads_4 5 rfl rfl)
theorem dX2_loads_102 : decode cX2_loads 102 = .ok (.iand, 1) := dk_126 (dk_at dksX2_loads_4 8 rfl rfl)
theorem dX2_loads_103 : decode cX2_loads 103 = .ok (.ior, 1) := dk_128 (dk_at dksX2_loads_4 9 rfl rfl)
theorem dX2_loads_104 : decode cX2_loads 104 = .ok (.invokevirtual 1066, 3) := dk_182 4 42 (dk_at dksX2_loads_4 10 rfl rfl)
theorem dX2_loads_107 : decode cX2_loads 107 = .ok (.return_, 1) := dk_177 (dk_at dksX2_loads_4 13 rfl rfl)
abbrev cX2_divides : ByteArray := prog_4_method_65_code
def yX2_divides : MethodName := ⟨RX2, "divides", "(III)V"⟩
def dkwX2_divides_3 : List UInt8 := [3, 29, 184, 4, 74, 182, 4, 42, 177]
abbrev dktX2_divides_3 : List UInt8 := dkwX2_divides_3 ++ []
def dkwX2_divides_2 : List UInt8 := [21, 5, 3, 184, 4, 74, 182, 4, 42, 42, 27, 16, 32, 160, 0, 8, 16, 18, 167, 0, 5, 16, 16, 3]
abbrev dktX2_divides_2 : List UInt8 := dkwX2_divides_2 ++ dktX2_divides_3
def dkwX2_divides_1 : List UInt8 := [21, 4, 3, 184, 4, 74, 182, 4, 42, 177, 42, 182, 4, 69, 42, 182, 4, 66, 54, 5, 42, 28, 21, 4]
abbrev dktX2_divides_1 : List UInt8 := dkwX2_divides_1 ++ dktX2_divides_2
def dkwX2_divides_0 : List UInt8 := [42, 182, 4, 66, 54, 4, 27, 16, 32, 160, 0, 25, 42, 16, 44, 182, 3, 223, 154, 0, 16, 42, 28, 29]
abbrev dktX2_divides_0 : List UInt8 := dkwX2_divides_0 ++ dktX2_divides_1
theorem dksX2_divides_0 : cX2_divides.data.toList.drop 0 = dktX2_divides_0 := by decide +kernel
theorem dksX2_divides_1 : cX2_divides.data.toList.drop 24 = dktX2_divides_1 := dk_seg dksX2_divides_0 24 rfl rfl
theorem dksX2_divides_2 : cX2_divides.data.toList.drop 48 = dktX2_divides_2 := dk_seg dksX2_divides_1 24 rfl rfl
theorem dksX2_divides_3 : cX2_divides.data.toList.drop 72 = dktX2_divides_3 := dk_seg dksX2_divides_2 24 rfl rfl
theorem dX2_divides_0 : decode cX2_divides 0 = .ok (.aload_n 0, 1) := dk_42 (dk_at dksX2_divides_0 0 rfl rfl)
theorem dX2_divides_1 : decode cX2_divides 1 = .ok (.invokevirtual 1090, 3) := dk_182 4 66 (dk_at dksX2_divides_0 1 rfl rfl)
theorem dX2_divides_4 : decode cX2_divides 4 = .ok (.istore 4, 2) := dk_54 4 (dk_at dksX2_divides_0 4 rfl rfl)
theorem dX2_divides_6 : decode cX2_divides 6 = .ok (.iload_n 1, 1) := dk_27 (dk_at dksX2_divides_0 6 rfl rfl)
theorem dX2_divides_7 : decode cX2_divides 7 = .ok (.bipush 32, 2) := dk_16 32 (dk_at dksX2_divides_0 7 rfl rfl)
theorem dX2_divides_9 : decode cX2_divides 9 = .ok (.if_icmp .ne 25, 3) := dk_160 0 25 (dk_at dksX2_divides_0 9 rfl rfl)
theorem dX2_divides_12 : decode cX2_divides 12 = .ok (.aload_n 0, 1) := dk_42 (dk_at dksX2_divides_0 12 rfl rfl)
theorem dX2_divides_13 : decode cX2_divides 13 = .ok (.bipush 44, 2) := dk_16 44 (dk_at dksX2_divides_0 13 rfl rfl)
theorem dX2_divides_15 : decode cX2_divides 15 = .ok (.invokevirtual 991, 3) := dk_182 3 223 (dk_at dksX2_divides_0 15 rfl rfl)
theorem dX2_divides_18 : decode cX2_divides 18 = .ok (.ifCond .ne 16, 3) := dk_154 0 16 (dk_at dksX2_divides_0 18 rfl rfl)
theorem dX2_divides_21 : decode cX2_divides 21 = .ok (.aload_n 0, 1) := dk_42 (dk_at dksX2_divides_0 21 rfl rfl)
theorem dX2_divides_22 : decode cX2_divides 22 = .ok (.iload_n 2, 1) := dk_28 (dk_at dksX2_divides_0 22 rfl rfl)
theorem dX2_divides_23 : decode cX2_divides 23 = .ok (.iload_n 3, 1) := dk_29 (dk_at dksX2_divides_0 23 rfl rfl)
theorem dX2_divides_24 : decode cX2_divides 24 = .ok (.iload 4, 2) := dk_21 4 (dk_at dksX2_divides_1 0 rfl rfl)
theorem dX2_divides_26 : decode cX2_divides 26 = .ok (.iconst 0, 1) := dk_3 (dk_at dksX2_divides_1 2 rfl rfl)
theorem dX2_divides_27 : decode cX2_divides 27 = .ok (.invokestatic 1098, 3) := dk_184 4 74 (dk_at dksX2_divides_1 3 rfl rfl)
theorem dX2_divides_30 : decode cX2_divides 30 = .ok (.invokevirtual 1066, 3) := dk_182 4 42 (dk_at dksX2_divides_1 6 rfl rfl)
theorem dX2_divides_33 : decode cX2_divides 33 = .ok (.return_, 1) := dk_177 (dk_at dksX2_divides_1 9 rfl rfl)
theorem dX2_divides_34 : decode cX2_divides 34 = .ok (.aload_n 0, 1) := dk_42 (dk_at dksX2_divides_1 10 rfl rfl)
theorem dX2_divides_35 : decode cX2_divides 35 = .ok (.invokevirtual 1093, 3) := dk_182 4 69 (dk_at dksX2_divides_1 11 rfl rfl)
theorem dX2_divides_38 : decode cX2_divides 38 = .ok (.aload_n 0, 1) := dk_42 (dk_at dksX2_divides_1 14 rfl rfl)
theorem dX2_divides_39 : decode cX2_divides 39 = .ok (.invokevirtual 1090, 3) := dk_182 4 66 (dk_at dksX2_divides_1 15 rfl rfl)
theorem dX2_divides_42 : decode cX2_divides 42 = .ok (.istore 5, 2) := dk_54 5 (dk_at dksX2_divides_1 18 rfl rfl)
theorem dX2_divides_44 : decode cX2_divides 44 = .ok (.aload_n 0, 1) := dk_42 (dk_at dksX2_divides_1 20 rfl rfl)
theorem dX2_divides_45 : decode cX2_divides 45 = .ok (.iload_n 2, 1) := dk_28 (dk_at dksX2_divides_1 21 rfl rfl)
theorem dX2_divides_46 : decode cX2_divides 46 = .ok (.iload 4, 2) := dk_21 4 (dk_at dksX2_divides_1 22 rfl rfl)
theorem dX2_divides_48 : decode cX2_divides 48 = .ok (.iload 5, 2) := dk_21 5 (dk_at dksX2_divides_2 0 rfl rfl)
theorem dX2_divides_50 : decode cX2_divides 50 = .ok (.iconst 0, 1) := dk_3 (dk_at dksX2_divides_2 2 rfl rfl)
theorem dX2_divides_51 : decode cX2_divides 51 = .ok (.invokestatic 1098, 3) := dk_184 4 74 (dk_at dksX2_divides_2 3 rfl rfl)
theorem dX2_divides_54 : decode cX2_divides 54 = .ok (.invokevirtual 1066, 3) := dk_182 4 42 (dk_at dksX2_divides_2 6 rfl rfl)
theorem dX2_divides_57 : decode cX2_divides 57 = .ok (.aload_n 0, 1) := dk_42 (dk_at dksX2_divides_2 9 rfl rfl)
theorem dX2_divides_58 : decode cX2_divides 58 = .ok (.iload_n 1, 1) := dk_27 (dk_at dksX2_divides_2 10 rfl rfl)
theorem dX2_divides_59 : decode cX2_divides 59 = .ok (.bipush 32, 2) := dk_16 32 (dk_at dksX2_divides_2 11 rfl rfl)
theorem dX2_divides_61 : decode cX2_divides 61 = .ok (.if_icmp .ne 8, 3) := dk_160 0 8 (dk_at dksX2_divides_2 13 rfl rfl)
theorem dX2_divides_64 : decode cX2_divides 64 = .ok (.bipush 18, 2) := dk_16 18 (dk_at dksX2_divides_2 16 rfl rfl)
theorem dX2_divides_66 : decode cX2_divides 66 = .ok (.goto 5, 3) := dk_167 0 5 (dk_at dksX2_divides_2 18 rfl rfl)
theorem dX2_divides_69 : decode cX2_divides 69 = .ok (.bipush 16, 2) := dk_16 16 (dk_at dksX2_divides_2 21 rfl rfl)
theorem dX2_divides_71 : decode cX2_divides 71 = .ok (.iconst 0, 1) := dk_3 (dk_at dksX2_divides_2 23 rfl rfl)
theorem dX2_divides_72 : decode cX2_divides 72 = .ok (.iconst 0, 1) := dk_3 (dk_at dksX2_divides_3 0 rfl rfl)
theorem dX2_divides_73 : decode cX2_divides 73 = .ok (.iload_n 3, 1) := dk_29 (dk_at dksX2_divides_3 1 rfl rfl)
theorem dX2_divides_74 : decode cX2_divides 74 = .ok (.invokestatic 1098, 3) := dk_184 4 74 (dk_at dksX2_divides_3 2 rfl rfl)
theorem dX2_divides_77 : decode cX2_divides 77 = .ok (.invokevirtual 1066, 3) := dk_182 4 42 (dk_at dksX2_divides_3 5 rfl rfl)
theorem dX2_divides_80 : decode cX2_divides 80 = .ok (.return_, 1) := dk_177 (dk_at dksX2_divides_3 8 rfl rfl)
abbrev cX2_ends : ByteArray := prog_4_method_53_code
def yX2_ends : MethodName := ⟨RX2, "ends", "()V"⟩
def dkwX2_ends_0 : List UInt8 := [42, 42, 180, 0, 119, 154, 0, 7, 4, 167, 0, 4, 3, 182, 3, 226, 87, 177]
abbrev dktX2_ends_0 : List UInt8 := dkwX2_ends_0 ++ []
theorem dksX2_ends_0 : cX2_ends.data.toList.drop 0 = dktX2_ends_0 := by decide +kernel
theorem dX2_ends_0 : decode cX2_ends 0 = .ok (.aload_n 0, 1) := dk_42 (dk_at dksX2_ends_0 0 rfl rfl)
theorem dX2_ends_1 : decode cX2_ends 1 = .ok (.aload_n 0, 1) := dk_42 (dk_at dksX2_ends_0 1 rfl rfl)
theorem dX2_ends_2 : decode cX2_ends 2 = .ok (.getfield 119, 3) := dk_180 0 119 (dk_at dksX2_ends_0 2 rfl rfl)
theorem dX2_ends_5 : decode cX2_ends 5 = .ok (.ifCond .ne 7, 3) := dk_154 0 7 (dk_at dksX2_ends_0 5 rfl rfl)
theorem dX2_ends_8 : decode cX2_ends 8 = .ok (.iconst 1, 1) := dk_4 (dk_at dksX2_ends_0 8 rfl rfl)
theorem dX2_ends_9 : decode cX2_ends 9 = .ok (.goto 4, 3) := dk_167 0 4 (dk_at dksX2_ends_0 9 rfl rfl)
theorem dX2_ends_12 : decode cX2_ends 12 = .ok (.iconst 0, 1) := dk_3 (dk_at dksX2_ends_0 12 rfl rfl)
theorem dX2_ends_13 : decode cX2_ends 13 = .ok (.invokevirtual 994, 3) := dk_182 3 226 (dk_at dksX2_ends_0 13 rfl rfl)
theorem dX2_ends_16 : decode cX2_ends 16 = .ok (.pop, 1) := dk_87 (dk_at dksX2_ends_0 16 rfl rfl)
theorem dX2_ends_17 : decode cX2_ends 17 = .ok (.return_, 1) := dk_177 (dk_at dksX2_ends_0 17 rfl rfl)
abbrev cX2_directive : ByteArray := prog_4_method_66_code
def yX2_directive : MethodName := ⟨RX2, "directive", "(I)V"⟩
def dkwX2_directive_3 : List UInt8 := [3, 61, 28, 153, 255, 212, 42, 182, 3, 230, 167, 255, 205, 42, 182, 4, 63, 177]
abbrev dktX2_directive_3 : List UInt8 := dkwX2_directive_3 ++ []
def dkwX2_directive_2 : List UInt8 := [16, 44, 182, 3, 223, 153, 0, 19, 27, 16, 47, 159, 0, 13, 27, 16, 48, 159, 0, 7, 4, 167, 0, 4]
abbrev dktX2_directive_2 : List UInt8 := dkwX2_directive_2 ++ dktX2_directive_3
def dkwX2_directive_1 : List UInt8 := [181, 4, 26, 177, 4, 61, 28, 153, 0, 53, 42, 182, 3, 217, 153, 0, 46, 42, 27, 182, 4, 115, 42]
abbrev dktX2_directive_1 : List UInt8 := dkwX2_directive_1 ++ dktX2_directive_2
def dkwX2_directive_0 : List UInt8 := [27, 16, 43, 162, 0, 23, 42, 182, 4, 63, 42, 182, 3, 217, 153, 0, 11, 42, 27, 16, 40, 100]
abbrev dktX2_directive_0 : List UInt8 := dkwX2_directive_0 ++ dktX2_directive_1
theorem dksX2_directive_0 : cX2_directive.data.toList.drop 0 = dktX2_directive_0 := by decide +kernel
theorem dksX2_directive_1 : cX2_directive.data.toList.drop 22 = dktX2_directive_1 := dk_seg dksX2_directive_0 22 rfl rfl
theorem dksX2_directive_2 : cX2_directive.data.toList.drop 45 = dktX2_directive_2 := dk_seg dksX2_directive_1 23 rfl rfl
theorem dksX2_directive_3 : cX2_directive.data.toList.drop 69 = dktX2_directive_3 := dk_seg dksX2_directive_2 24 rfl rfl
theorem dX2_directive_0 : decode cX2_directive 0 = .ok (.iload_n 1, 1) := dk_27 (dk_at dksX2_directive_0 0 rfl rfl)
theorem dX2_directive_1 : decode cX2_directive 1 = .ok (.bipush 43, 2) := dk_16 43 (dk_at dksX2_directive_0 1 rfl rfl)
theorem dX2_directive_3 : decode cX2_directive 3 = .ok (.if_icmp .ge 23, 3) := dk_162 0 23 (dk_at dksX2_directive_0 3 rfl rfl)
theorem dX2_directive_6 : decode cX2_directive 6 = .ok (.aload_n 0, 1) := dk_42 (dk_at dksX2_directive_0 6 rfl rfl)
theorem dX2_directive_7 : decode cX2_directive 7 = .ok (.invokevirtual 1087, 3) := dk_182 4 63 (dk_at dksX2_directive_0 7 rfl rfl)
theorem dX2_directive_10 : decode cX2_directive 10 = .ok (.aload_n 0, 1) := dk_42 (dk_at dksX2_directive_0 10 rfl rfl)
theorem dX2_directive_11 : decode cX2_directive 11 = .ok (.invokevirtual 985, 3) := dk_182 3 217 (dk_at dksX2_directive_0 11 rfl rfl)
theorem dX2_directive_14 : decode cX2_directive 14 = .ok (.ifCond .eq 11, 3) := dk_153 0 11 (dk_at dksX2_directive_0 14 rfl rfl)
theorem dX2_directive_17 : decode cX2_directive 17 = .ok (.aload_n 0, 1) := dk_42 (dk_at dksX2_directive_0 17 rfl rfl)
theorem dX2_directive_18 : decode cX2_directive 18 = .ok (.iload_n 1, 1) := dk_27 (dk_at dksX2_directive_0 18 rfl rfl)
theorem dX2_directive_19 : decode cX2_directive 19 = .ok (.bipush 40, 2) := dk_16 40 (dk_at dksX2_directive_0 19 rfl rfl)
theorem dX2_directive_21 : decode cX2_directive 21 = .ok (.isub, 1) := dk_100 (dk_at dksX2_directive_0 21 rfl rfl)
theorem dX2_directive_22 : decode cX2_directive 22 = .ok (.putfield 1050, 3) := dk_181 4 26 (dk_at dksX2_directive_1 0 rfl rfl)
theorem dX2_directive_25 : decode cX2_directive 25 = .ok (.return_, 1) := dk_177 (dk_at dksX2_directive_1 3 rfl rfl)
theorem dX2_directive_26 : decode cX2_directive 26 = .ok (.iconst 1, 1) := dk_4 (dk_at dksX2_directive_1 4 rfl rfl)
theorem dX2_directive_27 : decode cX2_directive 27 = .ok (.istore_n 2, 1) := dk_61 (dk_at dksX2_directive_1 5 rfl rfl)
theorem dX2_directive_28 : decode cX2_directive 28 = .ok (.iload_n 2, 1) := dk_28 (dk_at dksX2_directive_1 6 rfl rfl)
theorem dX2_directive_29 : decode cX2_directive 29 = .ok (.ifCond .eq 53, 3) := dk_153 0 53 (dk_at dksX2_directive_1 7 rfl rfl)
theorem dX2_directive_32 : decode cX2_directive 32 = .ok (.aload_n 0, 1) := dk_42 (dk_at dksX2_directive_1 10 rfl rfl)
theorem dX2_directive_33 : decode cX2_directive 33 = .ok (.invokevirtual 985, 3) := dk_182 3 217 (dk_at dksX2_directive_1 11 rfl rfl)
theorem dX2_directive_36 : decode cX2_directive 36 = .ok (.ifCond .eq 46, 3) := dk_153 0 46 (dk_at dksX2_directive_1 14 rfl rfl)
theorem dX2_directive_39 : decode cX2_directive 39 = .ok (.aload_n 0, 1) := dk_42 (dk_at dksX2_directive_1 17 rfl rfl)
theorem dX2_directive_40 : decode cX2_directive 40 = .ok (.iload_n 1, 1) := dk_27 (dk_at dksX2_directive_1 18 rfl rfl)
theorem dX2_directive_41 : decode cX2_directive 41 = .ok (.invokevirtual 1139, 3) := dk_182 4 115 (dk_at dksX2_directive_1 19 rfl rfl)
theorem dX2_directive_44 : decode cX2_directive 44 = .ok (.aload_n 0, 1) := dk_42 (dk_at dksX2_directive_1 22 rfl rfl)
theorem dX2_directive_45 : decode cX2_directive 45 = .ok (.bipush 44, 2) := dk_16 44 (dk_at dksX2_directive_2 0 rfl rfl)
theorem dX2_directive_47 : decode cX2_directive 47 = .ok (.invokevirtual 991, 3) := dk_182 3 223 (dk_at dksX2_directive_2 2 rfl rfl)
theorem dX2_directive_50 : decode cX2_directive 50 = .ok (.ifCond .eq 19, 3) := dk_153 0 19 (dk_at dksX2_directive_2 5 rfl rfl)
theorem dX2_directive_53 : decode cX2_directive 53 = .ok (.iload_n 1, 1) := dk_27 (dk_at dksX2_directive_2 8 rfl rfl)
theorem dX2_directive_54 : decode cX2_directive 54 = .ok (.bipush 47, 2) := dk_16 47 (dk_at dksX2_directive_2 9 rfl rfl)
theorem dX2_directive_56 : decode cX2_directive 56 = .ok (.if_icmp .eq 13, 3) := dk_159 0 13 (dk_at dksX2_directive_2 11 rfl rfl)
theorem dX2_directive_59 : decode cX2_directive 59 = .ok (.iload_n 1, 1) := dk_27 (dk_at dksX2_directive_2 14 rfl rfl)
theorem dX2_directive_60 : decode cX2_directive 60 = .ok (.bipush 48, 2) := dk_16 48 (dk_at dksX2_directive_2 15 rfl rfl)
theorem dX2_directive_62 : decode cX2_directive 62 = .ok (.if_icmp .eq 7, 3) := dk_159 0 7 (dk_at dksX2_directive_2 17 rfl rfl)
theorem dX2_directive_65 : decode cX2_directive 65 = .ok (.iconst 1, 1) := dk_4 (dk_at dksX2_directive_2 20 rfl rfl)
theorem dX2_directive_66 : decode cX2_directive 66 = .ok (.goto 4, 3) := dk_167 0 4 (dk_at dksX2_directive_2 21 rfl rfl)
theorem dX2_directive_69 : decode cX2_directive 69 = .ok (.iconst 0, 1) := dk_3 (dk_at dksX2_directive_3 0 rfl rfl)
theorem dX2_directive_70 : decode cX2_directive 70 = .ok (.istore_n 2, 1) := dk_61 (dk_at dksX2_directive_3 1 rfl rfl)
theorem dX2_directive_71 : decode cX2_directive 71 = .ok (.iload_n 2, 1) := dk_28 (dk_at dksX2_directive_3 2 rfl rfl)
theorem dX2_directive_72 : decode cX2_directive 72 = .ok (.ifCond .eq (-44), 3) := dk_153 255 212 (dk_at dksX2_directive_3 3 rfl rfl)
theorem dX2_directive_75 : decode cX2_directive 75 = .ok (.aload_n 0, 1) := dk_42 (dk_at dksX2_directive_3 6 rfl rfl)
theorem dX2_directive_76 : decode cX2_directive 76 = .ok (.invokevirtual 998, 3) := dk_182 3 230 (dk_at dksX2_directive_3 7 rfl rfl)
theorem dX2_directive_79 : decode cX2_directive 79 = .ok (.goto (-51), 3) := dk_167 255 205 (dk_at dksX2_directive_3 10 rfl rfl)
theorem dX2_directive_82 : decode cX2_directive 82 = .ok (.aload_n 0, 1) := dk_42 (dk_at dksX2_directive_3 13 rfl rfl)
theorem dX2_directive_83 : decode cX2_directive 83 = .ok (.invokevirtual 1087, 3) := dk_182 4 63 (dk_at dksX2_directive_3 14 rfl rfl)
theorem dX2_directive_86 : decode cX2_directive 86 = .ok (.return_, 1) := dk_177 (dk_at dksX2_directive_3 17 rfl rfl)
abbrev cX2_item : ByteArray := prog_4_method_67_code
def yX2_item : MethodName := ⟨RX2, "item", "(I)V"⟩
def dkwX2_item_17 : List UInt8 := [160, 0, 15, 42, 182, 3, 217, 153, 0, 8, 42, 3, 182, 4, 28, 42, 182, 3, 230, 177]
abbrev dktX2_item_17 : List UInt8 := dkwX2_item_17 ++ []
def dkwX2_item_16 : List UInt8 := [153, 0, 19, 42, 42, 180, 0, 85, 28, 51, 182, 4, 28, 132, 2, 1, 167, 255, 228, 27, 16, 50]
abbrev dktX2_item_16 : List UInt8 := dkwX2_item_16 ++ dktX2_item_17
def dkwX2_item_15 : List UInt8 := [164, 0, 9, 42, 16, 7, 182, 3, 220, 3, 61, 28, 42, 180, 0, 213, 162, 0, 26, 42, 182, 3, 217]
abbrev dktX2_item_15 : List UInt8 := dkwX2_item_15 ++ dktX2_item_16
def dkwX2_item_14 : List UInt8 := [42, 180, 3, 242, 104, 42, 180, 4, 26, 96, 46, 42, 180, 0, 213, 96, 27, 96, 16, 49, 100, 17, 16, 0]
abbrev dktX2_item_14 : List UInt8 := dkwX2_item_14 ++ dktX2_item_15
def dkwX2_item_13 : List UInt8 := [180, 0, 119, 8, 160, 0, 7, 4, 167, 0, 4, 3, 182, 3, 226, 154, 0, 4, 177, 42, 180, 0, 17, 6]
abbrev dktX2_item_13 : List UInt8 := dkwX2_item_13 ++ dktX2_item_14
def dkwX2_item_12 : List UInt8 := [182, 3, 217, 153, 0, 14, 42, 3, 182, 4, 28, 132, 4, 1, 167, 255, 235, 167, 0, 117, 42, 42]
abbrev dktX2_item_12 : List UInt8 := dkwX2_item_12 ++ dktX2_item_13
def dkwX2_item_11 : List UInt8 := [96, 17, 16, 0, 164, 0, 9, 42, 16, 7, 182, 3, 220, 3, 54, 4, 21, 4, 28, 162, 0, 21, 42]
abbrev dktX2_item_11 : List UInt8 := dkwX2_item_11 ++ dktX2_item_12
def dkwX2_item_10 : List UInt8 := [27, 16, 48, 160, 0, 12, 29, 116, 4, 28, 120, 4, 100, 126, 61, 42, 182, 3, 217, 153, 0, 18, 29, 28]
abbrev dktX2_item_10 : List UInt8 := dkwX2_item_10 ++ dktX2_item_11
def dkwX2_item_9 : List UInt8 := [20, 4, 124, 182, 4, 22, 61, 42, 180, 0, 17, 6, 42, 180, 3, 242, 104, 42, 180, 4, 26, 96, 46, 62]
abbrev dktX2_item_9 : List UInt8 := dkwX2_item_9 ++ dktX2_item_10
def dkwX2_item_8 : List UInt8 := [160, 0, 113, 27, 16, 47, 160, 0, 14, 42, 9, 20, 4, 122, 182, 4, 22, 167, 0, 11, 42, 9]
abbrev dktX2_item_8 : List UInt8 := dkwX2_item_8 ++ dktX2_item_9
def dkwX2_item_7 : List UInt8 := [160, 0, 7, 5, 167, 0, 4, 4, 182, 4, 34, 167, 0, 239, 27, 16, 47, 159, 0, 9, 27, 16, 48]
abbrev dktX2_item_7 : List UInt8 := dkwX2_item_7 ++ dktX2_item_8
def dkwX2_item_6 : List UInt8 := [20, 4, 118, 20, 4, 120, 182, 4, 22, 61, 42, 182, 3, 217, 153, 0, 19, 42, 28, 27, 16, 45]
abbrev dktX2_item_6 : List UInt8 := dkwX2_item_6 ++ dktX2_item_7
def dkwX2_item_5 : List UInt8 := [160, 0, 59, 27, 16, 45, 160, 0, 16, 42, 20, 4, 84, 20, 4, 92, 182, 4, 22, 167, 0, 13, 42]
abbrev dktX2_item_5 : List UInt8 := dkwX2_item_5 ++ dktX2_item_6
def dkwX2_item_4 : List UInt8 := [180, 3, 248, 42, 180, 3, 251, 182, 4, 94, 167, 1, 51, 27, 16, 45, 159, 0, 9, 27, 16, 46]
abbrev dktX2_item_4 : List UInt8 := dkwX2_item_4 ++ dktX2_item_5
def dkwX2_item_3 : List UInt8 := [182, 4, 8, 42, 42, 180, 3, 248, 2, 160, 0, 10, 42, 180, 3, 251, 167, 0, 4, 3, 5, 42]
abbrev dktX2_item_3 : List UInt8 := dkwX2_item_3 ++ dktX2_item_4
def dkwX2_item_2 : List UInt8 := [180, 3, 242, 104, 28, 96, 4, 84, 42, 182, 3, 230, 167, 1, 93, 27, 16, 44, 160, 0, 39, 42]
abbrev dktX2_item_2 : List UInt8 := dkwX2_item_2 ++ dktX2_item_3
def dkwX2_item_1 : List UInt8 := [154, 0, 4, 177, 42, 182, 3, 245, 61, 42, 182, 3, 217, 153, 0, 18, 42, 180, 0, 46, 16, 64, 42]
abbrev dktX2_item_1 : List UInt8 := dkwX2_item_1 ++ dktX2_item_2
def dkwX2_item_0 : List UInt8 := [27, 16, 43, 160, 0, 58, 42, 42, 180, 0, 119, 4, 160, 0, 7, 4, 167, 0, 4, 3, 182, 3, 226]
abbrev dktX2_item_0 : List UInt8 := dkwX2_item_0 ++ dktX2_item_1
theorem dksX2_item_0 : cX2_item.data.toList.drop 0 = dktX2_item_0 := by decide +kernel
theorem dksX2_item_1 : cX2_item.data.toList.drop 23 = dktX2_item_1 := dk_seg dksX2_item_0 23 rfl rfl
theorem dksX2_item_2 : cX2_item.data.toList.drop 46 = dktX2_item_2 := dk_seg dksX2_item_1 23 rfl rfl
theorem dksX2_item_3 : cX2_item.data.toList.drop 68 = dktX2_item_3 := dk_seg dksX2_item_2 22 rfl rfl
theorem dksX2_item_4 : cX2_item.data.toList.drop 90 = dktX2_item_4 := dk_seg dksX2_item_3 22 rfl rfl
theorem dksX2_item_5 : cX2_item.data.toList.drop 112 = dktX2_item_5 := dk_seg dksX2_item_4 22 rfl rfl
theorem dksX2_item_6 : cX2_item.data.toList.drop 135 = dktX2_item_6 := dk_seg dksX2_item_5 23 rfl rfl
theorem dksX2_item_7 : cX2_item.data.toList.drop 157 = dktX2_item_7 := dk_seg dksX2_item_6 22 rfl rfl
theorem dksX2_item_8 : cX2_item.data.toList.drop 180 = dktX2_item_8 := dk_seg dksX2_item_7 23 rfl rfl
theorem dksX2_item_9 : cX2_item.data.toList.drop 202 = dktX2_item_9 := dk_seg dksX2_item_8 22 rfl rfl
theorem dksX2_item_10 : cX2_item.data.toList.drop 226 = dktX2_item_10 := dk_seg dksX2_item_9 24 rfl rfl
theorem dksX2_item_11 : cX2_item.data.toList.drop 250 = dktX2_item_11 := dk_seg dksX2_item_10 24 rfl rfl
theorem dksX2_item_12 : cX2_item.data.toList.drop 273 = dktX2_item_12 := dk_seg dksX2_item_11 23 rfl rfl
theorem dksX2_item_13 : cX2_item.data.toList.drop 295 = dktX2_item_13 := dk_seg dksX2_item_12 22 rfl rfl
theorem dksX2_item_14 : cX2_item.data.toList.drop 319 = dktX2_item_14 := dk_seg dksX2_item_13 24 rfl rfl
theorem dksX2_item_15 : cX2_item.data.toList.drop 343 = dktX2_item_15 := dk_seg dksX2_item_14 24 rfl rfl
theorem dksX2_item_16 : cX2_item.data.toList.drop 366 = dktX2_item_16 := dk_seg dksX2_item_15 23 rfl rfl
theorem dksX2_item_17 : cX2_item.data.toList.drop 388 = dktX2_item_17 := dk_seg dksX2_item_16 22 rfl rfl
theorem dX2_item_0 : decode cX2_item 0 = .ok (.iload_n 1, 1) := dk_27 (dk_at dksX2_item_0 0 rfl rfl)
theorem dX2_item_1 : decode cX2_item 1 = .ok (.bipush 43, 2) := dk_16 43 (dk_at dksX2_item_0 1 rfl rfl)
theorem dX2_item_3 : decode cX2_item 3 = .ok (.if_icmp .ne 58, 3) := dk_160 0 58 (dk_at dksX2_item_0 3 rfl rfl)
theorem dX2_item_6 : decode cX2_item 6 = .ok (.aload_n 0, 1) := dk_42 (dk_at dksX2_item_0 6 rfl rfl)
theorem dX2_item_7 : decode cX2_item 7 = .ok (.aload_n 0, 1) := dk_42 (dk_at dksX2_item_0 7 rfl rfl)
theorem dX2_item_8 : decode cX2_item 8 = .ok (.getfield 119, 3) := dk_180 0 119 (dk_at dksX2_item_0 8 rfl rfl)
theorem dX2_item_11 : decode cX2_item 11 = .ok (.iconst 1, 1) := dk_4 (dk_at dksX2_item_0 11 rfl rfl)
theorem dX2_item_12 : decode cX2_item 12 = .ok (.if_icmp .ne 7, 3) := dk_160 0 7 (dk_at dksX2_item_0 12 rfl rfl)
theorem dX2_item_15 : decode cX2_item 15 = .ok (.iconst 1, 1) := dk_4 (dk_at dksX2_item_0 15 rfl rfl)
theorem dX2_item_16 : decode cX2_item 16 = .ok (.goto 4, 3) := dk_167 0 4 (dk_at dksX2_item_0 16 rfl rfl)
theorem dX2_item_19 : decode cX2_item 19 = .ok (.iconst 0, 1) := dk_3 (dk_at dksX2_item_0 19 rfl rfl)
theorem dX2_item_20 : decode cX2_item 20 = .ok (.invokevirtual 994, 3) := dk_182 3 226 (dk_at dksX2_item_0 20 rfl rfl)
theorem dX2_item_23 : decode cX2_item 23 = .ok (.ifCond .ne 4, 3) := dk_154 0 4 (dk_at dksX2_item_1 0 rfl rfl)
theorem dX2_item_26 : decode cX2_item 26 = .ok (.return_, 1) := dk_177 (dk_at dksX2_item_1 3 rfl rfl)
theorem dX2_item_27 : decode cX2_item 27 = .ok (.aload_n 0, 1) := dk_42 (dk_at dksX2_item_1 4 rfl rfl)
theorem dX2_item_28 : decode cX2_item 28 = .ok (.invokevirtual 1013, 3) := dk_182 3 245 (dk_at dksX2_item_1 5 rfl rfl)
theorem dX2_item_31 : decode cX2_item 31 = .ok (.istore_n 2, 1) := dk_61 (dk_at dksX2_item_1 8 rfl rfl)
theorem dX2_item_32 : decode cX2_item 32 = .ok (.aload_n 0, 1) := dk_42 (dk_at dksX2_item_1 9 rfl rfl)
theorem dX2_item_33 : decode cX2_item 33 = .ok (.invokevirtual 985, 3) := dk_182 3 217 (dk_at dksX2_item_1 10 rfl rfl)
theorem dX2_item_36 : decode cX2_item 36 = .ok (.ifCond .eq 18, 3) := dk_153 0 18 (dk_at dksX2_item_1 13 rfl rfl)
theorem dX2_item_39 : decode cX2_item 39 = .ok (.aload_n 0, 1) := dk_42 (dk_at dksX2_item_1 16 rfl rfl)
theorem dX2_item_40 : decode cX2_item 40 = .ok (.getfield 46, 3) := dk_180 0 46 (dk_at dksX2_item_1 17 rfl rfl)
theorem dX2_item_43 : decode cX2_item 43 = .ok (.bipush 64, 2) := dk_16 64 (dk_at dksX2_item_1 20 rfl rfl)
theorem dX2_item_45 : decode cX2_item 45 = .ok (.aload_n 0, 1) := dk_42 (dk_at dksX2_item_1 22 rfl rfl)
theorem dX2_item_46 : decode cX2_item 46 = .ok (.getfield 1010, 3) := dk_180 3 242 (dk_at dksX2_item_2 0 rfl rfl)
theorem dX2_item_49 : decode cX2_item 49 = .ok (.imul, 1) := dk_104 (dk_at dksX2_item_2 3 rfl rfl)
theorem dX2_item_50 : decode cX2_item 50 = .ok (.iload_n 2, 1) := dk_28 (dk_at dksX2_item_2 4 rfl rfl)
theorem dX2_item_51 : decode cX2_item 51 = .ok (.iadd, 1) := dk_96 (dk_at dksX2_item_2 5 rfl rfl)
theorem dX2_item_52 : decode cX2_item 52 = .ok (.iconst 1, 1) := dk_4 (dk_at dksX2_item_2 6 rfl rfl)
theorem dX2_item_53 : decode cX2_item 53 = .ok (.bastore, 1) := dk_84 (dk_at dksX2_item_2 7 rfl rfl)
theorem dX2_item_54 : decode cX2_item 54 = .ok (.aload_n 0, 1) := dk_42 (dk_at dksX2_item_2 8 rfl rfl)
theorem dX2_item_55 : decode cX2_item 55 = .ok (.invokevirtual 998, 3) := dk_182 3 230 (dk_at dksX2_item_2 9 rfl rfl)
theorem dX2_item_58 : decode cX2_item 58 = .ok (.goto 349, 3) := dk_167 1 93 (dk_at dksX2_item_2 12 rfl rfl)
theorem dX2_item_61 : decode cX2_item 61 = .ok (.iload_n 1, 1) := dk_27 (dk_at dksX2_item_2 15 rfl rfl)
theorem dX2_item_62 : decode cX2_item 62 = .ok (.bipush 44, 2) := dk_16 44 (dk_at dksX2_item_2 16 rfl rfl)
theorem dX2_item_64 : decode cX2_item 64 = .ok (.if_icmp .ne 39, 3) := dk_160 0 39 (dk_at dksX2_item_2 18 rfl rfl)
theorem dX2_item_67 : decode cX2_item 67 = .ok (.aload_n 0, 1) := dk_42 (dk_at dksX2_item_2 21 rfl rfl)
theorem dX2_item_68 : decode cX2_item 68 = .ok (.invokevirtual 1032, 3) := dk_182 4 8 (dk_at dksX2_item_3 0 rfl rfl)
theorem dX2_item_71 : decode cX2_item 71 = .ok (.aload_n 0, 1) := dk_42 (dk_at dksX2_item_3 3 rfl rfl)
theorem dX2_item_72 : decode cX2_item 72 = .ok (.aload_n 0, 1) := dk_42 (dk_at dksX2_item_3 4 rfl rfl)
theorem dX2_item_73 : decode cX2_item 73 = .ok (.getfield 1016, 3) := dk_180 3 248 (dk_at dksX2_item_3 5 rfl rfl)
theorem dX2_item_76 : decode cX2_item 76 = .ok (.iconst (-1), 1) := dk_2 (dk_at dksX2_item_3 8 rfl rfl)
theorem dX2_item_77 : decode cX2_item 77 = .ok (.if_icmp .ne 10, 3) := dk_160 0 10 (dk_at dksX2_item_3 9 rfl rfl)
theorem dX2_item_80 : decode cX2_item 80 = .ok (.aload_n 0, 1) := dk_42 (dk_at dksX2_item_3 12 rfl rfl)
theorem dX2_item_81 : decode cX2_item 81 = .ok (.getfield 1019, 3) := dk_180 3 251 (dk_at dksX2_item_3 13 rfl rfl)
theorem dX2_item_84 : decode cX2_item 84 = .ok (.goto 4, 3) := dk_167 0 4 (dk_at dksX2_item_3 16 rfl rfl)
theorem dX2_item_87 : decode cX2_item 87 = .ok (.iconst 0, 1) := dk_3 (dk_at dksX2_item_3 19 rfl rfl)
theorem dX2_item_88 : decode cX2_item 88 = .ok (.iconst 2, 1) := dk_5 (dk_at dksX2_item_3 20 rfl rfl)
theorem dX2_item_89 : decode cX2_item 89 = .ok (.aload_n 0, 1) := dk_42 (dk_at dksX2_item_3 21 rfl rfl)
theorem dX2_item_90 : decode cX2_item 90 = .ok (.getfield 1016, 3) := dk_180 3 248 (dk_at dksX2_item_4 0 rfl rfl)
theorem dX2_item_93 : decode cX2_item 93 = .ok (.aload_n 0, 1) := dk_42 (dk_at dksX2_item_4 3 rfl rfl)
theorem dX2_item_94 : decode cX2_item 94 = .ok (.getfield 1019, 3) := dk_180 3 251 (dk_at dksX2_item_4 4 rfl rfl)
theorem dX2_item_97 : decode cX2_item 97 = .ok (.invokevirtual 1118, 3) := dk_182 4 94 (dk_at dksX2_item_4 7 rfl rfl)
theorem dX2_item_100 : decode cX2_item 100 = .ok (.goto 307, 3) := dk_167 1 51 (dk_at dksX2_item_4 10 rfl rfl)
theorem dX2_item_103 : decode cX2_item 103 = .ok (.iload_n 1, 1) := dk_27 (dk_at dksX2_item_4 13 rfl rfl)
theorem dX2_item_104 : decode cX2_item 104 = .ok (.bipush 45, 2) := dk_16 45 (dk_at dksX2_item_4 14 rfl rfl)
theorem dX2_item_106 : decode cX2_item 106 = .ok (.if_icmp .eq 9, 3) := dk_159 0 9 (dk_at dksX2_item_4 16 rfl rfl)
theorem dX2_item_109 : decode cX2_item 109 = .ok (.iload_n 1, 1) := dk_27 (dk_at dksX2_item_4 19 rfl rfl)
theorem dX2_item_110 : decode cX2_item 110 = .ok (.bipush 46, 2) := dk_16 46 (dk_at dksX2_item_4 20 rfl rfl)
theorem dX2_item_112 : decode cX2_item 112 = .ok (.if_icmp .ne 59, 3) := dk_160 0 59 (dk_at dksX2_item_5 0 rfl rfl)
theorem dX2_item_115 : decode cX2_item 115 = .ok (.iload_n 1, 1) := dk_27 (dk_at dksX2_item_5 3 rfl rfl)
theorem dX2_item_116 : decode cX2_item 116 = .ok (.bipush 45, 2) := dk_16 45 (dk_at dksX2_item_5 4 rfl rfl)
theorem dX2_item_118 : decode cX2_item 118 = .ok (.if_icmp .ne 16, 3) := dk_160 0 16 (dk_at dksX2_item_5 6 rfl rfl)
theorem dX2_item_121 : decode cX2_item 121 = .ok (.aload_n 0, 1) := dk_42 (dk_at dksX2_item_5 9 rfl rfl)
theorem dX2_item_122 : decode cX2_item 122 = .ok (.ldc2_w 1108, 3) := dk_20 4 84 (dk_at dksX2_item_5 10 rfl rfl)
theorem dX2_item_125 : decode cX2_item 125 = .ok (.ldc2_w 1116, 3) := dk_20 4 92 (dk_at dksX2_item_5 13 rfl rfl)
theorem dX2_item_128 : decode cX2_item 128 = .ok (.invokevirtual 1046, 3) := dk_182 4 22 (dk_at dksX2_item_5 16 rfl rfl)
theorem dX2_item_131 : decode cX2_item 131 = .ok (.goto 13, 3) := dk_167 0 13 (dk_at dksX2_item_5 19 rfl rfl)
theorem dX2_item_134 : decode cX2_item 134 = .ok (.aload_n 0, 1) := dk_42 (dk_at dksX2_item_5 22 rfl rfl)
theorem dX2_item_135 : decode cX2_item 135 = .ok (.ldc2_w 1142, 3) := dk_20 4 118 (dk_at dksX2_item_6 0 rfl rfl)
theorem dX2_item_138 : decode cX2_item 138 = .ok (.ldc2_w 1144, 3) := dk_20 4 120 (dk_at dksX2_item_6 3 rfl rfl)
theorem dX2_item_141 : decode cX2_item 141 = .ok (.invokevirtual 1046, 3) := dk_182 4 22 (dk_at dksX2_item_6 6 rfl rfl)
theorem dX2_item_144 : decode cX2_item 144 = .ok (.istore_n 2, 1) := dk_61 (dk_at dksX2_item_6 9 rfl rfl)
theorem dX2_item_145 : decode cX2_item 145 = .ok (.aload_n 0, 1) := dk_42 (dk_at dksX2_item_6 10 rfl rfl)
theorem dX2_item_146 : decode cX2_item 146 = .ok (.invokevirtual 985, 3) := dk_182 3 217 (dk_at dksX2_item_6 11 rfl rfl)
theorem dX2_item_149 : decode cX2_item 149 = .ok (.ifCond .eq 19, 3) := dk_153 0 19 (dk_at dksX2_item_6 14 rfl rfl)
theorem dX2_item_152 : decode cX2_item 152 = .ok (.aload_n 0, 1) := dk_42 (dk_at dksX2_item_6 17 rfl rfl)
theorem dX2_item_153 : decode cX2_item 153 = .ok (.iload_n 2, 1) := dk_28 (dk_at dksX2_item_6 18 rfl rfl)
theorem dX2_item_154 : decode cX2_item 154 = .ok (.iload_n 1, 1) := dk_27 (dk_at dksX2_item_6 19 rfl rfl)
theorem dX2_item_155 : decode cX2_item 155 = .ok (.bipush 45, 2) := dk_16 45 (dk_at dksX2_item_6 20 rfl rfl)
theorem dX2_item_157 : decode cX2_item 157 = .ok (.if_icmp .ne 7, 3) := dk_160 0 7 (dk_at dksX2_item_7 0 rfl rfl)
theorem dX2_item_160 : decode cX2_item 160 = .ok (.iconst 2, 1) := dk_5 (dk_at dksX2_item_7 3 rfl rfl)
theorem dX2_item_161 : decode cX2_item 161 = .ok (.goto 4, 3) := dk_167 0 4 (dk_at dksX2_item_7 4 rfl rfl)
theorem dX2_item_164 : decode cX2_item 164 = .ok (.iconst 1, 1) := dk_4 (dk_at dksX2_item_7 7 rfl rfl)
theorem dX2_item_165 : decode cX2_item 165 = .ok (.invokevirtual 1058, 3) := dk_182 4 34 (dk_at dksX2_item_7 8 rfl rfl)
theorem dX2_item_168 : decode cX2_item 168 = .ok (.goto 239, 3) := dk_167 0 239 (dk_at dksX2_item_7 11 rfl rfl)
theorem dX2_item_171 : decode cX2_item 171 = .ok (.iload_n 1, 1) := dk_27 (dk_at dksX2_item_7 14 rfl rfl)
theorem dX2_item_172 : decode cX2_item 172 = .ok (.bipush 47, 2) := dk_16 47 (dk_at dksX2_item_7 15 rfl rfl)
theorem dX2_item_174 : decode cX2_item 174 = .ok (.if_icmp .eq 9, 3) := dk_159 0 9 (dk_at dksX2_item_7 17 rfl rfl)
theorem dX2_item_177 : decode cX2_item 177 = .ok (.iload_n 1, 1) := dk_27 (dk_at dksX2_item_7 20 rfl rfl)
theorem dX2_item_178 : decode cX2_item 178 = .ok (.bipush 48, 2) := dk_16 48 (dk_at dksX2_item_7 21 rfl rfl)
theorem dX2_item_180 : decode cX2_item 180 = .ok (.if_icmp .ne 113, 3) := dk_160 0 113 (dk_at dksX2_item_8 0 rfl rfl)
theorem dX2_item_183 : decode cX2_item 183 = .ok (.iload_n 1, 1) := dk_27 (dk_at dksX2_item_8 3 rfl rfl)
theorem dX2_item_184 : decode cX2_item 184 = .ok (.bipush 47, 2) := dk_16 47 (dk_at dksX2_item_8 4 rfl rfl)
theorem dX2_item_186 : decode cX2_item 186 = .ok (.if_icmp .ne 14, 3) := dk_160 0 14 (dk_at dksX2_item_8 6 rfl rfl)
theorem dX2_item_189 : decode cX2_item 189 = .ok (.aload_n 0, 1) := dk_42 (dk_at dksX2_item_8 9 rfl rfl)
theorem dX2_item_190 : decode cX2_item 190 = .ok (.lconst 0, 1) := dk_9 (dk_at dksX2_item_8 10 rfl rfl)
theorem dX2_item_191 : decode cX2_item 191 = .ok (.ldc2_w 1146, 3) := dk_20 4 122 (dk_at dksX2_item_8 11 rfl rfl)
theorem dX2_item_194 : decode cX2_item 194 = .ok (.invokevirtual 1046, 3) := dk_182 4 22 (dk_at dksX2_item_8 14 rfl rfl)
theorem dX2_item_197 : decode cX2_item 197 = .ok (.goto 11, 3) := dk_167 0 11 (dk_at dksX2_item_8 17 rfl rfl)
theorem dX2_item_200 : decode cX2_item 200 = .ok (.aload_n 0, 1) := dk_42 (dk_at dksX2_item_8 20 rfl rfl)
theorem dX2_item_201 : decode cX2_item 201 = .ok (.lconst 0, 1) := dk_9 (dk_at dksX2_item_8 21 rfl rfl)
theorem dX2_item_202 : decode cX2_item 202 = .ok (.ldc2_w 1148, 3) := dk_20 4 124 (dk_at dksX2_item_9 0 rfl rfl)
theorem dX2_item_205 : decode cX2_item 205 = .ok (.invokevirtual 1046, 3) := dk_182 4 22 (dk_at dksX2_item_9 3 rfl rfl)
theorem dX2_item_208 : decode cX2_item 208 = .ok (.istore_n 2, 1) := dk_61 (dk_at dksX2_item_9 6 rfl rfl)
theorem dX2_item_209 : decode cX2_item 209 = .ok (.aload_n 0, 1) := dk_42 (dk_at dksX2_item_9 7 rfl rfl)
theorem dX2_item_210 : decode cX2_item 210 = .ok (.getfield 17, 3) := dk_180 0 17 (dk_at dksX2_item_9 8 rfl rfl)
theorem dX2_item_213 : decode cX2_item 213 = .ok (.iconst 3, 1) := dk_6 (dk_at dksX2_item_9 11 rfl rfl)
theorem dX2_item_214 : decode cX2_item 214 = .ok (.aload_n 0, 1) := dk_42 (dk_at dksX2_item_9 12 rfl rfl)
theorem dX2_item_215 : decode cX2_item 215 = .ok (.getfield 1010, 3) := dk_180 3 242 (dk_at dksX2_item_9 13 rfl rfl)
theorem dX2_item_218 : decode cX2_item 218 = .ok (.imul, 1) := dk_104 (dk_at dksX2_item_9 16 rfl rfl)
theorem dX2_item_219 : decode cX2_item 219 = .ok (.aload_n 0, 1) := dk_42 (dk_at dksX2_item_9 17 rfl rfl)
theorem dX2_item_220 : decode cX2_item 220 = .ok (.getfield 1050, 3) := dk_180 4 26 (dk_at dksX2_item_9 18 rfl rfl)
theorem dX2_item_223 : decode cX2_item 223 = .ok (.iadd, 1) := dk_96 (dk_at dksX2_item_9 21 rfl rfl)
theorem dX2_item_224 : decode cX2_item 224 = .ok (.iaload, 1) := dk_46 (dk_at dksX2_item_9 22 rfl rfl)
theorem dX2_item_225 : decode cX2_item 225 = .ok (.istore_n 3, 1) := dk_62 (dk_at dksX2_item_9 23 rfl rfl)
theorem dX2_item_226 : decode cX2_item 226 = .ok (.iload_n 1, 1) := dk_27 (dk_at dksX2_item_10 0 rfl rfl)
theorem dX2_item_227 : decode cX2_item 227 = .ok (.bipush 48, 2) := dk_16 48 (dk_at dksX2_item_10 1 rfl rfl)
theorem dX2_item_229 : decode cX2_item 229 = .ok (.if_icmp .ne 12, 3) := dk_160 0 12 (dk_at dksX2_item_10 3 rfl rfl)
theorem dX2_item_232 : decode cX2_item 232 = .ok (.iload_n 3, 1) := dk_29 (dk_at dksX2_item_10 6 rfl rfl)
theorem dX2_item_233 : decode cX2_item 233 = .ok (.ineg, 1) := dk_116 (dk_at dksX2_item_10 7 rfl rfl)
theorem dX2_item_234 : decode cX2_item 234 = .ok (.iconst 1, 1) := dk_4 (dk_at dksX2_item_10 8 rfl rfl)
theorem dX2_item_235 : decode cX2_item 235 = .ok (.iload_n 2, 1) := dk_28 (dk_at dksX2_item_10 9 rfl rfl)
theorem dX2_item_236 : decode cX2_item 236 = .ok (.ishl, 1) := dk_120 (dk_at dksX2_item_10 10 rfl rfl)
theorem dX2_item_237 : decode cX2_item 237 = .ok (.iconst 1, 1) := dk_4 (dk_at dksX2_item_10 11 rfl rfl)
theorem dX2_item_238 : decode cX2_item 238 = .ok (.isub, 1) := dk_100 (dk_at dksX2_item_10 12 rfl rfl)
theorem dX2_item_239 : decode cX2_item 239 = .ok (.iand, 1) := dk_126 (dk_at dksX2_item_10 13 rfl rfl)
theorem dX2_item_240 : decode cX2_item 240 = .ok (.istore_n 2, 1) := dk_61 (dk_at dksX2_item_10 14 rfl rfl)
theorem dX2_item_241 : decode cX2_item 241 = .ok (.aload_n 0, 1) := dk_42 (dk_at dksX2_item_10 15 rfl rfl)
theorem dX2_item_242 : decode cX2_item 242 = .ok (.invokevirtual 985, 3) := dk_182 3 217 (dk_at dksX2_item_10 16 rfl rfl)
theorem dX2_item_245 : decode cX2_item 245 = .ok (.ifCond .eq 18, 3) := dk_153 0 18 (dk_at dksX2_item_10 19 rfl rfl)
theorem dX2_item_248 : decode cX2_item 248 = .ok (.iload_n 3, 1) := dk_29 (dk_at dksX2_item_10 22 rfl rfl)
theorem dX2_item_249 : decode cX2_item 249 = .ok (.iload_n 2, 1) := dk_28 (dk_at dksX2_item_10 23 rfl rfl)
theorem dX2_item_250 : decode cX2_item 250 = .ok (.iadd, 1) := dk_96 (dk_at dksX2_item_11 0 rfl rfl)
theorem dX2_item_251 : decode cX2_item 251 = .ok (.sipush 4096, 3) := dk_17 16 0 (dk_at dksX2_item_11 1 rfl rfl)
theorem dX2_item_254 : decode cX2_item 254 = .ok (.if_icmp .le 9, 3) := dk_164 0 9 (dk_at dksX2_item_11 4 rfl rfl)
theorem dX2_item_257 : decode cX2_item 257 = .ok (.aload_n 0, 1) := dk_42 (dk_at dksX2_item_11 7 rfl rfl)
theorem dX2_item_258 : decode cX2_item 258 = .ok (.bipush 7, 2) := dk_16 7 (dk_at dksX2_item_11 8 rfl rfl)
theorem dX2_item_260 : decode cX2_item 260 = .ok (.invokevirtual 988, 3) := dk_182 3 220 (dk_at dksX2_item_11 10 rfl rfl)
theorem dX2_item_263 : decode cX2_item 263 = .ok (.iconst 0, 1) := dk_3 (dk_at dksX2_item_11 13 rfl rfl)
theorem dX2_item_264 : decode cX2_item 264 = .ok (.istore 4, 2) := dk_54 4 (dk_at dksX2_item_11 14 rfl rfl)
theorem dX2_item_266 : decode cX2_item 266 = .ok (.iload 4, 2) := dk_21 4 (dk_at dksX2_item_11 16 rfl rfl)
theorem dX2_item_268 : decode cX2_item 268 = .ok (.iload_n 2, 1) := dk_28 (dk_at dksX2_item_11 18 rfl rfl)
theorem dX2_item_269 : decode cX2_item 269 = .ok (.if_icmp .ge 21, 3) := dk_162 0 21 (dk_at dksX2_item_11 19 rfl rfl)
theorem dX2_item_272 : decode cX2_item 272 = .ok (.aload_n 0, 1) := dk_42 (dk_at dksX2_item_11 22 rfl rfl)
theorem dX2_item_273 : decode cX2_item 273 = .ok (.invokevirtual 985, 3) := dk_182 3 217 (dk_at dksX2_item_12 0 rfl rfl)
theorem dX2_item_276 : decode cX2_item 276 = .ok (.ifCond .eq 14, 3) := dk_153 0 14 (dk_at dksX2_item_12 3 rfl rfl)
theorem dX2_item_279 : decode cX2_item 279 = .ok (.aload_n 0, 1) := dk_42 (dk_at dksX2_item_12 6 rfl rfl)
theorem dX2_item_280 : decode cX2_item 280 = .ok (.iconst 0, 1) := dk_3 (dk_at dksX2_item_12 7 rfl rfl)
theorem dX2_item_281 : decode cX2_item 281 = .ok (.invokevirtual 1052, 3) := dk_182 4 28 (dk_at dksX2_item_12 8 rfl rfl)
theorem dX2_item_284 : decode cX2_item 284 = .ok (.iinc 4 1, 3) := dk_132 4 1 (dk_at dksX2_item_12 11 rfl rfl)
theorem dX2_item_287 : decode cX2_item 287 = .ok (.goto (-21), 3) := dk_167 255 235 (dk_at dksX2_item_12 14 rfl rfl)
theorem dX2_item_290 : decode cX2_item 290 = .ok (.goto 117, 3) := dk_167 0 117 (dk_at dksX2_item_12 17 rfl rfl)
theorem dX2_item_293 : decode cX2_item 293 = .ok (.aload_n 0, 1) := dk_42 (dk_at dksX2_item_12 20 rfl rfl)
theorem dX2_item_294 : decode cX2_item 294 = .ok (.aload_n 0, 1) := dk_42 (dk_at dksX2_item_12 21 rfl rfl)
theorem dX2_item_295 : decode cX2_item 295 = .ok (.getfield 119, 3) := dk_180 0 119 (dk_at dksX2_item_13 0 rfl rfl)
theorem dX2_item_298 : decode cX2_item 298 = .ok (.iconst 5, 1) := dk_8 (dk_at dksX2_item_13 3 rfl rfl)
theorem dX2_item_299 : decode cX2_item 299 = .ok (.if_icmp .ne 7, 3) := dk_160 0 7 (dk_at dksX2_item_13 4 rfl rfl)
theorem dX2_item_302 : decode cX2_item 302 = .ok (.iconst 1, 1) := dk_4 (dk_at dksX2_item_13 7 rfl rfl)
theorem dX2_item_303 : decode cX2_item 303 = .ok (.goto 4, 3) := dk_167 0 4 (dk_at dksX2_item_13 8 rfl rfl)
theorem dX2_item_306 : decode cX2_item 306 = .ok (.iconst 0, 1) := dk_3 (dk_at dksX2_item_13 11 rfl rfl)
theorem dX2_item_307 : decode cX2_item 307 = .ok (.invokevirtual 994, 3) := dk_182 3 226 (dk_at dksX2_item_13 12 rfl rfl)
theorem dX2_item_310 : decode cX2_item 310 = .ok (.ifCond .ne 4, 3) := dk_154 0 4 (dk_at dksX2_item_13 15 rfl rfl)
theorem dX2_item_313 : decode cX2_item 313 = .ok (.return_, 1) := dk_177 (dk_at dksX2_item_13 18 rfl rfl)
theorem dX2_item_314 : decode cX2_item 314 = .ok (.aload_n 0, 1) := dk_42 (dk_at dksX2_item_13 19 rfl rfl)
theorem dX2_item_315 : decode cX2_item 315 = .ok (.getfield 17, 3) := dk_180 0 17 (dk_at dksX2_item_13 20 rfl rfl)
theorem dX2_item_318 : decode cX2_item 318 = .ok (.iconst 3, 1) := dk_6 (dk_at dksX2_item_13 23 rfl rfl)
theorem dX2_item_319 : decode cX2_item 319 = .ok (.aload_n 0, 1) := dk_42 (dk_at dksX2_item_14 0 rfl rfl)
theorem dX2_item_320 : decode cX2_item 320 = .ok (.getfield 1010, 3) := dk_180 3 242 (dk_at dksX2_item_14 1 rfl rfl)
theorem dX2_item_323 : decode cX2_item 323 = .ok (.imul, 1) := dk_104 (dk_at dksX2_item_14 4 rfl rfl)
theorem dX2_item_324 : decode cX2_item 324 = .ok (.aload_n 0, 1) := dk_42 (dk_at dksX2_item_14 5 rfl rfl)
theorem dX2_item_325 : decode cX2_item 325 = .ok (.getfield 1050, 3) := dk_180 4 26 (dk_at dksX2_item_14 6 rfl rfl)
theorem dX2_item_328 : decode cX2_item 328 = .ok (.iadd, 1) := dk_96 (dk_at dksX2_item_14 9 rfl rfl)
theorem dX2_item_329 : decode cX2_item 329 = .ok (.iaload, 1) := dk_46 (dk_at dksX2_item_14 10 rfl rfl)
theorem dX2_item_330 : decode cX2_item 330 = .ok (.aload_n 0, 1) := dk_42 (dk_at dksX2_item_14 11 rfl rfl)
theorem dX2_item_331 : decode cX2_item 331 = .ok (.getfield 213, 3) := dk_180 0 213 (dk_at dksX2_item_14 12 rfl rfl)
theorem dX2_item_334 : decode cX2_item 334 = .ok (.iadd, 1) := dk_96 (dk_at dksX2_item_14 15 rfl rfl)
theorem dX2_item_335 : decode cX2_item 335 = .ok (.iload_n 1, 1) := dk_27 (dk_at dksX2_item_14 16 rfl rfl)
theorem dX2_item_336 : decode cX2_item 336 = .ok (.iadd, 1) := dk_96 (dk_at dksX2_item_14 17 rfl rfl)
theorem dX2_item_337 : decode cX2_item 337 = .ok (.bipush 49, 2) := dk_16 49 (dk_at dksX2_item_14 18 rfl rfl)
theorem dX2_item_339 : decode cX2_item 339 = .ok (.isub, 1) := dk_100 (dk_at dksX2_item_14 20 rfl rfl)
theorem dX2_item_340 : decode cX2_item 340 = .ok (.sipush 4096, 3) := dk_17 16 0 (dk_at dksX2_item_14 21 rfl rfl)
theorem dX2_item_343 : decode cX2_item 343 = .ok (.if_icmp .le 9, 3) := dk_164 0 9 (dk_at dksX2_item_15 0 rfl rfl)
theorem dX2_item_346 : decode cX2_item 346 = .ok (.aload_n 0, 1) := dk_42 (dk_at dksX2_item_15 3 rfl rfl)
theorem dX2_item_347 : decode cX2_item 347 = .ok (.bipush 7, 2) := dk_16 7 (dk_at dksX2_item_15 4 rfl rfl)
theorem dX2_item_349 : decode cX2_item 349 = .ok (.invokevirtual 988, 3) := dk_182 3 220 (dk_at dksX2_item_15 6 rfl rfl)
theorem dX2_item_352 : decode cX2_item 352 = .ok (.iconst 0, 1) := dk_3 (dk_at dksX2_item_15 9 rfl rfl)
theorem dX2_item_353 : decode cX2_item 353 = .ok (.istore_n 2, 1) := dk_61 (dk_at dksX2_item_15 10 rfl rfl)
theorem dX2_item_354 : decode cX2_item 354 = .ok (.iload_n 2, 1) := dk_28 (dk_at dksX2_item_15 11 rfl rfl)
theorem dX2_item_355 : decode cX2_item 355 = .ok (.aload_n 0, 1) := dk_42 (dk_at dksX2_item_15 12 rfl rfl)
theorem dX2_item_356 : decode cX2_item 356 = .ok (.getfield 213, 3) := dk_180 0 213 (dk_at dksX2_item_15 13 rfl rfl)
theorem dX2_item_359 : decode cX2_item 359 = .ok (.if_icmp .ge 26, 3) := dk_162 0 26 (dk_at dksX2_item_15 16 rfl rfl)
theorem dX2_item_362 : decode cX2_item 362 = .ok (.aload_n 0, 1) := dk_42 (dk_at dksX2_item_15 19 rfl rfl)
theorem dX2_item_363 : decode cX2_item 363 = .ok (.invokevirtual 985, 3) := dk_182 3 217 (dk_at dksX2_item_15 20 rfl rfl)
theorem dX2_item_366 : decode cX2_item 366 = .ok (.ifCond .eq 19, 3) := dk_153 0 19 (dk_at dksX2_item_16 0 rfl rfl)
theorem dX2_item_369 : decode cX2_item 369 = .ok (.aload_n 0, 1) := dk_42 (dk_at dksX2_item_16 3 rfl rfl)
theorem dX2_item_370 : decode cX2_item 370 = .ok (.aload_n 0, 1) := dk_42 (dk_at dksX2_item_16 4 rfl rfl)
theorem dX2_item_371 : decode cX2_item 371 = .ok (.getfield 85, 3) := dk_180 0 85 (dk_at dksX2_item_16 5 rfl rfl)
theorem dX2_item_374 : decode cX2_item 374 = .ok (.iload_n 2, 1) := dk_28 (dk_at dksX2_item_16 8 rfl rfl)
theorem dX2_item_375 : decode cX2_item 375 = .ok (.baload, 1) := dk_51 (dk_at dksX2_item_16 9 rfl rfl)
theorem dX2_item_376 : decode cX2_item 376 = .ok (.invokevirtual 1052, 3) := dk_182 4 28 (dk_at dksX2_item_16 10 rfl rfl)
theorem dX2_item_379 : decode cX2_item 379 = .ok (.iinc 2 1, 3) := dk_132 2 1 (dk_at dksX2_item_16 13 rfl rfl)
theorem dX2_item_382 : decode cX2_item 382 = .ok (.goto (-28), 3) := dk_167 255 228 (dk_at dksX2_item_16 16 rfl rfl)
theorem dX2_item_385 : decode cX2_item 385 = .ok (.iload_n 1, 1) := dk_27 (dk_at dksX2_item_16 19 rfl rfl)
theorem dX2_item_386 : decode cX2_item 386 = .ok (.bipush 50, 2) := dk_16 50 (dk_at dksX2_item_16 20 rfl rfl)
theorem dX2_item_388 : decode cX2_item 388 = .ok (.if_icmp .ne 15, 3) := dk_160 0 15 (dk_at dksX2_item_17 0 rfl rfl)
theorem dX2_item_391 : decode cX2_item 391 = .ok (.aload_n 0, 1) := dk_42 (dk_at dksX2_item_17 3 rfl rfl)
theorem dX2_item_392 : decode cX2_item 392 = .ok (.invokevirtual 985, 3) := dk_182 3 217 (dk_at dksX2_item_17 4 rfl rfl)
theorem dX2_item_395 : decode cX2_item 395 = .ok (.ifCond .eq 8, 3) := dk_153 0 8 (dk_at dksX2_item_17 7 rfl rfl)
theorem dX2_item_398 : decode cX2_item 398 = .ok (.aload_n 0, 1) := dk_42 (dk_at dksX2_item_17 10 rfl rfl)
theorem dX2_item_399 : decode cX2_item 399 = .ok (.iconst 0, 1) := dk_3 (dk_at dksX2_item_17 11 rfl rfl)
theorem dX2_item_400 : decode cX2_item 400 = .ok (.invokevirtual 1052, 3) := dk_182 4 28 (dk_at dksX2_item_17 12 rfl rfl)
theorem dX2_item_403 : decode cX2_item 403 = .ok (.aload_n 0, 1) := dk_42 (dk_at dksX2_item_17 15 rfl rfl)
theorem dX2_item_404 : decode cX2_item 404 = .ok (.invokevirtual 998, 3) := dk_182 3 230 (dk_at dksX2_item_17 16 rfl rfl)
theorem dX2_item_407 : decode cX2_item 407 = .ok (.return_, 1) := dk_177 (dk_at dksX2_item_17 19 rfl rfl)
abbrev cX2_settle : ByteArray := prog_4_method_71_code
def yX2_settle : MethodName := ⟨RX2, "settle", "()V"⟩
def dkwX2_settle_13 : List UInt8 := [180, 3, 242, 28, 79, 177]
abbrev dktX2_settle_13 : List UInt8 := dkwX2_settle_13 ++ []
def dkwX2_settle_12 : List UInt8 := [42, 180, 0, 62, 21, 4, 46, 79, 132, 2, 1, 132, 3, 1, 167, 254, 231, 42, 180, 0, 24, 42]
abbrev dktX2_settle_12 : List UInt8 := dkwX2_settle_12 ++ dktX2_settle_13
def dkwX2_settle_11 : List UInt8 := [21, 4, 46, 79, 42, 180, 0, 59, 21, 6, 42, 180, 0, 59, 21, 4, 46, 79, 42, 180, 0, 62, 21, 6]
abbrev dktX2_settle_11 : List UInt8 := dkwX2_settle_11 ++ dktX2_settle_12
def dkwX2_settle_10 : List UInt8 := [180, 0, 53, 21, 6, 42, 180, 0, 53, 21, 4, 46, 79, 42, 180, 0, 56, 21, 6, 42, 180, 0, 56]
abbrev dktX2_settle_10 : List UInt8 := dkwX2_settle_10 ++ dktX2_settle_11
def dkwX2_settle_9 : List UInt8 := [167, 0, 81, 27, 28, 96, 54, 6, 42, 180, 0, 50, 21, 6, 42, 180, 0, 50, 21, 4, 46, 79, 42]
abbrev dktX2_settle_9 : List UInt8 := dkwX2_settle_9 ++ dktX2_settle_10
def dkwX2_settle_8 : List UInt8 := [22, 6, 16, 10, 123, 136, 145, 84, 42, 180, 0, 14, 21, 8, 6, 96, 22, 6, 5, 123, 136, 145, 84]
abbrev dktX2_settle_8 : List UInt8 := dkwX2_settle_8 ++ dktX2_settle_9
def dkwX2_settle_7 : List UInt8 := [42, 180, 3, 242, 104, 42, 180, 0, 53, 21, 4, 46, 96, 54, 8, 42, 180, 0, 14, 21, 8, 5, 96]
abbrev dktX2_settle_7 : List UInt8 := dkwX2_settle_7 ++ dktX2_settle_8
def dkwX2_settle_6 : List UInt8 := [155, 0, 16, 22, 6, 20, 4, 143, 109, 20, 4, 86, 148, 158, 0, 8, 42, 7, 182, 3, 220, 17, 32, 0]
abbrev dktX2_settle_6 : List UInt8 := dkwX2_settle_6 ++ dktX2_settle_7
def dkwX2_settle_5 : List UInt8 := [181, 4, 31, 22, 6, 20, 4, 143, 113, 9, 148, 154, 0, 29, 22, 6, 20, 4, 143, 109, 20, 4, 84, 148]
abbrev dktX2_settle_5 : List UInt8 := dkwX2_settle_5 ++ dktX2_settle_6
def dkwX2_settle_4 : List UInt8 := [133, 97, 42, 180, 0, 53, 21, 4, 46, 133, 101, 20, 4, 143, 101, 55, 6, 42, 42, 180, 0, 65, 29, 46]
abbrev dktX2_settle_4 : List UInt8 := dkwX2_settle_4 ++ dktX2_settle_5
def dkwX2_settle_3 : List UInt8 := [180, 0, 40, 21, 5, 46, 154, 0, 139, 42, 180, 0, 43, 21, 5, 46, 133, 42, 180, 0, 62, 21, 4, 46]
abbrev dktX2_settle_3 : List UInt8 := dkwX2_settle_3 ++ dktX2_settle_4
def dkwX2_settle_2 : List UInt8 := [180, 0, 59, 21, 4, 46, 96, 54, 5, 42, 180, 0, 56, 21, 4, 46, 16, 10, 160, 0, 149, 42]
abbrev dktX2_settle_2 : List UInt8 := dkwX2_settle_2 ++ dktX2_settle_3
def dkwX2_settle_1 : List UInt8 := [162, 1, 18, 42, 182, 3, 217, 153, 1, 11, 27, 29, 96, 54, 4, 16, 64, 42, 180, 3, 242, 104, 42]
abbrev dktX2_settle_1 : List UInt8 := dkwX2_settle_1 ++ dktX2_settle_2
def dkwX2_settle_0 : List UInt8 := [17, 1, 0, 42, 180, 3, 242, 104, 60, 3, 61, 3, 62, 29, 42, 180, 0, 24, 42, 180, 3, 242, 46]
abbrev dktX2_settle_0 : List UInt8 := dkwX2_settle_0 ++ dktX2_settle_1
theorem dksX2_settle_0 : cX2_settle.data.toList.drop 0 = dktX2_settle_0 := by decide +kernel
theorem dksX2_settle_1 : cX2_settle.data.toList.drop 23 = dktX2_settle_1 := dk_seg dksX2_settle_0 23 rfl rfl
theorem dksX2_settle_2 : cX2_settle.data.toList.drop 46 = dktX2_settle_2 := dk_seg dksX2_settle_1 23 rfl rfl
theorem dksX2_settle_3 : cX2_settle.data.toList.drop 68 = dktX2_settle_3 := dk_seg dksX2_settle_2 22 rfl rfl
theorem dksX2_settle_4 : cX2_settle.data.toList.drop 92 = dktX2_settle_4 := dk_seg dksX2_settle_3 24 rfl rfl
theorem dksX2_settle_5 : cX2_settle.data.toList.drop 116 = dktX2_settle_5 := dk_seg dksX2_settle_4 24 rfl rfl
theorem dksX2_settle_6 : cX2_settle.data.toList.drop 140 = dktX2_settle_6 := dk_seg dksX2_settle_5 24 rfl rfl
theorem dksX2_settle_7 : cX2_settle.data.toList.drop 164 = dktX2_settle_7 := dk_seg dksX2_settle_6 24 rfl rfl
theorem dksX2_settle_8 : cX2_settle.data.toList.drop 187 = dktX2_settle_8 := dk_seg dksX2_settle_7 23 rfl rfl
theorem dksX2_settle_9 : cX2_settle.data.toList.drop 210 = dktX2_settle_9 := dk_seg dksX2_settle_8 23 rfl rfl
theorem dksX2_settle_10 : cX2_settle.data.toList.drop 233 = dktX2_settle_10 := dk_seg dksX2_settle_9 23 rfl rfl
theorem dksX2_settle_11 : cX2_settle.data.toList.drop 256 = dktX2_settle_11 := dk_seg dksX2_settle_10 23 rfl rfl
theorem dksX2_settle_12 : cX2_settle.data.toList.drop 280 = dktX2_settle_12 := dk_seg dksX2_settle_11 24 rfl rfl
theorem dksX2_settle_13 : cX2_settle.data.toList.drop 302 = dktX2_settle_13 := dk_seg dksX2_settle_12 22 rfl rfl
theorem dX2_settle_0 : decode cX2_settle 0 = .ok (.sipush 256, 3) := dk_17 1 0 (dk_at dksX2_settle_0 0 rfl rfl)
theorem dX2_settle_3 : decode cX2_settle 3 = .ok (.aload_n 0, 1) := dk_42 (dk_at dksX2_settle_0 3 rfl rfl)
theorem dX2_settle_4 : decode cX2_settle 4 = .ok (.getfield 1010, 3) := dk_180 3 242 (dk_at dksX2_settle_0 4 rfl rfl)
theorem dX2_settle_7 : decode cX2_settle 7 = .ok (.imul, 1) := dk_104 (dk_at dksX2_settle_0 7 rfl rfl)
theorem dX2_settle_8 : decode cX2_settle 8 = .ok (.istore_n 1, 1) := dk_60 (dk_at dksX2_settle_0 8 rfl rfl)
theorem dX2_settle_9 : decode cX2_settle 9 = .ok (.iconst 0, 1) := dk_3 (dk_at dksX2_settle_0 9 rfl rfl)
theorem dX2_settle_10 : decode cX2_settle 10 = .ok (.istore_n 2, 1) := dk_61 (dk_at dksX2_settle_0 10 rfl rfl)
theorem dX2_settle_11 : decode cX2_settle 11 = .ok (.iconst 0, 1) := dk_3 (dk_at dksX2_settle_0 11 rfl rfl)
theorem dX2_settle_12 : decode cX2_settle 12 = .ok (.istore_n 3, 1) := dk_62 (dk_at dksX2_settle_0 12 rfl rfl)
theorem dX2_settle_13 : decode cX2_settle 13 = .ok (.iload_n 3, 1) := dk_29 (dk_at dksX2_settle_0 13 rfl rfl)
theorem dX2_settle_14 : decode cX2_settle 14 = .ok (.aload_n 0, 1) := dk_42 (dk_at dksX2_settle_0 14 rfl rfl)
theorem dX2_settle_15 : decode cX2_settle 15 = .ok (.getfield 24, 3) := dk_180 0 24 (dk_at dksX2_settle_0 15 rfl rfl)
theorem dX2_settle_18 : decode cX2_settle 18 = .ok (.aload_n 0, 1) := dk_42 (dk_at dksX2_settle_0 18 rfl rfl)
theorem dX2_settle_19 : decode cX2_settle 19 = .ok (.getfield 1010, 3) := dk_180 3 242 (dk_at dksX2_settle_0 19 rfl rfl)
theorem dX2_settle_22 : decode cX2_settle 22 = .ok (.iaload, 1) := dk_46 (dk_at dksX2_settle_0 22 rfl rfl)
theorem dX2_settle_23 : decode cX2_settle 23 = .ok (.if_icmp .ge 274, 3) := dk_162 1 18 (dk_at dksX2_settle_1 0 rfl rfl)
theorem dX2_settle_26 : decode cX2_settle 26 = .ok (.aload_n 0, 1) := dk_42 (dk_at dksX2_settle_1 3 rfl rfl)
theorem dX2_settle_27 : decode cX2_settle 27 = .ok (.invokevirtual 985, 3) := dk_182 3 217 (dk_at dksX2_settle_1 4 rfl rfl)
theorem dX2_settle_30 : decode cX2_settle 30 = .ok (.ifCond .eq 267, 3) := dk_153 1 11 (dk_at dksX2_settle_1 7 rfl rfl)
theorem dX2_settle_33 : decode cX2_settle 33 = .ok (.iload_n 1, 1) := dk_27 (dk_at dksX2_settle_1 10 rfl rfl)
theorem dX2_settle_34 : decode cX2_settle 34 = .ok (.iload_n 3, 1) := dk_29 (dk_at dksX2_settle_1 11 rfl rfl)
theorem dX2_settle_35 : decode cX2_settle 35 = .ok (.iadd, 1) := dk_96 (dk_at dksX2_settle_1 12 rfl rfl)
theorem dX2_settle_36 : decode cX2_settle 36 = .ok (.istore 4, 2) := dk_54 4 (dk_at dksX2_settle_1 13 rfl rfl)
theorem dX2_settle_38 : decode cX2_settle 38 = .ok (.bipush 64, 2) := dk_16 64 (dk_at dksX2_settle_1 15 rfl rfl)
theorem dX2_settle_40 : decode cX2_settle 40 = .ok (.aload_n 0, 1) := dk_42 (dk_at dksX2_settle_1 17 rfl rfl)
theorem dX2_settle_41 : decode cX2_settle 41 = .ok (.getfield 1010, 3) := dk_180 3 242 (dk_at dksX2_settle_1 18 rfl rfl)
theorem dX2_settle_44 : decode cX2_settle 44 = .ok (.imul, 1) := dk_104 (dk_at dksX2_settle_1 21 rfl rfl)
theorem dX2_settle_45 : decode cX2_settle 45 = .ok (.aload_n 0, 1) := dk_42 (dk_at dksX2_settle_1 22 rfl rfl)
theorem dX2_settle_46 : decode cX2_settle 46 = .ok (.getfield 59, 3) := dk_180 0 59 (dk_at dksX2_settle_2 0 rfl rfl)
theorem dX2_settle_49 : decode cX2_settle 49 = .ok (.iload 4, 2) := dk_21 4 (dk_at dksX2_settle_2 3 rfl rfl)
theorem dX2_settle_51 : decode cX2_settle 51 = .ok (.iaload, 1) := dk_46 (dk_at dksX2_settle_2 5 rfl rfl)
theorem dX2_settle_52 : decode cX2_settle 52 = .ok (.iadd, 1) := dk_96 (dk_at dksX2_settle_2 6 rfl rfl)
theorem dX2_settle_53 : decode cX2_settle 53 = .ok (.istore 5, 2) := dk_54 5 (dk_at dksX2_settle_2 7 rfl rfl)
theorem dX2_settle_55 : decode cX2_settle 55 = .ok (.aload_n 0, 1) := dk_42 (dk_at dksX2_settle_2 9 rfl rfl)
theorem dX2_settle_56 : decode cX2_settle 56 = .ok (.getfield 56, 3) := dk_180 0 56 (dk_at dksX2_settle_2 10 rfl rfl)
theorem dX2_settle_59 : decode cX2_settle 59 = .ok (.iload 4, 2) := dk_21 4 (dk_at dksX2_settle_2 13 rfl rfl)
theorem dX2_settle_61 : decode cX2_settle 61 = .ok (.iaload, 1) := dk_46 (dk_at dksX2_settle_2 15 rfl rfl)
theorem dX2_settle_62 : decode cX2_settle 62 = .ok (.bipush 10, 2) := dk_16 10 (dk_at dksX2_settle_2 16 rfl rfl)
theorem dX2_settle_64 : decode cX2_settle 64 = .ok (.if_icmp .ne 149, 3) := dk_160 0 149 (dk_at dksX2_settle_2 18 rfl rfl)
theorem dX2_settle_67 : decode cX2_settle 67 = .ok (.aload_n 0, 1) := dk_42 (dk_at dksX2_settle_2 21 rfl rfl)
theorem dX2_settle_68 : decode cX2_settle 68 = .ok (.getfield 40, 3) := dk_180 0 40 (dk_at dksX2_settle_3 0 rfl rfl)
theorem dX2_settle_71 : decode cX2_settle 71 = .ok (.iload 5, 2) := dk_21 5 (dk_at dksX2_settle_3 3 rfl rfl)
theorem dX2_settle_73 : decode cX2_settle 73 = .ok (.iaload, 1) := dk_46 (dk_at dksX2_settle_3 5 rfl rfl)
theorem dX2_settle_74 : decode cX2_settle 74 = .ok (.ifCond .ne 139, 3) := dk_154 0 139 (dk_at dksX2_settle_3 6 rfl rfl)
theorem dX2_settle_77 : decode cX2_settle 77 = .ok (.aload_n 0, 1) := dk_42 (dk_at dksX2_settle_3 9 rfl rfl)
theorem dX2_settle_78 : decode cX2_settle 78 = .ok (.getfield 43, 3) := dk_180 0 43 (dk_at dksX2_settle_3 10 rfl rfl)
theorem dX2_settle_81 : decode cX2_settle 81 = .ok (.iload 5, 2) := dk_21 5 (dk_at dksX2_settle_3 13 rfl rfl)
theorem dX2_settle_83 : decode cX2_settle 83 = .ok (.iaload, 1) := dk_46 (dk_at dksX2_settle_3 15 rfl rfl)
theorem dX2_settle_84 : decode cX2_settle 84 = .ok (.i2l, 1) := dk_133 (dk_at dksX2_settle_3 16 rfl rfl)
theorem dX2_settle_85 : decode cX2_settle 85 = .ok (.aload_n 0, 1) := dk_42 (dk_at dksX2_settle_3 17 rfl rfl)
theorem dX2_settle_86 : decode cX2_settle 86 = .ok (.getfield 62, 3) := dk_180 0 62 (dk_at dksX2_settle_3 18 rfl rfl)
theorem dX2_settle_89 : decode cX2_settle 89 = .ok (.iload 4, 2) := dk_21 4 (dk_at dksX2_settle_3 21 rfl rfl)
theorem dX2_settle_91 : decode cX2_settle 91 = .ok (.iaload, 1) := dk_46 (dk_at dksX2_settle_3 23 rfl rfl)
theorem dX2_settle_92 : decode cX2_settle 92 = .ok (.i2l, 1) := dk_133 (dk_at dksX2_settle_4 0 rfl rfl)
theorem dX2_settle_93 : decode cX2_settle 93 = .ok (.ladd, 1) := dk_97 (dk_at dksX2_settle_4 1 rfl rfl)
theorem dX2_settle_94 : decode cX2_settle 94 = .ok (.aload_n 0, 1) := dk_42 (dk_at dksX2_settle_4 2 rfl rfl)
theorem dX2_settle_95 : decode cX2_settle 95 = .ok (.getfield 53, 3) := dk_180 0 53 (dk_at dksX2_settle_4 3 rfl rfl)
theorem dX2_settle_98 : decode cX2_settle 98 = .ok (.iload 4, 2) := dk_21 4 (dk_at dksX2_settle_4 6 rfl rfl)
theorem dX2_settle_100 : decode cX2_settle 100 = .ok (.iaload, 1) := dk_46 (dk_at dksX2_settle_4 8 rfl rfl)
theorem dX2_settle_101 : decode cX2_settle 101 = .ok (.i2l, 1) := dk_133 (dk_at dksX2_settle_4 9 rfl rfl)
theorem dX2_settle_102 : decode cX2_settle 102 = .ok (.lsub, 1) := dk_101 (dk_at dksX2_settle_4 10 rfl rfl)
theorem dX2_settle_103 : decode cX2_settle 103 = .ok (.ldc2_w 1167, 3) := dk_20 4 143 (dk_at dksX2_settle_4 11 rfl rfl)
theorem dX2_settle_106 : decode cX2_settle 106 = .ok (.lsub, 1) := dk_101 (dk_at dksX2_settle_4 14 rfl rfl)
theorem dX2_settle_107 : decode cX2_settle 107 = .ok (.lstore 6, 2) := dk_55 6 (dk_at dksX2_settle_4 15 rfl rfl)
theorem dX2_settle_109 : decode cX2_settle 109 = .ok (.aload_n 0, 1) := dk_42 (dk_at dksX2_settle_4 17 rfl rfl)
theorem dX2_settle_110 : decode cX2_settle 110 = .ok (.aload_n 0, 1) := dk_42 (dk_at dksX2_settle_4 18 rfl rfl)
theorem dX2_settle_111 : decode cX2_settle 111 = .ok (.getfield 65, 3) := dk_180 0 65 (dk_at dksX2_settle_4 19 rfl rfl)
theorem dX2_settle_114 : decode cX2_settle 114 = .ok (.iload_n 3, 1) := dk_29 (dk_at dksX2_settle_4 22 rfl rfl)
theorem dX2_settle_115 : decode cX2_settle 115 = .ok (.iaload, 1) := dk_46 (dk_at dksX2_settle_4 23 rfl rfl)
theorem dX2_settle_116 : decode cX2_settle 116 = .ok (.putfield 1055, 3) := dk_181 4 31 (dk_at dksX2_settle_5 0 rfl rfl)
theorem dX2_settle_119 : decode cX2_settle 119 = .ok (.lload 6, 2) := dk_22 6 (dk_at dksX2_settle_5 3 rfl rfl)
theorem dX2_settle_121 : decode cX2_settle 121 = .ok (.ldc2_w 1167, 3) := dk_20 4 143 (dk_at dksX2_settle_5 5 rfl rfl)
theorem dX2_settle_124 : decode cX2_settle 124 = .ok (.lrem, 1) := dk_113 (dk_at dksX2_settle_5 8 rfl rfl)
theorem dX2_settle_125 : decode cX2_settle 125 = .ok (.lconst 0, 1) := dk_9 (dk_at dksX2_settle_5 9 rfl rfl)
theorem dX2_settle_126 : decode cX2_settle 126 = .ok (.lcmp, 1) := dk_148 (dk_at dksX2_settle_5 10 rfl rfl)
theorem dX2_settle_127 : decode cX2_settle 127 = .ok (.ifCond .ne 29, 3) := dk_154 0 29 (dk_at dksX2_settle_5 11 rfl rfl)
theorem dX2_settle_130 : decode cX2_settle 130 = .ok (.lload 6, 2) := dk_22 6 (dk_at dksX2_settle_5 14 rfl rfl)
theorem dX2_settle_132 : decode cX2_settle 132 = .ok (.ldc2_w 1167, 3) := dk_20 4 143 (dk_at dksX2_settle_5 16 rfl rfl)
theorem dX2_settle_135 : decode cX2_settle 135 = .ok (.ldiv, 1) := dk_109 (dk_at dksX2_settle_5 19 rfl rfl)
theorem dX2_settle_136 : decode cX2_settle 136 = .ok (.ldc2_w 1108, 3) := dk_20 4 84 (dk_at dksX2_settle_5 20 rfl rfl)
theorem dX2_settle_139 : decode cX2_settle 139 = .ok (.lcmp, 1) := dk_148 (dk_at dksX2_settle_5 23 rfl rfl)
theorem dX2_settle_140 : decode cX2_settle 140 = .ok (.ifCond .lt 16, 3) := dk_155 0 16 (dk_at dksX2_settle_6 0 rfl rfl)
theorem dX2_settle_143 : decode cX2_settle 143 = .ok (.lload 6, 2) := dk_22 6 (dk_at dksX2_settle_6 3 rfl rfl)
theorem dX2_settle_145 : decode cX2_settle 145 = .ok (.ldc2_w 1167, 3) := dk_20 4 143 (dk_at dksX2_settle_6 5 rfl rfl)
theorem dX2_settle_148 : decode cX2_settle 148 = .ok (.ldiv, 1) := dk_109 (dk_at dksX2_settle_6 8 rfl rfl)
theorem dX2_settle_149 : decode cX2_settle 149 = .ok (.ldc2_w 1110, 3) := dk_20 4 86 (dk_at dksX2_settle_6 9 rfl rfl)
theorem dX2_settle_152 : decode cX2_settle 152 = .ok (.lcmp, 1) := dk_148 (dk_at dksX2_settle_6 12 rfl rfl)
theorem dX2_settle_153 : decode cX2_settle 153 = .ok (.ifCond .le 8, 3) := dk_158 0 8 (dk_at dksX2_settle_6 13 rfl rfl)
theorem dX2_settle_156 : decode cX2_settle 156 = .ok (.aload_n 0, 1) := dk_42 (dk_at dksX2_settle_6 16 rfl rfl)
theorem dX2_settle_157 : decode cX2_settle 157 = .ok (.iconst 4, 1) := dk_7 (dk_at dksX2_settle_6 17 rfl rfl)
theorem dX2_settle_158 : decode cX2_settle 158 = .ok (.invokevirtual 988, 3) := dk_182 3 220 (dk_at dksX2_settle_6 18 rfl rfl)
theorem dX2_settle_161 : decode cX2_settle 161 = .ok (.sipush 8192, 3) := dk_17 32 0 (dk_at dksX2_settle_6 21 rfl rfl)
theorem dX2_settle_164 : decode cX2_settle 164 = .ok (.aload_n 0, 1) := dk_42 (dk_at dksX2_settle_7 0 rfl rfl)
theorem dX2_settle_165 : decode cX2_settle 165 = .ok (.getfield 1010, 3) := dk_180 3 242 (dk_at dksX2_settle_7 1 rfl rfl)
theorem dX2_settle_168 : decode cX2_settle 168 = .ok (.imul, 1) := dk_104 (dk_at dksX2_settle_7 4 rfl rfl)
theorem dX2_settle_169 : decode cX2_settle 169 = .ok (.aload_n 0, 1) := dk_42 (dk_at dksX2_settle_7 5 rfl rfl)
theorem dX2_settle_170 : decode cX2_settle 170 = .ok (.getfield 53, 3) := dk_180 0 53 (dk_at dksX2_settle_7 6 rfl rfl)
theorem dX2_settle_173 : decode cX2_settle 173 = .ok (.iload 4, 2) := dk_21 4 (dk_at dksX2_settle_7 9 rfl rfl)
theorem dX2_settle_175 : decode cX2_settle 175 = .ok (.iaload, 1) := dk_46 (dk_at dksX2_settle_7 11 rfl rfl)
theorem dX2_settle_176 : decode cX2_settle 176 = .ok (.iadd, 1) := dk_96 (dk_at dksX2_settle_7 12 rfl rfl)
theorem dX2_settle_177 : decode cX2_settle 177 = .ok (.istore 8, 2) := dk_54 8 (dk_at dksX2_settle_7 13 rfl rfl)
theorem dX2_settle_179 : decode cX2_settle 179 = .ok (.aload_n 0, 1) := dk_42 (dk_at dksX2_settle_7 15 rfl rfl)
theorem dX2_settle_180 : decode cX2_settle 180 = .ok (.getfield 14, 3) := dk_180 0 14 (dk_at dksX2_settle_7 16 rfl rfl)
theorem dX2_settle_183 : decode cX2_settle 183 = .ok (.iload 8, 2) := dk_21 8 (dk_at dksX2_settle_7 19 rfl rfl)
theorem dX2_settle_185 : decode cX2_settle 185 = .ok (.iconst 2, 1) := dk_5 (dk_at dksX2_settle_7 21 rfl rfl)
theorem dX2_settle_186 : decode cX2_settle 186 = .ok (.iadd, 1) := dk_96 (dk_at dksX2_settle_7 22 rfl rfl)
theorem dX2_settle_187 : decode cX2_settle 187 = .ok (.lload 6, 2) := dk_22 6 (dk_at dksX2_settle_8 0 rfl rfl)
theorem dX2_settle_189 : decode cX2_settle 189 = .ok (.bipush 10, 2) := dk_16 10 (dk_at dksX2_settle_8 2 rfl rfl)
theorem dX2_settle_191 : decode cX2_settle 191 = .ok (.lshr, 1) := dk_123 (dk_at dksX2_settle_8 4 rfl rfl)
theorem dX2_settle_192 : decode cX2_settle 192 = .ok (.l2i, 1) := dk_136 (dk_at dksX2_settle_8 5 rfl rfl)
theorem dX2_settle_193 : decode cX2_settle 193 = .ok (.i2b, 1) := dk_145 (dk_at dksX2_settle_8 6 rfl rfl)
theorem dX2_settle_194 : decode cX2_settle 194 = .ok (.bastore, 1) := dk_84 (dk_at dksX2_settle_8 7 rfl rfl)
theorem dX2_settle_195 : decode cX2_settle 195 = .ok (.aload_n 0, 1) := dk_42 (dk_at dksX2_settle_8 8 rfl rfl)
theorem dX2_settle_196 : decode cX2_settle 196 = .ok (.getfield 14, 3) := dk_180 0 14 (dk_at dksX2_settle_8 9 rfl rfl)
theorem dX2_settle_199 : decode cX2_settle 199 = .ok (.iload 8, 2) := dk_21 8 (dk_at dksX2_settle_8 12 rfl rfl)
theorem dX2_settle_201 : decode cX2_settle 201 = .ok (.iconst 3, 1) := dk_6 (dk_at dksX2_settle_8 14 rfl rfl)
theorem dX2_settle_202 : decode cX2_settle 202 = .ok (.iadd, 1) := dk_96 (dk_at dksX2_settle_8 15 rfl rfl)
theorem dX2_settle_203 : decode cX2_settle 203 = .ok (.lload 6, 2) := dk_22 6 (dk_at dksX2_settle_8 16 rfl rfl)
theorem dX2_settle_205 : decode cX2_settle 205 = .ok (.iconst 2, 1) := dk_5 (dk_at dksX2_settle_8 18 rfl rfl)
theorem dX2_settle_206 : decode cX2_settle 206 = .ok (.lshr, 1) := dk_123 (dk_at dksX2_settle_8 19 rfl rfl)
theorem dX2_settle_207 : decode cX2_settle 207 = .ok (.l2i, 1) := dk_136 (dk_at dksX2_settle_8 20 rfl rfl)
theorem dX2_settle_208 : decode cX2_settle 208 = .ok (.i2b, 1) := dk_145 (dk_at dksX2_settle_8 21 rfl rfl)
theorem dX2_settle_209 : decode cX2_settle 209 = .ok (.bastore, 1) := dk_84 (dk_at dksX2_settle_8 22 rfl rfl)
theorem dX2_settle_210 : decode cX2_settle 210 = .ok (.goto 81, 3) := dk_167 0 81 (dk_at dksX2_settle_9 0 rfl rfl)
theorem dX2_settle_213 : decode cX2_settle 213 = .ok (.iload_n 1, 1) := dk_27 (dk_at dksX2_settle_9 3 rfl rfl)
theorem dX2_settle_214 : decode cX2_settle 214 = .ok (.iload_n 2, 1) := dk_28 (dk_at dksX2_settle_9 4 rfl rfl)
theorem dX2_settle_215 : decode cX2_settle 215 = .ok (.iadd, 1) := dk_96 (dk_at dksX2_settle_9 5 rfl rfl)
theorem dX2_settle_216 : decode cX2_settle 216 = .ok (.istore 6, 2) := dk_54 6 (dk_at dksX2_settle_9 6 rfl rfl)
theorem dX2_settle_218 : decode cX2_settle 218 = .ok (.aload_n 0, 1) := dk_42 (dk_at dksX2_settle_9 8 rfl rfl)
theorem dX2_settle_219 : decode cX2_settle 219 = .ok (.getfield 50, 3) := dk_180 0 50 (dk_at dksX2_settle_9 9 rfl rfl)
theorem dX2_settle_222 : decode cX2_settle 222 = .ok (.iload 6, 2) := dk_21 6 (dk_at dksX2_settle_9 12 rfl rfl)
theorem dX2_settle_224 : decode cX2_settle 224 = .ok (.aload_n 0, 1) := dk_42 (dk_at dksX2_settle_9 14 rfl rfl)
theorem dX2_settle_225 : decode cX2_settle 225 = .ok (.getfield 50, 3) := dk_180 0 50 (dk_at dksX2_settle_9 15 rfl rfl)
theorem dX2_settle_228 : decode cX2_settle 228 = .ok (.iload 4, 2) := dk_21 4 (dk_at dksX2_settle_9 18 rfl rfl)
theorem dX2_settle_230 : decode cX2_settle 230 = .ok (.iaload, 1) := dk_46 (dk_at dksX2_settle_9 20 rfl rfl)
theorem dX2_settle_231 : decode cX2_settle 231 = .ok (.iastore, 1) := dk_79 (dk_at dksX2_settle_9 21 rfl rfl)
theorem dX2_settle_232 : decode cX2_settle 232 = .ok (.aload_n 0, 1) := dk_42 (dk_at dksX2_settle_9 22 rfl rfl)
theorem dX2_settle_233 : decode cX2_settle 233 = .ok (.getfield 53, 3) := dk_180 0 53 (dk_at dksX2_settle_10 0 rfl rfl)
theorem dX2_settle_236 : decode cX2_settle 236 = .ok (.iload 6, 2) := dk_21 6 (dk_at dksX2_settle_10 3 rfl rfl)
theorem dX2_settle_238 : decode cX2_settle 238 = .ok (.aload_n 0, 1) := dk_42 (dk_at dksX2_settle_10 5 rfl rfl)
theorem dX2_settle_239 : decode cX2_settle 239 = .ok (.getfield 53, 3) := dk_180 0 53 (dk_at dksX2_settle_10 6 rfl rfl)
theorem dX2_settle_242 : decode cX2_settle 242 = .ok (.iload 4, 2) := dk_21 4 (dk_at dksX2_settle_10 9 rfl rfl)
theorem dX2_settle_244 : decode cX2_settle 244 = .ok (.iaload, 1) := dk_46 (dk_at dksX2_settle_10 11 rfl rfl)
theorem dX2_settle_245 : decode cX2_settle 245 = .ok (.iastore, 1) := dk_79 (dk_at dksX2_settle_10 12 rfl rfl)
theorem dX2_settle_246 : decode cX2_settle 246 = .ok (.aload_n 0, 1) := dk_42 (dk_at dksX2_settle_10 13 rfl rfl)
theorem dX2_settle_247 : decode cX2_settle 247 = .ok (.getfield 56, 3) := dk_180 0 56 (dk_at dksX2_settle_10 14 rfl rfl)
theorem dX2_settle_250 : decode cX2_settle 250 = .ok (.iload 6, 2) := dk_21 6 (dk_at dksX2_settle_10 17 rfl rfl)
theorem dX2_settle_252 : decode cX2_settle 252 = .ok (.aload_n 0, 1) := dk_42 (dk_at dksX2_settle_10 19 rfl rfl)
theorem dX2_settle_253 : decode cX2_settle 253 = .ok (.getfield 56, 3) := dk_180 0 56 (dk_at dksX2_settle_10 20 rfl rfl)
theorem dX2_settle_256 : decode cX2_settle 256 = .ok (.iload 4, 2) := dk_21 4 (dk_at dksX2_settle_11 0 rfl rfl)
theorem dX2_settle_258 : decode cX2_settle 258 = .ok (.iaload, 1) := dk_46 (dk_at dksX2_settle_11 2 rfl rfl)
theorem dX2_settle_259 : decode cX2_settle 259 = .ok (.iastore, 1) := dk_79 (dk_at dksX2_settle_11 3 rfl rfl)
theorem dX2_settle_260 : decode cX2_settle 260 = .ok (.aload_n 0, 1) := dk_42 (dk_at dksX2_settle_11 4 rfl rfl)
theorem dX2_settle_261 : decode cX2_settle 261 = .ok (.getfield 59, 3) := dk_180 0 59 (dk_at dksX2_settle_11 5 rfl rfl)
theorem dX2_settle_264 : decode cX2_settle 264 = .ok (.iload 6, 2) := dk_21 6 (dk_at dksX2_settle_11 8 rfl rfl)
theorem dX2_settle_266 : decode cX2_settle 266 = .ok (.aload_n 0, 1) := dk_42 (dk_at dksX2_settle_11 10 rfl rfl)
theorem dX2_settle_267 : decode cX2_settle 267 = .ok (.getfield 59, 3) := dk_180 0 59 (dk_at dksX2_settle_11 11 rfl rfl)
theorem dX2_settle_270 : decode cX2_settle 270 = .ok (.iload 4, 2) := dk_21 4 (dk_at dksX2_settle_11 14 rfl rfl)
theorem dX2_settle_272 : decode cX2_settle 272 = .ok (.iaload, 1) := dk_46 (dk_at dksX2_settle_11 16 rfl rfl)
theorem dX2_settle_273 : decode cX2_settle 273 = .ok (.iastore, 1) := dk_79 (dk_at dksX2_settle_11 17 rfl rfl)
theorem dX2_settle_274 : decode cX2_settle 274 = .ok (.aload_n 0, 1) := dk_42 (dk_at dksX2_settle_11 18 rfl rfl)
theorem dX2_settle_275 : decode cX2_settle 275 = .ok (.getfield 62, 3) := dk_180 0 62 (dk_at dksX2_settle_11 19 rfl rfl)
theorem dX2_settle_278 : decode cX2_settle 278 = .ok (.iload 6, 2) := dk_21 6 (dk_at dksX2_settle_11 22 rfl rfl)
theorem dX2_settle_280 : decode cX2_settle 280 = .ok (.aload_n 0, 1) := dk_42 (dk_at dksX2_settle_12 0 rfl rfl)
theorem dX2_settle_281 : decode cX2_settle 281 = .ok (.getfield 62, 3) := dk_180 0 62 (dk_at dksX2_settle_12 1 rfl rfl)
theorem dX2_settle_284 : decode cX2_settle 284 = .ok (.iload 4, 2) := dk_21 4 (dk_at dksX2_settle_12 4 rfl rfl)
theorem dX2_settle_286 : decode cX2_settle 286 = .ok (.iaload, 1) := dk_46 (dk_at dksX2_settle_12 6 rfl rfl)
theorem dX2_settle_287 : decode cX2_settle 287 = .ok (.iastore, 1) := dk_79 (dk_at dksX2_settle_12 7 rfl rfl)
theorem dX2_settle_288 : decode cX2_settle 288 = .ok (.iinc 2 1, 3) := dk_132 2 1 (dk_at dksX2_settle_12 8 rfl rfl)
theorem dX2_settle_291 : decode cX2_settle 291 = .ok (.iinc 3 1, 3) := dk_132 3 1 (dk_at dksX2_settle_12 11 rfl rfl)
theorem dX2_settle_294 : decode cX2_settle 294 = .ok (.goto (-281), 3) := dk_167 254 231 (dk_at dksX2_settle_12 14 rfl rfl)
theorem dX2_settle_297 : decode cX2_settle 297 = .ok (.aload_n 0, 1) := dk_42 (dk_at dksX2_settle_12 17 rfl rfl)
theorem dX2_settle_298 : decode cX2_settle 298 = .ok (.getfield 24, 3) := dk_180 0 24 (dk_at dksX2_settle_12 18 rfl rfl)
theorem dX2_settle_301 : decode cX2_settle 301 = .ok (.aload_n 0, 1) := dk_42 (dk_at dksX2_settle_12 21 rfl rfl)
theorem dX2_settle_302 : decode cX2_settle 302 = .ok (.getfield 1010, 3) := dk_180 3 242 (dk_at dksX2_settle_13 0 rfl rfl)
theorem dX2_settle_305 : decode cX2_settle 305 = .ok (.iload_n 2, 1) := dk_28 (dk_at dksX2_settle_13 3 rfl rfl)
theorem dX2_settle_306 : decode cX2_settle 306 = .ok (.iastore, 1) := dk_79 (dk_at dksX2_settle_13 4 rfl rfl)
theorem dX2_settle_307 : decode cX2_settle 307 = .ok (.return_, 1) := dk_177 (dk_at dksX2_settle_13 5 rfl rfl)
abbrev cX2_fault : ByteArray := prog_4_method_73_code
def yX2_fault : MethodName := ⟨RX2, "fault", "(I)I"⟩
def dkwX2_fault_2 : List UInt8 := [42, 180, 4, 154, 167, 0, 19, 27, 6, 160, 0, 10, 42, 180, 0, 68, 167, 0, 7, 42, 180, 0, 72, 172]
abbrev dktX2_fault_2 : List UInt8 := dkwX2_fault_2 ++ []
def dkwX2_fault_1 : List UInt8 := [42, 180, 3, 214, 167, 0, 43, 27, 4, 160, 0, 10, 42, 180, 4, 151, 167, 0, 31, 27, 5, 160, 0, 10]
abbrev dktX2_fault_1 : List UInt8 := dkwX2_fault_1 ++ dktX2_fault_2
def dkwX2_fault_0 : List UInt8 := [42, 3, 181, 0, 88, 27, 155, 0, 8, 27, 7, 164, 0, 9, 42, 4, 182, 0, 94, 172, 27, 154, 0, 10]
abbrev dktX2_fault_0 : List UInt8 := dkwX2_fault_0 ++ dktX2_fault_1
theorem dksX2_fault_0 : cX2_fault.data.toList.drop 0 = dktX2_fault_0 := by decide +kernel
theorem dksX2_fault_1 : cX2_fault.data.toList.drop 24 = dktX2_fault_1 := dk_seg dksX2_fault_0 24 rfl rfl
theorem dksX2_fault_2 : cX2_fault.data.toList.drop 48 = dktX2_fault_2 := dk_seg dksX2_fault_1 24 rfl rfl
theorem dX2_fault_0 : decode cX2_fault 0 = .ok (.aload_n 0, 1) := dk_42 (dk_at dksX2_fault_0 0 rfl rfl)
theorem dX2_fault_1 : decode cX2_fault 1 = .ok (.iconst 0, 1) := dk_3 (dk_at dksX2_fault_0 1 rfl rfl)
theorem dX2_fault_2 : decode cX2_fault 2 = .ok (.putfield 88, 3) := dk_181 0 88 (dk_at dksX2_fault_0 2 rfl rfl)
theorem dX2_fault_5 : decode cX2_fault 5 = .ok (.iload_n 1, 1) := dk_27 (dk_at dksX2_fault_0 5 rfl rfl)
theorem dX2_fault_6 : decode cX2_fault 6 = .ok (.ifCond .lt 8, 3) := dk_155 0 8 (dk_at dksX2_fault_0 6 rfl rfl)
theorem dX2_fault_9 : decode cX2_fault 9 = .ok (.iload_n 1, 1) := dk_27 (dk_at dksX2_fault_0 9 rfl rfl)
theorem dX2_fault_10 : decode cX2_fault 10 = .ok (.iconst 4, 1) := dk_7 (dk_at dksX2_fault_0 10 rfl rfl)
theorem dX2_fault_11 : decode cX2_fault 11 = .ok (.if_icmp .le 9, 3) := dk_164 0 9 (dk_at dksX2_fault_0 11 rfl rfl)
theorem dX2_fault_14 : decode cX2_fault 14 = .ok (.aload_n 0, 1) := dk_42 (dk_at dksX2_fault_0 14 rfl rfl)
theorem dX2_fault_15 : decode cX2_fault 15 = .ok (.iconst 1, 1) := dk_4 (dk_at dksX2_fault_0 15 rfl rfl)
theorem dX2_fault_16 : decode cX2_fault 16 = .ok (.invokevirtual 94, 3) := dk_182 0 94 (dk_at dksX2_fault_0 16 rfl rfl)
theorem dX2_fault_19 : decode cX2_fault 19 = .ok (.ireturn, 1) := dk_172 (dk_at dksX2_fault_0 19 rfl rfl)
theorem dX2_fault_20 : decode cX2_fault 20 = .ok (.iload_n 1, 1) := dk_27 (dk_at dksX2_fault_0 20 rfl rfl)
theorem dX2_fault_21 : decode cX2_fault 21 = .ok (.ifCond .ne 10, 3) := dk_154 0 10 (dk_at dksX2_fault_0 21 rfl rfl)
theorem dX2_fault_24 : decode cX2_fault 24 = .ok (.aload_n 0, 1) := dk_42 (dk_at dksX2_fault_1 0 rfl rfl)
theorem dX2_fault_25 : decode cX2_fault 25 = .ok (.getfield 982, 3) := dk_180 3 214 (dk_at dksX2_fault_1 1 rfl rfl)
theorem dX2_fault_28 : decode cX2_fault 28 = .ok (.goto 43, 3) := dk_167 0 43 (dk_at dksX2_fault_1 4 rfl rfl)
theorem dX2_fault_31 : decode cX2_fault 31 = .ok (.iload_n 1, 1) := dk_27 (dk_at dksX2_fault_1 7 rfl rfl)
theorem dX2_fault_32 : decode cX2_fault 32 = .ok (.iconst 1, 1) := dk_4 (dk_at dksX2_fault_1 8 rfl rfl)
theorem dX2_fault_33 : decode cX2_fault 33 = .ok (.if_icmp .ne 10, 3) := dk_160 0 10 (dk_at dksX2_fault_1 9 rfl rfl)
theorem dX2_fault_36 : decode cX2_fault 36 = .ok (.aload_n 0, 1) := dk_42 (dk_at dksX2_fault_1 12 rfl rfl)
theorem dX2_fault_37 : decode cX2_fault 37 = .ok (.getfield 1175, 3) := dk_180 4 151 (dk_at dksX2_fault_1 13 rfl rfl)
theorem dX2_fault_40 : decode cX2_fault 40 = .ok (.goto 31, 3) := dk_167 0 31 (dk_at dksX2_fault_1 16 rfl rfl)
theorem dX2_fault_43 : decode cX2_fault 43 = .ok (.iload_n 1, 1) := dk_27 (dk_at dksX2_fault_1 19 rfl rfl)
theorem dX2_fault_44 : decode cX2_fault 44 = .ok (.iconst 2, 1) := dk_5 (dk_at dksX2_fault_1 20 rfl rfl)
theorem dX2_fault_45 : decode cX2_fault 45 = .ok (.if_icmp .ne 10, 3) := dk_160 0 10 (dk_at dksX2_fault_1 21 rfl rfl)
theorem dX2_fault_48 : decode cX2_fault 48 = .ok (.aload_n 0, 1) := dk_42 (dk_at dksX2_fault_2 0 rfl rfl)
theorem dX2_fault_49 : decode cX2_fault 49 = .ok (.getfield 1178, 3) := dk_180 4 154 (dk_at dksX2_fault_2 1 rfl rfl)
theorem dX2_fault_52 : decode cX2_fault 52 = .ok (.goto 19, 3) := dk_167 0 19 (dk_at dksX2_fault_2 4 rfl rfl)
theorem dX2_fault_55 : decode cX2_fault 55 = .ok (.iload_n 1, 1) := dk_27 (dk_at dksX2_fault_2 7 rfl rfl)
theorem dX2_fault_56 : decode cX2_fault 56 = .ok (.iconst 3, 1) := dk_6 (dk_at dksX2_fault_2 8 rfl rfl)
theorem dX2_fault_57 : decode cX2_fault 57 = .ok (.if_icmp .ne 10, 3) := dk_160 0 10 (dk_at dksX2_fault_2 9 rfl rfl)
theorem dX2_fault_60 : decode cX2_fault 60 = .ok (.aload_n 0, 1) := dk_42 (dk_at dksX2_fault_2 12 rfl rfl)
theorem dX2_fault_61 : decode cX2_fault 61 = .ok (.getfield 68, 3) := dk_180 0 68 (dk_at dksX2_fault_2 13 rfl rfl)
theorem dX2_fault_64 : decode cX2_fault 64 = .ok (.goto 7, 3) := dk_167 0 7 (dk_at dksX2_fault_2 16 rfl rfl)
theorem dX2_fault_67 : decode cX2_fault 67 = .ok (.aload_n 0, 1) := dk_42 (dk_at dksX2_fault_2 19 rfl rfl)
theorem dX2_fault_68 : decode cX2_fault 68 = .ok (.getfield 72, 3) := dk_180 0 72 (dk_at dksX2_fault_2 20 rfl rfl)
theorem dX2_fault_71 : decode cX2_fault 71 = .ok (.ireturn, 1) := dk_172 (dk_at dksX2_fault_2 23 rfl rfl)
abbrev cX2_size : ByteArray := prog_4_method_75_code
def yX2_size : MethodName := ⟨RX2, "size", "(II)I"⟩
def dkwX2_size_1 : List UInt8 := [42, 180, 0, 17, 6, 27, 104, 28, 96, 46, 167, 0, 8, 42, 4, 182, 0, 94, 172]
abbrev dktX2_size_1 : List UInt8 := dkwX2_size_1 ++ []
def dkwX2_size_0 : List UInt8 := [42, 3, 181, 0, 88, 27, 42, 180, 3, 242, 184, 4, 157, 153, 0, 24, 28, 6, 184, 4, 157, 153, 0, 16]
abbrev dktX2_size_0 : List UInt8 := dkwX2_size_0 ++ dktX2_size_1
theorem dksX2_size_0 : cX2_size.data.toList.drop 0 = dktX2_size_0 := by decide +kernel
theorem dksX2_size_1 : cX2_size.data.toList.drop 24 = dktX2_size_1 := dk_seg dksX2_size_0 24 rfl rfl
theorem dX2_size_0 : decode cX2_size 0 = .ok (.aload_n 0, 1) := dk_42 (dk_at dksX2_size_0 0 rfl rfl)
theorem dX2_size_1 : decode cX2_size 1 = .ok (.iconst 0, 1) := dk_3 (dk_at dksX2_size_0 1 rfl rfl)
theorem dX2_size_2 : decode cX2_size 2 = .ok (.putfield 88, 3) := dk_181 0 88 (dk_at dksX2_size_0 2 rfl rfl)
theorem dX2_size_5 : decode cX2_size 5 = .ok (.iload_n 1, 1) := dk_27 (dk_at dksX2_size_0 5 rfl rfl)
theorem dX2_size_6 : decode cX2_size 6 = .ok (.aload_n 0, 1) := dk_42 (dk_at dksX2_size_0 6 rfl rfl)
theorem dX2_size_7 : decode cX2_size 7 = .ok (.getfield 1010, 3) := dk_180 3 242 (dk_at dksX2_size_0 7 rfl rfl)
theorem dX2_size_10 : decode cX2_size 10 = .ok (.invokestatic 1181, 3) := dk_184 4 157 (dk_at dksX2_size_0 10 rfl rfl)
theorem dX2_size_13 : decode cX2_size 13 = .ok (.ifCond .eq 24, 3) := dk_153 0 24 (dk_at dksX2_size_0 13 rfl rfl)
theorem dX2_size_16 : decode cX2_size 16 = .ok (.iload_n 2, 1) := dk_28 (dk_at dksX2_size_0 16 rfl rfl)
theorem dX2_size_17 : decode cX2_size 17 = .ok (.iconst 3, 1) := dk_6 (dk_at dksX2_size_0 17 rfl rfl)
theorem dX2_size_18 : decode cX2_size 18 = .ok (.invokestatic 1181, 3) := dk_184 4 157 (dk_at dksX2_size_0 18 rfl rfl)
theorem dX2_size_21 : decode cX2_size 21 = .ok (.ifCond .eq 16, 3) := dk_153 0 16 (dk_at dksX2_size_0 21 rfl rfl)
theorem dX2_size_24 : decode cX2_size 24 = .ok (.aload_n 0, 1) := dk_42 (dk_at dksX2_size_1 0 rfl rfl)
theorem dX2_size_25 : decode cX2_size 25 = .ok (.getfield 17, 3) := dk_180 0 17 (dk_at dksX2_size_1 1 rfl rfl)
theorem dX2_size_28 : decode cX2_size 28 = .ok (.iconst 3, 1) := dk_6 (dk_at dksX2_size_1 4 rfl rfl)
theorem dX2_size_29 : decode cX2_size 29 = .ok (.iload_n 1, 1) := dk_27 (dk_at dksX2_size_1 5 rfl rfl)
theorem dX2_size_30 : decode cX2_size 30 = .ok (.imul, 1) := dk_104 (dk_at dksX2_size_1 6 rfl rfl)
theorem dX2_size_31 : decode cX2_size 31 = .ok (.iload_n 2, 1) := dk_28 (dk_at dksX2_size_1 7 rfl rfl)
theorem dX2_size_32 : decode cX2_size 32 = .ok (.iadd, 1) := dk_96 (dk_at dksX2_size_1 8 rfl rfl)
theorem dX2_size_33 : decode cX2_size 33 = .ok (.iaload, 1) := dk_46 (dk_at dksX2_size_1 9 rfl rfl)
theorem dX2_size_34 : decode cX2_size 34 = .ok (.goto 8, 3) := dk_167 0 8 (dk_at dksX2_size_1 10 rfl rfl)
theorem dX2_size_37 : decode cX2_size 37 = .ok (.aload_n 0, 1) := dk_42 (dk_at dksX2_size_1 13 rfl rfl)
theorem dX2_size_38 : decode cX2_size 38 = .ok (.iconst 1, 1) := dk_4 (dk_at dksX2_size_1 14 rfl rfl)
theorem dX2_size_39 : decode cX2_size 39 = .ok (.invokevirtual 94, 3) := dk_182 0 94 (dk_at dksX2_size_1 15 rfl rfl)
theorem dX2_size_42 : decode cX2_size 42 = .ok (.ireturn, 1) := dk_172 (dk_at dksX2_size_1 18 rfl rfl)
abbrev cX2_within : ByteArray := prog_4_method_74_code
def yX2_within : MethodName := ⟨RX2, "within", "(II)Z"⟩
def dkwX2_within_0 : List UInt8 := [26, 155, 0, 12, 26, 27, 162, 0, 7, 4, 167, 0, 4, 3, 172]
abbrev dktX2_within_0 : List UInt8 := dkwX2_within_0 ++ []
theorem dksX2_within_0 : cX2_within.data.toList.drop 0 = dktX2_within_0 := by decide +kernel
theorem dX2_within_0 : decode cX2_within 0 = .ok (.iload_n 0, 1) := dk_26 (dk_at dksX2_within_0 0 rfl rfl)
theorem dX2_within_1 : decode cX2_within 1 = .ok (.ifCond .lt 12, 3) := dk_155 0 12 (dk_at dksX2_within_0 1 rfl rfl)
theorem dX2_within_4 : decode cX2_within 4 = .ok (.iload_n 0, 1) := dk_26 (dk_at dksX2_within_0 4 rfl rfl)
theorem dX2_within_5 : decode cX2_within 5 = .ok (.iload_n 1, 1) := dk_27 (dk_at dksX2_within_0 5 rfl rfl)
theorem dX2_within_6 : decode cX2_within 6 = .ok (.if_icmp .ge 7, 3) := dk_162 0 7 (dk_at dksX2_within_0 6 rfl rfl)
theorem dX2_within_9 : decode cX2_within 9 = .ok (.iconst 1, 1) := dk_4 (dk_at dksX2_within_0 9 rfl rfl)
theorem dX2_within_10 : decode cX2_within 10 = .ok (.goto 4, 3) := dk_167 0 4 (dk_at dksX2_within_0 10 rfl rfl)
theorem dX2_within_13 : decode cX2_within 13 = .ok (.iconst 0, 1) := dk_3 (dk_at dksX2_within_0 13 rfl rfl)
theorem dX2_within_14 : decode cX2_within 14 = .ok (.ireturn, 1) := dk_172 (dk_at dksX2_within_0 14 rfl rfl)
abbrev cX2_byteAt : ByteArray := prog_4_method_76_code
def yX2_byteAt : MethodName := ⟨RX2, "byteAt", "(III)I"⟩
def dkwX2_byteAt_2 : List UInt8 := [5, 27, 104, 28, 96, 104, 29, 96, 51, 17, 0, 255, 126, 167, 0, 8, 42, 4, 182, 0, 94, 172]
abbrev dktX2_byteAt_2 : List UInt8 := dkwX2_byteAt_2 ++ []
def dkwX2_byteAt_1 : List UInt8 := [29, 42, 180, 0, 17, 6, 27, 104, 28, 96, 46, 184, 4, 157, 153, 0, 26, 42, 180, 0, 14, 17, 16, 0]
abbrev dktX2_byteAt_1 : List UInt8 := dkwX2_byteAt_1 ++ dktX2_byteAt_2
def dkwX2_byteAt_0 : List UInt8 := [42, 3, 181, 0, 88, 27, 42, 180, 3, 242, 184, 4, 157, 153, 0, 51, 28, 5, 184, 4, 157, 153, 0, 43]
abbrev dktX2_byteAt_0 : List UInt8 := dkwX2_byteAt_0 ++ dktX2_byteAt_1
theorem dksX2_byteAt_0 : cX2_byteAt.data.toList.drop 0 = dktX2_byteAt_0 := by decide +kernel
theorem dksX2_byteAt_1 : cX2_byteAt.data.toList.drop 24 = dktX2_byteAt_1 := dk_seg dksX2_byteAt_0 24 rfl rfl
theorem dksX2_byteAt_2 : cX2_byteAt.data.toList.drop 48 = dktX2_byteAt_2 := dk_seg dksX2_byteAt_1 24 rfl rfl
theorem dX2_byteAt_0 : decode cX2_byteAt 0 = .ok (.aload_n 0, 1) := dk_42 (dk_at dksX2_byteAt_0 0 rfl rfl)
theorem dX2_byteAt_1 : decode cX2_byteAt 1 = .ok (.iconst 0, 1) := dk_3 (dk_at dksX2_byteAt_0 1 rfl rfl)
theorem dX2_byteAt_2 : decode cX2_byteAt 2 = .ok (.putfield 88, 3) := dk_181 0 88 (dk_at dksX2_byteAt_0 2 rfl rfl)
theorem dX2_byteAt_5 : decode cX2_byteAt 5 = .ok (.iload_n 1, 1) := dk_27 (dk_at dksX2_byteAt_0 5 rfl rfl)
theorem dX2_byteAt_6 : decode cX2_byteAt 6 = .ok (.aload_n 0, 1) := dk_42 (dk_at dksX2_byteAt_0 6 rfl rfl)
theorem dX2_byteAt_7 : decode cX2_byteAt 7 = .ok (.getfield 1010, 3) := dk_180 3 242 (dk_at dksX2_byteAt_0 7 rfl rfl)
theorem dX2_byteAt_10 : decode cX2_byteAt 10 = .ok (.invokestatic 1181, 3) := dk_184 4 157 (dk_at dksX2_byteAt_0 10 rfl rfl)
theorem dX2_byteAt_13 : decode cX2_byteAt 13 = .ok (.ifCond .eq 51, 3) := dk_153 0 51 (dk_at dksX2_byteAt_0 13 rfl rfl)
theorem dX2_byteAt_16 : decode cX2_byteAt 16 = .ok (.iload_n 2, 1) := dk_28 (dk_at dksX2_byteAt_0 16 rfl rfl)
theorem dX2_byteAt_17 : decode cX2_byteAt 17 = .ok (.iconst 2, 1) := dk_5 (dk_at dksX2_byteAt_0 17 rfl rfl)
theorem dX2_byteAt_18 : decode cX2_byteAt 18 = .ok (.invokestatic 1181, 3) := dk_184 4 157 (dk_at dksX2_byteAt_0 18 rfl rfl)
theorem dX2_byteAt_21 : decode cX2_byteAt 21 = .ok (.ifCond .eq 43, 3) := dk_153 0 43 (dk_at dksX2_byteAt_0 21 rfl rfl)
theorem dX2_byteAt_24 : decode cX2_byteAt 24 = .ok (.iload_n 3, 1) := dk_29 (dk_at dksX2_byteAt_1 0 rfl rfl)
theorem dX2_byteAt_25 : decode cX2_byteAt 25 = .ok (.aload_n 0, 1) := dk_42 (dk_at dksX2_byteAt_1 1 rfl rfl)
theorem dX2_byteAt_26 : decode cX2_byteAt 26 = .ok (.getfield 17, 3) := dk_180 0 17 (dk_at dksX2_byteAt_1 2 rfl rfl)
theorem dX2_byteAt_29 : decode cX2_byteAt 29 = .ok (.iconst 3, 1) := dk_6 (dk_at dksX2_byteAt_1 5 rfl rfl)
theorem dX2_byteAt_30 : decode cX2_byteAt 30 = .ok (.iload_n 1, 1) := dk_27 (dk_at dksX2_byteAt_1 6 rfl rfl)
theorem dX2_byteAt_31 : decode cX2_byteAt 31 = .ok (.imul, 1) := dk_104 (dk_at dksX2_byteAt_1 7 rfl rfl)
theorem dX2_byteAt_32 : decode cX2_byteAt 32 = .ok (.iload_n 2, 1) := dk_28 (dk_at dksX2_byteAt_1 8 rfl rfl)
theorem dX2_byteAt_33 : decode cX2_byteAt 33 = .ok (.iadd, 1) := dk_96 (dk_at dksX2_byteAt_1 9 rfl rfl)
theorem dX2_byteAt_34 : decode cX2_byteAt 34 = .ok (.iaload, 1) := dk_46 (dk_at dksX2_byteAt_1 10 rfl rfl)
theorem dX2_byteAt_35 : decode cX2_byteAt 35 = .ok (.invokestatic 1181, 3) := dk_184 4 157 (dk_at dksX2_byteAt_1 11 rfl rfl)
theorem dX2_byteAt_38 : decode cX2_byteAt 38 = .ok (.ifCond .eq 26, 3) := dk_153 0 26 (dk_at dksX2_byteAt_1 14 rfl rfl)
theorem dX2_byteAt_41 : decode cX2_byteAt 41 = .ok (.aload_n 0, 1) := dk_42 (dk_at dksX2_byteAt_1 17 rfl rfl)
theorem dX2_byteAt_42 : decode cX2_byteAt 42 = .ok (.getfield 14, 3) := dk_180 0 14 (dk_at dksX2_byteAt_1 18 rfl rfl)
theorem dX2_byteAt_45 : decode cX2_byteAt 45 = .ok (.sipush 4096, 3) := dk_17 16 0 (dk_at dksX2_byteAt_1 21 rfl rfl)
theorem dX2_byteAt_48 : decode cX2_byteAt 48 = .ok (.iconst 2, 1) := dk_5 (dk_at dksX2_byteAt_2 0 rfl rfl)
theorem dX2_byteAt_49 : decode cX2_byteAt 49 = .ok (.iload_n 1, 1) := dk_27 (dk_at dksX2_byteAt_2 1 rfl rfl)
theorem dX2_byteAt_50 : decode cX2_byteAt 50 = .ok (.imul, 1) := dk_104 (dk_at dksX2_byteAt_2 2 rfl rfl)
theorem dX2_byteAt_51 : decode cX2_byteAt 51 = .ok (.iload_n 2, 1) := dk_28 (dk_at dksX2_byteAt_2 3 rfl rfl)
theorem dX2_byteAt_52 : decode cX2_byteAt 52 = .ok (.iadd, 1) := dk_96 (dk_at dksX2_byteAt_2 4 rfl rfl)
theorem dX2_byteAt_53 : decode cX2_byteAt 53 = .ok (.imul, 1) := dk_104 (dk_at dksX2_byteAt_2 5 rfl rfl)
theorem dX2_byteAt_54 : decode cX2_byteAt 54 = .ok (.iload_n 3, 1) := dk_29 (dk_at dksX2_byteAt_2 6 rfl rfl)
theorem dX2_byteAt_55 : decode cX2_byteAt 55 = .ok (.iadd, 1) := dk_96 (dk_at dksX2_byteAt_2 7 rfl rfl)
theorem dX2_byteAt_56 : decode cX2_byteAt 56 = .ok (.baload, 1) := dk_51 (dk_at dksX2_byteAt_2 8 rfl rfl)
theorem dX2_byteAt_57 : decode cX2_byteAt 57 = .ok (.sipush 255, 3) := dk_17 0 255 (dk_at dksX2_byteAt_2 9 rfl rfl)
theorem dX2_byteAt_60 : decode cX2_byteAt 60 = .ok (.iand, 1) := dk_126 (dk_at dksX2_byteAt_2 12 rfl rfl)
theorem dX2_byteAt_61 : decode cX2_byteAt 61 = .ok (.goto 8, 3) := dk_167 0 8 (dk_at dksX2_byteAt_2 13 rfl rfl)
theorem dX2_byteAt_64 : decode cX2_byteAt 64 = .ok (.aload_n 0, 1) := dk_42 (dk_at dksX2_byteAt_2 16 rfl rfl)
theorem dX2_byteAt_65 : decode cX2_byteAt 65 = .ok (.iconst 1, 1) := dk_4 (dk_at dksX2_byteAt_2 17 rfl rfl)
theorem dX2_byteAt_66 : decode cX2_byteAt 66 = .ok (.invokevirtual 94, 3) := dk_182 0 94 (dk_at dksX2_byteAt_2 18 rfl rfl)
theorem dX2_byteAt_69 : decode cX2_byteAt 69 = .ok (.ireturn, 1) := dk_172 (dk_at dksX2_byteAt_2 21 rfl rfl)
abbrev cX2_symbol : ByteArray := prog_4_method_77_code
def yX2_symbol : MethodName := ⟨RX2, "symbol", "(III)I"⟩
def dkwX2_symbol_4 : List UInt8 := [4, 167, 0, 14, 3, 167, 0, 10, 42, 180, 0, 37, 21, 4, 46, 172]
abbrev dktX2_symbol_4 : List UInt8 := dkwX2_symbol_4 ++ []
def dkwX2_symbol_3 : List UInt8 := [180, 0, 43, 21, 4, 46, 167, 0, 33, 29, 5, 160, 0, 21, 42, 180, 0, 46, 21, 4, 51, 153, 0, 7]
abbrev dktX2_symbol_3 : List UInt8 := dkwX2_symbol_3 ++ dktX2_symbol_4
def dkwX2_symbol_2 : List UInt8 := [28, 96, 54, 4, 29, 154, 0, 13, 42, 180, 0, 40, 21, 4, 46, 167, 0, 48, 29, 4, 160, 0, 13, 42]
abbrev dktX2_symbol_2 : List UInt8 := dkwX2_symbol_2 ++ dktX2_symbol_3
def dkwX2_symbol_1 : List UInt8 := [184, 4, 157, 153, 0, 11, 29, 7, 184, 4, 157, 154, 0, 9, 42, 4, 182, 0, 94, 172, 16, 64, 27, 104]
abbrev dktX2_symbol_1 : List UInt8 := dkwX2_symbol_1 ++ dktX2_symbol_2
def dkwX2_symbol_0 : List UInt8 := [42, 3, 181, 0, 88, 27, 42, 180, 3, 242, 184, 4, 157, 153, 0, 24, 28, 42, 180, 0, 21, 27, 46]
abbrev dktX2_symbol_0 : List UInt8 := dkwX2_symbol_0 ++ dktX2_symbol_1
theorem dksX2_symbol_0 : cX2_symbol.data.toList.drop 0 = dktX2_symbol_0 := by decide +kernel
theorem dksX2_symbol_1 : cX2_symbol.data.toList.drop 23 = dktX2_symbol_1 := dk_seg dksX2_symbol_0 23 rfl rfl
theorem dksX2_symbol_2 : cX2_symbol.data.toList.drop 47 = dktX2_symbol_2 := dk_seg dksX2_symbol_1 24 rfl rfl
theorem dksX2_symbol_3 : cX2_symbol.data.toList.drop 71 = dktX2_symbol_3 := dk_seg dksX2_symbol_2 24 rfl rfl
theorem dksX2_symbol_4 : cX2_symbol.data.toList.drop 95 = dktX2_symbol_4 := dk_seg dksX2_symbol_3 24 rfl rfl
theorem dX2_symbol_0 : decode cX2_symbol 0 = .ok (.aload_n 0, 1) := dk_42 (dk_at dksX2_symbol_0 0 rfl rfl)
theorem dX2_symbol_1 : decode cX2_symbol 1 = .ok (.iconst 0, 1) := dk_3 (dk_at dksX2_symbol_0 1 rfl rfl)
theorem dX2_symbol_2 : decode cX2_symbol 2 = .ok (.putfield 88, 3) := dk_181 0 88 (dk_at dksX2_symbol_0 2 rfl rfl)
theorem dX2_symbol_5 : decode cX2_symbol 5 = .ok (.iload_n 1, 1) := dk_27 (dk_at dksX2_symbol_0 5 rfl rfl)
theorem dX2_symbol_6 : decode cX2_symbol 6 = .ok (.aload_n 0, 1) := dk_42 (dk_at dksX2_symbol_0 6 rfl rfl)
theorem dX2_symbol_7 : decode cX2_symbol 7 = .ok (.getfield 1010, 3) := dk_180 3 242 (dk_at dksX2_symbol_0 7 rfl rfl)
theorem dX2_symbol_10 : decode cX2_symbol 10 = .ok (.invokestatic 1181, 3) := dk_184 4 157 (dk_at dksX2_symbol_0 10 rfl rfl)
theorem dX2_symbol_13 : decode cX2_symbol 13 = .ok (.ifCond .eq 24, 3) := dk_153 0 24 (dk_at dksX2_symbol_0 13 rfl rfl)
theorem dX2_symbol_16 : decode cX2_symbol 16 = .ok (.iload_n 2, 1) := dk_28 (dk_at dksX2_symbol_0 16 rfl rfl)
theorem dX2_symbol_17 : decode cX2_symbol 17 = .ok (.aload_n 0, 1) := dk_42 (dk_at dksX2_symbol_0 17 rfl rfl)
theorem dX2_symbol_18 : decode cX2_symbol 18 = .ok (.getfield 21, 3) := dk_180 0 21 (dk_at dksX2_symbol_0 18 rfl rfl)
theorem dX2_symbol_21 : decode cX2_symbol 21 = .ok (.iload_n 1, 1) := dk_27 (dk_at dksX2_symbol_0 21 rfl rfl)
theorem dX2_symbol_22 : decode cX2_symbol 22 = .ok (.iaload, 1) := dk_46 (dk_at dksX2_symbol_0 22 rfl rfl)
theorem dX2_symbol_23 : decode cX2_symbol 23 = .ok (.invokestatic 1181, 3) := dk_184 4 157 (dk_at dksX2_symbol_1 0 rfl rfl)
theorem dX2_symbol_26 : decode cX2_symbol 26 = .ok (.ifCond .eq 11, 3) := dk_153 0 11 (dk_at dksX2_symbol_1 3 rfl rfl)
theorem dX2_symbol_29 : decode cX2_symbol 29 = .ok (.iload_n 3, 1) := dk_29 (dk_at dksX2_symbol_1 6 rfl rfl)
theorem dX2_symbol_30 : decode cX2_symbol 30 = .ok (.iconst 4, 1) := dk_7 (dk_at dksX2_symbol_1 7 rfl rfl)
theorem dX2_symbol_31 : decode cX2_symbol 31 = .ok (.invokestatic 1181, 3) := dk_184 4 157 (dk_at dksX2_symbol_1 8 rfl rfl)
theorem dX2_symbol_34 : decode cX2_symbol 34 = .ok (.ifCond .ne 9, 3) := dk_154 0 9 (dk_at dksX2_symbol_1 11 rfl rfl)
theorem dX2_symbol_37 : decode cX2_symbol 37 = .ok (.aload_n 0, 1) := dk_42 (dk_at dksX2_symbol_1 14 rfl rfl)
theorem dX2_symbol_38 : decode cX2_symbol 38 = .ok (.iconst 1, 1) := dk_4 (dk_at dksX2_symbol_1 15 rfl rfl)
theorem dX2_symbol_39 : decode cX2_symbol 39 = .ok (.invokevirtual 94, 3) := dk_182 0 94 (dk_at dksX2_symbol_1 16 rfl rfl)
theorem dX2_symbol_42 : decode cX2_symbol 42 = .ok (.ireturn, 1) := dk_172 (dk_at dksX2_symbol_1 19 rfl rfl)
theorem dX2_symbol_43 : decode cX2_symbol 43 = .ok (.bipush 64, 2) := dk_16 64 (dk_at dksX2_symbol_1 20 rfl rfl)
theorem dX2_symbol_45 : decode cX2_symbol 45 = .ok (.iload_n 1, 1) := dk_27 (dk_at dksX2_symbol_1 22 rfl rfl)
theorem dX2_symbol_46 : decode cX2_symbol 46 = .ok (.imul, 1) := dk_104 (dk_at dksX2_symbol_1 23 rfl rfl)
theorem dX2_symbol_47 : decode cX2_symbol 47 = .ok (.iload_n 2, 1) := dk_28 (dk_at dksX2_symbol_2 0 rfl rfl)
theorem dX2_symbol_48 : decode cX2_symbol 48 = .ok (.iadd, 1) := dk_96 (dk_at dksX2_symbol_2 1 rfl rfl)
theorem dX2_symbol_49 : decode cX2_symbol 49 = .ok (.istore 4, 2) := dk_54 4 (dk_at dksX2_symbol_2 2 rfl rfl)
theorem dX2_symbol_51 : decode cX2_symbol 51 = .ok (.iload_n 3, 1) := dk_29 (dk_at dksX2_symbol_2 4 rfl rfl)
theorem dX2_symbol_52 : decode cX2_symbol 52 = .ok (.ifCond .ne 13, 3) := dk_154 0 13 (dk_at dksX2_symbol_2 5 rfl rfl)
theorem dX2_symbol_55 : decode cX2_symbol 55 = .ok (.aload_n 0, 1) := dk_42 (dk_at dksX2_symbol_2 8 rfl rfl)
theorem dX2_symbol_56 : decode cX2_symbol 56 = .ok (.getfield 40, 3) := dk_180 0 40 (dk_at dksX2_symbol_2 9 rfl rfl)
theorem dX2_symbol_59 : decode cX2_symbol 59 = .ok (.iload 4, 2) := dk_21 4 (dk_at dksX2_symbol_2 12 rfl rfl)
theorem dX2_symbol_61 : decode cX2_symbol 61 = .ok (.iaload, 1) := dk_46 (dk_at dksX2_symbol_2 14 rfl rfl)
theorem dX2_symbol_62 : decode cX2_symbol 62 = .ok (.goto 48, 3) := dk_167 0 48 (dk_at dksX2_symbol_2 15 rfl rfl)
theorem dX2_symbol_65 : decode cX2_symbol 65 = .ok (.iload_n 3, 1) := dk_29 (dk_at dksX2_symbol_2 18 rfl rfl)
theorem dX2_symbol_66 : decode cX2_symbol 66 = .ok (.iconst 1, 1) := dk_4 (dk_at dksX2_symbol_2 19 rfl rfl)
theorem dX2_symbol_67 : decode cX2_symbol 67 = .ok (.if_icmp .ne 13, 3) := dk_160 0 13 (dk_at dksX2_symbol_2 20 rfl rfl)
theorem dX2_symbol_70 : decode cX2_symbol 70 = .ok (.aload_n 0, 1) := dk_42 (dk_at dksX2_symbol_2 23 rfl rfl)
theorem dX2_symbol_71 : decode cX2_symbol 71 = .ok (.getfield 43, 3) := dk_180 0 43 (dk_at dksX2_symbol_3 0 rfl rfl)
theorem dX2_symbol_74 : decode cX2_symbol 74 = .ok (.iload 4, 2) := dk_21 4 (dk_at dksX2_symbol_3 3 rfl rfl)
theorem dX2_symbol_76 : decode cX2_symbol 76 = .ok (.iaload, 1) := dk_46 (dk_at dksX2_symbol_3 5 rfl rfl)
theorem dX2_symbol_77 : decode cX2_symbol 77 = .ok (.goto 33, 3) := dk_167 0 33 (dk_at dksX2_symbol_3 6 rfl rfl)
theorem dX2_symbol_80 : decode cX2_symbol 80 = .ok (.iload_n 3, 1) := dk_29 (dk_at dksX2_symbol_3 9 rfl rfl)
theorem dX2_symbol_81 : decode cX2_symbol 81 = .ok (.iconst 2, 1) := dk_5 (dk_at dksX2_symbol_3 10 rfl rfl)
theorem dX2_symbol_82 : decode cX2_symbol 82 = .ok (.if_icmp .ne 21, 3) := dk_160 0 21 (dk_at dksX2_symbol_3 11 rfl rfl)
theorem dX2_symbol_85 : decode cX2_symbol 85 = .ok (.aload_n 0, 1) := dk_42 (dk_at dksX2_symbol_3 14 rfl rfl)
theorem dX2_symbol_86 : decode cX2_symbol 86 = .ok (.getfield 46, 3) := dk_180 0 46 (dk_at dksX2_symbol_3 15 rfl rfl)
theorem dX2_symbol_89 : decode cX2_symbol 89 = .ok (.iload 4, 2) := dk_21 4 (dk_at dksX2_symbol_3 18 rfl rfl)
theorem dX2_symbol_91 : decode cX2_symbol 91 = .ok (.baload, 1) := dk_51 (dk_at dksX2_symbol_3 20 rfl rfl)
theorem dX2_symbol_92 : decode cX2_symbol 92 = .ok (.ifCond .eq 7, 3) := dk_153 0 7 (dk_at dksX2_symbol_3 21 rfl rfl)
theorem dX2_symbol_95 : decode cX2_symbol 95 = .ok (.iconst 1, 1) := dk_4 (dk_at dksX2_symbol_4 0 rfl rfl)
theorem dX2_symbol_96 : decode cX2_symbol 96 = .ok (.goto 14, 3) := dk_167 0 14 (dk_at dksX2_symbol_4 1 rfl rfl)
theorem dX2_symbol_99 : decode cX2_symbol 99 = .ok (.iconst 0, 1) := dk_3 (dk_at dksX2_symbol_4 4 rfl rfl)
theorem dX2_symbol_100 : decode cX2_symbol 100 = .ok (.goto 10, 3) := dk_167 0 10 (dk_at dksX2_symbol_4 5 rfl rfl)
theorem dX2_symbol_103 : decode cX2_symbol 103 = .ok (.aload_n 0, 1) := dk_42 (dk_at dksX2_symbol_4 8 rfl rfl)
theorem dX2_symbol_104 : decode cX2_symbol 104 = .ok (.getfield 37, 3) := dk_180 0 37 (dk_at dksX2_symbol_4 9 rfl rfl)
theorem dX2_symbol_107 : decode cX2_symbol 107 = .ok (.iload 4, 2) := dk_21 4 (dk_at dksX2_symbol_4 12 rfl rfl)
theorem dX2_symbol_109 : decode cX2_symbol 109 = .ok (.iaload, 1) := dk_46 (dk_at dksX2_symbol_4 14 rfl rfl)
theorem dX2_symbol_110 : decode cX2_symbol 110 = .ok (.ireturn, 1) := dk_172 (dk_at dksX2_symbol_4 15 rfl rfl)
abbrev cX2_letter : ByteArray := prog_4_method_78_code
def yX2_letter : MethodName := ⟨RX2, "letter", "(III)I"⟩
def dkwX2_letter_6 : List UInt8 := [4, 100, 29, 16, 8, 112, 100, 104, 123, 20, 4, 120, 127, 136, 172]
abbrev dktX2_letter_6 : List UInt8 := dkwX2_letter_6 ++ []
def dkwX2_letter_5 : List UInt8 := [54, 7, 21, 7, 16, 8, 164, 0, 8, 16, 8, 167, 0, 5, 21, 7, 54, 8, 22, 5, 16, 8, 21, 8]
abbrev dktX2_letter_5 : List UInt8 := dkwX2_letter_5 ++ dktX2_letter_6
def dkwX2_letter_4 : List UInt8 := [180, 0, 34, 21, 4, 47, 55, 5, 42, 180, 0, 37, 21, 4, 46, 29, 16, 8, 108, 16, 8, 104, 100]
abbrev dktX2_letter_4 : List UInt8 := dkwX2_letter_4 ++ dktX2_letter_5
def dkwX2_letter_3 : List UInt8 := [21, 4, 47, 167, 0, 26, 29, 16, 16, 162, 0, 13, 42, 180, 0, 31, 21, 4, 47, 167, 0, 10, 42]
abbrev dktX2_letter_3 : List UInt8 := dkwX2_letter_3 ++ dktX2_letter_4
def dkwX2_letter_2 : List UInt8 := [42, 4, 182, 0, 94, 172, 16, 64, 27, 104, 28, 96, 54, 4, 29, 16, 8, 162, 0, 13, 42, 180, 0, 27]
abbrev dktX2_letter_2 : List UInt8 := dkwX2_letter_2 ++ dktX2_letter_3
def dkwX2_letter_1 : List UInt8 := [184, 4, 157, 153, 0, 21, 29, 42, 180, 0, 37, 16, 64, 27, 104, 28, 96, 46, 184, 4, 157, 154, 0, 9]
abbrev dktX2_letter_1 : List UInt8 := dkwX2_letter_1 ++ dktX2_letter_2
def dkwX2_letter_0 : List UInt8 := [42, 3, 181, 0, 88, 27, 42, 180, 3, 242, 184, 4, 157, 153, 0, 34, 28, 42, 180, 0, 21, 27, 46]
abbrev dktX2_letter_0 : List UInt8 := dkwX2_letter_0 ++ dktX2_letter_1
theorem dksX2_letter_0 : cX2_letter.data.toList.drop 0 = dktX2_letter_0 := by decide +kernel
theorem dksX2_letter_1 : cX2_letter.data.toList.drop 23 = dktX2_letter_1 := dk_seg dksX2_letter_0 23 rfl rfl
theorem dksX2_letter_2 : cX2_letter.data.toList.drop 47 = dktX2_letter_2 := dk_seg dksX2_letter_1 24 rfl rfl
theorem dksX2_letter_3 : cX2_letter.data.toList.drop 71 = dktX2_letter_3 := dk_seg dksX2_letter_2 24 rfl rfl
theorem dksX2_letter_4 : cX2_letter.data.toList.drop 94 = dktX2_letter_4 := dk_seg dksX2_letter_3 23 rfl rfl
theorem dksX2_letter_5 : cX2_letter.data.toList.drop 117 = dktX2_letter_5 := dk_seg dksX2_letter_4 23 rfl rfl
theorem dksX2_letter_6 : cX2_letter.data.toList.drop 141 = dktX2_letter_6 := dk_seg dksX2_letter_5 24 rfl rfl
theorem dX2_letter_0 : decode cX2_letter 0 = .ok (.aload_n 0, 1) := dk_42 (dk_at dksX2_letter_0 0 rfl rfl)
theorem dX2_letter_1 : decode cX2_letter 1 = .ok (.iconst 0, 1) := dk_3 (dk_at dksX2_letter_0 1 rfl rfl)
theorem dX2_letter_2 : decode cX2_letter 2 = .ok (.putfield 88, 3) := dk_181 0 88 (dk_at dksX2_letter_0 2 rfl rfl)
theorem dX2_letter_5 : decode cX2_letter 5 = .ok (.iload_n 1, 1) := dk_27 (dk_at dksX2_letter_0 5 rfl rfl)
theorem dX2_letter_6 : decode cX2_letter 6 = .ok (.aload_n 0, 1) := dk_42 (dk_at dksX2_letter_0 6 rfl rfl)
theorem dX2_letter_7 : decode cX2_letter 7 = .ok (.getfield 1010, 3) := dk_180 3 242 (dk_at dksX2_letter_0 7 rfl rfl)
theorem dX2_letter_10 : decode cX2_letter 10 = .ok (.invokestatic 1181, 3) := dk_184 4 157 (dk_at dksX2_letter_0 10 rfl rfl)
theorem dX2_letter_13 : decode cX2_letter 13 = .ok (.ifCond .eq 34, 3) := dk_153 0 34 (dk_at dksX2_letter_0 13 rfl rfl)
theorem dX2_letter_16 : decode cX2_letter 16 = .ok (.iload_n 2, 1) := dk_28 (dk_at dksX2_letter_0 16 rfl rfl)
theorem dX2_letter_17 : decode cX2_letter 17 = .ok (.aload_n 0, 1) := dk_42 (dk_at dksX2_letter_0 17 rfl rfl)
theorem dX2_letter_18 : decode cX2_letter 18 = .ok (.getfield 21, 3) := dk_180 0 21 (dk_at dksX2_letter_0 18 rfl rfl)
theorem dX2_letter_21 : decode cX2_letter 21 = .ok (.iload_n 1, 1) := dk_27 (dk_at dksX2_letter_0 21 rfl rfl)
theorem dX2_letter_22 : decode cX2_letter 22 = .ok (.iaload, 1) := dk_46 (dk_at dksX2_letter_0 22 rfl rfl)
theorem dX2_letter_23 : decode cX2_letter 23 = .ok (.invokestatic 1181, 3) := dk_184 4 157 (dk_at dksX2_letter_1 0 rfl rfl)
theorem dX2_letter_26 : decode cX2_letter 26 = .ok (.ifCond .eq 21, 3) := dk_153 0 21 (dk_at dksX2_letter_1 3 rfl rfl)
theorem dX2_letter_29 : decode cX2_letter 29 = .ok (.iload_n 3, 1) := dk_29 (dk_at dksX2_letter_1 6 rfl rfl)
theorem dX2_letter_30 : decode cX2_letter 30 = .ok (.aload_n 0, 1) := dk_42 (dk_at dksX2_letter_1 7 rfl rfl)
theorem dX2_letter_31 : decode cX2_letter 31 = .ok (.getfield 37, 3) := dk_180 0 37 (dk_at dksX2_letter_1 8 rfl rfl)
theorem dX2_letter_34 : decode cX2_letter 34 = .ok (.bipush 64, 2) := dk_16 64 (dk_at dksX2_letter_1 11 rfl rfl)
theorem dX2_letter_36 : decode cX2_letter 36 = .ok (.iload_n 1, 1) := dk_27 (dk_at dksX2_letter_1 13 rfl rfl)
theorem dX2_letter_37 : decode cX2_letter 37 = .ok (.imul, 1) := dk_104 (dk_at dksX2_letter_1 14 rfl rfl)
theorem dX2_letter_38 : decode cX2_letter 38 = .ok (.iload_n 2, 1) := dk_28 (dk_at dksX2_letter_1 15 rfl rfl)
theorem dX2_letter_39 : decode cX2_letter 39 = .ok (.iadd, 1) := dk_96 (dk_at dksX2_letter_1 16 rfl rfl)
theorem dX2_letter_40 : decode cX2_letter 40 = .ok (.iaload, 1) := dk_46 (dk_at dksX2_letter_1 17 rfl rfl)
theorem dX2_letter_41 : decode cX2_letter 41 = .ok (.invokestatic 1181, 3) := dk_184 4 157 (dk_at dksX2_letter_1 18 rfl rfl)
theorem dX2_letter_44 : decode cX2_letter 44 = .ok (.ifCond .ne 9, 3) := dk_154 0 9 (dk_at dksX2_letter_1 21 rfl rfl)
theorem dX2_letter_47 : decode cX2_letter 47 = .ok (.aload_n 0, 1) := dk_42 (dk_at dksX2_letter_2 0 rfl rfl)
theorem dX2_letter_48 : decode cX2_letter 48 = .ok (.iconst 1, 1) := dk_4 (dk_at dksX2_letter_2 1 rfl rfl)
theorem dX2_letter_49 : decode cX2_letter 49 = .ok (.invokevirtual 94, 3) := dk_182 0 94 (dk_at dksX2_letter_2 2 rfl rfl)
theorem dX2_letter_52 : decode cX2_letter 52 = .ok (.ireturn, 1) := dk_172 (dk_at dksX2_letter_2 5 rfl rfl)
theorem dX2_letter_53 : decode cX2_letter 53 = .ok (.bipush 64, 2) := dk_16 64 (dk_at dksX2_letter_2 6 rfl rfl)
theorem dX2_letter_55 : decode cX2_letter 55 = .ok (.iload_n 1, 1) := dk_27 (dk_at dksX2_letter_2 8 rfl rfl)
theorem dX2_letter_56 : decode cX2_letter 56 = .ok (.imul, 1) := dk_104 (dk_at dksX2_letter_2 9 rfl rfl)
theorem dX2_letter_57 : decode cX2_letter 57 = .ok (.iload_n 2, 1) := dk_28 (dk_at dksX2_letter_2 10 rfl rfl)
theorem dX2_letter_58 : decode cX2_letter 58 = .ok (.iadd, 1) := dk_96 (dk_at dksX2_letter_2 11 rfl rfl)
theorem dX2_letter_59 : decode cX2_letter 59 = .ok (.istore 4, 2) := dk_54 4 (dk_at dksX2_letter_2 12 rfl rfl)
theorem dX2_letter_61 : decode cX2_letter 61 = .ok (.iload_n 3, 1) := dk_29 (dk_at dksX2_letter_2 14 rfl rfl)
theorem dX2_letter_62 : decode cX2_letter 62 = .ok (.bipush 8, 2) := dk_16 8 (dk_at dksX2_letter_2 15 rfl rfl)
theorem dX2_letter_64 : decode cX2_letter 64 = .ok (.if_icmp .ge 13, 3) := dk_162 0 13 (dk_at dksX2_letter_2 17 rfl rfl)
theorem dX2_letter_67 : decode cX2_letter 67 = .ok (.aload_n 0, 1) := dk_42 (dk_at dksX2_letter_2 20 rfl rfl)
theorem dX2_letter_68 : decode cX2_letter 68 = .ok (.getfield 27, 3) := dk_180 0 27 (dk_at dksX2_letter_2 21 rfl rfl)
theorem dX2_letter_71 : decode cX2_letter 71 = .ok (.iload 4, 2) := dk_21 4 (dk_at dksX2_letter_3 0 rfl rfl)
theorem dX2_letter_73 : decode cX2_letter 73 = .ok (.laload, 1) := dk_47 (dk_at dksX2_letter_3 2 rfl rfl)
theorem dX2_letter_74 : decode cX2_letter 74 = .ok (.goto 26, 3) := dk_167 0 26 (dk_at dksX2_letter_3 3 rfl rfl)
theorem dX2_letter_77 : decode cX2_letter 77 = .ok (.iload_n 3, 1) := dk_29 (dk_at dksX2_letter_3 6 rfl rfl)
theorem dX2_letter_78 : decode cX2_letter 78 = .ok (.bipush 16, 2) := dk_16 16 (dk_at dksX2_letter_3 7 rfl rfl)
theorem dX2_letter_80 : decode cX2_letter 80 = .ok (.if_icmp .ge 13, 3) := dk_162 0 13 (dk_at dksX2_letter_3 9 rfl rfl)
theorem dX2_letter_83 : decode cX2_letter 83 = .ok (.aload_n 0, 1) := dk_42 (dk_at dksX2_letter_3 12 rfl rfl)
theorem dX2_letter_84 : decode cX2_letter 84 = .ok (.getfield 31, 3) := dk_180 0 31 (dk_at dksX2_letter_3 13 rfl rfl)
theorem dX2_letter_87 : decode cX2_letter 87 = .ok (.iload 4, 2) := dk_21 4 (dk_at dksX2_letter_3 16 rfl rfl)
theorem dX2_letter_89 : decode cX2_letter 89 = .ok (.laload, 1) := dk_47 (dk_at dksX2_letter_3 18 rfl rfl)
theorem dX2_letter_90 : decode cX2_letter 90 = .ok (.goto 10, 3) := dk_167 0 10 (dk_at dksX2_letter_3 19 rfl rfl)
theorem dX2_letter_93 : decode cX2_letter 93 = .ok (.aload_n 0, 1) := dk_42 (dk_at dksX2_letter_3 22 rfl rfl)
theorem dX2_letter_94 : decode cX2_letter 94 = .ok (.getfield 34, 3) := dk_180 0 34 (dk_at dksX2_letter_4 0 rfl rfl)
theorem dX2_letter_97 : decode cX2_letter 97 = .ok (.iload 4, 2) := dk_21 4 (dk_at dksX2_letter_4 3 rfl rfl)
theorem dX2_letter_99 : decode cX2_letter 99 = .ok (.laload, 1) := dk_47 (dk_at dksX2_letter_4 5 rfl rfl)
theorem dX2_letter_100 : decode cX2_letter 100 = .ok (.lstore 5, 2) := dk_55 5 (dk_at dksX2_letter_4 6 rfl rfl)
theorem dX2_letter_102 : decode cX2_letter 102 = .ok (.aload_n 0, 1) := dk_42 (dk_at dksX2_letter_4 8 rfl rfl)
theorem dX2_letter_103 : decode cX2_letter 103 = .ok (.getfield 37, 3) := dk_180 0 37 (dk_at dksX2_letter_4 9 rfl rfl)
theorem dX2_letter_106 : decode cX2_letter 106 = .ok (.iload 4, 2) := dk_21 4 (dk_at dksX2_letter_4 12 rfl rfl)
theorem dX2_letter_108 : decode cX2_letter 108 = .ok (.iaload, 1) := dk_46 (dk_at dksX2_letter_4 14 rfl rfl)
theorem dX2_letter_109 : decode cX2_letter 109 = .ok (.iload_n 3, 1) := dk_29 (dk_at dksX2_letter_4 15 rfl rfl)
theorem dX2_letter_110 : decode cX2_letter 110 = .ok (.bipush 8, 2) := dk_16 8 (dk_at dksX2_letter_4 16 rfl rfl)
theorem dX2_letter_112 : decode cX2_letter 112 = .ok (.idiv, 1) := dk_108 (dk_at dksX2_letter_4 18 rfl rfl)
theorem dX2_letter_113 : decode cX2_letter 113 = .ok (.bipush 8, 2) := dk_16 8 (dk_at dksX2_letter_4 19 rfl rfl)
theorem dX2_letter_115 : decode cX2_letter 115 = .ok (.imul, 1) := dk_104 (dk_at dksX2_letter_4 21 rfl rfl)
theorem dX2_letter_116 : decode cX2_letter 116 = .ok (.isub, 1) := dk_100 (dk_at dksX2_letter_4 22 rfl rfl)
theorem dX2_letter_117 : decode cX2_letter 117 = .ok (.istore 7, 2) := dk_54 7 (dk_at dksX2_letter_5 0 rfl rfl)
theorem dX2_letter_119 : decode cX2_letter 119 = .ok (.iload 7, 2) := dk_21 7 (dk_at dksX2_letter_5 2 rfl rfl)
theorem dX2_letter_121 : decode cX2_letter 121 = .ok (.bipush 8, 2) := dk_16 8 (dk_at dksX2_letter_5 4 rfl rfl)
theorem dX2_letter_123 : decode cX2_letter 123 = .ok (.if_icmp .le 8, 3) := dk_164 0 8 (dk_at dksX2_letter_5 6 rfl rfl)
theorem dX2_letter_126 : decode cX2_letter 126 = .ok (.bipush 8, 2) := dk_16 8 (dk_at dksX2_letter_5 9 rfl rfl)
theorem dX2_letter_128 : decode cX2_letter 128 = .ok (.goto 5, 3) := dk_167 0 5 (dk_at dksX2_letter_5 11 rfl rfl)
theorem dX2_letter_131 : decode cX2_letter 131 = .ok (.iload 7, 2) := dk_21 7 (dk_at dksX2_letter_5 14 rfl rfl)
theorem dX2_letter_133 : decode cX2_letter 133 = .ok (.istore 8, 2) := dk_54 8 (dk_at dksX2_letter_5 16 rfl rfl)
theorem dX2_letter_135 : decode cX2_letter 135 = .ok (.lload 5, 2) := dk_22 5 (dk_at dksX2_letter_5 18 rfl rfl)
theorem dX2_letter_137 : decode cX2_letter 137 = .ok (.bipush 8, 2) := dk_16 8 (dk_at dksX2_letter_5 20 rfl rfl)
theorem dX2_letter_139 : decode cX2_letter 139 = .ok (.iload 8, 2) := dk_21 8 (dk_at dksX2_letter_5 22 rfl rfl)
theorem dX2_letter_141 : decode cX2_letter 141 = .ok (.iconst 1, 1) := dk_4 (dk_at dksX2_letter_6 0 rfl rfl)
theorem dX2_letter_142 : decode cX2_letter 142 = .ok (.isub, 1) := dk_100 (dk_at dksX2_letter_6 1 rfl rfl)
theorem dX2_letter_143 : decode cX2_letter 143 = .ok (.iload_n 3, 1) := dk_29 (dk_at dksX2_letter_6 2 rfl rfl)
theorem dX2_letter_144 : decode cX2_letter 144 = .ok (.bipush 8, 2) := dk_16 8 (dk_at dksX2_letter_6 3 rfl rfl)
theorem dX2_letter_146 : decode cX2_letter 146 = .ok (.irem, 1) := dk_112 (dk_at dksX2_letter_6 5 rfl rfl)
theorem dX2_letter_147 : decode cX2_letter 147 = .ok (.isub, 1) := dk_100 (dk_at dksX2_letter_6 6 rfl rfl)
theorem dX2_letter_148 : decode cX2_letter 148 = .ok (.imul, 1) := dk_104 (dk_at dksX2_letter_6 7 rfl rfl)
theorem dX2_letter_149 : decode cX2_letter 149 = .ok (.lshr, 1) := dk_123 (dk_at dksX2_letter_6 8 rfl rfl)
theorem dX2_letter_150 : decode cX2_letter 150 = .ok (.ldc2_w 1144, 3) := dk_20 4 120 (dk_at dksX2_letter_6 9 rfl rfl)
theorem dX2_letter_153 : decode cX2_letter 153 = .ok (.land, 1) := dk_127 (dk_at dksX2_letter_6 12 rfl rfl)
theorem dX2_letter_154 : decode cX2_letter 154 = .ok (.l2i, 1) := dk_136 (dk_at dksX2_letter_6 13 rfl rfl)
theorem dX2_letter_155 : decode cX2_letter 155 = .ok (.ireturn, 1) := dk_172 (dk_at dksX2_letter_6 14 rfl rfl)
abbrev cX2_relocation : ByteArray := prog_4_method_79_code
def yX2_relocation : MethodName := ⟨RX2, "relocation", "(III)I"⟩
def dkwX2_relocation_5 : List UInt8 := [46, 172]
abbrev dktX2_relocation_5 : List UInt8 := dkwX2_relocation_5 ++ []
def dkwX2_relocation_4 : List UInt8 := [167, 0, 25, 29, 6, 160, 0, 13, 42, 180, 0, 59, 21, 4, 46, 167, 0, 10, 42, 180, 0, 62, 21, 4]
abbrev dktX2_relocation_4 : List UInt8 := dkwX2_relocation_4 ++ dktX2_relocation_5
def dkwX2_relocation_3 : List UInt8 := [42, 180, 0, 53, 21, 4, 46, 167, 0, 40, 29, 5, 160, 0, 13, 42, 180, 0, 56, 21, 4, 46]
abbrev dktX2_relocation_3 : List UInt8 := dkwX2_relocation_3 ++ dktX2_relocation_4
def dkwX2_relocation_2 : List UInt8 := [104, 28, 96, 54, 4, 29, 154, 0, 13, 42, 180, 0, 50, 21, 4, 46, 167, 0, 55, 29, 4, 160, 0, 13]
abbrev dktX2_relocation_2 : List UInt8 := dkwX2_relocation_2 ++ dktX2_relocation_3
def dkwX2_relocation_1 : List UInt8 := [184, 4, 157, 153, 0, 11, 29, 8, 184, 4, 157, 154, 0, 9, 42, 4, 182, 0, 94, 172, 17, 1, 0, 27]
abbrev dktX2_relocation_1 : List UInt8 := dkwX2_relocation_1 ++ dktX2_relocation_2
def dkwX2_relocation_0 : List UInt8 := [42, 3, 181, 0, 88, 27, 42, 180, 3, 242, 184, 4, 157, 153, 0, 24, 28, 42, 180, 0, 24, 27, 46]
abbrev dktX2_relocation_0 : List UInt8 := dkwX2_relocation_0 ++ dktX2_relocation_1
theorem dksX2_relocation_0 : cX2_relocation.data.toList.drop 0 = dktX2_relocation_0 := by decide +kernel
theorem dksX2_relocation_1 : cX2_relocation.data.toList.drop 23 = dktX2_relocation_1 := dk_seg dksX2_relocation_0 23 rfl rfl
theorem dksX2_relocation_2 : cX2_relocation.data.toList.drop 47 = dktX2_relocation_2 := dk_seg dksX2_relocation_1 24 rfl rfl
theorem dksX2_relocation_3 : cX2_relocation.data.toList.drop 71 = dktX2_relocation_3 := dk_seg dksX2_relocation_2 24 rfl rfl
theorem dksX2_relocation_4 : cX2_relocation.data.toList.drop 93 = dktX2_relocation_4 := dk_seg dksX2_relocation_3 22 rfl rfl
theorem dksX2_relocation_5 : cX2_relocation.data.toList.drop 117 = dktX2_relocation_5 := dk_seg dksX2_relocation_4 24 rfl rfl
theorem dX2_relocation_0 : decode cX2_relocation 0 = .ok (.aload_n 0, 1) := dk_42 (dk_at dksX2_relocation_0 0 rfl rfl)
theorem dX2_relocation_1 : decode cX2_relocation 1 = .ok (.iconst 0, 1) := dk_3 (dk_at dksX2_relocation_0 1 rfl rfl)
theorem dX2_relocation_2 : decode cX2_relocation 2 = .ok (.putfield 88, 3) := dk_181 0 88 (dk_at dksX2_relocation_0 2 rfl rfl)
theorem dX2_relocation_5 : decode cX2_relocation 5 = .ok (.iload_n 1, 1) := dk_27 (dk_at dksX2_relocation_0 5 rfl rfl)
theorem dX2_relocation_6 : decode cX2_relocation 6 = .ok (.aload_n 0, 1) := dk_42 (dk_at dksX2_relocation_0 6 rfl rfl)
theorem dX2_relocation_7 : decode cX2_relocation 7 = .ok (.getfield 1010, 3) := dk_180 3 242 (dk_at dksX2_relocation_0 7 rfl rfl)
theorem dX2_relocation_10 : decode cX2_relocation 10 = .ok (.invokestatic 1181, 3) := dk_184 4 157 (dk_at dksX2_relocation_0 10 rfl rfl)
theorem dX2_relocation_13 : decode cX2_relocation 13 = .ok (.ifCond .eq 24, 3) := dk_153 0 24 (dk_at dksX2_relocation_0 13 rfl rfl)
theorem dX2_relocation_16 : decode cX2_relocation 16 = .ok (.iload_n 2, 1) := dk_28 (dk_at dksX2_relocation_0 16 rfl rfl)
theorem dX2_relocation_17 : decode cX2_relocation 17 = .ok (.aload_n 0, 1) := dk_42 (dk_at dksX2_relocation_0 17 rfl rfl)
theorem dX2_relocation_18 : decode cX2_relocation 18 = .ok (.getfield 24, 3) := dk_180 0 24 (dk_at dksX2_relocation_0 18 rfl rfl)
theorem dX2_relocation_21 : decode cX2_relocation 21 = .ok (.iload_n 1, 1) := dk_27 (dk_at dksX2_relocation_0 21 rfl rfl)
theorem dX2_relocation_22 : decode cX2_relocation 22 = .ok (.iaload, 1) := dk_46 (dk_at dksX2_relocation_0 22 rfl rfl)
theorem dX2_relocation_23 : decode cX2_relocation 23 = .ok (.invokestatic 1181, 3) := dk_184 4 157 (dk_at dksX2_relocation_1 0 rfl rfl)
theorem dX2_relocation_26 : decode cX2_relocation 26 = .ok (.ifCond .eq 11, 3) := dk_153 0 11 (dk_at dksX2_relocation_1 3 rfl rfl)
theorem dX2_relocation_29 : decode cX2_relocation 29 = .ok (.iload_n 3, 1) := dk_29 (dk_at dksX2_relocation_1 6 rfl rfl)
theorem dX2_relocation_30 : decode cX2_relocation 30 = .ok (.iconst 5, 1) := dk_8 (dk_at dksX2_relocation_1 7 rfl rfl)
theorem dX2_relocation_31 : decode cX2_relocation 31 = .ok (.invokestatic 1181, 3) := dk_184 4 157 (dk_at dksX2_relocation_1 8 rfl rfl)
theorem dX2_relocation_34 : decode cX2_relocation 34 = .ok (.ifCond .ne 9, 3) := dk_154 0 9 (dk_at dksX2_relocation_1 11 rfl rfl)
theorem dX2_relocation_37 : decode cX2_relocation 37 = .ok (.aload_n 0, 1) := dk_42 (dk_at dksX2_relocation_1 14 rfl rfl)
theorem dX2_relocation_38 : decode cX2_relocation 38 = .ok (.iconst 1, 1) := dk_4 (dk_at dksX2_relocation_1 15 rfl rfl)
theorem dX2_relocation_39 : decode cX2_relocation 39 = .ok (.invokevirtual 94, 3) := dk_182 0 94 (dk_at dksX2_relocation_1 16 rfl rfl)
theorem dX2_relocation_42 : decode cX2_relocation 42 = .ok (.ireturn, 1) := dk_172 (dk_at dksX2_relocation_1 19 rfl rfl)
theorem dX2_relocation_43 : decode cX2_relocation 43 = .ok (.sipush 256, 3) := dk_17 1 0 (dk_at dksX2_relocation_1 20 rfl rfl)
theorem dX2_relocation_46 : decode cX2_relocation 46 = .ok (.iload_n 1, 1) := dk_27 (dk_at dksX2_relocation_1 23 rfl rfl)
theorem dX2_relocation_47 : decode cX2_relocation 47 = .ok (.imul, 1) := dk_104 (dk_at dksX2_relocation_2 0 rfl rfl)
theorem dX2_relocation_48 : decode cX2_relocation 48 = .ok (.iload_n 2, 1) := dk_28 (dk_at dksX2_relocation_2 1 rfl rfl)
theorem dX2_relocation_49 : decode cX2_relocation 49 = .ok (.iadd, 1) := dk_96 (dk_at dksX2_relocation_2 2 rfl rfl)
theorem dX2_relocation_50 : decode cX2_relocation 50 = .ok (.istore 4, 2) := dk_54 4 (dk_at dksX2_relocation_2 3 rfl rfl)
theorem dX2_relocation_52 : decode cX2_relocation 52 = .ok (.iload_n 3, 1) := dk_29 (dk_at dksX2_relocation_2 5 rfl rfl)
theorem dX2_relocation_53 : decode cX2_relocation 53 = .ok (.ifCond .ne 13, 3) := dk_154 0 13 (dk_at dksX2_relocation_2 6 rfl rfl)
theorem dX2_relocation_56 : decode cX2_relocation 56 = .ok (.aload_n 0, 1) := dk_42 (dk_at dksX2_relocation_2 9 rfl rfl)
theorem dX2_relocation_57 : decode cX2_relocation 57 = .ok (.getfield 50, 3) := dk_180 0 50 (dk_at dksX2_relocation_2 10 rfl rfl)
theorem dX2_relocation_60 : decode cX2_relocation 60 = .ok (.iload 4, 2) := dk_21 4 (dk_at dksX2_relocation_2 13 rfl rfl)
theorem dX2_relocation_62 : decode cX2_relocation 62 = .ok (.iaload, 1) := dk_46 (dk_at dksX2_relocation_2 15 rfl rfl)
theorem dX2_relocation_63 : decode cX2_relocation 63 = .ok (.goto 55, 3) := dk_167 0 55 (dk_at dksX2_relocation_2 16 rfl rfl)
theorem dX2_relocation_66 : decode cX2_relocation 66 = .ok (.iload_n 3, 1) := dk_29 (dk_at dksX2_relocation_2 19 rfl rfl)
theorem dX2_relocation_67 : decode cX2_relocation 67 = .ok (.iconst 1, 1) := dk_4 (dk_at dksX2_relocation_2 20 rfl rfl)
theorem dX2_relocation_68 : decode cX2_relocation 68 = .ok (.if_icmp .ne 13, 3) := dk_160 0 13 (dk_at dksX2_relocation_2 21 rfl rfl)
theorem dX2_relocation_71 : decode cX2_relocation 71 = .ok (.aload_n 0, 1) := dk_42 (dk_at dksX2_relocation_3 0 rfl rfl)
theorem dX2_relocation_72 : decode cX2_relocation 72 = .ok (.getfield 53, 3) := dk_180 0 53 (dk_at dksX2_relocation_3 1 rfl rfl)
theorem dX2_relocation_75 : decode cX2_relocation 75 = .ok (.iload 4, 2) := dk_21 4 (dk_at dksX2_relocation_3 4 rfl rfl)
theorem dX2_relocation_77 : decode cX2_relocation 77 = .ok (.iaload, 1) := dk_46 (dk_at dksX2_relocation_3 6 rfl rfl)
theorem dX2_relocation_78 : decode cX2_relocation 78 = .ok (.goto 40, 3) := dk_167 0 40 (dk_at dksX2_relocation_3 7 rfl rfl)
theorem dX2_relocation_81 : decode cX2_relocation 81 = .ok (.iload_n 3, 1) := dk_29 (dk_at dksX2_relocation_3 10 rfl rfl)
theorem dX2_relocation_82 : decode cX2_relocation 82 = .ok (.iconst 2, 1) := dk_5 (dk_at dksX2_relocation_3 11 rfl rfl)
theorem dX2_relocation_83 : decode cX2_relocation 83 = .ok (.if_icmp .ne 13, 3) := dk_160 0 13 (dk_at dksX2_relocation_3 12 rfl rfl)
theorem dX2_relocation_86 : decode cX2_relocation 86 = .ok (.aload_n 0, 1) := dk_42 (dk_at dksX2_relocation_3 15 rfl rfl)
theorem dX2_relocation_87 : decode cX2_relocation 87 = .ok (.getfield 56, 3) := dk_180 0 56 (dk_at dksX2_relocation_3 16 rfl rfl)
theorem dX2_relocation_90 : decode cX2_relocation 90 = .ok (.iload 4, 2) := dk_21 4 (dk_at dksX2_relocation_3 19 rfl rfl)
theorem dX2_relocation_92 : decode cX2_relocation 92 = .ok (.iaload, 1) := dk_46 (dk_at dksX2_relocation_3 21 rfl rfl)
theorem dX2_relocation_93 : decode cX2_relocation 93 = .ok (.goto 25, 3) := dk_167 0 25 (dk_at dksX2_relocation_4 0 rfl rfl)
theorem dX2_relocation_96 : decode cX2_relocation 96 = .ok (.iload_n 3, 1) := dk_29 (dk_at dksX2_relocation_4 3 rfl rfl)
theorem dX2_relocation_97 : decode cX2_relocation 97 = .ok (.iconst 3, 1) := dk_6 (dk_at dksX2_relocation_4 4 rfl rfl)
theorem dX2_relocation_98 : decode cX2_relocation 98 = .ok (.if_icmp .ne 13, 3) := dk_160 0 13 (dk_at dksX2_relocation_4 5 rfl rfl)
theorem dX2_relocation_101 : decode cX2_relocation 101 = .ok (.aload_n 0, 1) := dk_42 (dk_at dksX2_relocation_4 8 rfl rfl)
theorem dX2_relocation_102 : decode cX2_relocation 102 = .ok (.getfield 59, 3) := dk_180 0 59 (dk_at dksX2_relocation_4 9 rfl rfl)
theorem dX2_relocation_105 : decode cX2_relocation 105 = .ok (.iload 4, 2) := dk_21 4 (dk_at dksX2_relocation_4 12 rfl rfl)
theorem dX2_relocation_107 : decode cX2_relocation 107 = .ok (.iaload, 1) := dk_46 (dk_at dksX2_relocation_4 14 rfl rfl)
theorem dX2_relocation_108 : decode cX2_relocation 108 = .ok (.goto 10, 3) := dk_167 0 10 (dk_at dksX2_relocation_4 15 rfl rfl)
theorem dX2_relocation_111 : decode cX2_relocation 111 = .ok (.aload_n 0, 1) := dk_42 (dk_at dksX2_relocation_4 18 rfl rfl)
theorem dX2_relocation_112 : decode cX2_relocation 112 = .ok (.getfield 62, 3) := dk_180 0 62 (dk_at dksX2_relocation_4 19 rfl rfl)
theorem dX2_relocation_115 : decode cX2_relocation 115 = .ok (.iload 4, 2) := dk_21 4 (dk_at dksX2_relocation_4 22 rfl rfl)
theorem dX2_relocation_117 : decode cX2_relocation 117 = .ok (.iaload, 1) := dk_46 (dk_at dksX2_relocation_5 0 rfl rfl)
theorem dX2_relocation_118 : decode cX2_relocation 118 = .ok (.ireturn, 1) := dk_172 (dk_at dksX2_relocation_5 1 rfl rfl)
abbrev cX2_link : ByteArray := prog_4_method_85_code
def yX2_link : MethodName := ⟨RX2, "link", "(I)I"⟩
def dkwX2_link_19 : List UInt8 := [181, 4, 187, 42, 42, 180, 3, 242, 181, 4, 190, 42, 4, 181, 4, 167, 28, 172]
abbrev dktX2_link_19 : List UInt8 := dkwX2_link_19 ++ []
def dkwX2_link_18 : List UInt8 := [42, 6, 29, 21, 4, 182, 4, 171, 172, 132, 4, 1, 167, 255, 217, 132, 3, 1, 167, 255, 200, 42, 28]
abbrev dktX2_link_18 : List UInt8 := dkwX2_link_18 ++ dktX2_link_19
def dkwX2_link_17 : List UInt8 := [180, 0, 24, 29, 46, 162, 0, 34, 42, 29, 17, 1, 0, 29, 104, 21, 4, 96, 182, 4, 184, 154, 0, 12]
abbrev dktX2_link_17 : List UInt8 := dkwX2_link_17 ++ dktX2_link_18
def dkwX2_link_16 : List UInt8 := [132, 3, 1, 167, 255, 168, 3, 62, 29, 42, 180, 3, 242, 162, 0, 54, 3, 54, 4, 21, 4, 42]
abbrev dktX2_link_16 : List UInt8 := dkwX2_link_16 ++ dktX2_link_17
def dkwX2_link_15 : List UInt8 := [5, 29, 104, 21, 4, 96, 104, 21, 5, 96, 51, 84, 132, 5, 1, 167, 255, 200, 132, 4, 1, 167, 255, 185]
abbrev dktX2_link_15 : List UInt8 := dkwX2_link_15 ++ dktX2_link_16
def dkwX2_link_14 : List UInt8 := [180, 0, 76, 42, 180, 0, 79, 6, 29, 104, 21, 4, 96, 46, 21, 5, 96, 42, 180, 0, 14, 17, 16, 0]
abbrev dktX2_link_14 : List UInt8 := dkwX2_link_14 ++ dktX2_link_15
def dkwX2_link_13 : List UInt8 := [162, 0, 71, 3, 54, 5, 21, 5, 42, 180, 0, 17, 6, 29, 104, 21, 4, 96, 46, 162, 0, 46, 42]
abbrev dktX2_link_13 : List UInt8 := dkwX2_link_13 ++ dktX2_link_14
def dkwX2_link_12 : List UInt8 := [132, 3, 1, 167, 255, 241, 3, 62, 29, 42, 180, 3, 242, 162, 0, 86, 3, 54, 4, 21, 4, 5]
abbrev dktX2_link_12 : List UInt8 := dkwX2_link_12 ++ dktX2_link_13
def dkwX2_link_11 : List UInt8 := [167, 255, 176, 132, 3, 1, 167, 255, 159, 3, 62, 29, 28, 162, 0, 16, 42, 180, 0, 76, 29, 3, 84]
abbrev dktX2_link_11 : List UInt8 := dkwX2_link_11 ++ dktX2_link_12
def dkwX2_link_10 : List UInt8 := [29, 21, 4, 182, 4, 171, 172, 42, 180, 0, 82, 21, 5, 42, 21, 6, 182, 4, 181, 79, 132, 4, 1]
abbrev dktX2_link_10 : List UInt8 := dkwX2_link_10 ++ dktX2_link_11
def dkwX2_link_9 : List UInt8 := [167, 0, 14, 42, 29, 21, 5, 42, 180, 3, 242, 182, 4, 178, 54, 6, 21, 6, 2, 160, 0, 12, 42, 5]
abbrev dktX2_link_9 : List UInt8 := dkwX2_link_9 ++ dktX2_link_10
def dkwX2_link_8 : List UInt8 := [16, 64, 29, 104, 21, 4, 96, 54, 5, 42, 180, 0, 40, 21, 5, 46, 2, 159, 0, 8, 21, 5]
abbrev dktX2_link_8 : List UInt8 := dkwX2_link_8 ++ dktX2_link_9
def dkwX2_link_7 : List UInt8 := [62, 29, 42, 180, 3, 242, 162, 0, 95, 3, 54, 4, 21, 4, 42, 180, 0, 21, 29, 46, 162, 0, 75]
abbrev dktX2_link_7 : List UInt8 := dkwX2_link_7 ++ dktX2_link_8
def dkwX2_link_6 : List UInt8 := [21, 4, 182, 4, 171, 172, 132, 4, 1, 167, 255, 185, 132, 3, 1, 167, 255, 168, 42, 27, 181, 4, 164, 3]
abbrev dktX2_link_6 : List UInt8 := dkwX2_link_6 ++ dktX2_link_7
def dkwX2_link_5 : List UInt8 := [159, 0, 29, 42, 29, 16, 64, 29, 104, 21, 4, 96, 29, 182, 4, 178, 2, 159, 0, 12, 42, 4, 29]
abbrev dktX2_link_5 : List UInt8 := dkwX2_link_5 ++ dktX2_link_6
def dkwX2_link_4 : List UInt8 := [16, 64, 29, 104, 21, 4, 96, 51, 153, 0, 45, 42, 180, 0, 40, 16, 64, 29, 104, 21, 4, 96, 46, 2]
abbrev dktX2_link_4 : List UInt8 := dkwX2_link_4 ++ dktX2_link_5
def dkwX2_link_3 : List UInt8 := [180, 3, 242, 162, 0, 86, 3, 54, 4, 21, 4, 42, 180, 0, 21, 29, 46, 162, 0, 66, 42, 180, 0, 46]
abbrev dktX2_link_3 : List UInt8 := dkwX2_link_3 ++ dktX2_link_4
def dkwX2_link_2 : List UInt8 := [182, 4, 175, 61, 28, 18, 75, 164, 0, 11, 42, 7, 2, 2, 182, 4, 171, 172, 3, 62, 29, 42]
abbrev dktX2_link_2 : List UInt8 := dkwX2_link_2 ++ dktX2_link_3
def dkwX2_link_1 : List UInt8 := [154, 0, 9, 42, 5, 182, 0, 94, 172, 42, 3, 181, 4, 167, 42, 3, 2, 2, 182, 4, 171, 87, 42]
abbrev dktX2_link_1 : List UInt8 := dkwX2_link_1 ++ dktX2_link_2
def dkwX2_link_0 : List UInt8 := [42, 3, 181, 0, 88, 27, 16, 7, 126, 153, 0, 9, 42, 4, 182, 0, 94, 172, 42, 180, 3, 242]
abbrev dktX2_link_0 : List UInt8 := dkwX2_link_0 ++ dktX2_link_1
theorem dksX2_link_0 : cX2_link.data.toList.drop 0 = dktX2_link_0 := by decide +kernel
theorem dksX2_link_1 : cX2_link.data.toList.drop 22 = dktX2_link_1 := dk_seg dksX2_link_0 22 rfl rfl
theorem dksX2_link_2 : cX2_link.data.toList.drop 45 = dktX2_link_2 := dk_seg dksX2_link_1 23 rfl rfl
theorem dksX2_link_3 : cX2_link.data.toList.drop 67 = dktX2_link_3 := dk_seg dksX2_link_2 22 rfl rfl
theorem dksX2_link_4 : cX2_link.data.toList.drop 91 = dktX2_link_4 := dk_seg dksX2_link_3 24 rfl rfl
theorem dksX2_link_5 : cX2_link.data.toList.drop 115 = dktX2_link_5 := dk_seg dksX2_link_4 24 rfl rfl
theorem dksX2_link_6 : cX2_link.data.toList.drop 138 = dktX2_link_6 := dk_seg dksX2_link_5 23 rfl rfl
theorem dksX2_link_7 : cX2_link.data.toList.drop 162 = dktX2_link_7 := dk_seg dksX2_link_6 24 rfl rfl
theorem dksX2_link_8 : cX2_link.data.toList.drop 185 = dktX2_link_8 := dk_seg dksX2_link_7 23 rfl rfl
theorem dksX2_link_9 : cX2_link.data.toList.drop 207 = dktX2_link_9 := dk_seg dksX2_link_8 22 rfl rfl
theorem dksX2_link_10 : cX2_link.data.toList.drop 231 = dktX2_link_10 := dk_seg dksX2_link_9 24 rfl rfl
theorem dksX2_link_11 : cX2_link.data.toList.drop 254 = dktX2_link_11 := dk_seg dksX2_link_10 23 rfl rfl
theorem dksX2_link_12 : cX2_link.data.toList.drop 277 = dktX2_link_12 := dk_seg dksX2_link_11 23 rfl rfl
theorem dksX2_link_13 : cX2_link.data.toList.drop 299 = dktX2_link_13 := dk_seg dksX2_link_12 22 rfl rfl
theorem dksX2_link_14 : cX2_link.data.toList.drop 322 = dktX2_link_14 := dk_seg dksX2_link_13 23 rfl rfl
theorem dksX2_link_15 : cX2_link.data.toList.drop 346 = dktX2_link_15 := dk_seg dksX2_link_14 24 rfl rfl
theorem dksX2_link_16 : cX2_link.data.toList.drop 370 = dktX2_link_16 := dk_seg dksX2_link_15 24 rfl rfl
theorem dksX2_link_17 : cX2_link.data.toList.drop 392 = dktX2_link_17 := dk_seg dksX2_link_16 22 rfl rfl
theorem dksX2_link_18 : cX2_link.data.toList.drop 416 = dktX2_link_18 := dk_seg dksX2_link_17 24 rfl rfl
theorem dksX2_link_19 : cX2_link.data.toList.drop 439 = dktX2_link_19 := dk_seg dksX2_link_18 23 rfl rfl
theorem dX2_link_0 : decode cX2_link 0 = .ok (.aload_n 0, 1) := dk_42 (dk_at dksX2_link_0 0 rfl rfl)
theorem dX2_link_1 : decode cX2_link 1 = .ok (.iconst 0, 1) := dk_3 (dk_at dksX2_link_0 1 rfl rfl)
theorem dX2_link_2 : decode cX2_link 2 = .ok (.putfield 88, 3) := dk_181 0 88 (dk_at dksX2_link_0 2 rfl rfl)
theorem dX2_link_5 : decode cX2_link 5 = .ok (.iload_n 1, 1) := dk_27 (dk_at dksX2_link_0 5 rfl rfl)
theorem dX2_link_6 : decode cX2_link 6 = .ok (.bipush 7, 2) := dk_16 7 (dk_at dksX2_link_0 6 rfl rfl)
theorem dX2_link_8 : decode cX2_link 8 = .ok (.iand, 1) := dk_126 (dk_at dksX2_link_0 8 rfl rfl)
theorem dX2_link_9 : decode cX2_link 9 = .ok (.ifCond .eq 9, 3) := dk_153 0 9 (dk_at dksX2_link_0 9 rfl rfl)
theorem dX2_link_12 : decode cX2_link 12 = .ok (.aload_n 0, 1) := dk_42 (dk_at dksX2_link_0 12 rfl rfl)
theorem dX2_link_13 : decode cX2_link 13 = .ok (.iconst 1, 1) := dk_4 (dk_at dksX2_link_0 13 rfl rfl)
theorem dX2_link_14 : decode cX2_link 14 = .ok (.invokevirtual 94, 3) := dk_182 0 94 (dk_at dksX2_link_0 14 rfl rfl)
theorem dX2_link_17 : decode cX2_link 17 = .ok (.ireturn, 1) := dk_172 (dk_at dksX2_link_0 17 rfl rfl)
theorem dX2_link_18 : decode cX2_link 18 = .ok (.aload_n 0, 1) := dk_42 (dk_at dksX2_link_0 18 rfl rfl)
theorem dX2_link_19 : decode cX2_link 19 = .ok (.getfield 1010, 3) := dk_180 3 242 (dk_at dksX2_link_0 19 rfl rfl)
theorem dX2_link_22 : decode cX2_link 22 = .ok (.ifCond .ne 9, 3) := dk_154 0 9 (dk_at dksX2_link_1 0 rfl rfl)
theorem dX2_link_25 : decode cX2_link 25 = .ok (.aload_n 0, 1) := dk_42 (dk_at dksX2_link_1 3 rfl rfl)
theorem dX2_link_26 : decode cX2_link 26 = .ok (.iconst 2, 1) := dk_5 (dk_at dksX2_link_1 4 rfl rfl)
theorem dX2_link_27 : decode cX2_link 27 = .ok (.invokevirtual 94, 3) := dk_182 0 94 (dk_at dksX2_link_1 5 rfl rfl)
theorem dX2_link_30 : decode cX2_link 30 = .ok (.ireturn, 1) := dk_172 (dk_at dksX2_link_1 8 rfl rfl)
theorem dX2_link_31 : decode cX2_link 31 = .ok (.aload_n 0, 1) := dk_42 (dk_at dksX2_link_1 9 rfl rfl)
theorem dX2_link_32 : decode cX2_link 32 = .ok (.iconst 0, 1) := dk_3 (dk_at dksX2_link_1 10 rfl rfl)
theorem dX2_link_33 : decode cX2_link 33 = .ok (.putfield 1191, 3) := dk_181 4 167 (dk_at dksX2_link_1 11 rfl rfl)
theorem dX2_link_36 : decode cX2_link 36 = .ok (.aload_n 0, 1) := dk_42 (dk_at dksX2_link_1 14 rfl rfl)
theorem dX2_link_37 : decode cX2_link 37 = .ok (.iconst 0, 1) := dk_3 (dk_at dksX2_link_1 15 rfl rfl)
theorem dX2_link_38 : decode cX2_link 38 = .ok (.iconst (-1), 1) := dk_2 (dk_at dksX2_link_1 16 rfl rfl)
theorem dX2_link_39 : decode cX2_link 39 = .ok (.iconst (-1), 1) := dk_2 (dk_at dksX2_link_1 17 rfl rfl)
theorem dX2_link_40 : decode cX2_link 40 = .ok (.invokevirtual 1195, 3) := dk_182 4 171 (dk_at dksX2_link_1 18 rfl rfl)
theorem dX2_link_43 : decode cX2_link 43 = .ok (.pop, 1) := dk_87 (dk_at dksX2_link_1 21 rfl rfl)
theorem dX2_link_44 : decode cX2_link 44 = .ok (.aload_n 0, 1) := dk_42 (dk_at dksX2_link_1 22 rfl rfl)
theorem dX2_link_45 : decode cX2_link 45 = .ok (.invokevirtual 1199, 3) := dk_182 4 175 (dk_at dksX2_link_2 0 rfl rfl)
theorem dX2_link_48 : decode cX2_link 48 = .ok (.istore_n 2, 1) := dk_61 (dk_at dksX2_link_2 3 rfl rfl)
theorem dX2_link_49 : decode cX2_link 49 = .ok (.iload_n 2, 1) := dk_28 (dk_at dksX2_link_2 4 rfl rfl)
theorem dX2_link_50 : decode cX2_link 50 = .ok (.ldc 75, 2) := dk_18 75 (dk_at dksX2_link_2 5 rfl rfl)
theorem dX2_link_52 : decode cX2_link 52 = .ok (.if_icmp .le 11, 3) := dk_164 0 11 (dk_at dksX2_link_2 7 rfl rfl)
theorem dX2_link_55 : decode cX2_link 55 = .ok (.aload_n 0, 1) := dk_42 (dk_at dksX2_link_2 10 rfl rfl)
theorem dX2_link_56 : decode cX2_link 56 = .ok (.iconst 4, 1) := dk_7 (dk_at dksX2_link_2 11 rfl rfl)
theorem dX2_link_57 : decode cX2_link 57 = .ok (.iconst (-1), 1) := dk_2 (dk_at dksX2_link_2 12 rfl rfl)
theorem dX2_link_58 : decode cX2_link 58 = .ok (.iconst (-1), 1) := dk_2 (dk_at dksX2_link_2 13 rfl rfl)
theorem dX2_link_59 : decode cX2_link 59 = .ok (.invokevirtual 1195, 3) := dk_182 4 171 (dk_at dksX2_link_2 14 rfl rfl)
theorem dX2_link_62 : decode cX2_link 62 = .ok (.ireturn, 1) := dk_172 (dk_at dksX2_link_2 17 rfl rfl)
theorem dX2_link_63 : decode cX2_link 63 = .ok (.iconst 0, 1) := dk_3 (dk_at dksX2_link_2 18 rfl rfl)
theorem dX2_link_64 : decode cX2_link 64 = .ok (.istore_n 3, 1) := dk_62 (dk_at dksX2_link_2 19 rfl rfl)
theorem dX2_link_65 : decode cX2_link 65 = .ok (.iload_n 3, 1) := dk_29 (dk_at dksX2_link_2 20 rfl rfl)
theorem dX2_link_66 : decode cX2_link 66 = .ok (.aload_n 0, 1) := dk_42 (dk_at dksX2_link_2 21 rfl rfl)
theorem dX2_link_67 : decode cX2_link 67 = .ok (.getfield 1010, 3) := dk_180 3 242 (dk_at dksX2_link_3 0 rfl rfl)
theorem dX2_link_70 : decode cX2_link 70 = .ok (.if_icmp .ge 86, 3) := dk_162 0 86 (dk_at dksX2_link_3 3 rfl rfl)
theorem dX2_link_73 : decode cX2_link 73 = .ok (.iconst 0, 1) := dk_3 (dk_at dksX2_link_3 6 rfl rfl)
theorem dX2_link_74 : decode cX2_link 74 = .ok (.istore 4, 2) := dk_54 4 (dk_at dksX2_link_3 7 rfl rfl)
theorem dX2_link_76 : decode cX2_link 76 = .ok (.iload 4, 2) := dk_21 4 (dk_at dksX2_link_3 9 rfl rfl)
theorem dX2_link_78 : decode cX2_link 78 = .ok (.aload_n 0, 1) := dk_42 (dk_at dksX2_link_3 11 rfl rfl)
theorem dX2_link_79 : decode cX2_link 79 = .ok (.getfield 21, 3) := dk_180 0 21 (dk_at dksX2_link_3 12 rfl rfl)
theorem dX2_link_82 : decode cX2_link 82 = .ok (.iload_n 3, 1) := dk_29 (dk_at dksX2_link_3 15 rfl rfl)
theorem dX2_link_83 : decode cX2_link 83 = .ok (.iaload, 1) := dk_46 (dk_at dksX2_link_3 16 rfl rfl)
theorem dX2_link_84 : decode cX2_link 84 = .ok (.if_icmp .ge 66, 3) := dk_162 0 66 (dk_at dksX2_link_3 17 rfl rfl)
theorem dX2_link_87 : decode cX2_link 87 = .ok (.aload_n 0, 1) := dk_42 (dk_at dksX2_link_3 20 rfl rfl)
theorem dX2_link_88 : decode cX2_link 88 = .ok (.getfield 46, 3) := dk_180 0 46 (dk_at dksX2_link_3 21 rfl rfl)
theorem dX2_link_91 : decode cX2_link 91 = .ok (.bipush 64, 2) := dk_16 64 (dk_at dksX2_link_4 0 rfl rfl)
theorem dX2_link_93 : decode cX2_link 93 = .ok (.iload_n 3, 1) := dk_29 (dk_at dksX2_link_4 2 rfl rfl)
theorem dX2_link_94 : decode cX2_link 94 = .ok (.imul, 1) := dk_104 (dk_at dksX2_link_4 3 rfl rfl)
theorem dX2_link_95 : decode cX2_link 95 = .ok (.iload 4, 2) := dk_21 4 (dk_at dksX2_link_4 4 rfl rfl)
theorem dX2_link_97 : decode cX2_link 97 = .ok (.iadd, 1) := dk_96 (dk_at dksX2_link_4 6 rfl rfl)
theorem dX2_link_98 : decode cX2_link 98 = .ok (.baload, 1) := dk_51 (dk_at dksX2_link_4 7 rfl rfl)
theorem dX2_link_99 : decode cX2_link 99 = .ok (.ifCond .eq 45, 3) := dk_153 0 45 (dk_at dksX2_link_4 8 rfl rfl)
theorem dX2_link_102 : decode cX2_link 102 = .ok (.aload_n 0, 1) := dk_42 (dk_at dksX2_link_4 11 rfl rfl)
theorem dX2_link_103 : decode cX2_link 103 = .ok (.getfield 40, 3) := dk_180 0 40 (dk_at dksX2_link_4 12 rfl rfl)
theorem dX2_link_106 : decode cX2_link 106 = .ok (.bipush 64, 2) := dk_16 64 (dk_at dksX2_link_4 15 rfl rfl)
theorem dX2_link_108 : decode cX2_link 108 = .ok (.iload_n 3, 1) := dk_29 (dk_at dksX2_link_4 17 rfl rfl)
theorem dX2_link_109 : decode cX2_link 109 = .ok (.imul, 1) := dk_104 (dk_at dksX2_link_4 18 rfl rfl)
theorem dX2_link_110 : decode cX2_link 110 = .ok (.iload 4, 2) := dk_21 4 (dk_at dksX2_link_4 19 rfl rfl)
theorem dX2_link_112 : decode cX2_link 112 = .ok (.iadd, 1) := dk_96 (dk_at dksX2_link_4 21 rfl rfl)
theorem dX2_link_113 : decode cX2_link 113 = .ok (.iaload, 1) := dk_46 (dk_at dksX2_link_4 22 rfl rfl)
theorem dX2_link_114 : decode cX2_link 114 = .ok (.iconst (-1), 1) := dk_2 (dk_at dksX2_link_4 23 rfl rfl)
theorem dX2_link_115 : decode cX2_link 115 = .ok (.if_icmp .eq 29, 3) := dk_159 0 29 (dk_at dksX2_link_5 0 rfl rfl)
theorem dX2_link_118 : decode cX2_link 118 = .ok (.aload_n 0, 1) := dk_42 (dk_at dksX2_link_5 3 rfl rfl)
theorem dX2_link_119 : decode cX2_link 119 = .ok (.iload_n 3, 1) := dk_29 (dk_at dksX2_link_5 4 rfl rfl)
theorem dX2_link_120 : decode cX2_link 120 = .ok (.bipush 64, 2) := dk_16 64 (dk_at dksX2_link_5 5 rfl rfl)
theorem dX2_link_122 : decode cX2_link 122 = .ok (.iload_n 3, 1) := dk_29 (dk_at dksX2_link_5 7 rfl rfl)
theorem dX2_link_123 : decode cX2_link 123 = .ok (.imul, 1) := dk_104 (dk_at dksX2_link_5 8 rfl rfl)
theorem dX2_link_124 : decode cX2_link 124 = .ok (.iload 4, 2) := dk_21 4 (dk_at dksX2_link_5 9 rfl rfl)
theorem dX2_link_126 : decode cX2_link 126 = .ok (.iadd, 1) := dk_96 (dk_at dksX2_link_5 11 rfl rfl)
theorem dX2_link_127 : decode cX2_link 127 = .ok (.iload_n 3, 1) := dk_29 (dk_at dksX2_link_5 12 rfl rfl)
theorem dX2_link_128 : decode cX2_link 128 = .ok (.invokevirtual 1202, 3) := dk_182 4 178 (dk_at dksX2_link_5 13 rfl rfl)
theorem dX2_link_131 : decode cX2_link 131 = .ok (.iconst (-1), 1) := dk_2 (dk_at dksX2_link_5 16 rfl rfl)
theorem dX2_link_132 : decode cX2_link 132 = .ok (.if_icmp .eq 12, 3) := dk_159 0 12 (dk_at dksX2_link_5 17 rfl rfl)
theorem dX2_link_135 : decode cX2_link 135 = .ok (.aload_n 0, 1) := dk_42 (dk_at dksX2_link_5 20 rfl rfl)
theorem dX2_link_136 : decode cX2_link 136 = .ok (.iconst 1, 1) := dk_4 (dk_at dksX2_link_5 21 rfl rfl)
theorem dX2_link_137 : decode cX2_link 137 = .ok (.iload_n 3, 1) := dk_29 (dk_at dksX2_link_5 22 rfl rfl)
theorem dX2_link_138 : decode cX2_link 138 = .ok (.iload 4, 2) := dk_21 4 (dk_at dksX2_link_6 0 rfl rfl)
theorem dX2_link_140 : decode cX2_link 140 = .ok (.invokevirtual 1195, 3) := dk_182 4 171 (dk_at dksX2_link_6 2 rfl rfl)
theorem dX2_link_143 : decode cX2_link 143 = .ok (.ireturn, 1) := dk_172 (dk_at dksX2_link_6 5 rfl rfl)
theorem dX2_link_144 : decode cX2_link 144 = .ok (.iinc 4 1, 3) := dk_132 4 1 (dk_at dksX2_link_6 6 rfl rfl)
theorem dX2_link_147 : decode cX2_link 147 = .ok (.goto (-71), 3) := dk_167 255 185 (dk_at dksX2_link_6 9 rfl rfl)
theorem dX2_link_150 : decode cX2_link 150 = .ok (.iinc 3 1, 3) := dk_132 3 1 (dk_at dksX2_link_6 12 rfl rfl)
theorem dX2_link_153 : decode cX2_link 153 = .ok (.goto (-88), 3) := dk_167 255 168 (dk_at dksX2_link_6 15 rfl rfl)
theorem dX2_link_156 : decode cX2_link 156 = .ok (.aload_n 0, 1) := dk_42 (dk_at dksX2_link_6 18 rfl rfl)
theorem dX2_link_157 : decode cX2_link 157 = .ok (.iload_n 1, 1) := dk_27 (dk_at dksX2_link_6 19 rfl rfl)
theorem dX2_link_158 : decode cX2_link 158 = .ok (.putfield 1188, 3) := dk_181 4 164 (dk_at dksX2_link_6 20 rfl rfl)
theorem dX2_link_161 : decode cX2_link 161 = .ok (.iconst 0, 1) := dk_3 (dk_at dksX2_link_6 23 rfl rfl)
theorem dX2_link_162 : decode cX2_link 162 = .ok (.istore_n 3, 1) := dk_62 (dk_at dksX2_link_7 0 rfl rfl)
theorem dX2_link_163 : decode cX2_link 163 = .ok (.iload_n 3, 1) := dk_29 (dk_at dksX2_link_7 1 rfl rfl)
theorem dX2_link_164 : decode cX2_link 164 = .ok (.aload_n 0, 1) := dk_42 (dk_at dksX2_link_7 2 rfl rfl)
theorem dX2_link_165 : decode cX2_link 165 = .ok (.getfield 1010, 3) := dk_180 3 242 (dk_at dksX2_link_7 3 rfl rfl)
theorem dX2_link_168 : decode cX2_link 168 = .ok (.if_icmp .ge 95, 3) := dk_162 0 95 (dk_at dksX2_link_7 6 rfl rfl)
theorem dX2_link_171 : decode cX2_link 171 = .ok (.iconst 0, 1) := dk_3 (dk_at dksX2_link_7 9 rfl rfl)
theorem dX2_link_172 : decode cX2_link 172 = .ok (.istore 4, 2) := dk_54 4 (dk_at dksX2_link_7 10 rfl rfl)
theorem dX2_link_174 : decode cX2_link 174 = .ok (.iload 4, 2) := dk_21 4 (dk_at dksX2_link_7 12 rfl rfl)
theorem dX2_link_176 : decode cX2_link 176 = .ok (.aload_n 0, 1) := dk_42 (dk_at dksX2_link_7 14 rfl rfl)
theorem dX2_link_177 : decode cX2_link 177 = .ok (.getfield 21, 3) := dk_180 0 21 (dk_at dksX2_link_7 15 rfl rfl)
theorem dX2_link_180 : decode cX2_link 180 = .ok (.iload_n 3, 1) := dk_29 (dk_at dksX2_link_7 18 rfl rfl)
theorem dX2_link_181 : decode cX2_link 181 = .ok (.iaload, 1) := dk_46 (dk_at dksX2_link_7 19 rfl rfl)
theorem dX2_link_182 : decode cX2_link 182 = .ok (.if_icmp .ge 75, 3) := dk_162 0 75 (dk_at dksX2_link_7 20 rfl rfl)
theorem dX2_link_185 : decode cX2_link 185 = .ok (.bipush 64, 2) := dk_16 64 (dk_at dksX2_link_8 0 rfl rfl)
theorem dX2_link_187 : decode cX2_link 187 = .ok (.iload_n 3, 1) := dk_29 (dk_at dksX2_link_8 2 rfl rfl)
theorem dX2_link_188 : decode cX2_link 188 = .ok (.imul, 1) := dk_104 (dk_at dksX2_link_8 3 rfl rfl)
theorem dX2_link_189 : decode cX2_link 189 = .ok (.iload 4, 2) := dk_21 4 (dk_at dksX2_link_8 4 rfl rfl)
theorem dX2_link_191 : decode cX2_link 191 = .ok (.iadd, 1) := dk_96 (dk_at dksX2_link_8 6 rfl rfl)
theorem dX2_link_192 : decode cX2_link 192 = .ok (.istore 5, 2) := dk_54 5 (dk_at dksX2_link_8 7 rfl rfl)
theorem dX2_link_194 : decode cX2_link 194 = .ok (.aload_n 0, 1) := dk_42 (dk_at dksX2_link_8 9 rfl rfl)
theorem dX2_link_195 : decode cX2_link 195 = .ok (.getfield 40, 3) := dk_180 0 40 (dk_at dksX2_link_8 10 rfl rfl)
theorem dX2_link_198 : decode cX2_link 198 = .ok (.iload 5, 2) := dk_21 5 (dk_at dksX2_link_8 13 rfl rfl)
theorem dX2_link_200 : decode cX2_link 200 = .ok (.iaload, 1) := dk_46 (dk_at dksX2_link_8 15 rfl rfl)
theorem dX2_link_201 : decode cX2_link 201 = .ok (.iconst (-1), 1) := dk_2 (dk_at dksX2_link_8 16 rfl rfl)
theorem dX2_link_202 : decode cX2_link 202 = .ok (.if_icmp .eq 8, 3) := dk_159 0 8 (dk_at dksX2_link_8 17 rfl rfl)
theorem dX2_link_205 : decode cX2_link 205 = .ok (.iload 5, 2) := dk_21 5 (dk_at dksX2_link_8 20 rfl rfl)
theorem dX2_link_207 : decode cX2_link 207 = .ok (.goto 14, 3) := dk_167 0 14 (dk_at dksX2_link_9 0 rfl rfl)
theorem dX2_link_210 : decode cX2_link 210 = .ok (.aload_n 0, 1) := dk_42 (dk_at dksX2_link_9 3 rfl rfl)
theorem dX2_link_211 : decode cX2_link 211 = .ok (.iload_n 3, 1) := dk_29 (dk_at dksX2_link_9 4 rfl rfl)
theorem dX2_link_212 : decode cX2_link 212 = .ok (.iload 5, 2) := dk_21 5 (dk_at dksX2_link_9 5 rfl rfl)
theorem dX2_link_214 : decode cX2_link 214 = .ok (.aload_n 0, 1) := dk_42 (dk_at dksX2_link_9 7 rfl rfl)
theorem dX2_link_215 : decode cX2_link 215 = .ok (.getfield 1010, 3) := dk_180 3 242 (dk_at dksX2_link_9 8 rfl rfl)
theorem dX2_link_218 : decode cX2_link 218 = .ok (.invokevirtual 1202, 3) := dk_182 4 178 (dk_at dksX2_link_9 11 rfl rfl)
theorem dX2_link_221 : decode cX2_link 221 = .ok (.istore 6, 2) := dk_54 6 (dk_at dksX2_link_9 14 rfl rfl)
theorem dX2_link_223 : decode cX2_link 223 = .ok (.iload 6, 2) := dk_21 6 (dk_at dksX2_link_9 16 rfl rfl)
theorem dX2_link_225 : decode cX2_link 225 = .ok (.iconst (-1), 1) := dk_2 (dk_at dksX2_link_9 18 rfl rfl)
theorem dX2_link_226 : decode cX2_link 226 = .ok (.if_icmp .ne 12, 3) := dk_160 0 12 (dk_at dksX2_link_9 19 rfl rfl)
theorem dX2_link_229 : decode cX2_link 229 = .ok (.aload_n 0, 1) := dk_42 (dk_at dksX2_link_9 22 rfl rfl)
theorem dX2_link_230 : decode cX2_link 230 = .ok (.iconst 2, 1) := dk_5 (dk_at dksX2_link_9 23 rfl rfl)
theorem dX2_link_231 : decode cX2_link 231 = .ok (.iload_n 3, 1) := dk_29 (dk_at dksX2_link_10 0 rfl rfl)
theorem dX2_link_232 : decode cX2_link 232 = .ok (.iload 4, 2) := dk_21 4 (dk_at dksX2_link_10 1 rfl rfl)
theorem dX2_link_234 : decode cX2_link 234 = .ok (.invokevirtual 1195, 3) := dk_182 4 171 (dk_at dksX2_link_10 3 rfl rfl)
theorem dX2_link_237 : decode cX2_link 237 = .ok (.ireturn, 1) := dk_172 (dk_at dksX2_link_10 6 rfl rfl)
theorem dX2_link_238 : decode cX2_link 238 = .ok (.aload_n 0, 1) := dk_42 (dk_at dksX2_link_10 7 rfl rfl)
theorem dX2_link_239 : decode cX2_link 239 = .ok (.getfield 82, 3) := dk_180 0 82 (dk_at dksX2_link_10 8 rfl rfl)
theorem dX2_link_242 : decode cX2_link 242 = .ok (.iload 5, 2) := dk_21 5 (dk_at dksX2_link_10 11 rfl rfl)
theorem dX2_link_244 : decode cX2_link 244 = .ok (.aload_n 0, 1) := dk_42 (dk_at dksX2_link_10 13 rfl rfl)
theorem dX2_link_245 : decode cX2_link 245 = .ok (.iload 6, 2) := dk_21 6 (dk_at dksX2_link_10 14 rfl rfl)
theorem dX2_link_247 : decode cX2_link 247 = .ok (.invokevirtual 1205, 3) := dk_182 4 181 (dk_at dksX2_link_10 16 rfl rfl)
theorem dX2_link_250 : decode cX2_link 250 = .ok (.iastore, 1) := dk_79 (dk_at dksX2_link_10 19 rfl rfl)
theorem dX2_link_251 : decode cX2_link 251 = .ok (.iinc 4 1, 3) := dk_132 4 1 (dk_at dksX2_link_10 20 rfl rfl)
theorem dX2_link_254 : decode cX2_link 254 = .ok (.goto (-80), 3) := dk_167 255 176 (dk_at dksX2_link_11 0 rfl rfl)
theorem dX2_link_257 : decode cX2_link 257 = .ok (.iinc 3 1, 3) := dk_132 3 1 (dk_at dksX2_link_11 3 rfl rfl)
theorem dX2_link_260 : decode cX2_link 260 = .ok (.goto (-97), 3) := dk_167 255 159 (dk_at dksX2_link_11 6 rfl rfl)
theorem dX2_link_263 : decode cX2_link 263 = .ok (.iconst 0, 1) := dk_3 (dk_at dksX2_link_11 9 rfl rfl)
theorem dX2_link_264 : decode cX2_link 264 = .ok (.istore_n 3, 1) := dk_62 (dk_at dksX2_link_11 10 rfl rfl)
theorem dX2_link_265 : decode cX2_link 265 = .ok (.iload_n 3, 1) := dk_29 (dk_at dksX2_link_11 11 rfl rfl)
theorem dX2_link_266 : decode cX2_link 266 = .ok (.iload_n 2, 1) := dk_28 (dk_at dksX2_link_11 12 rfl rfl)
theorem dX2_link_267 : decode cX2_link 267 = .ok (.if_icmp .ge 16, 3) := dk_162 0 16 (dk_at dksX2_link_11 13 rfl rfl)
theorem dX2_link_270 : decode cX2_link 270 = .ok (.aload_n 0, 1) := dk_42 (dk_at dksX2_link_11 16 rfl rfl)
theorem dX2_link_271 : decode cX2_link 271 = .ok (.getfield 76, 3) := dk_180 0 76 (dk_at dksX2_link_11 17 rfl rfl)
theorem dX2_link_274 : decode cX2_link 274 = .ok (.iload_n 3, 1) := dk_29 (dk_at dksX2_link_11 20 rfl rfl)
theorem dX2_link_275 : decode cX2_link 275 = .ok (.iconst 0, 1) := dk_3 (dk_at dksX2_link_11 21 rfl rfl)
theorem dX2_link_276 : decode cX2_link 276 = .ok (.bastore, 1) := dk_84 (dk_at dksX2_link_11 22 rfl rfl)
theorem dX2_link_277 : decode cX2_link 277 = .ok (.iinc 3 1, 3) := dk_132 3 1 (dk_at dksX2_link_12 0 rfl rfl)
theorem dX2_link_280 : decode cX2_link 280 = .ok (.goto (-15), 3) := dk_167 255 241 (dk_at dksX2_link_12 3 rfl rfl)
theorem dX2_link_283 : decode cX2_link 283 = .ok (.iconst 0, 1) := dk_3 (dk_at dksX2_link_12 6 rfl rfl)
theorem dX2_link_284 : decode cX2_link 284 = .ok (.istore_n 3, 1) := dk_62 (dk_at dksX2_link_12 7 rfl rfl)
theorem dX2_link_285 : decode cX2_link 285 = .ok (.iload_n 3, 1) := dk_29 (dk_at dksX2_link_12 8 rfl rfl)
theorem dX2_link_286 : decode cX2_link 286 = .ok (.aload_n 0, 1) := dk_42 (dk_at dksX2_link_12 9 rfl rfl)
theorem dX2_link_287 : decode cX2_link 287 = .ok (.getfield 1010, 3) := dk_180 3 242 (dk_at dksX2_link_12 10 rfl rfl)
theorem dX2_link_290 : decode cX2_link 290 = .ok (.if_icmp .ge 86, 3) := dk_162 0 86 (dk_at dksX2_link_12 13 rfl rfl)
theorem dX2_link_293 : decode cX2_link 293 = .ok (.iconst 0, 1) := dk_3 (dk_at dksX2_link_12 16 rfl rfl)
theorem dX2_link_294 : decode cX2_link 294 = .ok (.istore 4, 2) := dk_54 4 (dk_at dksX2_link_12 17 rfl rfl)
theorem dX2_link_296 : decode cX2_link 296 = .ok (.iload 4, 2) := dk_21 4 (dk_at dksX2_link_12 19 rfl rfl)
theorem dX2_link_298 : decode cX2_link 298 = .ok (.iconst 2, 1) := dk_5 (dk_at dksX2_link_12 21 rfl rfl)
theorem dX2_link_299 : decode cX2_link 299 = .ok (.if_icmp .ge 71, 3) := dk_162 0 71 (dk_at dksX2_link_13 0 rfl rfl)
theorem dX2_link_302 : decode cX2_link 302 = .ok (.iconst 0, 1) := dk_3 (dk_at dksX2_link_13 3 rfl rfl)
theorem dX2_link_303 : decode cX2_link 303 = .ok (.istore 5, 2) := dk_54 5 (dk_at dksX2_link_13 4 rfl rfl)
theorem dX2_link_305 : decode cX2_link 305 = .ok (.iload 5, 2) := dk_21 5 (dk_at dksX2_link_13 6 rfl rfl)
theorem dX2_link_307 : decode cX2_link 307 = .ok (.aload_n 0, 1) := dk_42 (dk_at dksX2_link_13 8 rfl rfl)
theorem dX2_link_308 : decode cX2_link 308 = .ok (.getfield 17, 3) := dk_180 0 17 (dk_at dksX2_link_13 9 rfl rfl)
theorem dX2_link_311 : decode cX2_link 311 = .ok (.iconst 3, 1) := dk_6 (dk_at dksX2_link_13 12 rfl rfl)
theorem dX2_link_312 : decode cX2_link 312 = .ok (.iload_n 3, 1) := dk_29 (dk_at dksX2_link_13 13 rfl rfl)
theorem dX2_link_313 : decode cX2_link 313 = .ok (.imul, 1) := dk_104 (dk_at dksX2_link_13 14 rfl rfl)
theorem dX2_link_314 : decode cX2_link 314 = .ok (.iload 4, 2) := dk_21 4 (dk_at dksX2_link_13 15 rfl rfl)
theorem dX2_link_316 : decode cX2_link 316 = .ok (.iadd, 1) := dk_96 (dk_at dksX2_link_13 17 rfl rfl)
theorem dX2_link_317 : decode cX2_link 317 = .ok (.iaload, 1) := dk_46 (dk_at dksX2_link_13 18 rfl rfl)
theorem dX2_link_318 : decode cX2_link 318 = .ok (.if_icmp .ge 46, 3) := dk_162 0 46 (dk_at dksX2_link_13 19 rfl rfl)
theorem dX2_link_321 : decode cX2_link 321 = .ok (.aload_n 0, 1) := dk_42 (dk_at dksX2_link_13 22 rfl rfl)
theorem dX2_link_322 : decode cX2_link 322 = .ok (.getfield 76, 3) := dk_180 0 76 (dk_at dksX2_link_14 0 rfl rfl)
theorem dX2_link_325 : decode cX2_link 325 = .ok (.aload_n 0, 1) := dk_42 (dk_at dksX2_link_14 3 rfl rfl)
theorem dX2_link_326 : decode cX2_link 326 = .ok (.getfield 79, 3) := dk_180 0 79 (dk_at dksX2_link_14 4 rfl rfl)
theorem dX2_link_329 : decode cX2_link 329 = .ok (.iconst 3, 1) := dk_6 (dk_at dksX2_link_14 7 rfl rfl)
theorem dX2_link_330 : decode cX2_link 330 = .ok (.iload_n 3, 1) := dk_29 (dk_at dksX2_link_14 8 rfl rfl)
theorem dX2_link_331 : decode cX2_link 331 = .ok (.imul, 1) := dk_104 (dk_at dksX2_link_14 9 rfl rfl)
theorem dX2_link_332 : decode cX2_link 332 = .ok (.iload 4, 2) := dk_21 4 (dk_at dksX2_link_14 10 rfl rfl)
theorem dX2_link_334 : decode cX2_link 334 = .ok (.iadd, 1) := dk_96 (dk_at dksX2_link_14 12 rfl rfl)
theorem dX2_link_335 : decode cX2_link 335 = .ok (.iaload, 1) := dk_46 (dk_at dksX2_link_14 13 rfl rfl)
theorem dX2_link_336 : decode cX2_link 336 = .ok (.iload 5, 2) := dk_21 5 (dk_at dksX2_link_14 14 rfl rfl)
theorem dX2_link_338 : decode cX2_link 338 = .ok (.iadd, 1) := dk_96 (dk_at dksX2_link_14 16 rfl rfl)
theorem dX2_link_339 : decode cX2_link 339 = .ok (.aload_n 0, 1) := dk_42 (dk_at dksX2_link_14 17 rfl rfl)
theorem dX2_link_340 : decode cX2_link 340 = .ok (.getfield 14, 3) := dk_180 0 14 (dk_at dksX2_link_14 18 rfl rfl)
theorem dX2_link_343 : decode cX2_link 343 = .ok (.sipush 4096, 3) := dk_17 16 0 (dk_at dksX2_link_14 21 rfl rfl)
theorem dX2_link_346 : decode cX2_link 346 = .ok (.iconst 2, 1) := dk_5 (dk_at dksX2_link_15 0 rfl rfl)
theorem dX2_link_347 : decode cX2_link 347 = .ok (.iload_n 3, 1) := dk_29 (dk_at dksX2_link_15 1 rfl rfl)
theorem dX2_link_348 : decode cX2_link 348 = .ok (.imul, 1) := dk_104 (dk_at dksX2_link_15 2 rfl rfl)
theorem dX2_link_349 : decode cX2_link 349 = .ok (.iload 4, 2) := dk_21 4 (dk_at dksX2_link_15 3 rfl rfl)
theorem dX2_link_351 : decode cX2_link 351 = .ok (.iadd, 1) := dk_96 (dk_at dksX2_link_15 5 rfl rfl)
theorem dX2_link_352 : decode cX2_link 352 = .ok (.imul, 1) := dk_104 (dk_at dksX2_link_15 6 rfl rfl)
theorem dX2_link_353 : decode cX2_link 353 = .ok (.iload 5, 2) := dk_21 5 (dk_at dksX2_link_15 7 rfl rfl)
theorem dX2_link_355 : decode cX2_link 355 = .ok (.iadd, 1) := dk_96 (dk_at dksX2_link_15 9 rfl rfl)
theorem dX2_link_356 : decode cX2_link 356 = .ok (.baload, 1) := dk_51 (dk_at dksX2_link_15 10 rfl rfl)
theorem dX2_link_357 : decode cX2_link 357 = .ok (.bastore, 1) := dk_84 (dk_at dksX2_link_15 11 rfl rfl)
theorem dX2_link_358 : decode cX2_link 358 = .ok (.iinc 5 1, 3) := dk_132 5 1 (dk_at dksX2_link_15 12 rfl rfl)
theorem dX2_link_361 : decode cX2_link 361 = .ok (.goto (-56), 3) := dk_167 255 200 (dk_at dksX2_link_15 15 rfl rfl)
theorem dX2_link_364 : decode cX2_link 364 = .ok (.iinc 4 1, 3) := dk_132 4 1 (dk_at dksX2_link_15 18 rfl rfl)
theorem dX2_link_367 : decode cX2_link 367 = .ok (.goto (-71), 3) := dk_167 255 185 (dk_at dksX2_link_15 21 rfl rfl)
theorem dX2_link_370 : decode cX2_link 370 = .ok (.iinc 3 1, 3) := dk_132 3 1 (dk_at dksX2_link_16 0 rfl rfl)
theorem dX2_link_373 : decode cX2_link 373 = .ok (.goto (-88), 3) := dk_167 255 168 (dk_at dksX2_link_16 3 rfl rfl)
theorem dX2_link_376 : decode cX2_link 376 = .ok (.iconst 0, 1) := dk_3 (dk_at dksX2_link_16 6 rfl rfl)
theorem dX2_link_377 : decode cX2_link 377 = .ok (.istore_n 3, 1) := dk_62 (dk_at dksX2_link_16 7 rfl rfl)
theorem dX2_link_378 : decode cX2_link 378 = .ok (.iload_n 3, 1) := dk_29 (dk_at dksX2_link_16 8 rfl rfl)
theorem dX2_link_379 : decode cX2_link 379 = .ok (.aload_n 0, 1) := dk_42 (dk_at dksX2_link_16 9 rfl rfl)
theorem dX2_link_380 : decode cX2_link 380 = .ok (.getfield 1010, 3) := dk_180 3 242 (dk_at dksX2_link_16 10 rfl rfl)
theorem dX2_link_383 : decode cX2_link 383 = .ok (.if_icmp .ge 54, 3) := dk_162 0 54 (dk_at dksX2_link_16 13 rfl rfl)
theorem dX2_link_386 : decode cX2_link 386 = .ok (.iconst 0, 1) := dk_3 (dk_at dksX2_link_16 16 rfl rfl)
theorem dX2_link_387 : decode cX2_link 387 = .ok (.istore 4, 2) := dk_54 4 (dk_at dksX2_link_16 17 rfl rfl)
theorem dX2_link_389 : decode cX2_link 389 = .ok (.iload 4, 2) := dk_21 4 (dk_at dksX2_link_16 19 rfl rfl)
theorem dX2_link_391 : decode cX2_link 391 = .ok (.aload_n 0, 1) := dk_42 (dk_at dksX2_link_16 21 rfl rfl)
theorem dX2_link_392 : decode cX2_link 392 = .ok (.getfield 24, 3) := dk_180 0 24 (dk_at dksX2_link_17 0 rfl rfl)
theorem dX2_link_395 : decode cX2_link 395 = .ok (.iload_n 3, 1) := dk_29 (dk_at dksX2_link_17 3 rfl rfl)
theorem dX2_link_396 : decode cX2_link 396 = .ok (.iaload, 1) := dk_46 (dk_at dksX2_link_17 4 rfl rfl)
theorem dX2_link_397 : decode cX2_link 397 = .ok (.if_icmp .ge 34, 3) := dk_162 0 34 (dk_at dksX2_link_17 5 rfl rfl)
theorem dX2_link_400 : decode cX2_link 400 = .ok (.aload_n 0, 1) := dk_42 (dk_at dksX2_link_17 8 rfl rfl)
theorem dX2_link_401 : decode cX2_link 401 = .ok (.iload_n 3, 1) := dk_29 (dk_at dksX2_link_17 9 rfl rfl)
theorem dX2_link_402 : decode cX2_link 402 = .ok (.sipush 256, 3) := dk_17 1 0 (dk_at dksX2_link_17 10 rfl rfl)
theorem dX2_link_405 : decode cX2_link 405 = .ok (.iload_n 3, 1) := dk_29 (dk_at dksX2_link_17 13 rfl rfl)
theorem dX2_link_406 : decode cX2_link 406 = .ok (.imul, 1) := dk_104 (dk_at dksX2_link_17 14 rfl rfl)
theorem dX2_link_407 : decode cX2_link 407 = .ok (.iload 4, 2) := dk_21 4 (dk_at dksX2_link_17 15 rfl rfl)
theorem dX2_link_409 : decode cX2_link 409 = .ok (.iadd, 1) := dk_96 (dk_at dksX2_link_17 17 rfl rfl)
theorem dX2_link_410 : decode cX2_link 410 = .ok (.invokevirtual 1208, 3) := dk_182 4 184 (dk_at dksX2_link_17 18 rfl rfl)
theorem dX2_link_413 : decode cX2_link 413 = .ok (.ifCond .ne 12, 3) := dk_154 0 12 (dk_at dksX2_link_17 21 rfl rfl)
theorem dX2_link_416 : decode cX2_link 416 = .ok (.aload_n 0, 1) := dk_42 (dk_at dksX2_link_18 0 rfl rfl)
theorem dX2_link_417 : decode cX2_link 417 = .ok (.iconst 3, 1) := dk_6 (dk_at dksX2_link_18 1 rfl rfl)
theorem dX2_link_418 : decode cX2_link 418 = .ok (.iload_n 3, 1) := dk_29 (dk_at dksX2_link_18 2 rfl rfl)
theorem dX2_link_419 : decode cX2_link 419 = .ok (.iload 4, 2) := dk_21 4 (dk_at dksX2_link_18 3 rfl rfl)
theorem dX2_link_421 : decode cX2_link 421 = .ok (.invokevirtual 1195, 3) := dk_182 4 171 (dk_at dksX2_link_18 5 rfl rfl)
theorem dX2_link_424 : decode cX2_link 424 = .ok (.ireturn, 1) := dk_172 (dk_at dksX2_link_18 8 rfl rfl)
theorem dX2_link_425 : decode cX2_link 425 = .ok (.iinc 4 1, 3) := dk_132 4 1 (dk_at dksX2_link_18 9 rfl rfl)
theorem dX2_link_428 : decode cX2_link 428 = .ok (.goto (-39), 3) := dk_167 255 217 (dk_at dksX2_link_18 12 rfl rfl)
theorem dX2_link_431 : decode cX2_link 431 = .ok (.iinc 3 1, 3) := dk_132 3 1 (dk_at dksX2_link_18 15 rfl rfl)
theorem dX2_link_434 : decode cX2_link 434 = .ok (.goto (-56), 3) := dk_167 255 200 (dk_at dksX2_link_18 18 rfl rfl)
theorem dX2_link_437 : decode cX2_link 437 = .ok (.aload_n 0, 1) := dk_42 (dk_at dksX2_link_18 21 rfl rfl)
theorem dX2_link_438 : decode cX2_link 438 = .ok (.iload_n 2, 1) := dk_28 (dk_at dksX2_link_18 22 rfl rfl)
theorem dX2_link_439 : decode cX2_link 439 = .ok (.putfield 1211, 3) := dk_181 4 187 (dk_at dksX2_link_19 0 rfl rfl)
theorem dX2_link_442 : decode cX2_link 442 = .ok (.aload_n 0, 1) := dk_42 (dk_at dksX2_link_19 3 rfl rfl)
theorem dX2_link_443 : decode cX2_link 443 = .ok (.aload_n 0, 1) := dk_42 (dk_at dksX2_link_19 4 rfl rfl)
theorem dX2_link_444 : decode cX2_link 444 = .ok (.getfield 1010, 3) := dk_180 3 242 (dk_at dksX2_link_19 5 rfl rfl)
theorem dX2_link_447 : decode cX2_link 447 = .ok (.putfield 1214, 3) := dk_181 4 190 (dk_at dksX2_link_19 8 rfl rfl)
theorem dX2_link_450 : decode cX2_link 450 = .ok (.aload_n 0, 1) := dk_42 (dk_at dksX2_link_19 11 rfl rfl)
theorem dX2_link_451 : decode cX2_link 451 = .ok (.iconst 1, 1) := dk_4 (dk_at dksX2_link_19 12 rfl rfl)
theorem dX2_link_452 : decode cX2_link 452 = .ok (.putfield 1191, 3) := dk_181 4 167 (dk_at dksX2_link_19 13 rfl rfl)
theorem dX2_link_455 : decode cX2_link 455 = .ok (.iload_n 2, 1) := dk_28 (dk_at dksX2_link_19 16 rfl rfl)
theorem dX2_link_456 : decode cX2_link 456 = .ok (.ireturn, 1) := dk_172 (dk_at dksX2_link_19 17 rfl rfl)
abbrev cX2_failed : ByteArray := prog_4_method_80_code
def yX2_failed : MethodName := ⟨RX2, "failed", "(III)I"⟩
def dkwX2_failed_0 : List UInt8 := [42, 27, 181, 4, 154, 42, 28, 181, 0, 68, 42, 29, 181, 0, 72, 2, 172]
abbrev dktX2_failed_0 : List UInt8 := dkwX2_failed_0 ++ []
theorem dksX2_failed_0 : cX2_failed.data.toList.drop 0 = dktX2_failed_0 := by decide +kernel
theorem dX2_failed_0 : decode cX2_failed 0 = .ok (.aload_n 0, 1) := dk_42 (dk_at dksX2_failed_0 0 rfl rfl)
theorem dX2_failed_1 : decode cX2_failed 1 = .ok (.iload_n 1, 1) := dk_27 (dk_at dksX2_failed_0 1 rfl rfl)
theorem dX2_failed_2 : decode cX2_failed 2 = .ok (.putfield 1178, 3) := dk_181 4 154 (dk_at dksX2_failed_0 2 rfl rfl)
theorem dX2_failed_5 : decode cX2_failed 5 = .ok (.aload_n 0, 1) := dk_42 (dk_at dksX2_failed_0 5 rfl rfl)
theorem dX2_failed_6 : decode cX2_failed 6 = .ok (.iload_n 2, 1) := dk_28 (dk_at dksX2_failed_0 6 rfl rfl)
theorem dX2_failed_7 : decode cX2_failed 7 = .ok (.putfield 68, 3) := dk_181 0 68 (dk_at dksX2_failed_0 7 rfl rfl)
theorem dX2_failed_10 : decode cX2_failed 10 = .ok (.aload_n 0, 1) := dk_42 (dk_at dksX2_failed_0 10 rfl rfl)
theorem dX2_failed_11 : decode cX2_failed 11 = .ok (.iload_n 3, 1) := dk_29 (dk_at dksX2_failed_0 11 rfl rfl)
theorem dX2_failed_12 : decode cX2_failed 12 = .ok (.putfield 72, 3) := dk_181 0 72 (dk_at dksX2_failed_0 12 rfl rfl)
theorem dX2_failed_15 : decode cX2_failed 15 = .ok (.iconst (-1), 1) := dk_2 (dk_at dksX2_failed_0 15 rfl rfl)
theorem dX2_failed_16 : decode cX2_failed 16 = .ok (.ireturn, 1) := dk_172 (dk_at dksX2_failed_0 16 rfl rfl)
abbrev cX2_lay : ByteArray := prog_4_method_81_code
def yX2_lay : MethodName := ⟨RX2, "lay", "()I"⟩
def dkwX2_lay_2 : List UInt8 := [29, 104, 28, 96, 46, 96, 60, 132, 3, 1, 167, 255, 209, 132, 2, 1, 167, 255, 196, 27, 172]
abbrev dktX2_lay_2 : List UInt8 := dkwX2_lay_2 ++ []
def dkwX2_lay_1 : List UInt8 := [16, 7, 96, 16, 248, 126, 60, 42, 180, 0, 79, 6, 29, 104, 28, 96, 27, 79, 27, 42, 180, 0, 17, 6]
abbrev dktX2_lay_1 : List UInt8 := dkwX2_lay_1 ++ dktX2_lay_2
def dkwX2_lay_0 : List UInt8 := [3, 60, 3, 61, 28, 6, 162, 0, 61, 3, 62, 29, 42, 180, 3, 242, 162, 0, 45, 28, 158, 0, 11, 27]
abbrev dktX2_lay_0 : List UInt8 := dkwX2_lay_0 ++ dktX2_lay_1
theorem dksX2_lay_0 : cX2_lay.data.toList.drop 0 = dktX2_lay_0 := by decide +kernel
theorem dksX2_lay_1 : cX2_lay.data.toList.drop 24 = dktX2_lay_1 := dk_seg dksX2_lay_0 24 rfl rfl
theorem dksX2_lay_2 : cX2_lay.data.toList.drop 48 = dktX2_lay_2 := dk_seg dksX2_lay_1 24 rfl rfl
theorem dX2_lay_0 : decode cX2_lay 0 = .ok (.iconst 0, 1) := dk_3 (dk_at dksX2_lay_0 0 rfl rfl)
theorem dX2_lay_1 : decode cX2_lay 1 = .ok (.istore_n 1, 1) := dk_60 (dk_at dksX2_lay_0 1 rfl rfl)
theorem dX2_lay_2 : decode cX2_lay 2 = .ok (.iconst 0, 1) := dk_3 (dk_at dksX2_lay_0 2 rfl rfl)
theorem dX2_lay_3 : decode cX2_lay 3 = .ok (.istore_n 2, 1) := dk_61 (dk_at dksX2_lay_0 3 rfl rfl)
theorem dX2_lay_4 : decode cX2_lay 4 = .ok (.iload_n 2, 1) := dk_28 (dk_at dksX2_lay_0 4 rfl rfl)
theorem dX2_lay_5 : decode cX2_lay 5 = .ok (.iconst 3, 1) := dk_6 (dk_at dksX2_lay_0 5 rfl rfl)
theorem dX2_lay_6 : decode cX2_lay 6 = .ok (.if_icmp .ge 61, 3) := dk_162 0 61 (dk_at dksX2_lay_0 6 rfl rfl)
theorem dX2_lay_9 : decode cX2_lay 9 = .ok (.iconst 0, 1) := dk_3 (dk_at dksX2_lay_0 9 rfl rfl)
theorem dX2_lay_10 : decode cX2_lay 10 = .ok (.istore_n 3, 1) := dk_62 (dk_at dksX2_lay_0 10 rfl rfl)
theorem dX2_lay_11 : decode cX2_lay 11 = .ok (.iload_n 3, 1) := dk_29 (dk_at dksX2_lay_0 11 rfl rfl)
theorem dX2_lay_12 : decode cX2_lay 12 = .ok (.aload_n 0, 1) := dk_42 (dk_at dksX2_lay_0 12 rfl rfl)
theorem dX2_lay_13 : decode cX2_lay 13 = .ok (.getfield 1010, 3) := dk_180 3 242 (dk_at dksX2_lay_0 13 rfl rfl)
theorem dX2_lay_16 : decode cX2_lay 16 = .ok (.if_icmp .ge 45, 3) := dk_162 0 45 (dk_at dksX2_lay_0 16 rfl rfl)
theorem dX2_lay_19 : decode cX2_lay 19 = .ok (.iload_n 2, 1) := dk_28 (dk_at dksX2_lay_0 19 rfl rfl)
theorem dX2_lay_20 : decode cX2_lay 20 = .ok (.ifCond .le 11, 3) := dk_158 0 11 (dk_at dksX2_lay_0 20 rfl rfl)
theorem dX2_lay_23 : decode cX2_lay 23 = .ok (.iload_n 1, 1) := dk_27 (dk_at dksX2_lay_0 23 rfl rfl)
theorem dX2_lay_24 : decode cX2_lay 24 = .ok (.bipush 7, 2) := dk_16 7 (dk_at dksX2_lay_1 0 rfl rfl)
theorem dX2_lay_26 : decode cX2_lay 26 = .ok (.iadd, 1) := dk_96 (dk_at dksX2_lay_1 2 rfl rfl)
theorem dX2_lay_27 : decode cX2_lay 27 = .ok (.bipush (-8), 2) := dk_16 248 (dk_at dksX2_lay_1 3 rfl rfl)
theorem dX2_lay_29 : decode cX2_lay 29 = .ok (.iand, 1) := dk_126 (dk_at dksX2_lay_1 5 rfl rfl)
theorem dX2_lay_30 : decode cX2_lay 30 = .ok (.istore_n 1, 1) := dk_60 (dk_at dksX2_lay_1 6 rfl rfl)
theorem dX2_lay_31 : decode cX2_lay 31 = .ok (.aload_n 0, 1) := dk_42 (dk_at dksX2_lay_1 7 rfl rfl)
theorem dX2_lay_32 : decode cX2_lay 32 = .ok (.getfield 79, 3) := dk_180 0 79 (dk_at dksX2_lay_1 8 rfl rfl)
theorem dX2_lay_35 : decode cX2_lay 35 = .ok (.iconst 3, 1) := dk_6 (dk_at dksX2_lay_1 11 rfl rfl)
theorem dX2_lay_36 : decode cX2_lay 36 = .ok (.iload_n 3, 1) := dk_29 (dk_at dksX2_lay_1 12 rfl rfl)
theorem dX2_lay_37 : decode cX2_lay 37 = .ok (.imul, 1) := dk_104 (dk_at dksX2_lay_1 13 rfl rfl)
theorem dX2_lay_38 : decode cX2_lay 38 = .ok (.iload_n 2, 1) := dk_28 (dk_at dksX2_lay_1 14 rfl rfl)
theorem dX2_lay_39 : decode cX2_lay 39 = .ok (.iadd, 1) := dk_96 (dk_at dksX2_lay_1 15 rfl rfl)
theorem dX2_lay_40 : decode cX2_lay 40 = .ok (.iload_n 1, 1) := dk_27 (dk_at dksX2_lay_1 16 rfl rfl)
theorem dX2_lay_41 : decode cX2_lay 41 = .ok (.iastore, 1) := dk_79 (dk_at dksX2_lay_1 17 rfl rfl)
theorem dX2_lay_42 : decode cX2_lay 42 = .ok (.iload_n 1, 1) := dk_27 (dk_at dksX2_lay_1 18 rfl rfl)
theorem dX2_lay_43 : decode cX2_lay 43 = .ok (.aload_n 0, 1) := dk_42 (dk_at dksX2_lay_1 19 rfl rfl)
theorem dX2_lay_44 : decode cX2_lay 44 = .ok (.getfield 17, 3) := dk_180 0 17 (dk_at dksX2_lay_1 20 rfl rfl)
theorem dX2_lay_47 : decode cX2_lay 47 = .ok (.iconst 3, 1) := dk_6 (dk_at dksX2_lay_1 23 rfl rfl)
theorem dX2_lay_48 : decode cX2_lay 48 = .ok (.iload_n 3, 1) := dk_29 (dk_at dksX2_lay_2 0 rfl rfl)
theorem dX2_lay_49 : decode cX2_lay 49 = .ok (.imul, 1) := dk_104 (dk_at dksX2_lay_2 1 rfl rfl)
theorem dX2_lay_50 : decode cX2_lay 50 = .ok (.iload_n 2, 1) := dk_28 (dk_at dksX2_lay_2 2 rfl rfl)
theorem dX2_lay_51 : decode cX2_lay 51 = .ok (.iadd, 1) := dk_96 (dk_at dksX2_lay_2 3 rfl rfl)
theorem dX2_lay_52 : decode cX2_lay 52 = .ok (.iaload, 1) := dk_46 (dk_at dksX2_lay_2 4 rfl rfl)
theorem dX2_lay_53 : decode cX2_lay 53 = .ok (.iadd, 1) := dk_96 (dk_at dksX2_lay_2 5 rfl rfl)
theorem dX2_lay_54 : decode cX2_lay 54 = .ok (.istore_n 1, 1) := dk_60 (dk_at dksX2_lay_2 6 rfl rfl)
theorem dX2_lay_55 : decode cX2_lay 55 = .ok (.iinc 3 1, 3) := dk_132 3 1 (dk_at dksX2_lay_2 7 rfl rfl)
theorem dX2_lay_58 : decode cX2_lay 58 = .ok (.goto (-47), 3) := dk_167 255 209 (dk_at dksX2_lay_2 10 rfl rfl)
theorem dX2_lay_61 : decode cX2_lay 61 = .ok (.iinc 2 1, 3) := dk_132 2 1 (dk_at dksX2_lay_2 13 rfl rfl)
theorem dX2_lay_64 : decode cX2_lay 64 = .ok (.goto (-60), 3) := dk_167 255 196 (dk_at dksX2_lay_2 16 rfl rfl)
theorem dX2_lay_67 : decode cX2_lay 67 = .ok (.iload_n 1, 1) := dk_27 (dk_at dksX2_lay_2 19 rfl rfl)
theorem dX2_lay_68 : decode cX2_lay 68 = .ok (.ireturn, 1) := dk_172 (dk_at dksX2_lay_2 20 rfl rfl)
abbrev cX2_other : ByteArray := prog_4_method_83_code
def yX2_other : MethodName := ⟨RX2, "other", "(III)I"⟩
def dkwX2_other_3 : List UInt8 := [21, 5, 172, 132, 5, 1, 167, 255, 195, 132, 4, 1, 167, 255, 176, 2, 172]
abbrev dktX2_other_3 : List UInt8 := dkwX2_other_3 ++ []
def dkwX2_other_2 : List UInt8 := [153, 0, 27, 42, 180, 0, 40, 21, 5, 46, 2, 159, 0, 16, 42, 21, 5, 28, 182, 4, 161, 153, 0, 6]
abbrev dktX2_other_2 : List UInt8 := dkwX2_other_2 ++ dktX2_other_3
def dkwX2_other_1 : List UInt8 := [16, 64, 21, 4, 104, 42, 180, 0, 21, 21, 4, 46, 96, 162, 0, 43, 42, 180, 0, 46, 21, 5, 51]
abbrev dktX2_other_1 : List UInt8 := dkwX2_other_1 ++ dktX2_other_2
def dkwX2_other_0 : List UInt8 := [3, 54, 4, 21, 4, 29, 162, 0, 80, 16, 64, 21, 4, 104, 54, 5, 21, 4, 27, 159, 0, 61, 21, 5]
abbrev dktX2_other_0 : List UInt8 := dkwX2_other_0 ++ dktX2_other_1
theorem dksX2_other_0 : cX2_other.data.toList.drop 0 = dktX2_other_0 := by decide +kernel
theorem dksX2_other_1 : cX2_other.data.toList.drop 24 = dktX2_other_1 := dk_seg dksX2_other_0 24 rfl rfl
theorem dksX2_other_2 : cX2_other.data.toList.drop 47 = dktX2_other_2 := dk_seg dksX2_other_1 23 rfl rfl
theorem dksX2_other_3 : cX2_other.data.toList.drop 71 = dktX2_other_3 := dk_seg dksX2_other_2 24 rfl rfl
theorem dX2_other_0 : decode cX2_other 0 = .ok (.iconst 0, 1) := dk_3 (dk_at dksX2_other_0 0 rfl rfl)
theorem dX2_other_1 : decode cX2_other 1 = .ok (.istore 4, 2) := dk_54 4 (dk_at dksX2_other_0 1 rfl rfl)
theorem dX2_other_3 : decode cX2_other 3 = .ok (.iload 4, 2) := dk_21 4 (dk_at dksX2_other_0 3 rfl rfl)
theorem dX2_other_5 : decode cX2_other 5 = .ok (.iload_n 3, 1) := dk_29 (dk_at dksX2_other_0 5 rfl rfl)
theorem dX2_other_6 : decode cX2_other 6 = .ok (.if_icmp .ge 80, 3) := dk_162 0 80 (dk_at dksX2_other_0 6 rfl rfl)
theorem dX2_other_9 : decode cX2_other 9 = .ok (.bipush 64, 2) := dk_16 64 (dk_at dksX2_other_0 9 rfl rfl)
theorem dX2_other_11 : decode cX2_other 11 = .ok (.iload 4, 2) := dk_21 4 (dk_at dksX2_other_0 11 rfl rfl)
theorem dX2_other_13 : decode cX2_other 13 = .ok (.imul, 1) := dk_104 (dk_at dksX2_other_0 13 rfl rfl)
theorem dX2_other_14 : decode cX2_other 14 = .ok (.istore 5, 2) := dk_54 5 (dk_at dksX2_other_0 14 rfl rfl)
theorem dX2_other_16 : decode cX2_other 16 = .ok (.iload 4, 2) := dk_21 4 (dk_at dksX2_other_0 16 rfl rfl)
theorem dX2_other_18 : decode cX2_other 18 = .ok (.iload_n 1, 1) := dk_27 (dk_at dksX2_other_0 18 rfl rfl)
theorem dX2_other_19 : decode cX2_other 19 = .ok (.if_icmp .eq 61, 3) := dk_159 0 61 (dk_at dksX2_other_0 19 rfl rfl)
theorem dX2_other_22 : decode cX2_other 22 = .ok (.iload 5, 2) := dk_21 5 (dk_at dksX2_other_0 22 rfl rfl)
theorem dX2_other_24 : decode cX2_other 24 = .ok (.bipush 64, 2) := dk_16 64 (dk_at dksX2_other_1 0 rfl rfl)
theorem dX2_other_26 : decode cX2_other 26 = .ok (.iload 4, 2) := dk_21 4 (dk_at dksX2_other_1 2 rfl rfl)
theorem dX2_other_28 : decode cX2_other 28 = .ok (.imul, 1) := dk_104 (dk_at dksX2_other_1 4 rfl rfl)
theorem dX2_other_29 : decode cX2_other 29 = .ok (.aload_n 0, 1) := dk_42 (dk_at dksX2_other_1 5 rfl rfl)
theorem dX2_other_30 : decode cX2_other 30 = .ok (.getfield 21, 3) := dk_180 0 21 (dk_at dksX2_other_1 6 rfl rfl)
theorem dX2_other_33 : decode cX2_other 33 = .ok (.iload 4, 2) := dk_21 4 (dk_at dksX2_other_1 9 rfl rfl)
theorem dX2_other_35 : decode cX2_other 35 = .ok (.iaload, 1) := dk_46 (dk_at dksX2_other_1 11 rfl rfl)
theorem dX2_other_36 : decode cX2_other 36 = .ok (.iadd, 1) := dk_96 (dk_at dksX2_other_1 12 rfl rfl)
theorem dX2_other_37 : decode cX2_other 37 = .ok (.if_icmp .ge 43, 3) := dk_162 0 43 (dk_at dksX2_other_1 13 rfl rfl)
theorem dX2_other_40 : decode cX2_other 40 = .ok (.aload_n 0, 1) := dk_42 (dk_at dksX2_other_1 16 rfl rfl)
theorem dX2_other_41 : decode cX2_other 41 = .ok (.getfield 46, 3) := dk_180 0 46 (dk_at dksX2_other_1 17 rfl rfl)
theorem dX2_other_44 : decode cX2_other 44 = .ok (.iload 5, 2) := dk_21 5 (dk_at dksX2_other_1 20 rfl rfl)
theorem dX2_other_46 : decode cX2_other 46 = .ok (.baload, 1) := dk_51 (dk_at dksX2_other_1 22 rfl rfl)
theorem dX2_other_47 : decode cX2_other 47 = .ok (.ifCond .eq 27, 3) := dk_153 0 27 (dk_at dksX2_other_2 0 rfl rfl)
theorem dX2_other_50 : decode cX2_other 50 = .ok (.aload_n 0, 1) := dk_42 (dk_at dksX2_other_2 3 rfl rfl)
theorem dX2_other_51 : decode cX2_other 51 = .ok (.getfield 40, 3) := dk_180 0 40 (dk_at dksX2_other_2 4 rfl rfl)
theorem dX2_other_54 : decode cX2_other 54 = .ok (.iload 5, 2) := dk_21 5 (dk_at dksX2_other_2 7 rfl rfl)
theorem dX2_other_56 : decode cX2_other 56 = .ok (.iaload, 1) := dk_46 (dk_at dksX2_other_2 9 rfl rfl)
theorem dX2_other_57 : decode cX2_other 57 = .ok (.iconst (-1), 1) := dk_2 (dk_at dksX2_other_2 10 rfl rfl)
theorem dX2_other_58 : decode cX2_other 58 = .ok (.if_icmp .eq 16, 3) := dk_159 0 16 (dk_at dksX2_other_2 11 rfl rfl)
theorem dX2_other_61 : decode cX2_other 61 = .ok (.aload_n 0, 1) := dk_42 (dk_at dksX2_other_2 14 rfl rfl)
theorem dX2_other_62 : decode cX2_other 62 = .ok (.iload 5, 2) := dk_21 5 (dk_at dksX2_other_2 15 rfl rfl)
theorem dX2_other_64 : decode cX2_other 64 = .ok (.iload_n 2, 1) := dk_28 (dk_at dksX2_other_2 17 rfl rfl)
theorem dX2_other_65 : decode cX2_other 65 = .ok (.invokevirtual 1185, 3) := dk_182 4 161 (dk_at dksX2_other_2 18 rfl rfl)
theorem dX2_other_68 : decode cX2_other 68 = .ok (.ifCond .eq 6, 3) := dk_153 0 6 (dk_at dksX2_other_2 21 rfl rfl)
theorem dX2_other_71 : decode cX2_other 71 = .ok (.iload 5, 2) := dk_21 5 (dk_at dksX2_other_3 0 rfl rfl)
theorem dX2_other_73 : decode cX2_other 73 = .ok (.ireturn, 1) := dk_172 (dk_at dksX2_other_3 2 rfl rfl)
theorem dX2_other_74 : decode cX2_other 74 = .ok (.iinc 5 1, 3) := dk_132 5 1 (dk_at dksX2_other_3 3 rfl rfl)
theorem dX2_other_77 : decode cX2_other 77 = .ok (.goto (-61), 3) := dk_167 255 195 (dk_at dksX2_other_3 6 rfl rfl)
theorem dX2_other_80 : decode cX2_other 80 = .ok (.iinc 4 1, 3) := dk_132 4 1 (dk_at dksX2_other_3 9 rfl rfl)
theorem dX2_other_83 : decode cX2_other 83 = .ok (.goto (-80), 3) := dk_167 255 176 (dk_at dksX2_other_3 12 rfl rfl)
theorem dX2_other_86 : decode cX2_other 86 = .ok (.iconst (-1), 1) := dk_2 (dk_at dksX2_other_3 15 rfl rfl)
theorem dX2_other_87 : decode cX2_other 87 = .ok (.ireturn, 1) := dk_172 (dk_at dksX2_other_3 16 rfl rfl)
abbrev cX2_sameName : ByteArray := prog_4_method_82_code
def yX2_sameName : MethodName := ⟨RX2, "sameName", "(II)Z"⟩
def dkwX2_sameName_3 : List UInt8 := [172]
abbrev dktX2_sameName_3 : List UInt8 := dkwX2_sameName_3 ++ []
def dkwX2_sameName_2 : List UInt8 := [154, 0, 23, 42, 180, 0, 34, 27, 47, 42, 180, 0, 34, 28, 47, 148, 154, 0, 7, 4, 167, 0, 4, 3]
abbrev dktX2_sameName_2 : List UInt8 := dkwX2_sameName_2 ++ dktX2_sameName_3
def dkwX2_sameName_1 : List UInt8 := [180, 0, 27, 28, 47, 148, 154, 0, 39, 42, 180, 0, 31, 27, 47, 42, 180, 0, 31, 28, 47, 148]
abbrev dktX2_sameName_1 : List UInt8 := dkwX2_sameName_1 ++ dktX2_sameName_2
def dkwX2_sameName_0 : List UInt8 := [42, 180, 0, 37, 27, 46, 42, 180, 0, 37, 28, 46, 160, 0, 55, 42, 180, 0, 27, 27, 47, 42]
abbrev dktX2_sameName_0 : List UInt8 := dkwX2_sameName_0 ++ dktX2_sameName_1
theorem dksX2_sameName_0 : cX2_sameName.data.toList.drop 0 = dktX2_sameName_0 := by decide +kernel
theorem dksX2_sameName_1 : cX2_sameName.data.toList.drop 22 = dktX2_sameName_1 := dk_seg dksX2_sameName_0 22 rfl rfl
theorem dksX2_sameName_2 : cX2_sameName.data.toList.drop 44 = dktX2_sameName_2 := dk_seg dksX2_sameName_1 22 rfl rfl
theorem dksX2_sameName_3 : cX2_sameName.data.toList.drop 68 = dktX2_sameName_3 := dk_seg dksX2_sameName_2 24 rfl rfl
theorem dX2_sameName_0 : decode cX2_sameName 0 = .ok (.aload_n 0, 1) := dk_42 (dk_at dksX2_sameName_0 0 rfl rfl)
theorem dX2_sameName_1 : decode cX2_sameName 1 = .ok (.getfield 37, 3) := dk_180 0 37 (dk_at dksX2_sameName_0 1 rfl rfl)
theorem dX2_sameName_4 : decode cX2_sameName 4 = .ok (.iload_n 1, 1) := dk_27 (dk_at dksX2_sameName_0 4 rfl rfl)
theorem dX2_sameName_5 : decode cX2_sameName 5 = .ok (.iaload, 1) := dk_46 (dk_at dksX2_sameName_0 5 rfl rfl)
theorem dX2_sameName_6 : decode cX2_sameName 6 = .ok (.aload_n 0, 1) := dk_42 (dk_at dksX2_sameName_0 6 rfl rfl)
theorem dX2_sameName_7 : decode cX2_sameName 7 = .ok (.getfield 37, 3) := dk_180 0 37 (dk_at dksX2_sameName_0 7 rfl rfl)
theorem dX2_sameName_10 : decode cX2_sameName 10 = .ok (.iload_n 2, 1) := dk_28 (dk_at dksX2_sameName_0 10 rfl rfl)
theorem dX2_sameName_11 : decode cX2_sameName 11 = .ok (.iaload, 1) := dk_46 (dk_at dksX2_sameName_0 11 rfl rfl)
theorem dX2_sameName_12 : decode cX2_sameName 12 = .ok (.if_icmp .ne 55, 3) := dk_160 0 55 (dk_at dksX2_sameName_0 12 rfl rfl)
theorem dX2_sameName_15 : decode cX2_sameName 15 = .ok (.aload_n 0, 1) := dk_42 (dk_at dksX2_sameName_0 15 rfl rfl)
theorem dX2_sameName_16 : decode cX2_sameName 16 = .ok (.getfield 27, 3) := dk_180 0 27 (dk_at dksX2_sameName_0 16 rfl rfl)
theorem dX2_sameName_19 : decode cX2_sameName 19 = .ok (.iload_n 1, 1) := dk_27 (dk_at dksX2_sameName_0 19 rfl rfl)
theorem dX2_sameName_20 : decode cX2_sameName 20 = .ok (.laload, 1) := dk_47 (dk_at dksX2_sameName_0 20 rfl rfl)
theorem dX2_sameName_21 : decode cX2_sameName 21 = .ok (.aload_n 0, 1) := dk_42 (dk_at dksX2_sameName_0 21 rfl rfl)
theorem dX2_sameName_22 : decode cX2_sameName 22 = .ok (.getfield 27, 3) := dk_180 0 27 (dk_at dksX2_sameName_1 0 rfl rfl)
theorem dX2_sameName_25 : decode cX2_sameName 25 = .ok (.iload_n 2, 1) := dk_28 (dk_at dksX2_sameName_1 3 rfl rfl)
theorem dX2_sameName_26 : decode cX2_sameName 26 = .ok (.laload, 1) := dk_47 (dk_at dksX2_sameName_1 4 rfl rfl)
theorem dX2_sameName_27 : decode cX2_sameName 27 = .ok (.lcmp, 1) := dk_148 (dk_at dksX2_sameName_1 5 rfl rfl)
theorem dX2_sameName_28 : decode cX2_sameName 28 = .ok (.ifCond .ne 39, 3) := dk_154 0 39 (dk_at dksX2_sameName_1 6 rfl rfl)
theorem dX2_sameName_31 : decode cX2_sameName 31 = .ok (.aload_n 0, 1) := dk_42 (dk_at dksX2_sameName_1 9 rfl rfl)
theorem dX2_sameName_32 : decode cX2_sameName 32 = .ok (.getfield 31, 3) := dk_180 0 31 (dk_at dksX2_sameName_1 10 rfl rfl)
theorem dX2_sameName_35 : decode cX2_sameName 35 = .ok (.iload_n 1, 1) := dk_27 (dk_at dksX2_sameName_1 13 rfl rfl)
theorem dX2_sameName_36 : decode cX2_sameName 36 = .ok (.laload, 1) := dk_47 (dk_at dksX2_sameName_1 14 rfl rfl)
theorem dX2_sameName_37 : decode cX2_sameName 37 = .ok (.aload_n 0, 1) := dk_42 (dk_at dksX2_sameName_1 15 rfl rfl)
theorem dX2_sameName_38 : decode cX2_sameName 38 = .ok (.getfield 31, 3) := dk_180 0 31 (dk_at dksX2_sameName_1 16 rfl rfl)
theorem dX2_sameName_41 : decode cX2_sameName 41 = .ok (.iload_n 2, 1) := dk_28 (dk_at dksX2_sameName_1 19 rfl rfl)
theorem dX2_sameName_42 : decode cX2_sameName 42 = .ok (.laload, 1) := dk_47 (dk_at dksX2_sameName_1 20 rfl rfl)
theorem dX2_sameName_43 : decode cX2_sameName 43 = .ok (.lcmp, 1) := dk_148 (dk_at dksX2_sameName_1 21 rfl rfl)
theorem dX2_sameName_44 : decode cX2_sameName 44 = .ok (.ifCond .ne 23, 3) := dk_154 0 23 (dk_at dksX2_sameName_2 0 rfl rfl)
theorem dX2_sameName_47 : decode cX2_sameName 47 = .ok (.aload_n 0, 1) := dk_42 (dk_at dksX2_sameName_2 3 rfl rfl)
theorem dX2_sameName_48 : decode cX2_sameName 48 = .ok (.getfield 34, 3) := dk_180 0 34 (dk_at dksX2_sameName_2 4 rfl rfl)
theorem dX2_sameName_51 : decode cX2_sameName 51 = .ok (.iload_n 1, 1) := dk_27 (dk_at dksX2_sameName_2 7 rfl rfl)
theorem dX2_sameName_52 : decode cX2_sameName 52 = .ok (.laload, 1) := dk_47 (dk_at dksX2_sameName_2 8 rfl rfl)
theorem dX2_sameName_53 : decode cX2_sameName 53 = .ok (.aload_n 0, 1) := dk_42 (dk_at dksX2_sameName_2 9 rfl rfl)
theorem dX2_sameName_54 : decode cX2_sameName 54 = .ok (.getfield 34, 3) := dk_180 0 34 (dk_at dksX2_sameName_2 10 rfl rfl)
theorem dX2_sameName_57 : decode cX2_sameName 57 = .ok (.iload_n 2, 1) := dk_28 (dk_at dksX2_sameName_2 13 rfl rfl)
theorem dX2_sameName_58 : decode cX2_sameName 58 = .ok (.laload, 1) := dk_47 (dk_at dksX2_sameName_2 14 rfl rfl)
theorem dX2_sameName_59 : decode cX2_sameName 59 = .ok (.lcmp, 1) := dk_148 (dk_at dksX2_sameName_2 15 rfl rfl)
theorem dX2_sameName_60 : decode cX2_sameName 60 = .ok (.ifCond .ne 7, 3) := dk_154 0 7 (dk_at dksX2_sameName_2 16 rfl rfl)
theorem dX2_sameName_63 : decode cX2_sameName 63 = .ok (.iconst 1, 1) := dk_4 (dk_at dksX2_sameName_2 19 rfl rfl)
theorem dX2_sameName_64 : decode cX2_sameName 64 = .ok (.goto 4, 3) := dk_167 0 4 (dk_at dksX2_sameName_2 20 rfl rfl)
theorem dX2_sameName_67 : decode cX2_sameName 67 = .ok (.iconst 0, 1) := dk_3 (dk_at dksX2_sameName_2 23 rfl rfl)
theorem dX2_sameName_68 : decode cX2_sameName 68 = .ok (.ireturn, 1) := dk_172 (dk_at dksX2_sameName_3 0 rfl rfl)
abbrev cX2_placeOf : ByteArray := prog_4_method_84_code
def yX2_placeOf : MethodName := ⟨RX2, "placeOf", "(I)I"⟩
def dkwX2_placeOf_1 : List UInt8 := [180, 0, 43, 27, 46, 96, 172]
abbrev dktX2_placeOf_1 : List UInt8 := dkwX2_placeOf_1 ++ []
def dkwX2_placeOf_0 : List UInt8 := [42, 180, 4, 164, 42, 180, 0, 79, 6, 27, 16, 64, 108, 104, 42, 180, 0, 40, 27, 46, 96, 46, 96, 42]
abbrev dktX2_placeOf_0 : List UInt8 := dkwX2_placeOf_0 ++ dktX2_placeOf_1
theorem dksX2_placeOf_0 : cX2_placeOf.data.toList.drop 0 = dktX2_placeOf_0 := by decide +kernel
theorem dksX2_placeOf_1 : cX2_placeOf.data.toList.drop 24 = dktX2_placeOf_1 := dk_seg dksX2_placeOf_0 24 rfl rfl
theorem dX2_placeOf_0 : decode cX2_placeOf 0 = .ok (.aload_n 0, 1) := dk_42 (dk_at dksX2_placeOf_0 0 rfl rfl)
theorem dX2_placeOf_1 : decode cX2_placeOf 1 = .ok (.getfield 1188, 3) := dk_180 4 164 (dk_at dksX2_placeOf_0 1 rfl rfl)
theorem dX2_placeOf_4 : decode cX2_placeOf 4 = .ok (.aload_n 0, 1) := dk_42 (dk_at dksX2_placeOf_0 4 rfl rfl)
theorem dX2_placeOf_5 : decode cX2_placeOf 5 = .ok (.getfield 79, 3) := dk_180 0 79 (dk_at dksX2_placeOf_0 5 rfl rfl)
theorem dX2_placeOf_8 : decode cX2_placeOf 8 = .ok (.iconst 3, 1) := dk_6 (dk_at dksX2_placeOf_0 8 rfl rfl)
theorem dX2_placeOf_9 : decode cX2_placeOf 9 = .ok (.iload_n 1, 1) := dk_27 (dk_at dksX2_placeOf_0 9 rfl rfl)
theorem dX2_placeOf_10 : decode cX2_placeOf 10 = .ok (.bipush 64, 2) := dk_16 64 (dk_at dksX2_placeOf_0 10 rfl rfl)
theorem dX2_placeOf_12 : decode cX2_placeOf 12 = .ok (.idiv, 1) := dk_108 (dk_at dksX2_placeOf_0 12 rfl rfl)
theorem dX2_placeOf_13 : decode cX2_placeOf 13 = .ok (.imul, 1) := dk_104 (dk_at dksX2_placeOf_0 13 rfl rfl)
theorem dX2_placeOf_14 : decode cX2_placeOf 14 = .ok (.aload_n 0, 1) := dk_42 (dk_at dksX2_placeOf_0 14 rfl rfl)
theorem dX2_placeOf_15 : decode cX2_placeOf 15 = .ok (.getfield 40, 3) := dk_180 0 40 (dk_at dksX2_placeOf_0 15 rfl rfl)
theorem dX2_placeOf_18 : decode cX2_placeOf 18 = .ok (.iload_n 1, 1) := dk_27 (dk_at dksX2_placeOf_0 18 rfl rfl)
theorem dX2_placeOf_19 : decode cX2_placeOf 19 = .ok (.iaload, 1) := dk_46 (dk_at dksX2_placeOf_0 19 rfl rfl)
theorem dX2_placeOf_20 : decode cX2_placeOf 20 = .ok (.iadd, 1) := dk_96 (dk_at dksX2_placeOf_0 20 rfl rfl)
theorem dX2_placeOf_21 : decode cX2_placeOf 21 = .ok (.iaload, 1) := dk_46 (dk_at dksX2_placeOf_0 21 rfl rfl)
theorem dX2_placeOf_22 : decode cX2_placeOf 22 = .ok (.iadd, 1) := dk_96 (dk_at dksX2_placeOf_0 22 rfl rfl)
theorem dX2_placeOf_23 : decode cX2_placeOf 23 = .ok (.aload_n 0, 1) := dk_42 (dk_at dksX2_placeOf_0 23 rfl rfl)
theorem dX2_placeOf_24 : decode cX2_placeOf 24 = .ok (.getfield 43, 3) := dk_180 0 43 (dk_at dksX2_placeOf_1 0 rfl rfl)
theorem dX2_placeOf_27 : decode cX2_placeOf 27 = .ok (.iload_n 1, 1) := dk_27 (dk_at dksX2_placeOf_1 3 rfl rfl)
theorem dX2_placeOf_28 : decode cX2_placeOf 28 = .ok (.iaload, 1) := dk_46 (dk_at dksX2_placeOf_1 4 rfl rfl)
theorem dX2_placeOf_29 : decode cX2_placeOf 29 = .ok (.iadd, 1) := dk_96 (dk_at dksX2_placeOf_1 5 rfl rfl)
theorem dX2_placeOf_30 : decode cX2_placeOf 30 = .ok (.ireturn, 1) := dk_172 (dk_at dksX2_placeOf_1 6 rfl rfl)
abbrev cX2_done : ByteArray := prog_4_method_87_code
def yX2_done : MethodName := ⟨RX2, "done", "(II)Z"⟩
def dkwX2_done_12 : List UInt8 := [21, 6, 16, 24, 16, 8, 21, 9, 104, 100, 122, 145, 84, 132, 9, 1, 167, 255, 226, 4, 172]
abbrev dktX2_done_12 : List UInt8 := dkwX2_done_12 ++ []
def dkwX2_done_11 : List UInt8 := [19, 4, 14, 126, 128, 54, 6, 3, 54, 9, 21, 9, 7, 162, 0, 30, 42, 180, 0, 76, 29, 21, 9, 96]
abbrev dktX2_done_11 : List UInt8 := dkwX2_done_11 ++ dktX2_done_12
def dkwX2_done_10 : List UInt8 := [20, 4, 86, 148, 158, 0, 5, 3, 172, 21, 6, 19, 4, 196, 126, 22, 7, 20, 4, 143, 109, 136]
abbrev dktX2_done_10 : List UInt8 := dkwX2_done_10 ++ dktX2_done_11
def dkwX2_done_9 : List UInt8 := [154, 0, 29, 22, 7, 20, 4, 143, 109, 20, 4, 84, 148, 155, 0, 16, 22, 7, 20, 4, 143, 109]
abbrev dktX2_done_9 : List UInt8 := dkwX2_done_9 ++ dktX2_done_10
def dkwX2_done_8 : List UInt8 := [126, 21, 4, 5, 124, 19, 4, 198, 126, 128, 54, 6, 167, 0, 62, 22, 7, 20, 4, 143, 113, 9, 148]
abbrev dktX2_done_8 : List UInt8 := dkwX2_done_8 ++ dktX2_done_9
def dkwX2_done_7 : List UInt8 := [126, 154, 0, 16, 21, 4, 16, 28, 124, 21, 5, 16, 28, 124, 159, 0, 5, 3, 172, 21, 6, 19, 4, 197]
abbrev dktX2_done_7 : List UInt8 := dkwX2_done_7 ++ dktX2_done_8
def dkwX2_done_6 : List UInt8 := [167, 0, 122, 21, 6, 19, 4, 196, 126, 21, 4, 19, 4, 14, 126, 128, 54, 6, 167, 0, 104, 21, 4, 6]
abbrev dktX2_done_6 : List UInt8 := dkwX2_done_6 ++ dktX2_done_7
def dkwX2_done_5 : List UInt8 := [21, 4, 54, 6, 167, 0, 142, 21, 6, 19, 4, 196, 126, 21, 4, 18, 75, 96, 16, 16, 124, 128, 54, 6]
abbrev dktX2_done_5 : List UInt8 := dkwX2_done_5 ++ dktX2_done_6
def dkwX2_done_4 : List UInt8 := [170, 0, 0, 0, 120, 0, 0, 0, 2, 0, 0, 0, 6, 0, 0, 0, 33, 0, 0, 0, 120, 0, 0, 0, 78, 0, 0, 0, 40, 0, 0, 0, 60]
abbrev dktX2_done_4 : List UInt8 := dkwX2_done_4 ++ dktX2_done_5
def dkwX2_done_3 : List UInt8 := [55, 7, 42, 180, 0, 56, 28, 46]
abbrev dktX2_done_3 : List UInt8 := dkwX2_done_3 ++ dktX2_done_4
def dkwX2_done_2 : List UInt8 := [42, 180, 4, 164, 29, 96, 7, 96, 54, 5, 42, 29, 182, 4, 193, 54, 6, 21, 4, 21, 5, 100, 133]
abbrev dktX2_done_2 : List UInt8 := dkwX2_done_2 ++ dktX2_done_3
def dkwX2_done_1 : List UInt8 := [180, 0, 82, 16, 64, 27, 104, 42, 180, 0, 59, 28, 46, 96, 46, 42, 180, 0, 62, 28, 46, 96, 54, 4]
abbrev dktX2_done_1 : List UInt8 := dkwX2_done_1 ++ dktX2_done_2
def dkwX2_done_0 : List UInt8 := [42, 180, 0, 79, 6, 27, 104, 42, 180, 0, 50, 28, 46, 96, 46, 42, 180, 0, 53, 28, 46, 96, 62, 42]
abbrev dktX2_done_0 : List UInt8 := dkwX2_done_0 ++ dktX2_done_1
theorem dksX2_done_0 : cX2_done.data.toList.drop 0 = dktX2_done_0 := by decide +kernel
theorem dksX2_done_1 : cX2_done.data.toList.drop 24 = dktX2_done_1 := dk_seg dksX2_done_0 24 rfl rfl
theorem dksX2_done_2 : cX2_done.data.toList.drop 48 = dktX2_done_2 := dk_seg dksX2_done_1 24 rfl rfl
theorem dksX2_done_3 : cX2_done.data.toList.drop 71 = dktX2_done_3 := dk_seg dksX2_done_2 23 rfl rfl
theorem dksX2_done_4 : cX2_done.data.toList.drop 79 = dktX2_done_4 := dk_seg dksX2_done_3 8 rfl rfl
theorem dksX2_done_5 : cX2_done.data.toList.drop 112 = dktX2_done_5 := dk_seg dksX2_done_4 33 rfl rfl
theorem dksX2_done_6 : cX2_done.data.toList.drop 136 = dktX2_done_6 := dk_seg dksX2_done_5 24 rfl rfl
theorem dksX2_done_7 : cX2_done.data.toList.drop 160 = dktX2_done_7 := dk_seg dksX2_done_6 24 rfl rfl
theorem dksX2_done_8 : cX2_done.data.toList.drop 184 = dktX2_done_8 := dk_seg dksX2_done_7 24 rfl rfl
theorem dksX2_done_9 : cX2_done.data.toList.drop 207 = dktX2_done_9 := dk_seg dksX2_done_8 23 rfl rfl
theorem dksX2_done_10 : cX2_done.data.toList.drop 229 = dktX2_done_10 := dk_seg dksX2_done_9 22 rfl rfl
theorem dksX2_done_11 : cX2_done.data.toList.drop 251 = dktX2_done_11 := dk_seg dksX2_done_10 22 rfl rfl
theorem dksX2_done_12 : cX2_done.data.toList.drop 275 = dktX2_done_12 := dk_seg dksX2_done_11 24 rfl rfl
theorem dX2_done_0 : decode cX2_done 0 = .ok (.aload_n 0, 1) := dk_42 (dk_at dksX2_done_0 0 rfl rfl)
theorem dX2_done_1 : decode cX2_done 1 = .ok (.getfield 79, 3) := dk_180 0 79 (dk_at dksX2_done_0 1 rfl rfl)
theorem dX2_done_4 : decode cX2_done 4 = .ok (.iconst 3, 1) := dk_6 (dk_at dksX2_done_0 4 rfl rfl)
theorem dX2_done_5 : decode cX2_done 5 = .ok (.iload_n 1, 1) := dk_27 (dk_at dksX2_done_0 5 rfl rfl)
theorem dX2_done_6 : decode cX2_done 6 = .ok (.imul, 1) := dk_104 (dk_at dksX2_done_0 6 rfl rfl)
theorem dX2_done_7 : decode cX2_done 7 = .ok (.aload_n 0, 1) := dk_42 (dk_at dksX2_done_0 7 rfl rfl)
theorem dX2_done_8 : decode cX2_done 8 = .ok (.getfield 50, 3) := dk_180 0 50 (dk_at dksX2_done_0 8 rfl rfl)
theorem dX2_done_11 : decode cX2_done 11 = .ok (.iload_n 2, 1) := dk_28 (dk_at dksX2_done_0 11 rfl rfl)
theorem dX2_done_12 : decode cX2_done 12 = .ok (.iaload, 1) := dk_46 (dk_at dksX2_done_0 12 rfl rfl)
theorem dX2_done_13 : decode cX2_done 13 = .ok (.iadd, 1) := dk_96 (dk_at dksX2_done_0 13 rfl rfl)
theorem dX2_done_14 : decode cX2_done 14 = .ok (.iaload, 1) := dk_46 (dk_at dksX2_done_0 14 rfl rfl)
theorem dX2_done_15 : decode cX2_done 15 = .ok (.aload_n 0, 1) := dk_42 (dk_at dksX2_done_0 15 rfl rfl)
theorem dX2_done_16 : decode cX2_done 16 = .ok (.getfield 53, 3) := dk_180 0 53 (dk_at dksX2_done_0 16 rfl rfl)
theorem dX2_done_19 : decode cX2_done 19 = .ok (.iload_n 2, 1) := dk_28 (dk_at dksX2_done_0 19 rfl rfl)
theorem dX2_done_20 : decode cX2_done 20 = .ok (.iaload, 1) := dk_46 (dk_at dksX2_done_0 20 rfl rfl)
theorem dX2_done_21 : decode cX2_done 21 = .ok (.iadd, 1) := dk_96 (dk_at dksX2_done_0 21 rfl rfl)
theorem dX2_done_22 : decode cX2_done 22 = .ok (.istore_n 3, 1) := dk_62 (dk_at dksX2_done_0 22 rfl rfl)
theorem dX2_done_23 : decode cX2_done 23 = .ok (.aload_n 0, 1) := dk_42 (dk_at dksX2_done_0 23 rfl rfl)
theorem dX2_done_24 : decode cX2_done 24 = .ok (.getfield 82, 3) := dk_180 0 82 (dk_at dksX2_done_1 0 rfl rfl)
theorem dX2_done_27 : decode cX2_done 27 = .ok (.bipush 64, 2) := dk_16 64 (dk_at dksX2_done_1 3 rfl rfl)
theorem dX2_done_29 : decode cX2_done 29 = .ok (.iload_n 1, 1) := dk_27 (dk_at dksX2_done_1 5 rfl rfl)
theorem dX2_done_30 : decode cX2_done 30 = .ok (.imul, 1) := dk_104 (dk_at dksX2_done_1 6 rfl rfl)
theorem dX2_done_31 : decode cX2_done 31 = .ok (.aload_n 0, 1) := dk_42 (dk_at dksX2_done_1 7 rfl rfl)
theorem dX2_done_32 : decode cX2_done 32 = .ok (.getfield 59, 3) := dk_180 0 59 (dk_at dksX2_done_1 8 rfl rfl)
theorem dX2_done_35 : decode cX2_done 35 = .ok (.iload_n 2, 1) := dk_28 (dk_at dksX2_done_1 11 rfl rfl)
theorem dX2_done_36 : decode cX2_done 36 = .ok (.iaload, 1) := dk_46 (dk_at dksX2_done_1 12 rfl rfl)
theorem dX2_done_37 : decode cX2_done 37 = .ok (.iadd, 1) := dk_96 (dk_at dksX2_done_1 13 rfl rfl)
theorem dX2_done_38 : decode cX2_done 38 = .ok (.iaload, 1) := dk_46 (dk_at dksX2_done_1 14 rfl rfl)
theorem dX2_done_39 : decode cX2_done 39 = .ok (.aload_n 0, 1) := dk_42 (dk_at dksX2_done_1 15 rfl rfl)
theorem dX2_done_40 : decode cX2_done 40 = .ok (.getfield 62, 3) := dk_180 0 62 (dk_at dksX2_done_1 16 rfl rfl)
theorem dX2_done_43 : decode cX2_done 43 = .ok (.iload_n 2, 1) := dk_28 (dk_at dksX2_done_1 19 rfl rfl)
theorem dX2_done_44 : decode cX2_done 44 = .ok (.iaload, 1) := dk_46 (dk_at dksX2_done_1 20 rfl rfl)
theorem dX2_done_45 : decode cX2_done 45 = .ok (.iadd, 1) := dk_96 (dk_at dksX2_done_1 21 rfl rfl)
theorem dX2_done_46 : decode cX2_done 46 = .ok (.istore 4, 2) := dk_54 4 (dk_at dksX2_done_1 22 rfl rfl)
theorem dX2_done_48 : decode cX2_done 48 = .ok (.aload_n 0, 1) := dk_42 (dk_at dksX2_done_2 0 rfl rfl)
theorem dX2_done_49 : decode cX2_done 49 = .ok (.getfield 1188, 3) := dk_180 4 164 (dk_at dksX2_done_2 1 rfl rfl)
theorem dX2_done_52 : decode cX2_done 52 = .ok (.iload_n 3, 1) := dk_29 (dk_at dksX2_done_2 4 rfl rfl)
theorem dX2_done_53 : decode cX2_done 53 = .ok (.iadd, 1) := dk_96 (dk_at dksX2_done_2 5 rfl rfl)
theorem dX2_done_54 : decode cX2_done 54 = .ok (.iconst 4, 1) := dk_7 (dk_at dksX2_done_2 6 rfl rfl)
theorem dX2_done_55 : decode cX2_done 55 = .ok (.iadd, 1) := dk_96 (dk_at dksX2_done_2 7 rfl rfl)
theorem dX2_done_56 : decode cX2_done 56 = .ok (.istore 5, 2) := dk_54 5 (dk_at dksX2_done_2 8 rfl rfl)
theorem dX2_done_58 : decode cX2_done 58 = .ok (.aload_n 0, 1) := dk_42 (dk_at dksX2_done_2 10 rfl rfl)
theorem dX2_done_59 : decode cX2_done 59 = .ok (.iload_n 3, 1) := dk_29 (dk_at dksX2_done_2 11 rfl rfl)
theorem dX2_done_60 : decode cX2_done 60 = .ok (.invokevirtual 1217, 3) := dk_182 4 193 (dk_at dksX2_done_2 12 rfl rfl)
theorem dX2_done_63 : decode cX2_done 63 = .ok (.istore 6, 2) := dk_54 6 (dk_at dksX2_done_2 15 rfl rfl)
theorem dX2_done_65 : decode cX2_done 65 = .ok (.iload 4, 2) := dk_21 4 (dk_at dksX2_done_2 17 rfl rfl)
theorem dX2_done_67 : decode cX2_done 67 = .ok (.iload 5, 2) := dk_21 5 (dk_at dksX2_done_2 19 rfl rfl)
theorem dX2_done_69 : decode cX2_done 69 = .ok (.isub, 1) := dk_100 (dk_at dksX2_done_2 21 rfl rfl)
theorem dX2_done_70 : decode cX2_done 70 = .ok (.i2l, 1) := dk_133 (dk_at dksX2_done_2 22 rfl rfl)
theorem dX2_done_71 : decode cX2_done 71 = .ok (.lstore 7, 2) := dk_55 7 (dk_at dksX2_done_3 0 rfl rfl)
theorem dX2_done_73 : decode cX2_done 73 = .ok (.aload_n 0, 1) := dk_42 (dk_at dksX2_done_3 2 rfl rfl)
theorem dX2_done_74 : decode cX2_done 74 = .ok (.getfield 56, 3) := dk_180 0 56 (dk_at dksX2_done_3 3 rfl rfl)
theorem dX2_done_77 : decode cX2_done 77 = .ok (.iload_n 2, 1) := dk_28 (dk_at dksX2_done_3 6 rfl rfl)
theorem dX2_done_78 : decode cX2_done 78 = .ok (.iaload, 1) := dk_46 (dk_at dksX2_done_3 7 rfl rfl)
theorem dX2_done_79 : decode cX2_done 79 = .ok (.tableswitch 120 2 6 #[33, 120, 78, 40, 60], 33) := by decide +kernel
theorem dX2_done_112 : decode cX2_done 112 = .ok (.iload 4, 2) := dk_21 4 (dk_at dksX2_done_5 0 rfl rfl)
theorem dX2_done_114 : decode cX2_done 114 = .ok (.istore 6, 2) := dk_54 6 (dk_at dksX2_done_5 2 rfl rfl)
theorem dX2_done_116 : decode cX2_done 116 = .ok (.goto 142, 3) := dk_167 0 142 (dk_at dksX2_done_5 4 rfl rfl)
theorem dX2_done_119 : decode cX2_done 119 = .ok (.iload 6, 2) := dk_21 6 (dk_at dksX2_done_5 7 rfl rfl)
theorem dX2_done_121 : decode cX2_done 121 = .ok (.ldc_w 1220, 3) := dk_19 4 196 (dk_at dksX2_done_5 9 rfl rfl)
theorem dX2_done_124 : decode cX2_done 124 = .ok (.iand, 1) := dk_126 (dk_at dksX2_done_5 12 rfl rfl)
theorem dX2_done_125 : decode cX2_done 125 = .ok (.iload 4, 2) := dk_21 4 (dk_at dksX2_done_5 13 rfl rfl)
theorem dX2_done_127 : decode cX2_done 127 = .ok (.ldc 75, 2) := dk_18 75 (dk_at dksX2_done_5 15 rfl rfl)
theorem dX2_done_129 : decode cX2_done 129 = .ok (.iadd, 1) := dk_96 (dk_at dksX2_done_5 17 rfl rfl)
theorem dX2_done_130 : decode cX2_done 130 = .ok (.bipush 16, 2) := dk_16 16 (dk_at dksX2_done_5 18 rfl rfl)
theorem dX2_done_132 : decode cX2_done 132 = .ok (.iushr, 1) := dk_124 (dk_at dksX2_done_5 20 rfl rfl)
theorem dX2_done_133 : decode cX2_done 133 = .ok (.ior, 1) := dk_128 (dk_at dksX2_done_5 21 rfl rfl)
theorem dX2_done_134 : decode cX2_done 134 = .ok (.istore 6, 2) := dk_54 6 (dk_at dksX2_done_5 22 rfl rfl)
theorem dX2_done_136 : decode cX2_done 136 = .ok (.goto 122, 3) := dk_167 0 122 (dk_at dksX2_done_6 0 rfl rfl)
theorem dX2_done_139 : decode cX2_done 139 = .ok (.iload 6, 2) := dk_21 6 (dk_at dksX2_done_6 3 rfl rfl)
theorem dX2_done_141 : decode cX2_done 141 = .ok (.ldc_w 1220, 3) := dk_19 4 196 (dk_at dksX2_done_6 5 rfl rfl)
theorem dX2_done_144 : decode cX2_done 144 = .ok (.iand, 1) := dk_126 (dk_at dksX2_done_6 8 rfl rfl)
theorem dX2_done_145 : decode cX2_done 145 = .ok (.iload 4, 2) := dk_21 4 (dk_at dksX2_done_6 9 rfl rfl)
theorem dX2_done_147 : decode cX2_done 147 = .ok (.ldc_w 1038, 3) := dk_19 4 14 (dk_at dksX2_done_6 11 rfl rfl)
theorem dX2_done_150 : decode cX2_done 150 = .ok (.iand, 1) := dk_126 (dk_at dksX2_done_6 14 rfl rfl)
theorem dX2_done_151 : decode cX2_done 151 = .ok (.ior, 1) := dk_128 (dk_at dksX2_done_6 15 rfl rfl)
theorem dX2_done_152 : decode cX2_done 152 = .ok (.istore 6, 2) := dk_54 6 (dk_at dksX2_done_6 16 rfl rfl)
theorem dX2_done_154 : decode cX2_done 154 = .ok (.goto 104, 3) := dk_167 0 104 (dk_at dksX2_done_6 18 rfl rfl)
theorem dX2_done_157 : decode cX2_done 157 = .ok (.iload 4, 2) := dk_21 4 (dk_at dksX2_done_6 21 rfl rfl)
theorem dX2_done_159 : decode cX2_done 159 = .ok (.iconst 3, 1) := dk_6 (dk_at dksX2_done_6 23 rfl rfl)
theorem dX2_done_160 : decode cX2_done 160 = .ok (.iand, 1) := dk_126 (dk_at dksX2_done_7 0 rfl rfl)
theorem dX2_done_161 : decode cX2_done 161 = .ok (.ifCond .ne 16, 3) := dk_154 0 16 (dk_at dksX2_done_7 1 rfl rfl)
theorem dX2_done_164 : decode cX2_done 164 = .ok (.iload 4, 2) := dk_21 4 (dk_at dksX2_done_7 4 rfl rfl)
theorem dX2_done_166 : decode cX2_done 166 = .ok (.bipush 28, 2) := dk_16 28 (dk_at dksX2_done_7 6 rfl rfl)
theorem dX2_done_168 : decode cX2_done 168 = .ok (.iushr, 1) := dk_124 (dk_at dksX2_done_7 8 rfl rfl)
theorem dX2_done_169 : decode cX2_done 169 = .ok (.iload 5, 2) := dk_21 5 (dk_at dksX2_done_7 9 rfl rfl)
theorem dX2_done_171 : decode cX2_done 171 = .ok (.bipush 28, 2) := dk_16 28 (dk_at dksX2_done_7 11 rfl rfl)
theorem dX2_done_173 : decode cX2_done 173 = .ok (.iushr, 1) := dk_124 (dk_at dksX2_done_7 13 rfl rfl)
theorem dX2_done_174 : decode cX2_done 174 = .ok (.if_icmp .eq 5, 3) := dk_159 0 5 (dk_at dksX2_done_7 14 rfl rfl)
theorem dX2_done_177 : decode cX2_done 177 = .ok (.iconst 0, 1) := dk_3 (dk_at dksX2_done_7 17 rfl rfl)
theorem dX2_done_178 : decode cX2_done 178 = .ok (.ireturn, 1) := dk_172 (dk_at dksX2_done_7 18 rfl rfl)
theorem dX2_done_179 : decode cX2_done 179 = .ok (.iload 6, 2) := dk_21 6 (dk_at dksX2_done_7 19 rfl rfl)
theorem dX2_done_181 : decode cX2_done 181 = .ok (.ldc_w 1221, 3) := dk_19 4 197 (dk_at dksX2_done_7 21 rfl rfl)
theorem dX2_done_184 : decode cX2_done 184 = .ok (.iand, 1) := dk_126 (dk_at dksX2_done_8 0 rfl rfl)
theorem dX2_done_185 : decode cX2_done 185 = .ok (.iload 4, 2) := dk_21 4 (dk_at dksX2_done_8 1 rfl rfl)
theorem dX2_done_187 : decode cX2_done 187 = .ok (.iconst 2, 1) := dk_5 (dk_at dksX2_done_8 3 rfl rfl)
theorem dX2_done_188 : decode cX2_done 188 = .ok (.iushr, 1) := dk_124 (dk_at dksX2_done_8 4 rfl rfl)
theorem dX2_done_189 : decode cX2_done 189 = .ok (.ldc_w 1222, 3) := dk_19 4 198 (dk_at dksX2_done_8 5 rfl rfl)
theorem dX2_done_192 : decode cX2_done 192 = .ok (.iand, 1) := dk_126 (dk_at dksX2_done_8 8 rfl rfl)
theorem dX2_done_193 : decode cX2_done 193 = .ok (.ior, 1) := dk_128 (dk_at dksX2_done_8 9 rfl rfl)
theorem dX2_done_194 : decode cX2_done 194 = .ok (.istore 6, 2) := dk_54 6 (dk_at dksX2_done_8 10 rfl rfl)
theorem dX2_done_196 : decode cX2_done 196 = .ok (.goto 62, 3) := dk_167 0 62 (dk_at dksX2_done_8 12 rfl rfl)
theorem dX2_done_199 : decode cX2_done 199 = .ok (.lload 7, 2) := dk_22 7 (dk_at dksX2_done_8 15 rfl rfl)
theorem dX2_done_201 : decode cX2_done 201 = .ok (.ldc2_w 1167, 3) := dk_20 4 143 (dk_at dksX2_done_8 17 rfl rfl)
theorem dX2_done_204 : decode cX2_done 204 = .ok (.lrem, 1) := dk_113 (dk_at dksX2_done_8 20 rfl rfl)
theorem dX2_done_205 : decode cX2_done 205 = .ok (.lconst 0, 1) := dk_9 (dk_at dksX2_done_8 21 rfl rfl)
theorem dX2_done_206 : decode cX2_done 206 = .ok (.lcmp, 1) := dk_148 (dk_at dksX2_done_8 22 rfl rfl)
theorem dX2_done_207 : decode cX2_done 207 = .ok (.ifCond .ne 29, 3) := dk_154 0 29 (dk_at dksX2_done_9 0 rfl rfl)
theorem dX2_done_210 : decode cX2_done 210 = .ok (.lload 7, 2) := dk_22 7 (dk_at dksX2_done_9 3 rfl rfl)
theorem dX2_done_212 : decode cX2_done 212 = .ok (.ldc2_w 1167, 3) := dk_20 4 143 (dk_at dksX2_done_9 5 rfl rfl)
theorem dX2_done_215 : decode cX2_done 215 = .ok (.ldiv, 1) := dk_109 (dk_at dksX2_done_9 8 rfl rfl)
theorem dX2_done_216 : decode cX2_done 216 = .ok (.ldc2_w 1108, 3) := dk_20 4 84 (dk_at dksX2_done_9 9 rfl rfl)
theorem dX2_done_219 : decode cX2_done 219 = .ok (.lcmp, 1) := dk_148 (dk_at dksX2_done_9 12 rfl rfl)
theorem dX2_done_220 : decode cX2_done 220 = .ok (.ifCond .lt 16, 3) := dk_155 0 16 (dk_at dksX2_done_9 13 rfl rfl)
theorem dX2_done_223 : decode cX2_done 223 = .ok (.lload 7, 2) := dk_22 7 (dk_at dksX2_done_9 16 rfl rfl)
theorem dX2_done_225 : decode cX2_done 225 = .ok (.ldc2_w 1167, 3) := dk_20 4 143 (dk_at dksX2_done_9 18 rfl rfl)
theorem dX2_done_228 : decode cX2_done 228 = .ok (.ldiv, 1) := dk_109 (dk_at dksX2_done_9 21 rfl rfl)
theorem dX2_done_229 : decode cX2_done 229 = .ok (.ldc2_w 1110, 3) := dk_20 4 86 (dk_at dksX2_done_10 0 rfl rfl)
theorem dX2_done_232 : decode cX2_done 232 = .ok (.lcmp, 1) := dk_148 (dk_at dksX2_done_10 3 rfl rfl)
theorem dX2_done_233 : decode cX2_done 233 = .ok (.ifCond .le 5, 3) := dk_158 0 5 (dk_at dksX2_done_10 4 rfl rfl)
theorem dX2_done_236 : decode cX2_done 236 = .ok (.iconst 0, 1) := dk_3 (dk_at dksX2_done_10 7 rfl rfl)
theorem dX2_done_237 : decode cX2_done 237 = .ok (.ireturn, 1) := dk_172 (dk_at dksX2_done_10 8 rfl rfl)
theorem dX2_done_238 : decode cX2_done 238 = .ok (.iload 6, 2) := dk_21 6 (dk_at dksX2_done_10 9 rfl rfl)
theorem dX2_done_240 : decode cX2_done 240 = .ok (.ldc_w 1220, 3) := dk_19 4 196 (dk_at dksX2_done_10 11 rfl rfl)
theorem dX2_done_243 : decode cX2_done 243 = .ok (.iand, 1) := dk_126 (dk_at dksX2_done_10 14 rfl rfl)
theorem dX2_done_244 : decode cX2_done 244 = .ok (.lload 7, 2) := dk_22 7 (dk_at dksX2_done_10 15 rfl rfl)
theorem dX2_done_246 : decode cX2_done 246 = .ok (.ldc2_w 1167, 3) := dk_20 4 143 (dk_at dksX2_done_10 17 rfl rfl)
theorem dX2_done_249 : decode cX2_done 249 = .ok (.ldiv, 1) := dk_109 (dk_at dksX2_done_10 20 rfl rfl)
theorem dX2_done_250 : decode cX2_done 250 = .ok (.l2i, 1) := dk_136 (dk_at dksX2_done_10 21 rfl rfl)
theorem dX2_done_251 : decode cX2_done 251 = .ok (.ldc_w 1038, 3) := dk_19 4 14 (dk_at dksX2_done_11 0 rfl rfl)
theorem dX2_done_254 : decode cX2_done 254 = .ok (.iand, 1) := dk_126 (dk_at dksX2_done_11 3 rfl rfl)
theorem dX2_done_255 : decode cX2_done 255 = .ok (.ior, 1) := dk_128 (dk_at dksX2_done_11 4 rfl rfl)
theorem dX2_done_256 : decode cX2_done 256 = .ok (.istore 6, 2) := dk_54 6 (dk_at dksX2_done_11 5 rfl rfl)
theorem dX2_done_258 : decode cX2_done 258 = .ok (.iconst 0, 1) := dk_3 (dk_at dksX2_done_11 7 rfl rfl)
theorem dX2_done_259 : decode cX2_done 259 = .ok (.istore 9, 2) := dk_54 9 (dk_at dksX2_done_11 8 rfl rfl)
theorem dX2_done_261 : decode cX2_done 261 = .ok (.iload 9, 2) := dk_21 9 (dk_at dksX2_done_11 10 rfl rfl)
theorem dX2_done_263 : decode cX2_done 263 = .ok (.iconst 4, 1) := dk_7 (dk_at dksX2_done_11 12 rfl rfl)
theorem dX2_done_264 : decode cX2_done 264 = .ok (.if_icmp .ge 30, 3) := dk_162 0 30 (dk_at dksX2_done_11 13 rfl rfl)
theorem dX2_done_267 : decode cX2_done 267 = .ok (.aload_n 0, 1) := dk_42 (dk_at dksX2_done_11 16 rfl rfl)
theorem dX2_done_268 : decode cX2_done 268 = .ok (.getfield 76, 3) := dk_180 0 76 (dk_at dksX2_done_11 17 rfl rfl)
theorem dX2_done_271 : decode cX2_done 271 = .ok (.iload_n 3, 1) := dk_29 (dk_at dksX2_done_11 20 rfl rfl)
theorem dX2_done_272 : decode cX2_done 272 = .ok (.iload 9, 2) := dk_21 9 (dk_at dksX2_done_11 21 rfl rfl)
theorem dX2_done_274 : decode cX2_done 274 = .ok (.iadd, 1) := dk_96 (dk_at dksX2_done_11 23 rfl rfl)
theorem dX2_done_275 : decode cX2_done 275 = .ok (.iload 6, 2) := dk_21 6 (dk_at dksX2_done_12 0 rfl rfl)
theorem dX2_done_277 : decode cX2_done 277 = .ok (.bipush 24, 2) := dk_16 24 (dk_at dksX2_done_12 2 rfl rfl)
theorem dX2_done_279 : decode cX2_done 279 = .ok (.bipush 8, 2) := dk_16 8 (dk_at dksX2_done_12 4 rfl rfl)
theorem dX2_done_281 : decode cX2_done 281 = .ok (.iload 9, 2) := dk_21 9 (dk_at dksX2_done_12 6 rfl rfl)
theorem dX2_done_283 : decode cX2_done 283 = .ok (.imul, 1) := dk_104 (dk_at dksX2_done_12 8 rfl rfl)
theorem dX2_done_284 : decode cX2_done 284 = .ok (.isub, 1) := dk_100 (dk_at dksX2_done_12 9 rfl rfl)
theorem dX2_done_285 : decode cX2_done 285 = .ok (.ishr, 1) := dk_122 (dk_at dksX2_done_12 10 rfl rfl)
theorem dX2_done_286 : decode cX2_done 286 = .ok (.i2b, 1) := dk_145 (dk_at dksX2_done_12 11 rfl rfl)
theorem dX2_done_287 : decode cX2_done 287 = .ok (.bastore, 1) := dk_84 (dk_at dksX2_done_12 12 rfl rfl)
theorem dX2_done_288 : decode cX2_done 288 = .ok (.iinc 9 1, 3) := dk_132 9 1 (dk_at dksX2_done_12 13 rfl rfl)
theorem dX2_done_291 : decode cX2_done 291 = .ok (.goto (-30), 3) := dk_167 255 226 (dk_at dksX2_done_12 16 rfl rfl)
theorem dX2_done_294 : decode cX2_done 294 = .ok (.iconst 1, 1) := dk_4 (dk_at dksX2_done_12 19 rfl rfl)
theorem dX2_done_295 : decode cX2_done 295 = .ok (.ireturn, 1) := dk_172 (dk_at dksX2_done_12 20 rfl rfl)
abbrev cX2_wordIn : ByteArray := prog_4_method_86_code
def yX2_wordIn : MethodName := ⟨RX2, "wordIn", "(I)I"⟩
def dkwX2_wordIn_2 : List UInt8 := [51, 17, 0, 255, 126, 128, 172]
abbrev dktX2_wordIn_2 : List UInt8 := dkwX2_wordIn_2 ++ []
def dkwX2_wordIn_1 : List UInt8 := [128, 42, 180, 0, 76, 27, 5, 96, 51, 17, 0, 255, 126, 16, 8, 120, 128, 42, 180, 0, 76, 27, 6, 96]
abbrev dktX2_wordIn_1 : List UInt8 := dkwX2_wordIn_1 ++ dktX2_wordIn_2
def dkwX2_wordIn_0 : List UInt8 := [42, 180, 0, 76, 27, 51, 16, 24, 120, 42, 180, 0, 76, 27, 4, 96, 51, 17, 0, 255, 126, 16, 16, 120]
abbrev dktX2_wordIn_0 : List UInt8 := dkwX2_wordIn_0 ++ dktX2_wordIn_1
theorem dksX2_wordIn_0 : cX2_wordIn.data.toList.drop 0 = dktX2_wordIn_0 := by decide +kernel
theorem dksX2_wordIn_1 : cX2_wordIn.data.toList.drop 24 = dktX2_wordIn_1 := dk_seg dksX2_wordIn_0 24 rfl rfl
theorem dksX2_wordIn_2 : cX2_wordIn.data.toList.drop 48 = dktX2_wordIn_2 := dk_seg dksX2_wordIn_1 24 rfl rfl
theorem dX2_wordIn_0 : decode cX2_wordIn 0 = .ok (.aload_n 0, 1) := dk_42 (dk_at dksX2_wordIn_0 0 rfl rfl)
theorem dX2_wordIn_1 : decode cX2_wordIn 1 = .ok (.getfield 76, 3) := dk_180 0 76 (dk_at dksX2_wordIn_0 1 rfl rfl)
theorem dX2_wordIn_4 : decode cX2_wordIn 4 = .ok (.iload_n 1, 1) := dk_27 (dk_at dksX2_wordIn_0 4 rfl rfl)
theorem dX2_wordIn_5 : decode cX2_wordIn 5 = .ok (.baload, 1) := dk_51 (dk_at dksX2_wordIn_0 5 rfl rfl)
theorem dX2_wordIn_6 : decode cX2_wordIn 6 = .ok (.bipush 24, 2) := dk_16 24 (dk_at dksX2_wordIn_0 6 rfl rfl)
theorem dX2_wordIn_8 : decode cX2_wordIn 8 = .ok (.ishl, 1) := dk_120 (dk_at dksX2_wordIn_0 8 rfl rfl)
theorem dX2_wordIn_9 : decode cX2_wordIn 9 = .ok (.aload_n 0, 1) := dk_42 (dk_at dksX2_wordIn_0 9 rfl rfl)
theorem dX2_wordIn_10 : decode cX2_wordIn 10 = .ok (.getfield 76, 3) := dk_180 0 76 (dk_at dksX2_wordIn_0 10 rfl rfl)
theorem dX2_wordIn_13 : decode cX2_wordIn 13 = .ok (.iload_n 1, 1) := dk_27 (dk_at dksX2_wordIn_0 13 rfl rfl)
theorem dX2_wordIn_14 : decode cX2_wordIn 14 = .ok (.iconst 1, 1) := dk_4 (dk_at dksX2_wordIn_0 14 rfl rfl)
theorem dX2_wordIn_15 : decode cX2_wordIn 15 = .ok (.iadd, 1) := dk_96 (dk_at dksX2_wordIn_0 15 rfl rfl)
theorem dX2_wordIn_16 : decode cX2_wordIn 16 = .ok (.baload, 1) := dk_51 (dk_at dksX2_wordIn_0 16 rfl rfl)
theorem dX2_wordIn_17 : decode cX2_wordIn 17 = .ok (.sipush 255, 3) := dk_17 0 255 (dk_at dksX2_wordIn_0 17 rfl rfl)
theorem dX2_wordIn_20 : decode cX2_wordIn 20 = .ok (.iand, 1) := dk_126 (dk_at dksX2_wordIn_0 20 rfl rfl)
theorem dX2_wordIn_21 : decode cX2_wordIn 21 = .ok (.bipush 16, 2) := dk_16 16 (dk_at dksX2_wordIn_0 21 rfl rfl)
theorem dX2_wordIn_23 : decode cX2_wordIn 23 = .ok (.ishl, 1) := dk_120 (dk_at dksX2_wordIn_0 23 rfl rfl)
theorem dX2_wordIn_24 : decode cX2_wordIn 24 = .ok (.ior, 1) := dk_128 (dk_at dksX2_wordIn_1 0 rfl rfl)
theorem dX2_wordIn_25 : decode cX2_wordIn 25 = .ok (.aload_n 0, 1) := dk_42 (dk_at dksX2_wordIn_1 1 rfl rfl)
theorem dX2_wordIn_26 : decode cX2_wordIn 26 = .ok (.getfield 76, 3) := dk_180 0 76 (dk_at dksX2_wordIn_1 2 rfl rfl)
theorem dX2_wordIn_29 : decode cX2_wordIn 29 = .ok (.iload_n 1, 1) := dk_27 (dk_at dksX2_wordIn_1 5 rfl rfl)
theorem dX2_wordIn_30 : decode cX2_wordIn 30 = .ok (.iconst 2, 1) := dk_5 (dk_at dksX2_wordIn_1 6 rfl rfl)
theorem dX2_wordIn_31 : decode cX2_wordIn 31 = .ok (.iadd, 1) := dk_96 (dk_at dksX2_wordIn_1 7 rfl rfl)
theorem dX2_wordIn_32 : decode cX2_wordIn 32 = .ok (.baload, 1) := dk_51 (dk_at dksX2_wordIn_1 8 rfl rfl)
theorem dX2_wordIn_33 : decode cX2_wordIn 33 = .ok (.sipush 255, 3) := dk_17 0 255 (dk_at dksX2_wordIn_1 9 rfl rfl)
theorem dX2_wordIn_36 : decode cX2_wordIn 36 = .ok (.iand, 1) := dk_126 (dk_at dksX2_wordIn_1 12 rfl rfl)
theorem dX2_wordIn_37 : decode cX2_wordIn 37 = .ok (.bipush 8, 2) := dk_16 8 (dk_at dksX2_wordIn_1 13 rfl rfl)
theorem dX2_wordIn_39 : decode cX2_wordIn 39 = .ok (.ishl, 1) := dk_120 (dk_at dksX2_wordIn_1 15 rfl rfl)
theorem dX2_wordIn_40 : decode cX2_wordIn 40 = .ok (.ior, 1) := dk_128 (dk_at dksX2_wordIn_1 16 rfl rfl)
theorem dX2_wordIn_41 : decode cX2_wordIn 41 = .ok (.aload_n 0, 1) := dk_42 (dk_at dksX2_wordIn_1 17 rfl rfl)
theorem dX2_wordIn_42 : decode cX2_wordIn 42 = .ok (.getfield 76, 3) := dk_180 0 76 (dk_at dksX2_wordIn_1 18 rfl rfl)
theorem dX2_wordIn_45 : decode cX2_wordIn 45 = .ok (.iload_n 1, 1) := dk_27 (dk_at dksX2_wordIn_1 21 rfl rfl)
theorem dX2_wordIn_46 : decode cX2_wordIn 46 = .ok (.iconst 3, 1) := dk_6 (dk_at dksX2_wordIn_1 22 rfl rfl)
theorem dX2_wordIn_47 : decode cX2_wordIn 47 = .ok (.iadd, 1) := dk_96 (dk_at dksX2_wordIn_1 23 rfl rfl)
theorem dX2_wordIn_48 : decode cX2_wordIn 48 = .ok (.baload, 1) := dk_51 (dk_at dksX2_wordIn_2 0 rfl rfl)
theorem dX2_wordIn_49 : decode cX2_wordIn 49 = .ok (.sipush 255, 3) := dk_17 0 255 (dk_at dksX2_wordIn_2 1 rfl rfl)
theorem dX2_wordIn_52 : decode cX2_wordIn 52 = .ok (.iand, 1) := dk_126 (dk_at dksX2_wordIn_2 4 rfl rfl)
theorem dX2_wordIn_53 : decode cX2_wordIn 53 = .ok (.ior, 1) := dk_128 (dk_at dksX2_wordIn_2 5 rfl rfl)
theorem dX2_wordIn_54 : decode cX2_wordIn 54 = .ok (.ireturn, 1) := dk_172 (dk_at dksX2_wordIn_2 6 rfl rfl)
abbrev cX2_word : ByteArray := prog_4_method_88_code
def yX2_word : MethodName := ⟨RX2, "word", "(I)I"⟩
def dkwX2_word_2 : List UInt8 := [28, 182, 4, 193, 172]
abbrev dktX2_word_2 : List UInt8 := dkwX2_word_2 ++ []
def dkwX2_word_1 : List UInt8 := [154, 0, 17, 28, 155, 0, 13, 28, 42, 180, 4, 187, 7, 100, 164, 0, 9, 42, 4, 182, 0, 94, 172, 42]
abbrev dktX2_word_1 : List UInt8 := dkwX2_word_1 ++ dktX2_word_2
def dkwX2_word_0 : List UInt8 := [42, 3, 181, 0, 88, 27, 42, 180, 4, 164, 100, 61, 42, 180, 4, 167, 153, 0, 23, 27, 6, 126]
abbrev dktX2_word_0 : List UInt8 := dkwX2_word_0 ++ dktX2_word_1
theorem dksX2_word_0 : cX2_word.data.toList.drop 0 = dktX2_word_0 := by decide +kernel
theorem dksX2_word_1 : cX2_word.data.toList.drop 22 = dktX2_word_1 := dk_seg dksX2_word_0 22 rfl rfl
theorem dksX2_word_2 : cX2_word.data.toList.drop 46 = dktX2_word_2 := dk_seg dksX2_word_1 24 rfl rfl
theorem dX2_word_0 : decode cX2_word 0 = .ok (.aload_n 0, 1) := dk_42 (dk_at dksX2_word_0 0 rfl rfl)
theorem dX2_word_1 : decode cX2_word 1 = .ok (.iconst 0, 1) := dk_3 (dk_at dksX2_word_0 1 rfl rfl)
theorem dX2_word_2 : decode cX2_word 2 = .ok (.putfield 88, 3) := dk_181 0 88 (dk_at dksX2_word_0 2 rfl rfl)
theorem dX2_word_5 : decode cX2_word 5 = .ok (.iload_n 1, 1) := dk_27 (dk_at dksX2_word_0 5 rfl rfl)
theorem dX2_word_6 : decode cX2_word 6 = .ok (.aload_n 0, 1) := dk_42 (dk_at dksX2_word_0 6 rfl rfl)
theorem dX2_word_7 : decode cX2_word 7 = .ok (.getfield 1188, 3) := dk_180 4 164 (dk_at dksX2_word_0 7 rfl rfl)
theorem dX2_word_10 : decode cX2_word 10 = .ok (.isub, 1) := dk_100 (dk_at dksX2_word_0 10 rfl rfl)
theorem dX2_word_11 : decode cX2_word 11 = .ok (.istore_n 2, 1) := dk_61 (dk_at dksX2_word_0 11 rfl rfl)
theorem dX2_word_12 : decode cX2_word 12 = .ok (.aload_n 0, 1) := dk_42 (dk_at dksX2_word_0 12 rfl rfl)
theorem dX2_word_13 : decode cX2_word 13 = .ok (.getfield 1191, 3) := dk_180 4 167 (dk_at dksX2_word_0 13 rfl rfl)
theorem dX2_word_16 : decode cX2_word 16 = .ok (.ifCond .eq 23, 3) := dk_153 0 23 (dk_at dksX2_word_0 16 rfl rfl)
theorem dX2_word_19 : decode cX2_word 19 = .ok (.iload_n 1, 1) := dk_27 (dk_at dksX2_word_0 19 rfl rfl)
theorem dX2_word_20 : decode cX2_word 20 = .ok (.iconst 3, 1) := dk_6 (dk_at dksX2_word_0 20 rfl rfl)
theorem dX2_word_21 : decode cX2_word 21 = .ok (.iand, 1) := dk_126 (dk_at dksX2_word_0 21 rfl rfl)
theorem dX2_word_22 : decode cX2_word 22 = .ok (.ifCond .ne 17, 3) := dk_154 0 17 (dk_at dksX2_word_1 0 rfl rfl)
theorem dX2_word_25 : decode cX2_word 25 = .ok (.iload_n 2, 1) := dk_28 (dk_at dksX2_word_1 3 rfl rfl)
theorem dX2_word_26 : decode cX2_word 26 = .ok (.ifCond .lt 13, 3) := dk_155 0 13 (dk_at dksX2_word_1 4 rfl rfl)
theorem dX2_word_29 : decode cX2_word 29 = .ok (.iload_n 2, 1) := dk_28 (dk_at dksX2_word_1 7 rfl rfl)
theorem dX2_word_30 : decode cX2_word 30 = .ok (.aload_n 0, 1) := dk_42 (dk_at dksX2_word_1 8 rfl rfl)
theorem dX2_word_31 : decode cX2_word 31 = .ok (.getfield 1211, 3) := dk_180 4 187 (dk_at dksX2_word_1 9 rfl rfl)
theorem dX2_word_34 : decode cX2_word 34 = .ok (.iconst 4, 1) := dk_7 (dk_at dksX2_word_1 12 rfl rfl)
theorem dX2_word_35 : decode cX2_word 35 = .ok (.isub, 1) := dk_100 (dk_at dksX2_word_1 13 rfl rfl)
theorem dX2_word_36 : decode cX2_word 36 = .ok (.if_icmp .le 9, 3) := dk_164 0 9 (dk_at dksX2_word_1 14 rfl rfl)
theorem dX2_word_39 : decode cX2_word 39 = .ok (.aload_n 0, 1) := dk_42 (dk_at dksX2_word_1 17 rfl rfl)
theorem dX2_word_40 : decode cX2_word 40 = .ok (.iconst 1, 1) := dk_4 (dk_at dksX2_word_1 18 rfl rfl)
theorem dX2_word_41 : decode cX2_word 41 = .ok (.invokevirtual 94, 3) := dk_182 0 94 (dk_at dksX2_word_1 19 rfl rfl)
theorem dX2_word_44 : decode cX2_word 44 = .ok (.ireturn, 1) := dk_172 (dk_at dksX2_word_1 22 rfl rfl)
theorem dX2_word_45 : decode cX2_word 45 = .ok (.aload_n 0, 1) := dk_42 (dk_at dksX2_word_1 23 rfl rfl)
theorem dX2_word_46 : decode cX2_word 46 = .ok (.iload_n 2, 1) := dk_28 (dk_at dksX2_word_2 0 rfl rfl)
theorem dX2_word_47 : decode cX2_word 47 = .ok (.invokevirtual 1217, 3) := dk_182 4 193 (dk_at dksX2_word_2 1 rfl rfl)
theorem dX2_word_50 : decode cX2_word 50 = .ok (.ireturn, 1) := dk_172 (dk_at dksX2_word_2 4 rfl rfl)
abbrev cX2_address : ByteArray := prog_4_method_89_code
def yX2_address : MethodName := ⟨RX2, "address", "(II)I"⟩
def dkwX2_address_2 : List UInt8 := [162, 0, 17, 42, 180, 0, 82, 16, 64, 27, 104, 28, 96, 46, 167, 0, 8, 42, 5, 182, 0, 94, 172]
abbrev dktX2_address_2 : List UInt8 := dkwX2_address_2 ++ []
def dkwX2_address_1 : List UInt8 := [184, 4, 157, 154, 0, 9, 42, 4, 182, 0, 94, 172, 42, 180, 4, 167, 153, 0, 25, 27, 42, 180, 4, 190]
abbrev dktX2_address_1 : List UInt8 := dkwX2_address_1 ++ dktX2_address_2
def dkwX2_address_0 : List UInt8 := [42, 3, 181, 0, 88, 27, 42, 180, 3, 242, 184, 4, 157, 153, 0, 16, 28, 42, 180, 0, 21, 27, 46]
abbrev dktX2_address_0 : List UInt8 := dkwX2_address_0 ++ dktX2_address_1
theorem dksX2_address_0 : cX2_address.data.toList.drop 0 = dktX2_address_0 := by decide +kernel
theorem dksX2_address_1 : cX2_address.data.toList.drop 23 = dktX2_address_1 := dk_seg dksX2_address_0 23 rfl rfl
theorem dksX2_address_2 : cX2_address.data.toList.drop 47 = dktX2_address_2 := dk_seg dksX2_address_1 24 rfl rfl
theorem dX2_address_0 : decode cX2_address 0 = .ok (.aload_n 0, 1) := dk_42 (dk_at dksX2_address_0 0 rfl rfl)
theorem dX2_address_1 : decode cX2_address 1 = .ok (.iconst 0, 1) := dk_3 (dk_at dksX2_address_0 1 rfl rfl)
theorem dX2_address_2 : decode cX2_address 2 = .ok (.putfield 88, 3) := dk_181 0 88 (dk_at dksX2_address_0 2 rfl rfl)
theorem dX2_address_5 : decode cX2_address 5 = .ok (.iload_n 1, 1) := dk_27 (dk_at dksX2_address_0 5 rfl rfl)
theorem dX2_address_6 : decode cX2_address 6 = .ok (.aload_n 0, 1) := dk_42 (dk_at dksX2_address_0 6 rfl rfl)
theorem dX2_address_7 : decode cX2_address 7 = .ok (.getfield 1010, 3) := dk_180 3 242 (dk_at dksX2_address_0 7 rfl rfl)
theorem dX2_address_10 : decode cX2_address 10 = .ok (.invokestatic 1181, 3) := dk_184 4 157 (dk_at dksX2_address_0 10 rfl rfl)
theorem dX2_address_13 : decode cX2_address 13 = .ok (.ifCond .eq 16, 3) := dk_153 0 16 (dk_at dksX2_address_0 13 rfl rfl)
theorem dX2_address_16 : decode cX2_address 16 = .ok (.iload_n 2, 1) := dk_28 (dk_at dksX2_address_0 16 rfl rfl)
theorem dX2_address_17 : decode cX2_address 17 = .ok (.aload_n 0, 1) := dk_42 (dk_at dksX2_address_0 17 rfl rfl)
theorem dX2_address_18 : decode cX2_address 18 = .ok (.getfield 21, 3) := dk_180 0 21 (dk_at dksX2_address_0 18 rfl rfl)
theorem dX2_address_21 : decode cX2_address 21 = .ok (.iload_n 1, 1) := dk_27 (dk_at dksX2_address_0 21 rfl rfl)
theorem dX2_address_22 : decode cX2_address 22 = .ok (.iaload, 1) := dk_46 (dk_at dksX2_address_0 22 rfl rfl)
theorem dX2_address_23 : decode cX2_address 23 = .ok (.invokestatic 1181, 3) := dk_184 4 157 (dk_at dksX2_address_1 0 rfl rfl)
theorem dX2_address_26 : decode cX2_address 26 = .ok (.ifCond .ne 9, 3) := dk_154 0 9 (dk_at dksX2_address_1 3 rfl rfl)
theorem dX2_address_29 : decode cX2_address 29 = .ok (.aload_n 0, 1) := dk_42 (dk_at dksX2_address_1 6 rfl rfl)
theorem dX2_address_30 : decode cX2_address 30 = .ok (.iconst 1, 1) := dk_4 (dk_at dksX2_address_1 7 rfl rfl)
theorem dX2_address_31 : decode cX2_address 31 = .ok (.invokevirtual 94, 3) := dk_182 0 94 (dk_at dksX2_address_1 8 rfl rfl)
theorem dX2_address_34 : decode cX2_address 34 = .ok (.ireturn, 1) := dk_172 (dk_at dksX2_address_1 11 rfl rfl)
theorem dX2_address_35 : decode cX2_address 35 = .ok (.aload_n 0, 1) := dk_42 (dk_at dksX2_address_1 12 rfl rfl)
theorem dX2_address_36 : decode cX2_address 36 = .ok (.getfield 1191, 3) := dk_180 4 167 (dk_at dksX2_address_1 13 rfl rfl)
theorem dX2_address_39 : decode cX2_address 39 = .ok (.ifCond .eq 25, 3) := dk_153 0 25 (dk_at dksX2_address_1 16 rfl rfl)
theorem dX2_address_42 : decode cX2_address 42 = .ok (.iload_n 1, 1) := dk_27 (dk_at dksX2_address_1 19 rfl rfl)
theorem dX2_address_43 : decode cX2_address 43 = .ok (.aload_n 0, 1) := dk_42 (dk_at dksX2_address_1 20 rfl rfl)
theorem dX2_address_44 : decode cX2_address 44 = .ok (.getfield 1214, 3) := dk_180 4 190 (dk_at dksX2_address_1 21 rfl rfl)
theorem dX2_address_47 : decode cX2_address 47 = .ok (.if_icmp .ge 17, 3) := dk_162 0 17 (dk_at dksX2_address_2 0 rfl rfl)
theorem dX2_address_50 : decode cX2_address 50 = .ok (.aload_n 0, 1) := dk_42 (dk_at dksX2_address_2 3 rfl rfl)
theorem dX2_address_51 : decode cX2_address 51 = .ok (.getfield 82, 3) := dk_180 0 82 (dk_at dksX2_address_2 4 rfl rfl)
theorem dX2_address_54 : decode cX2_address 54 = .ok (.bipush 64, 2) := dk_16 64 (dk_at dksX2_address_2 7 rfl rfl)
theorem dX2_address_56 : decode cX2_address 56 = .ok (.iload_n 1, 1) := dk_27 (dk_at dksX2_address_2 9 rfl rfl)
theorem dX2_address_57 : decode cX2_address 57 = .ok (.imul, 1) := dk_104 (dk_at dksX2_address_2 10 rfl rfl)
theorem dX2_address_58 : decode cX2_address 58 = .ok (.iload_n 2, 1) := dk_28 (dk_at dksX2_address_2 11 rfl rfl)
theorem dX2_address_59 : decode cX2_address 59 = .ok (.iadd, 1) := dk_96 (dk_at dksX2_address_2 12 rfl rfl)
theorem dX2_address_60 : decode cX2_address 60 = .ok (.iaload, 1) := dk_46 (dk_at dksX2_address_2 13 rfl rfl)
theorem dX2_address_61 : decode cX2_address 61 = .ok (.goto 8, 3) := dk_167 0 8 (dk_at dksX2_address_2 14 rfl rfl)
theorem dX2_address_64 : decode cX2_address 64 = .ok (.aload_n 0, 1) := dk_42 (dk_at dksX2_address_2 17 rfl rfl)
theorem dX2_address_65 : decode cX2_address 65 = .ok (.iconst 2, 1) := dk_5 (dk_at dksX2_address_2 18 rfl rfl)
theorem dX2_address_66 : decode cX2_address 66 = .ok (.invokevirtual 94, 3) := dk_182 0 94 (dk_at dksX2_address_2 19 rfl rfl)
theorem dX2_address_69 : decode cX2_address 69 = .ok (.ireturn, 1) := dk_172 (dk_at dksX2_address_2 22 rfl rfl)
abbrev cX2_clear : ByteArray := prog_4_method_90_code
def yX2_clear : MethodName := ⟨RX2, "clear", "()I"⟩
def dkwX2_clear_0 : List UInt8 := [42, 3, 181, 0, 88, 42, 180, 3, 242, 60, 42, 3, 181, 3, 242, 42, 3, 181, 4, 167, 27, 172]
abbrev dktX2_clear_0 : List UInt8 := dkwX2_clear_0 ++ []
theorem dksX2_clear_0 : cX2_clear.data.toList.drop 0 = dktX2_clear_0 := by decide +kernel
theorem dX2_clear_0 : decode cX2_clear 0 = .ok (.aload_n 0, 1) := dk_42 (dk_at dksX2_clear_0 0 rfl rfl)
theorem dX2_clear_1 : decode cX2_clear 1 = .ok (.iconst 0, 1) := dk_3 (dk_at dksX2_clear_0 1 rfl rfl)
theorem dX2_clear_2 : decode cX2_clear 2 = .ok (.putfield 88, 3) := dk_181 0 88 (dk_at dksX2_clear_0 2 rfl rfl)
theorem dX2_clear_5 : decode cX2_clear 5 = .ok (.aload_n 0, 1) := dk_42 (dk_at dksX2_clear_0 5 rfl rfl)
theorem dX2_clear_6 : decode cX2_clear 6 = .ok (.getfield 1010, 3) := dk_180 3 242 (dk_at dksX2_clear_0 6 rfl rfl)
theorem dX2_clear_9 : decode cX2_clear 9 = .ok (.istore_n 1, 1) := dk_60 (dk_at dksX2_clear_0 9 rfl rfl)
theorem dX2_clear_10 : decode cX2_clear 10 = .ok (.aload_n 0, 1) := dk_42 (dk_at dksX2_clear_0 10 rfl rfl)
theorem dX2_clear_11 : decode cX2_clear 11 = .ok (.iconst 0, 1) := dk_3 (dk_at dksX2_clear_0 11 rfl rfl)
theorem dX2_clear_12 : decode cX2_clear 12 = .ok (.putfield 1010, 3) := dk_181 3 242 (dk_at dksX2_clear_0 12 rfl rfl)
theorem dX2_clear_15 : decode cX2_clear 15 = .ok (.aload_n 0, 1) := dk_42 (dk_at dksX2_clear_0 15 rfl rfl)
theorem dX2_clear_16 : decode cX2_clear 16 = .ok (.iconst 0, 1) := dk_3 (dk_at dksX2_clear_0 16 rfl rfl)
theorem dX2_clear_17 : decode cX2_clear 17 = .ok (.putfield 1191, 3) := dk_181 4 167 (dk_at dksX2_clear_0 17 rfl rfl)
theorem dX2_clear_20 : decode cX2_clear 20 = .ok (.iload_n 1, 1) := dk_27 (dk_at dksX2_clear_0 20 rfl rfl)
theorem dX2_clear_21 : decode cX2_clear 21 = .ok (.ireturn, 1) := dk_172 (dk_at dksX2_clear_0 21 rfl rfl)
abbrev cX2_count : ByteArray := prog_4_method_91_code
def yX2_count : MethodName := ⟨RX2, "count", "(II)I"⟩
def dkwX2_count_3 : List UInt8 := [167, 0, 9, 42, 180, 0, 24, 28, 46, 172]
abbrev dktX2_count_3 : List UInt8 := dkwX2_count_3 ++ []
def dkwX2_count_2 : List UInt8 := [4, 160, 0, 10, 42, 180, 3, 242, 167, 0, 23, 27, 5, 160, 0, 12, 42, 180, 0, 21, 28, 46]
abbrev dktX2_count_2 : List UInt8 := dkwX2_count_2 ++ dktX2_count_3
def dkwX2_count_1 : List UInt8 := [184, 4, 157, 154, 0, 9, 42, 4, 182, 0, 94, 172, 27, 154, 0, 10, 42, 180, 0, 91, 167, 0, 35, 27]
abbrev dktX2_count_1 : List UInt8 := dkwX2_count_1 ++ dktX2_count_2
def dkwX2_count_0 : List UInt8 := [42, 3, 181, 0, 88, 27, 7, 184, 4, 157, 153, 0, 19, 27, 4, 164, 0, 20, 28, 42, 180, 3, 242]
abbrev dktX2_count_0 : List UInt8 := dkwX2_count_0 ++ dktX2_count_1
theorem dksX2_count_0 : cX2_count.data.toList.drop 0 = dktX2_count_0 := by decide +kernel
theorem dksX2_count_1 : cX2_count.data.toList.drop 23 = dktX2_count_1 := dk_seg dksX2_count_0 23 rfl rfl
theorem dksX2_count_2 : cX2_count.data.toList.drop 47 = dktX2_count_2 := dk_seg dksX2_count_1 24 rfl rfl
theorem dksX2_count_3 : cX2_count.data.toList.drop 69 = dktX2_count_3 := dk_seg dksX2_count_2 22 rfl rfl
theorem dX2_count_0 : decode cX2_count 0 = .ok (.aload_n 0, 1) := dk_42 (dk_at dksX2_count_0 0 rfl rfl)
theorem dX2_count_1 : decode cX2_count 1 = .ok (.iconst 0, 1) := dk_3 (dk_at dksX2_count_0 1 rfl rfl)
theorem dX2_count_2 : decode cX2_count 2 = .ok (.putfield 88, 3) := dk_181 0 88 (dk_at dksX2_count_0 2 rfl rfl)
theorem dX2_count_5 : decode cX2_count 5 = .ok (.iload_n 1, 1) := dk_27 (dk_at dksX2_count_0 5 rfl rfl)
theorem dX2_count_6 : decode cX2_count 6 = .ok (.iconst 4, 1) := dk_7 (dk_at dksX2_count_0 6 rfl rfl)
theorem dX2_count_7 : decode cX2_count 7 = .ok (.invokestatic 1181, 3) := dk_184 4 157 (dk_at dksX2_count_0 7 rfl rfl)
theorem dX2_count_10 : decode cX2_count 10 = .ok (.ifCond .eq 19, 3) := dk_153 0 19 (dk_at dksX2_count_0 10 rfl rfl)
theorem dX2_count_13 : decode cX2_count 13 = .ok (.iload_n 1, 1) := dk_27 (dk_at dksX2_count_0 13 rfl rfl)
theorem dX2_count_14 : decode cX2_count 14 = .ok (.iconst 1, 1) := dk_4 (dk_at dksX2_count_0 14 rfl rfl)
theorem dX2_count_15 : decode cX2_count 15 = .ok (.if_icmp .le 20, 3) := dk_164 0 20 (dk_at dksX2_count_0 15 rfl rfl)
theorem dX2_count_18 : decode cX2_count 18 = .ok (.iload_n 2, 1) := dk_28 (dk_at dksX2_count_0 18 rfl rfl)
theorem dX2_count_19 : decode cX2_count 19 = .ok (.aload_n 0, 1) := dk_42 (dk_at dksX2_count_0 19 rfl rfl)
theorem dX2_count_20 : decode cX2_count 20 = .ok (.getfield 1010, 3) := dk_180 3 242 (dk_at dksX2_count_0 20 rfl rfl)
theorem dX2_count_23 : decode cX2_count 23 = .ok (.invokestatic 1181, 3) := dk_184 4 157 (dk_at dksX2_count_1 0 rfl rfl)
theorem dX2_count_26 : decode cX2_count 26 = .ok (.ifCond .ne 9, 3) := dk_154 0 9 (dk_at dksX2_count_1 3 rfl rfl)
theorem dX2_count_29 : decode cX2_count 29 = .ok (.aload_n 0, 1) := dk_42 (dk_at dksX2_count_1 6 rfl rfl)
theorem dX2_count_30 : decode cX2_count 30 = .ok (.iconst 1, 1) := dk_4 (dk_at dksX2_count_1 7 rfl rfl)
theorem dX2_count_31 : decode cX2_count 31 = .ok (.invokevirtual 94, 3) := dk_182 0 94 (dk_at dksX2_count_1 8 rfl rfl)
theorem dX2_count_34 : decode cX2_count 34 = .ok (.ireturn, 1) := dk_172 (dk_at dksX2_count_1 11 rfl rfl)
theorem dX2_count_35 : decode cX2_count 35 = .ok (.iload_n 1, 1) := dk_27 (dk_at dksX2_count_1 12 rfl rfl)
theorem dX2_count_36 : decode cX2_count 36 = .ok (.ifCond .ne 10, 3) := dk_154 0 10 (dk_at dksX2_count_1 13 rfl rfl)
theorem dX2_count_39 : decode cX2_count 39 = .ok (.aload_n 0, 1) := dk_42 (dk_at dksX2_count_1 16 rfl rfl)
theorem dX2_count_40 : decode cX2_count 40 = .ok (.getfield 91, 3) := dk_180 0 91 (dk_at dksX2_count_1 17 rfl rfl)
theorem dX2_count_43 : decode cX2_count 43 = .ok (.goto 35, 3) := dk_167 0 35 (dk_at dksX2_count_1 20 rfl rfl)
theorem dX2_count_46 : decode cX2_count 46 = .ok (.iload_n 1, 1) := dk_27 (dk_at dksX2_count_1 23 rfl rfl)
theorem dX2_count_47 : decode cX2_count 47 = .ok (.iconst 1, 1) := dk_4 (dk_at dksX2_count_2 0 rfl rfl)
theorem dX2_count_48 : decode cX2_count 48 = .ok (.if_icmp .ne 10, 3) := dk_160 0 10 (dk_at dksX2_count_2 1 rfl rfl)
theorem dX2_count_51 : decode cX2_count 51 = .ok (.aload_n 0, 1) := dk_42 (dk_at dksX2_count_2 4 rfl rfl)
theorem dX2_count_52 : decode cX2_count 52 = .ok (.getfield 1010, 3) := dk_180 3 242 (dk_at dksX2_count_2 5 rfl rfl)
theorem dX2_count_55 : decode cX2_count 55 = .ok (.goto 23, 3) := dk_167 0 23 (dk_at dksX2_count_2 8 rfl rfl)
theorem dX2_count_58 : decode cX2_count 58 = .ok (.iload_n 1, 1) := dk_27 (dk_at dksX2_count_2 11 rfl rfl)
theorem dX2_count_59 : decode cX2_count 59 = .ok (.iconst 2, 1) := dk_5 (dk_at dksX2_count_2 12 rfl rfl)
theorem dX2_count_60 : decode cX2_count 60 = .ok (.if_icmp .ne 12, 3) := dk_160 0 12 (dk_at dksX2_count_2 13 rfl rfl)
theorem dX2_count_63 : decode cX2_count 63 = .ok (.aload_n 0, 1) := dk_42 (dk_at dksX2_count_2 16 rfl rfl)
theorem dX2_count_64 : decode cX2_count 64 = .ok (.getfield 21, 3) := dk_180 0 21 (dk_at dksX2_count_2 17 rfl rfl)
theorem dX2_count_67 : decode cX2_count 67 = .ok (.iload_n 2, 1) := dk_28 (dk_at dksX2_count_2 20 rfl rfl)
theorem dX2_count_68 : decode cX2_count 68 = .ok (.iaload, 1) := dk_46 (dk_at dksX2_count_2 21 rfl rfl)
theorem dX2_count_69 : decode cX2_count 69 = .ok (.goto 9, 3) := dk_167 0 9 (dk_at dksX2_count_3 0 rfl rfl)
theorem dX2_count_72 : decode cX2_count 72 = .ok (.aload_n 0, 1) := dk_42 (dk_at dksX2_count_3 3 rfl rfl)
theorem dX2_count_73 : decode cX2_count 73 = .ok (.getfield 24, 3) := dk_180 0 24 (dk_at dksX2_count_3 4 rfl rfl)
theorem dX2_count_76 : decode cX2_count 76 = .ok (.iload_n 2, 1) := dk_28 (dk_at dksX2_count_3 7 rfl rfl)
theorem dX2_count_77 : decode cX2_count 77 = .ok (.iaload, 1) := dk_46 (dk_at dksX2_count_3 8 rfl rfl)
theorem dX2_count_78 : decode cX2_count 78 = .ok (.ireturn, 1) := dk_172 (dk_at dksX2_count_3 9 rfl rfl)
theorem q120 : (Jvm.Cond.initialized "ObjectForgeModel") ∈ lw_all := lw_g (lw_at lw_m1 2 rfl) rfl
theorem q914 : (Jvm.Cond.instantiable "ObjectForgeModel" (52 : Nat)) ∈ lw_all := lw_g (lw_at lw_m4 76 rfl) rfl
theorem q916 : (Jvm.Cond.instanceMethod ({ cls := "ObjectForgeModel", name := "<init>", desc := "()V" } : Jvm.MethodName)) ∈ lw_all := lw_g (lw_at lw_m4 78 rfl) rfl
theorem q917 : (Jvm.Cond.code ({ cls := "ObjectForgeModel", name := "<init>", desc := "()V" } : Jvm.MethodName) prog_4_method_1_code (1 : Nat) (Option.none : Option Jvm.ClassFile.FieldType)) ∈ lw_all := lw_g (lw_at lw_m4 79 rfl) rfl
theorem q918 : (Jvm.Cond.methodLink "ObjectForgeModel" (1 : Nat) ({ cls := "java/lang/Object", name := "<init>", desc := "()V" } : Jvm.MethodName)) ∈ lw_all := lw_g (lw_at lw_m4 80 rfl) rfl
theorem q919 : (Jvm.Cond.constant "ObjectForgeModel" (13 : Nat) (65536 : Int32)) ∈ lw_all := lw_g (lw_at lw_m4 81 rfl) rfl
theorem q920 : (Jvm.Cond.constant "ObjectForgeModel" (75 : Nat) (32768 : Int32)) ∈ lw_all := lw_g (lw_at lw_m4 82 rfl) rfl
theorem q921 : (Jvm.Cond.fieldLink "ObjectForgeModel" (88 : Nat) "ObjectForgeModel" "thrown" "I") ∈ lw_all := lw_g (lw_at lw_m4 83 rfl) rfl
theorem q922 : (Jvm.Cond.fieldLink "ObjectForgeModel" (91 : Nat) "ObjectForgeModel" "length" "I") ∈ lw_all := lw_g (lw_at lw_m4 84 rfl) rfl
theorem q923 : (Jvm.Cond.fieldLink "ObjectForgeModel" (7 : Nat) "ObjectForgeModel" "text" "[B") ∈ lw_all := lw_g (lw_at lw_m4 85 rfl) rfl
theorem q924 : (Jvm.Cond.fieldLink "ObjectForgeModel" (1010 : Nat) "ObjectForgeModel" "objects" "I") ∈ lw_all := lw_g (lw_at lw_m4 86 rfl) rfl
theorem q925 : (Jvm.Cond.fieldLink "ObjectForgeModel" (1214 : Nat) "ObjectForgeModel" "linked" "I") ∈ lw_all := lw_g (lw_at lw_m4 87 rfl) rfl
theorem q926 : (Jvm.Cond.fieldLink "ObjectForgeModel" (14 : Nat) "ObjectForgeModel" "bytes" "[B") ∈ lw_all := lw_g (lw_at lw_m4 88 rfl) rfl
theorem q927 : (Jvm.Cond.fieldLink "ObjectForgeModel" (17 : Nat) "ObjectForgeModel" "sizes" "[I") ∈ lw_all := lw_g (lw_at lw_m4 89 rfl) rfl
theorem q928 : (Jvm.Cond.fieldLink "ObjectForgeModel" (21 : Nat) "ObjectForgeModel" "symbolCount" "[I") ∈ lw_all := lw_g (lw_at lw_m4 90 rfl) rfl
theorem q929 : (Jvm.Cond.fieldLink "ObjectForgeModel" (24 : Nat) "ObjectForgeModel" "referenceCount" "[I") ∈ lw_all := lw_g (lw_at lw_m4 91 rfl) rfl
theorem q930 : (Jvm.Cond.fieldLink "ObjectForgeModel" (27 : Nat) "ObjectForgeModel" "nameA" "[J") ∈ lw_all := lw_g (lw_at lw_m4 92 rfl) rfl
theorem q931 : (Jvm.Cond.fieldLink "ObjectForgeModel" (31 : Nat) "ObjectForgeModel" "nameB" "[J") ∈ lw_all := lw_g (lw_at lw_m4 93 rfl) rfl
theorem q932 : (Jvm.Cond.fieldLink "ObjectForgeModel" (34 : Nat) "ObjectForgeModel" "nameC" "[J") ∈ lw_all := lw_g (lw_at lw_m4 94 rfl) rfl
theorem q933 : (Jvm.Cond.fieldLink "ObjectForgeModel" (37 : Nat) "ObjectForgeModel" "nameLength" "[I") ∈ lw_all := lw_g (lw_at lw_m4 95 rfl) rfl
theorem q934 : (Jvm.Cond.fieldLink "ObjectForgeModel" (40 : Nat) "ObjectForgeModel" "section" "[I") ∈ lw_all := lw_g (lw_at lw_m4 96 rfl) rfl
theorem q935 : (Jvm.Cond.fieldLink "ObjectForgeModel" (43 : Nat) "ObjectForgeModel" "value" "[I") ∈ lw_all := lw_g (lw_at lw_m4 97 rfl) rfl
theorem q936 : (Jvm.Cond.fieldLink "ObjectForgeModel" (46 : Nat) "ObjectForgeModel" "global" "[Z") ∈ lw_all := lw_g (lw_at lw_m4 98 rfl) rfl
theorem q937 : (Jvm.Cond.fieldLink "ObjectForgeModel" (50 : Nat) "ObjectForgeModel" "refSection" "[I") ∈ lw_all := lw_g (lw_at lw_m4 99 rfl) rfl
theorem q938 : (Jvm.Cond.fieldLink "ObjectForgeModel" (53 : Nat) "ObjectForgeModel" "refPlace" "[I") ∈ lw_all := lw_g (lw_at lw_m4 100 rfl) rfl
theorem q939 : (Jvm.Cond.fieldLink "ObjectForgeModel" (56 : Nat) "ObjectForgeModel" "refKind" "[I") ∈ lw_all := lw_g (lw_at lw_m4 101 rfl) rfl
theorem q940 : (Jvm.Cond.fieldLink "ObjectForgeModel" (59 : Nat) "ObjectForgeModel" "refSymbol" "[I") ∈ lw_all := lw_g (lw_at lw_m4 102 rfl) rfl
theorem q941 : (Jvm.Cond.fieldLink "ObjectForgeModel" (62 : Nat) "ObjectForgeModel" "refAddend" "[I") ∈ lw_all := lw_g (lw_at lw_m4 103 rfl) rfl
theorem q942 : (Jvm.Cond.fieldLink "ObjectForgeModel" (65 : Nat) "ObjectForgeModel" "refLine" "[I") ∈ lw_all := lw_g (lw_at lw_m4 104 rfl) rfl
theorem q943 : (Jvm.Cond.fieldLink "ObjectForgeModel" (982 : Nat) "ObjectForgeModel" "fault" "I") ∈ lw_all := lw_g (lw_at lw_m4 105 rfl) rfl
theorem q944 : (Jvm.Cond.fieldLink "ObjectForgeModel" (1175 : Nat) "ObjectForgeModel" "faultLine" "I") ∈ lw_all := lw_g (lw_at lw_m4 106 rfl) rfl
theorem q945 : (Jvm.Cond.fieldLink "ObjectForgeModel" (1178 : Nat) "ObjectForgeModel" "linkFault" "I") ∈ lw_all := lw_g (lw_at lw_m4 107 rfl) rfl
theorem q946 : (Jvm.Cond.fieldLink "ObjectForgeModel" (68 : Nat) "ObjectForgeModel" "linkObject" "I") ∈ lw_all := lw_g (lw_at lw_m4 108 rfl) rfl
theorem q947 : (Jvm.Cond.fieldLink "ObjectForgeModel" (72 : Nat) "ObjectForgeModel" "linkWhich" "I") ∈ lw_all := lw_g (lw_at lw_m4 109 rfl) rfl
theorem q948 : (Jvm.Cond.fieldLink "ObjectForgeModel" (1191 : Nat) "ObjectForgeModel" "hasImage" "Z") ∈ lw_all := lw_g (lw_at lw_m4 110 rfl) rfl
theorem q949 : (Jvm.Cond.fieldLink "ObjectForgeModel" (1188 : Nat) "ObjectForgeModel" "base" "I") ∈ lw_all := lw_g (lw_at lw_m4 111 rfl) rfl
theorem q950 : (Jvm.Cond.fieldLink "ObjectForgeModel" (1211 : Nat) "ObjectForgeModel" "imageSize" "I") ∈ lw_all := lw_g (lw_at lw_m4 112 rfl) rfl
theorem q951 : (Jvm.Cond.fieldLink "ObjectForgeModel" (76 : Nat) "ObjectForgeModel" "image" "[B") ∈ lw_all := lw_g (lw_at lw_m4 113 rfl) rfl
theorem q952 : (Jvm.Cond.fieldLink "ObjectForgeModel" (79 : Nat) "ObjectForgeModel" "starts" "[I") ∈ lw_all := lw_g (lw_at lw_m4 114 rfl) rfl
theorem q953 : (Jvm.Cond.fieldLink "ObjectForgeModel" (82 : Nat) "ObjectForgeModel" "addresses" "[I") ∈ lw_all := lw_g (lw_at lw_m4 115 rfl) rfl
theorem q954 : (Jvm.Cond.fieldLink "ObjectForgeModel" (102 : Nat) "ObjectForgeModel" "at" "I") ∈ lw_all := lw_g (lw_at lw_m4 116 rfl) rfl
theorem q955 : (Jvm.Cond.fieldLink "ObjectForgeModel" (105 : Nat) "ObjectForgeModel" "stop" "I") ∈ lw_all := lw_g (lw_at lw_m4 117 rfl) rfl
theorem q956 : (Jvm.Cond.fieldLink "ObjectForgeModel" (119 : Nat) "ObjectForgeModel" "kind" "I") ∈ lw_all := lw_g (lw_at lw_m4 118 rfl) rfl
theorem q957 : (Jvm.Cond.fieldLink "ObjectForgeModel" (137 : Nat) "ObjectForgeModel" "sign" "I") ∈ lw_all := lw_g (lw_at lw_m4 119 rfl) rfl
theorem q958 : (Jvm.Cond.fieldLink "ObjectForgeModel" (181 : Nat) "ObjectForgeModel" "register" "I") ∈ lw_all := lw_g (lw_at lw_m4 120 rfl) rfl
theorem q959 : (Jvm.Cond.fieldLink "ObjectForgeModel" (162 : Nat) "ObjectForgeModel" "nameSize" "I") ∈ lw_all := lw_g (lw_at lw_m4 121 rfl) rfl
theorem q960 : (Jvm.Cond.fieldLink "ObjectForgeModel" (213 : Nat) "ObjectForgeModel" "stringSize" "I") ∈ lw_all := lw_g (lw_at lw_m4 122 rfl) rfl
theorem q961 : (Jvm.Cond.fieldLink "ObjectForgeModel" (165 : Nat) "ObjectForgeModel" "number" "J") ∈ lw_all := lw_g (lw_at lw_m4 123 rfl) rfl
theorem q962 : (Jvm.Cond.fieldLink "ObjectForgeModel" (150 : Nat) "ObjectForgeModel" "code" "J") ∈ lw_all := lw_g (lw_at lw_m4 124 rfl) rfl
theorem q963 : (Jvm.Cond.fieldLink "ObjectForgeModel" (140 : Nat) "ObjectForgeModel" "first" "J") ∈ lw_all := lw_g (lw_at lw_m4 125 rfl) rfl
theorem q964 : (Jvm.Cond.fieldLink "ObjectForgeModel" (144 : Nat) "ObjectForgeModel" "second" "J") ∈ lw_all := lw_g (lw_at lw_m4 126 rfl) rfl
theorem q965 : (Jvm.Cond.fieldLink "ObjectForgeModel" (147 : Nat) "ObjectForgeModel" "third" "J") ∈ lw_all := lw_g (lw_at lw_m4 127 rfl) rfl
theorem q966 : (Jvm.Cond.fieldLink "ObjectForgeModel" (85 : Nat) "ObjectForgeModel" "string" "[B") ∈ lw_all := lw_g (lw_at lw_m4 128 rfl) rfl
theorem q967 : (Jvm.Cond.fieldLink "ObjectForgeModel" (1016 : Nat) "ObjectForgeModel" "whose" "I") ∈ lw_all := lw_g (lw_at lw_m4 129 rfl) rfl
theorem q968 : (Jvm.Cond.fieldLink "ObjectForgeModel" (1019 : Nat) "ObjectForgeModel" "more" "I") ∈ lw_all := lw_g (lw_at lw_m4 130 rfl) rfl
theorem q969 : (Jvm.Cond.fieldLink "ObjectForgeModel" (1039 : Nat) "ObjectForgeModel" "half" "I") ∈ lw_all := lw_g (lw_at lw_m4 131 rfl) rfl
theorem q970 : (Jvm.Cond.fieldLink "ObjectForgeModel" (1035 : Nat) "ObjectForgeModel" "halfKind" "I") ∈ lw_all := lw_g (lw_at lw_m4 132 rfl) rfl
theorem q971 : (Jvm.Cond.fieldLink "ObjectForgeModel" (1050 : Nat) "ObjectForgeModel" "here" "I") ∈ lw_all := lw_g (lw_at lw_m4 133 rfl) rfl
theorem q972 : (Jvm.Cond.fieldLink "ObjectForgeModel" (1055 : Nat) "ObjectForgeModel" "line" "I") ∈ lw_all := lw_g (lw_at lw_m4 134 rfl) rfl
theorem q973 : (Jvm.Cond.lays "ObjectForgeModel" "ObjectForgeModel" "thrown" "I") ∈ lw_all := lw_g (lw_at lw_m4 135 rfl) rfl
theorem q974 : (Jvm.Cond.soleField "ObjectForgeModel" "thrown") ∈ lw_all := lw_g (lw_at lw_m4 136 rfl) rfl
theorem q975 : (Jvm.Cond.lays "ObjectForgeModel" "ObjectForgeModel" "length" "I") ∈ lw_all := lw_g (lw_at lw_m4 137 rfl) rfl
theorem q976 : (Jvm.Cond.soleField "ObjectForgeModel" "length") ∈ lw_all := lw_g (lw_at lw_m4 138 rfl) rfl
theorem q977 : (Jvm.Cond.laysFinal "ObjectForgeModel" "ObjectForgeModel" "text" "[B") ∈ lw_all := lw_g (lw_at lw_m4 139 rfl) rfl
theorem q978 : (Jvm.Cond.soleField "ObjectForgeModel" "text") ∈ lw_all := lw_g (lw_at lw_m4 140 rfl) rfl
theorem q979 : (Jvm.Cond.lays "ObjectForgeModel" "ObjectForgeModel" "objects" "I") ∈ lw_all := lw_g (lw_at lw_m4 141 rfl) rfl
theorem q980 : (Jvm.Cond.soleField "ObjectForgeModel" "objects") ∈ lw_all := lw_g (lw_at lw_m4 142 rfl) rfl
theorem q981 : (Jvm.Cond.lays "ObjectForgeModel" "ObjectForgeModel" "linked" "I") ∈ lw_all := lw_g (lw_at lw_m4 143 rfl) rfl
theorem q982 : (Jvm.Cond.soleField "ObjectForgeModel" "linked") ∈ lw_all := lw_g (lw_at lw_m4 144 rfl) rfl
theorem q983 : (Jvm.Cond.laysFinal "ObjectForgeModel" "ObjectForgeModel" "bytes" "[B") ∈ lw_all := lw_g (lw_at lw_m4 145 rfl) rfl
theorem q984 : (Jvm.Cond.soleField "ObjectForgeModel" "bytes") ∈ lw_all := lw_g (lw_at lw_m4 146 rfl) rfl
theorem q985 : (Jvm.Cond.laysFinal "ObjectForgeModel" "ObjectForgeModel" "sizes" "[I") ∈ lw_all := lw_g (lw_at lw_m4 147 rfl) rfl
theorem q986 : (Jvm.Cond.soleField "ObjectForgeModel" "sizes") ∈ lw_all := lw_g (lw_at lw_m4 148 rfl) rfl
theorem q987 : (Jvm.Cond.laysFinal "ObjectForgeModel" "ObjectForgeModel" "symbolCount" "[I") ∈ lw_all := lw_g (lw_at lw_m4 149 rfl) rfl
theorem q988 : (Jvm.Cond.soleField "ObjectForgeModel" "symbolCount") ∈ lw_all := lw_g (lw_at lw_m4 150 rfl) rfl
theorem q989 : (Jvm.Cond.laysFinal "ObjectForgeModel" "ObjectForgeModel" "referenceCount" "[I") ∈ lw_all := lw_g (lw_at lw_m4 151 rfl) rfl
theorem q990 : (Jvm.Cond.soleField "ObjectForgeModel" "referenceCount") ∈ lw_all := lw_g (lw_at lw_m4 152 rfl) rfl
theorem q991 : (Jvm.Cond.laysFinal "ObjectForgeModel" "ObjectForgeModel" "nameA" "[J") ∈ lw_all := lw_g (lw_at lw_m4 153 rfl) rfl
theorem q992 : (Jvm.Cond.soleField "ObjectForgeModel" "nameA") ∈ lw_all := lw_g (lw_at lw_m4 154 rfl) rfl
theorem q993 : (Jvm.Cond.laysFinal "ObjectForgeModel" "ObjectForgeModel" "nameB" "[J") ∈ lw_all := lw_g (lw_at lw_m4 155 rfl) rfl
theorem q994 : (Jvm.Cond.soleField "ObjectForgeModel" "nameB") ∈ lw_all := lw_g (lw_at lw_m4 156 rfl) rfl
theorem q995 : (Jvm.Cond.laysFinal "ObjectForgeModel" "ObjectForgeModel" "nameC" "[J") ∈ lw_all := lw_g (lw_at lw_m4 157 rfl) rfl
theorem q996 : (Jvm.Cond.soleField "ObjectForgeModel" "nameC") ∈ lw_all := lw_g (lw_at lw_m4 158 rfl) rfl
theorem q997 : (Jvm.Cond.laysFinal "ObjectForgeModel" "ObjectForgeModel" "nameLength" "[I") ∈ lw_all := lw_g (lw_at lw_m4 159 rfl) rfl
theorem q998 : (Jvm.Cond.soleField "ObjectForgeModel" "nameLength") ∈ lw_all := lw_g (lw_at lw_m4 160 rfl) rfl
theorem q999 : (Jvm.Cond.laysFinal "ObjectForgeModel" "ObjectForgeModel" "section" "[I") ∈ lw_all := lw_g (lw_at lw_m4 161 rfl) rfl
theorem q1000 : (Jvm.Cond.soleField "ObjectForgeModel" "section") ∈ lw_all := lw_g (lw_at lw_m4 162 rfl) rfl
theorem q1001 : (Jvm.Cond.laysFinal "ObjectForgeModel" "ObjectForgeModel" "value" "[I") ∈ lw_all := lw_g (lw_at lw_m4 163 rfl) rfl
theorem q1002 : (Jvm.Cond.soleField "ObjectForgeModel" "value") ∈ lw_all := lw_g (lw_at lw_m4 164 rfl) rfl
theorem q1003 : (Jvm.Cond.laysFinal "ObjectForgeModel" "ObjectForgeModel" "global" "[Z") ∈ lw_all := lw_g (lw_at lw_m4 165 rfl) rfl
theorem q1004 : (Jvm.Cond.soleField "ObjectForgeModel" "global") ∈ lw_all := lw_g (lw_at lw_m4 166 rfl) rfl
theorem q1005 : (Jvm.Cond.laysFinal "ObjectForgeModel" "ObjectForgeModel" "refSection" "[I") ∈ lw_all := lw_g (lw_at lw_m4 167 rfl) rfl
theorem q1006 : (Jvm.Cond.soleField "ObjectForgeModel" "refSection") ∈ lw_all := lw_g (lw_at lw_m4 168 rfl) rfl
theorem q1007 : (Jvm.Cond.laysFinal "ObjectForgeModel" "ObjectForgeModel" "refPlace" "[I") ∈ lw_all := lw_g (lw_at lw_m4 169 rfl) rfl
theorem q1008 : (Jvm.Cond.soleField "ObjectForgeModel" "refPlace") ∈ lw_all := lw_g (lw_at lw_m4 170 rfl) rfl
theorem q1009 : (Jvm.Cond.laysFinal "ObjectForgeModel" "ObjectForgeModel" "refKind" "[I") ∈ lw_all := lw_g (lw_at lw_m4 171 rfl) rfl
theorem q1010 : (Jvm.Cond.soleField "ObjectForgeModel" "refKind") ∈ lw_all := lw_g (lw_at lw_m4 172 rfl) rfl
theorem q1011 : (Jvm.Cond.laysFinal "ObjectForgeModel" "ObjectForgeModel" "refSymbol" "[I") ∈ lw_all := lw_g (lw_at lw_m4 173 rfl) rfl
theorem q1012 : (Jvm.Cond.soleField "ObjectForgeModel" "refSymbol") ∈ lw_all := lw_g (lw_at lw_m4 174 rfl) rfl
theorem q1013 : (Jvm.Cond.laysFinal "ObjectForgeModel" "ObjectForgeModel" "refAddend" "[I") ∈ lw_all := lw_g (lw_at lw_m4 175 rfl) rfl
theorem q1014 : (Jvm.Cond.soleField "ObjectForgeModel" "refAddend") ∈ lw_all := lw_g (lw_at lw_m4 176 rfl) rfl
theorem q1015 : (Jvm.Cond.laysFinal "ObjectForgeModel" "ObjectForgeModel" "refLine" "[I") ∈ lw_all := lw_g (lw_at lw_m4 177 rfl) rfl
theorem q1016 : (Jvm.Cond.soleField "ObjectForgeModel" "refLine") ∈ lw_all := lw_g (lw_at lw_m4 178 rfl) rfl
theorem q1017 : (Jvm.Cond.lays "ObjectForgeModel" "ObjectForgeModel" "fault" "I") ∈ lw_all := lw_g (lw_at lw_m4 179 rfl) rfl
theorem q1018 : (Jvm.Cond.soleField "ObjectForgeModel" "fault") ∈ lw_all := lw_g (lw_at lw_m4 180 rfl) rfl
theorem q1019 : (Jvm.Cond.lays "ObjectForgeModel" "ObjectForgeModel" "faultLine" "I") ∈ lw_all := lw_g (lw_at lw_m4 181 rfl) rfl
theorem q1020 : (Jvm.Cond.soleField "ObjectForgeModel" "faultLine") ∈ lw_all := lw_g (lw_at lw_m4 182 rfl) rfl
theorem q1021 : (Jvm.Cond.lays "ObjectForgeModel" "ObjectForgeModel" "linkFault" "I") ∈ lw_all := lw_g (lw_at lw_m4 183 rfl) rfl
theorem q1022 : (Jvm.Cond.soleField "ObjectForgeModel" "linkFault") ∈ lw_all := lw_g (lw_at lw_m4 184 rfl) rfl
theorem q1023 : (Jvm.Cond.lays "ObjectForgeModel" "ObjectForgeModel" "linkObject" "I") ∈ lw_all := lw_g (lw_at lw_m4 185 rfl) rfl
theorem q1024 : (Jvm.Cond.soleField "ObjectForgeModel" "linkObject") ∈ lw_all := lw_g (lw_at lw_m4 186 rfl) rfl
theorem q1025 : (Jvm.Cond.lays "ObjectForgeModel" "ObjectForgeModel" "linkWhich" "I") ∈ lw_all := lw_g (lw_at lw_m4 187 rfl) rfl
theorem q1026 : (Jvm.Cond.soleField "ObjectForgeModel" "linkWhich") ∈ lw_all := lw_g (lw_at lw_m4 188 rfl) rfl
theorem q1027 : (Jvm.Cond.lays "ObjectForgeModel" "ObjectForgeModel" "hasImage" "Z") ∈ lw_all := lw_g (lw_at lw_m4 189 rfl) rfl
theorem q1028 : (Jvm.Cond.soleField "ObjectForgeModel" "hasImage") ∈ lw_all := lw_g (lw_at lw_m4 190 rfl) rfl
theorem q1029 : (Jvm.Cond.lays "ObjectForgeModel" "ObjectForgeModel" "base" "I") ∈ lw_all := lw_g (lw_at lw_m4 191 rfl) rfl
theorem q1030 : (Jvm.Cond.soleField "ObjectForgeModel" "base") ∈ lw_all := lw_g (lw_at lw_m4 192 rfl) rfl
theorem q1031 : (Jvm.Cond.lays "ObjectForgeModel" "ObjectForgeModel" "imageSize" "I") ∈ lw_all := lw_g (lw_at lw_m4 193 rfl) rfl
theorem q1032 : (Jvm.Cond.soleField "ObjectForgeModel" "imageSize") ∈ lw_all := lw_g (lw_at lw_m4 194 rfl) rfl
theorem q1033 : (Jvm.Cond.laysFinal "ObjectForgeModel" "ObjectForgeModel" "image" "[B") ∈ lw_all := lw_g (lw_at lw_m4 195 rfl) rfl
theorem q1034 : (Jvm.Cond.soleField "ObjectForgeModel" "image") ∈ lw_all := lw_g (lw_at lw_m4 196 rfl) rfl
theorem q1035 : (Jvm.Cond.laysFinal "ObjectForgeModel" "ObjectForgeModel" "starts" "[I") ∈ lw_all := lw_g (lw_at lw_m4 197 rfl) rfl
theorem q1036 : (Jvm.Cond.soleField "ObjectForgeModel" "starts") ∈ lw_all := lw_g (lw_at lw_m4 198 rfl) rfl
theorem q1037 : (Jvm.Cond.laysFinal "ObjectForgeModel" "ObjectForgeModel" "addresses" "[I") ∈ lw_all := lw_g (lw_at lw_m4 199 rfl) rfl
theorem q1038 : (Jvm.Cond.soleField "ObjectForgeModel" "addresses") ∈ lw_all := lw_g (lw_at lw_m4 200 rfl) rfl
theorem q1039 : (Jvm.Cond.lays "ObjectForgeModel" "ObjectForgeModel" "at" "I") ∈ lw_all := lw_g (lw_at lw_m4 201 rfl) rfl
theorem q1040 : (Jvm.Cond.soleField "ObjectForgeModel" "at") ∈ lw_all := lw_g (lw_at lw_m4 202 rfl) rfl
theorem q1041 : (Jvm.Cond.lays "ObjectForgeModel" "ObjectForgeModel" "stop" "I") ∈ lw_all := lw_g (lw_at lw_m4 203 rfl) rfl
theorem q1042 : (Jvm.Cond.soleField "ObjectForgeModel" "stop") ∈ lw_all := lw_g (lw_at lw_m4 204 rfl) rfl
theorem q1043 : (Jvm.Cond.lays "ObjectForgeModel" "ObjectForgeModel" "kind" "I") ∈ lw_all := lw_g (lw_at lw_m4 205 rfl) rfl
theorem q1044 : (Jvm.Cond.soleField "ObjectForgeModel" "kind") ∈ lw_all := lw_g (lw_at lw_m4 206 rfl) rfl
theorem q1045 : (Jvm.Cond.lays "ObjectForgeModel" "ObjectForgeModel" "sign" "I") ∈ lw_all := lw_g (lw_at lw_m4 207 rfl) rfl
theorem q1046 : (Jvm.Cond.soleField "ObjectForgeModel" "sign") ∈ lw_all := lw_g (lw_at lw_m4 208 rfl) rfl
theorem q1047 : (Jvm.Cond.lays "ObjectForgeModel" "ObjectForgeModel" "register" "I") ∈ lw_all := lw_g (lw_at lw_m4 209 rfl) rfl
theorem q1048 : (Jvm.Cond.soleField "ObjectForgeModel" "register") ∈ lw_all := lw_g (lw_at lw_m4 210 rfl) rfl
theorem q1049 : (Jvm.Cond.lays "ObjectForgeModel" "ObjectForgeModel" "nameSize" "I") ∈ lw_all := lw_g (lw_at lw_m4 211 rfl) rfl
theorem q1050 : (Jvm.Cond.soleField "ObjectForgeModel" "nameSize") ∈ lw_all := lw_g (lw_at lw_m4 212 rfl) rfl
theorem q1051 : (Jvm.Cond.lays "ObjectForgeModel" "ObjectForgeModel" "stringSize" "I") ∈ lw_all := lw_g (lw_at lw_m4 213 rfl) rfl
theorem q1052 : (Jvm.Cond.soleField "ObjectForgeModel" "stringSize") ∈ lw_all := lw_g (lw_at lw_m4 214 rfl) rfl
theorem q1053 : (Jvm.Cond.lays "ObjectForgeModel" "ObjectForgeModel" "number" "J") ∈ lw_all := lw_g (lw_at lw_m4 215 rfl) rfl
theorem q1054 : (Jvm.Cond.soleField "ObjectForgeModel" "number") ∈ lw_all := lw_g (lw_at lw_m4 216 rfl) rfl
theorem q1055 : (Jvm.Cond.lays "ObjectForgeModel" "ObjectForgeModel" "code" "J") ∈ lw_all := lw_g (lw_at lw_m4 217 rfl) rfl
theorem q1056 : (Jvm.Cond.soleField "ObjectForgeModel" "code") ∈ lw_all := lw_g (lw_at lw_m4 218 rfl) rfl
theorem q1057 : (Jvm.Cond.lays "ObjectForgeModel" "ObjectForgeModel" "first" "J") ∈ lw_all := lw_g (lw_at lw_m4 219 rfl) rfl
theorem q1058 : (Jvm.Cond.soleField "ObjectForgeModel" "first") ∈ lw_all := lw_g (lw_at lw_m4 220 rfl) rfl
theorem q1059 : (Jvm.Cond.lays "ObjectForgeModel" "ObjectForgeModel" "second" "J") ∈ lw_all := lw_g (lw_at lw_m4 221 rfl) rfl
theorem q1060 : (Jvm.Cond.soleField "ObjectForgeModel" "second") ∈ lw_all := lw_g (lw_at lw_m4 222 rfl) rfl
theorem q1061 : (Jvm.Cond.lays "ObjectForgeModel" "ObjectForgeModel" "third" "J") ∈ lw_all := lw_g (lw_at lw_m4 223 rfl) rfl
theorem q1062 : (Jvm.Cond.soleField "ObjectForgeModel" "third") ∈ lw_all := lw_g (lw_at lw_m4 224 rfl) rfl
theorem q1063 : (Jvm.Cond.laysFinal "ObjectForgeModel" "ObjectForgeModel" "string" "[B") ∈ lw_all := lw_g (lw_at lw_m4 225 rfl) rfl
theorem q1064 : (Jvm.Cond.soleField "ObjectForgeModel" "string") ∈ lw_all := lw_g (lw_at lw_m4 226 rfl) rfl
theorem q1065 : (Jvm.Cond.lays "ObjectForgeModel" "ObjectForgeModel" "whose" "I") ∈ lw_all := lw_g (lw_at lw_m4 227 rfl) rfl
theorem q1066 : (Jvm.Cond.soleField "ObjectForgeModel" "whose") ∈ lw_all := lw_g (lw_at lw_m4 228 rfl) rfl
theorem q1067 : (Jvm.Cond.lays "ObjectForgeModel" "ObjectForgeModel" "more" "I") ∈ lw_all := lw_g (lw_at lw_m4 229 rfl) rfl
theorem q1068 : (Jvm.Cond.soleField "ObjectForgeModel" "more") ∈ lw_all := lw_g (lw_at lw_m4 230 rfl) rfl
theorem q1069 : (Jvm.Cond.lays "ObjectForgeModel" "ObjectForgeModel" "half" "I") ∈ lw_all := lw_g (lw_at lw_m4 231 rfl) rfl
theorem q1070 : (Jvm.Cond.soleField "ObjectForgeModel" "half") ∈ lw_all := lw_g (lw_at lw_m4 232 rfl) rfl
theorem q1071 : (Jvm.Cond.lays "ObjectForgeModel" "ObjectForgeModel" "halfKind" "I") ∈ lw_all := lw_g (lw_at lw_m4 233 rfl) rfl
theorem q1072 : (Jvm.Cond.soleField "ObjectForgeModel" "halfKind") ∈ lw_all := lw_g (lw_at lw_m4 234 rfl) rfl
theorem q1073 : (Jvm.Cond.lays "ObjectForgeModel" "ObjectForgeModel" "here" "I") ∈ lw_all := lw_g (lw_at lw_m4 235 rfl) rfl
theorem q1074 : (Jvm.Cond.soleField "ObjectForgeModel" "here") ∈ lw_all := lw_g (lw_at lw_m4 236 rfl) rfl
theorem q1075 : (Jvm.Cond.lays "ObjectForgeModel" "ObjectForgeModel" "line" "I") ∈ lw_all := lw_g (lw_at lw_m4 237 rfl) rfl
theorem q1076 : (Jvm.Cond.soleField "ObjectForgeModel" "line") ∈ lw_all := lw_g (lw_at lw_m4 238 rfl) rfl
theorem q1077 : (Jvm.Cond.superclass "ObjectForgeModel" "java/lang/Object") ∈ lw_all := lw_g (lw_at lw_m4 239 rfl) rfl
theorem q1080 : (Jvm.Cond.instanceMethod ({ cls := "ObjectForgeModel", name := "thrown", desc := "()I" } : Jvm.MethodName)) ∈ lw_all := lw_g (lw_at lw_m5 2 rfl) rfl
theorem q1081 : (Jvm.Cond.selects "ObjectForgeModel" ({ cls := "ObjectForgeModel", name := "thrown", desc := "()I" } : Jvm.MethodName) ({ cls := "ObjectForgeModel", name := "thrown", desc := "()I" } : Jvm.MethodName)) ∈ lw_all := lw_g (lw_at lw_m5 3 rfl) rfl
theorem q1082 : (Jvm.Cond.code ({ cls := "ObjectForgeModel", name := "thrown", desc := "()I" } : Jvm.MethodName) prog_4_method_2_code (1 : Nat) (Option.some Jvm.ClassFile.FieldType.int)) ∈ lw_all := lw_g (lw_at lw_m5 4 rfl) rfl
theorem q1084 : (Jvm.Cond.instanceMethod ({ cls := "ObjectForgeModel", name := "feed", desc := "(IIII)I" } : Jvm.MethodName)) ∈ lw_all := lw_g (lw_at lw_m5 6 rfl) rfl
theorem q1085 : (Jvm.Cond.selects "ObjectForgeModel" ({ cls := "ObjectForgeModel", name := "feed", desc := "(IIII)I" } : Jvm.MethodName) ({ cls := "ObjectForgeModel", name := "feed", desc := "(IIII)I" } : Jvm.MethodName)) ∈ lw_all := lw_g (lw_at lw_m5 7 rfl) rfl
theorem q1086 : (Jvm.Cond.code ({ cls := "ObjectForgeModel", name := "feed", desc := "(IIII)I" } : Jvm.MethodName) prog_4_method_5_code (5 : Nat) (Option.some Jvm.ClassFile.FieldType.int)) ∈ lw_all := lw_g (lw_at lw_m5 8 rfl) rfl
theorem q1087 : (Jvm.Cond.methodLink "ObjectForgeModel" (94 : Nat) ({ cls := "ObjectForgeModel", name := "refuse", desc := "(I)I" } : Jvm.MethodName)) ∈ lw_all := lw_g (lw_at lw_m5 9 rfl) rfl
theorem q1088 : (Jvm.Cond.privateMethod ({ cls := "ObjectForgeModel", name := "refuse", desc := "(I)I" } : Jvm.MethodName)) ∈ lw_tbl := lw_at lw_m5 10 rfl
theorem q1089 : (Jvm.Cond.instanceMethod ({ cls := "ObjectForgeModel", name := "refuse", desc := "(I)I" } : Jvm.MethodName)) ∈ lw_all := lw_g (lw_at lw_m5 11 rfl) rfl
theorem q1090 : (Jvm.Cond.code ({ cls := "ObjectForgeModel", name := "refuse", desc := "(I)I" } : Jvm.MethodName) prog_4_method_3_code (2 : Nat) (Option.some Jvm.ClassFile.FieldType.int)) ∈ lw_all := lw_g (lw_at lw_m5 12 rfl) rfl
theorem q1091 : (Jvm.Cond.methodLink "ObjectForgeModel" (98 : Nat) ({ cls := "ObjectForgeModel", name := "four", desc := "(I)V" } : Jvm.MethodName)) ∈ lw_all := lw_g (lw_at lw_m5 13 rfl) rfl
theorem q1092 : (Jvm.Cond.privateMethod ({ cls := "ObjectForgeModel", name := "four", desc := "(I)V" } : Jvm.MethodName)) ∈ lw_tbl := lw_at lw_m5 14 rfl
theorem q1093 : (Jvm.Cond.instanceMethod ({ cls := "ObjectForgeModel", name := "four", desc := "(I)V" } : Jvm.MethodName)) ∈ lw_all := lw_g (lw_at lw_m5 15 rfl) rfl
theorem q1094 : (Jvm.Cond.code ({ cls := "ObjectForgeModel", name := "four", desc := "(I)V" } : Jvm.MethodName) prog_4_method_4_code (3 : Nat) (Option.none : Option Jvm.ClassFile.FieldType)) ∈ lw_all := lw_g (lw_at lw_m5 16 rfl) rfl
theorem q1096 : (Jvm.Cond.instanceMethod ({ cls := "ObjectForgeModel", name := "end", desc := "(I)I" } : Jvm.MethodName)) ∈ lw_all := lw_g (lw_at lw_m5 18 rfl) rfl
theorem q1097 : (Jvm.Cond.selects "ObjectForgeModel" ({ cls := "ObjectForgeModel", name := "end", desc := "(I)I" } : Jvm.MethodName) ({ cls := "ObjectForgeModel", name := "end", desc := "(I)I" } : Jvm.MethodName)) ∈ lw_all := lw_g (lw_at lw_m5 19 rfl) rfl
theorem q1098 : (Jvm.Cond.code ({ cls := "ObjectForgeModel", name := "end", desc := "(I)I" } : Jvm.MethodName) prog_4_method_6_code (2 : Nat) (Option.some Jvm.ClassFile.FieldType.int)) ∈ lw_all := lw_g (lw_at lw_m5 20 rfl) rfl
theorem q1100 : (Jvm.Cond.instanceMethod ({ cls := "ObjectForgeModel", name := "assemble", desc := "()I" } : Jvm.MethodName)) ∈ lw_all := lw_g (lw_at lw_m5 22 rfl) rfl
theorem q1101 : (Jvm.Cond.selects "ObjectForgeModel" ({ cls := "ObjectForgeModel", name := "assemble", desc := "()I" } : Jvm.MethodName) ({ cls := "ObjectForgeModel", name := "assemble", desc := "()I" } : Jvm.MethodName)) ∈ lw_all := lw_g (lw_at lw_m5 23 rfl) rfl
theorem q1102 : (Jvm.Cond.code ({ cls := "ObjectForgeModel", name := "assemble", desc := "()I" } : Jvm.MethodName) prog_4_method_72_code (4 : Nat) (Option.some Jvm.ClassFile.FieldType.int)) ∈ lw_all := lw_g (lw_at lw_m5 24 rfl) rfl
theorem q1103 : (Jvm.Cond.methodLink "ObjectForgeModel" (985 : Nat) ({ cls := "ObjectForgeModel", name := "fine", desc := "()Z" } : Jvm.MethodName)) ∈ lw_all := lw_g (lw_at lw_m5 25 rfl) rfl
theorem q1104 : (Jvm.Cond.privateMethod ({ cls := "ObjectForgeModel", name := "fine", desc := "()Z" } : Jvm.MethodName)) ∈ lw_tbl := lw_at lw_m5 26 rfl
theorem q1105 : (Jvm.Cond.instanceMethod ({ cls := "ObjectForgeModel", name := "fine", desc := "()Z" } : Jvm.MethodName)) ∈ lw_all := lw_g (lw_at lw_m5 27 rfl) rfl
theorem q1106 : (Jvm.Cond.code ({ cls := "ObjectForgeModel", name := "fine", desc := "()Z" } : Jvm.MethodName) prog_4_method_33_code (1 : Nat) (Option.some Jvm.ClassFile.FieldType.boolean)) ∈ lw_all := lw_g (lw_at lw_m5 28 rfl) rfl
theorem q1107 : (Jvm.Cond.methodLink "ObjectForgeModel" (1169 : Nat) ({ cls := "ObjectForgeModel", name := "read", desc := "(II)V" } : Jvm.MethodName)) ∈ lw_all := lw_g (lw_at lw_m5 29 rfl) rfl
theorem q1108 : (Jvm.Cond.privateMethod ({ cls := "ObjectForgeModel", name := "read", desc := "(II)V" } : Jvm.MethodName)) ∈ lw_tbl := lw_at lw_m5 30 rfl
theorem q1109 : (Jvm.Cond.instanceMethod ({ cls := "ObjectForgeModel", name := "read", desc := "(II)V" } : Jvm.MethodName)) ∈ lw_all := lw_g (lw_at lw_m5 31 rfl) rfl
theorem q1110 : (Jvm.Cond.code ({ cls := "ObjectForgeModel", name := "read", desc := "(II)V" } : Jvm.MethodName) prog_4_method_69_code (15 : Nat) (Option.none : Option Jvm.ClassFile.FieldType)) ∈ lw_all := lw_g (lw_at lw_m5 32 rfl) rfl
theorem q1111 : (Jvm.Cond.methodLink "ObjectForgeModel" (998 : Nat) ({ cls := "ObjectForgeModel", name := "next", desc := "()V" } : Jvm.MethodName)) ∈ lw_all := lw_g (lw_at lw_m5 33 rfl) rfl
theorem q1112 : (Jvm.Cond.privateMethod ({ cls := "ObjectForgeModel", name := "next", desc := "()V" } : Jvm.MethodName)) ∈ lw_tbl := lw_at lw_m5 34 rfl
theorem q1113 : (Jvm.Cond.instanceMethod ({ cls := "ObjectForgeModel", name := "next", desc := "()V" } : Jvm.MethodName)) ∈ lw_all := lw_g (lw_at lw_m5 35 rfl) rfl
theorem q1114 : (Jvm.Cond.code ({ cls := "ObjectForgeModel", name := "next", desc := "()V" } : Jvm.MethodName) prog_4_method_11_code (2 : Nat) (Option.none : Option Jvm.ClassFile.FieldType)) ∈ lw_all := lw_g (lw_at lw_m5 36 rfl) rfl
theorem q1115 : (Jvm.Cond.methodLink "ObjectForgeModel" (108 : Nat) ({ cls := "ObjectForgeModel", name := "here", desc := "()I" } : Jvm.MethodName)) ∈ lw_all := lw_g (lw_at lw_m5 37 rfl) rfl
theorem q1116 : (Jvm.Cond.privateMethod ({ cls := "ObjectForgeModel", name := "here", desc := "()I" } : Jvm.MethodName)) ∈ lw_tbl := lw_at lw_m5 38 rfl
theorem q1117 : (Jvm.Cond.instanceMethod ({ cls := "ObjectForgeModel", name := "here", desc := "()I" } : Jvm.MethodName)) ∈ lw_all := lw_g (lw_at lw_m5 39 rfl) rfl
theorem q1118 : (Jvm.Cond.code ({ cls := "ObjectForgeModel", name := "here", desc := "()I" } : Jvm.MethodName) prog_4_method_7_code (1 : Nat) (Option.some Jvm.ClassFile.FieldType.int)) ∈ lw_all := lw_g (lw_at lw_m5 40 rfl) rfl
theorem q1119 : (Jvm.Cond.methodLink "ObjectForgeModel" (112 : Nat) ({ cls := "ObjectForgeModel", name := "isLetter", desc := "(I)Z" } : Jvm.MethodName)) ∈ lw_all := lw_g (lw_at lw_m5 41 rfl) rfl
theorem q1120 : (Jvm.Cond.static ({ cls := "ObjectForgeModel", name := "isLetter", desc := "(I)Z" } : Jvm.MethodName)) ∈ lw_all := lw_g (lw_at lw_m5 42 rfl) rfl
theorem q1121 : (Jvm.Cond.code ({ cls := "ObjectForgeModel", name := "isLetter", desc := "(I)Z" } : Jvm.MethodName) prog_4_method_9_code (1 : Nat) (Option.some Jvm.ClassFile.FieldType.boolean)) ∈ lw_all := lw_g (lw_at lw_m5 43 rfl) rfl
theorem q1122 : (Jvm.Cond.methodLink "ObjectForgeModel" (122 : Nat) ({ cls := "ObjectForgeModel", name := "named", desc := "()V" } : Jvm.MethodName)) ∈ lw_all := lw_g (lw_at lw_m5 44 rfl) rfl
theorem q1123 : (Jvm.Cond.privateMethod ({ cls := "ObjectForgeModel", name := "named", desc := "()V" } : Jvm.MethodName)) ∈ lw_tbl := lw_at lw_m5 45 rfl
theorem q1124 : (Jvm.Cond.instanceMethod ({ cls := "ObjectForgeModel", name := "named", desc := "()V" } : Jvm.MethodName)) ∈ lw_all := lw_g (lw_at lw_m5 46 rfl) rfl
theorem q1125 : (Jvm.Cond.code ({ cls := "ObjectForgeModel", name := "named", desc := "()V" } : Jvm.MethodName) prog_4_method_13_code (5 : Nat) (Option.none : Option Jvm.ClassFile.FieldType)) ∈ lw_all := lw_g (lw_at lw_m5 47 rfl) rfl
theorem q1126 : (Jvm.Cond.methodLink "ObjectForgeModel" (153 : Nat) ({ cls := "ObjectForgeModel", name := "isInName", desc := "()Z" } : Jvm.MethodName)) ∈ lw_all := lw_g (lw_at lw_m5 48 rfl) rfl
theorem q1127 : (Jvm.Cond.privateMethod ({ cls := "ObjectForgeModel", name := "isInName", desc := "()Z" } : Jvm.MethodName)) ∈ lw_tbl := lw_at lw_m5 49 rfl
theorem q1128 : (Jvm.Cond.instanceMethod ({ cls := "ObjectForgeModel", name := "isInName", desc := "()Z" } : Jvm.MethodName)) ∈ lw_all := lw_g (lw_at lw_m5 50 rfl) rfl
theorem q1129 : (Jvm.Cond.code ({ cls := "ObjectForgeModel", name := "isInName", desc := "()Z" } : Jvm.MethodName) prog_4_method_10_code (1 : Nat) (Option.some Jvm.ClassFile.FieldType.boolean)) ∈ lw_all := lw_g (lw_at lw_m5 51 rfl) rfl
theorem q1130 : (Jvm.Cond.methodLink "ObjectForgeModel" (116 : Nat) ({ cls := "ObjectForgeModel", name := "isDigit", desc := "(I)Z" } : Jvm.MethodName)) ∈ lw_all := lw_g (lw_at lw_m5 52 rfl) rfl
theorem q1131 : (Jvm.Cond.static ({ cls := "ObjectForgeModel", name := "isDigit", desc := "(I)Z" } : Jvm.MethodName)) ∈ lw_all := lw_g (lw_at lw_m5 53 rfl) rfl
theorem q1132 : (Jvm.Cond.code ({ cls := "ObjectForgeModel", name := "isDigit", desc := "(I)Z" } : Jvm.MethodName) prog_4_method_8_code (1 : Nat) (Option.some Jvm.ClassFile.FieldType.boolean)) ∈ lw_all := lw_g (lw_at lw_m5 54 rfl) rfl
theorem q1133 : (Jvm.Cond.methodLink "ObjectForgeModel" (157 : Nat) ({ cls := "ObjectForgeModel", name := "codeOf", desc := "(I)I" } : Jvm.MethodName)) ∈ lw_all := lw_g (lw_at lw_m5 55 rfl) rfl
theorem q1134 : (Jvm.Cond.static ({ cls := "ObjectForgeModel", name := "codeOf", desc := "(I)I" } : Jvm.MethodName)) ∈ lw_all := lw_g (lw_at lw_m5 56 rfl) rfl
theorem q1135 : (Jvm.Cond.code ({ cls := "ObjectForgeModel", name := "codeOf", desc := "(I)I" } : Jvm.MethodName) prog_4_method_12_code (1 : Nat) (Option.some Jvm.ClassFile.FieldType.int)) ∈ lw_all := lw_g (lw_at lw_m5 57 rfl) rfl
theorem q1136 : (Jvm.Cond.constantLong "ObjectForgeModel" (160 : Nat) (38 : Int64)) ∈ lw_all := lw_g (lw_at lw_m5 58 rfl) rfl
theorem q1137 : (Jvm.Cond.methodLink "ObjectForgeModel" (125 : Nat) ({ cls := "ObjectForgeModel", name := "counted", desc := "()V" } : Jvm.MethodName)) ∈ lw_all := lw_g (lw_at lw_m5 59 rfl) rfl
theorem q1138 : (Jvm.Cond.privateMethod ({ cls := "ObjectForgeModel", name := "counted", desc := "()V" } : Jvm.MethodName)) ∈ lw_tbl := lw_at lw_m5 60 rfl
theorem q1139 : (Jvm.Cond.instanceMethod ({ cls := "ObjectForgeModel", name := "counted", desc := "()V" } : Jvm.MethodName)) ∈ lw_all := lw_g (lw_at lw_m5 61 rfl) rfl
theorem q1140 : (Jvm.Cond.code ({ cls := "ObjectForgeModel", name := "counted", desc := "()V" } : Jvm.MethodName) prog_4_method_15_code (5 : Nat) (Option.none : Option Jvm.ClassFile.FieldType)) ∈ lw_all := lw_g (lw_at lw_m5 62 rfl) rfl
theorem q1141 : (Jvm.Cond.methodLink "ObjectForgeModel" (168 : Nat) ({ cls := "ObjectForgeModel", name := "hexOf", desc := "(I)I" } : Jvm.MethodName)) ∈ lw_all := lw_g (lw_at lw_m5 63 rfl) rfl
theorem q1142 : (Jvm.Cond.static ({ cls := "ObjectForgeModel", name := "hexOf", desc := "(I)I" } : Jvm.MethodName)) ∈ lw_all := lw_g (lw_at lw_m5 64 rfl) rfl
theorem q1143 : (Jvm.Cond.code ({ cls := "ObjectForgeModel", name := "hexOf", desc := "(I)I" } : Jvm.MethodName) prog_4_method_14_code (1 : Nat) (Option.some Jvm.ClassFile.FieldType.int)) ∈ lw_all := lw_g (lw_at lw_m5 65 rfl) rfl
theorem q1144 : (Jvm.Cond.constantLong "ObjectForgeModel" (171 : Nat) (16 : Int64)) ∈ lw_all := lw_g (lw_at lw_m5 66 rfl) rfl
theorem q1145 : (Jvm.Cond.constantLong "ObjectForgeModel" (173 : Nat) (10 : Int64)) ∈ lw_all := lw_g (lw_at lw_m5 67 rfl) rfl
theorem q1146 : (Jvm.Cond.constantLong "ObjectForgeModel" (175 : Nat) (4294967295 : Int64)) ∈ lw_all := lw_g (lw_at lw_m5 68 rfl) rfl
theorem q1147 : (Jvm.Cond.methodLink "ObjectForgeModel" (128 : Nat) ({ cls := "ObjectForgeModel", name := "registered", desc := "()V" } : Jvm.MethodName)) ∈ lw_all := lw_g (lw_at lw_m5 69 rfl) rfl
theorem q1148 : (Jvm.Cond.privateMethod ({ cls := "ObjectForgeModel", name := "registered", desc := "()V" } : Jvm.MethodName)) ∈ lw_tbl := lw_at lw_m5 70 rfl
theorem q1149 : (Jvm.Cond.instanceMethod ({ cls := "ObjectForgeModel", name := "registered", desc := "()V" } : Jvm.MethodName)) ∈ lw_all := lw_g (lw_at lw_m5 71 rfl) rfl
theorem q1150 : (Jvm.Cond.code ({ cls := "ObjectForgeModel", name := "registered", desc := "()V" } : Jvm.MethodName) prog_4_method_17_code (4 : Nat) (Option.none : Option Jvm.ClassFile.FieldType)) ∈ lw_all := lw_g (lw_at lw_m5 72 rfl) rfl
theorem q1151 : (Jvm.Cond.methodLink "ObjectForgeModel" (177 : Nat) ({ cls := "ObjectForgeModel", name := "small", desc := "(II)I" } : Jvm.MethodName)) ∈ lw_all := lw_g (lw_at lw_m5 73 rfl) rfl
theorem q1152 : (Jvm.Cond.privateMethod ({ cls := "ObjectForgeModel", name := "small", desc := "(II)I" } : Jvm.MethodName)) ∈ lw_tbl := lw_at lw_m5 74 rfl
theorem q1153 : (Jvm.Cond.instanceMethod ({ cls := "ObjectForgeModel", name := "small", desc := "(II)I" } : Jvm.MethodName)) ∈ lw_all := lw_g (lw_at lw_m5 75 rfl) rfl
theorem q1154 : (Jvm.Cond.code ({ cls := "ObjectForgeModel", name := "small", desc := "(II)I" } : Jvm.MethodName) prog_4_method_16_code (5 : Nat) (Option.some Jvm.ClassFile.FieldType.int)) ∈ lw_all := lw_g (lw_at lw_m5 76 rfl) rfl
theorem q1155 : (Jvm.Cond.methodLink "ObjectForgeModel" (184 : Nat) ({ cls := "ObjectForgeModel", name := "ofTwo", desc := "(JI)I" } : Jvm.MethodName)) ∈ lw_all := lw_g (lw_at lw_m5 77 rfl) rfl
theorem q1156 : (Jvm.Cond.static ({ cls := "ObjectForgeModel", name := "ofTwo", desc := "(JI)I" } : Jvm.MethodName)) ∈ lw_all := lw_g (lw_at lw_m5 78 rfl) rfl
theorem q1157 : (Jvm.Cond.code ({ cls := "ObjectForgeModel", name := "ofTwo", desc := "(JI)I" } : Jvm.MethodName) prog_4_method_18_code (5 : Nat) (Option.some Jvm.ClassFile.FieldType.int)) ∈ lw_all := lw_g (lw_at lw_m5 79 rfl) rfl
theorem q1158 : (Jvm.Cond.constantLong "ObjectForgeModel" (190 : Nat) (22 : Int64)) ∈ lw_all := lw_g (lw_at lw_m5 80 rfl) rfl
theorem q1159 : (Jvm.Cond.constantLong "ObjectForgeModel" (192 : Nat) (20 : Int64)) ∈ lw_all := lw_g (lw_at lw_m5 81 rfl) rfl
theorem q1160 : (Jvm.Cond.constantLong "ObjectForgeModel" (194 : Nat) (19 : Int64)) ∈ lw_all := lw_g (lw_at lw_m5 82 rfl) rfl
theorem q1161 : (Jvm.Cond.constantLong "ObjectForgeModel" (196 : Nat) (11 : Int64)) ∈ lw_all := lw_g (lw_at lw_m5 83 rfl) rfl
theorem q1162 : (Jvm.Cond.constantLong "ObjectForgeModel" (198 : Nat) (58 : Int64)) ∈ lw_all := lw_g (lw_at lw_m5 84 rfl) rfl
theorem q1163 : (Jvm.Cond.constantLong "ObjectForgeModel" (200 : Nat) (282 : Int64)) ∈ lw_all := lw_g (lw_at lw_m5 85 rfl) rfl
theorem q1164 : (Jvm.Cond.constantLong "ObjectForgeModel" (202 : Nat) (738 : Int64)) ∈ lw_all := lw_g (lw_at lw_m5 86 rfl) rfl
theorem q1165 : (Jvm.Cond.constantLong "ObjectForgeModel" (204 : Nat) (244 : Int64)) ∈ lw_all := lw_g (lw_at lw_m5 87 rfl) rfl
theorem q1166 : (Jvm.Cond.constantLong "ObjectForgeModel" (206 : Nat) (685 : Int64)) ∈ lw_all := lw_g (lw_at lw_m5 88 rfl) rfl
theorem q1167 : (Jvm.Cond.constantLong "ObjectForgeModel" (188 : Nat) (1434591 : Int64)) ∈ lw_all := lw_g (lw_at lw_m5 89 rfl) rfl
theorem q1168 : (Jvm.Cond.methodLink "ObjectForgeModel" (131 : Nat) ({ cls := "ObjectForgeModel", name := "character", desc := "()V" } : Jvm.MethodName)) ∈ lw_all := lw_g (lw_at lw_m5 90 rfl) rfl
theorem q1169 : (Jvm.Cond.privateMethod ({ cls := "ObjectForgeModel", name := "character", desc := "()V" } : Jvm.MethodName)) ∈ lw_tbl := lw_at lw_m5 91 rfl
theorem q1170 : (Jvm.Cond.instanceMethod ({ cls := "ObjectForgeModel", name := "character", desc := "()V" } : Jvm.MethodName)) ∈ lw_all := lw_g (lw_at lw_m5 92 rfl) rfl
theorem q1171 : (Jvm.Cond.code ({ cls := "ObjectForgeModel", name := "character", desc := "()V" } : Jvm.MethodName) prog_4_method_20_code (2 : Nat) (Option.none : Option Jvm.ClassFile.FieldType)) ∈ lw_all := lw_g (lw_at lw_m5 93 rfl) rfl
theorem q1172 : (Jvm.Cond.methodLink "ObjectForgeModel" (208 : Nat) ({ cls := "ObjectForgeModel", name := "escaped", desc := "(I)I" } : Jvm.MethodName)) ∈ lw_all := lw_g (lw_at lw_m5 94 rfl) rfl
theorem q1173 : (Jvm.Cond.static ({ cls := "ObjectForgeModel", name := "escaped", desc := "(I)I" } : Jvm.MethodName)) ∈ lw_all := lw_g (lw_at lw_m5 95 rfl) rfl
theorem q1174 : (Jvm.Cond.code ({ cls := "ObjectForgeModel", name := "escaped", desc := "(I)I" } : Jvm.MethodName) prog_4_method_19_code (1 : Nat) (Option.some Jvm.ClassFile.FieldType.int)) ∈ lw_all := lw_g (lw_at lw_m5 96 rfl) rfl
theorem q1175 : (Jvm.Cond.constantLong "ObjectForgeModel" (211 : Nat) (-1 : Int64)) ∈ lw_all := lw_g (lw_at lw_m5 97 rfl) rfl
theorem q1176 : (Jvm.Cond.methodLink "ObjectForgeModel" (134 : Nat) ({ cls := "ObjectForgeModel", name := "quoted", desc := "()V" } : Jvm.MethodName)) ∈ lw_all := lw_g (lw_at lw_m5 98 rfl) rfl
theorem q1177 : (Jvm.Cond.privateMethod ({ cls := "ObjectForgeModel", name := "quoted", desc := "()V" } : Jvm.MethodName)) ∈ lw_tbl := lw_at lw_m5 99 rfl
theorem q1178 : (Jvm.Cond.instanceMethod ({ cls := "ObjectForgeModel", name := "quoted", desc := "()V" } : Jvm.MethodName)) ∈ lw_all := lw_g (lw_at lw_m5 100 rfl) rfl
theorem q1179 : (Jvm.Cond.code ({ cls := "ObjectForgeModel", name := "quoted", desc := "()V" } : Jvm.MethodName) prog_4_method_21_code (2 : Nat) (Option.none : Option Jvm.ClassFile.FieldType)) ∈ lw_all := lw_g (lw_at lw_m5 101 rfl) rfl
theorem q1180 : (Jvm.Cond.methodLink "ObjectForgeModel" (994 : Nat) ({ cls := "ObjectForgeModel", name := "must", desc := "(Z)Z" } : Jvm.MethodName)) ∈ lw_all := lw_g (lw_at lw_m5 102 rfl) rfl
theorem q1181 : (Jvm.Cond.privateMethod ({ cls := "ObjectForgeModel", name := "must", desc := "(Z)Z" } : Jvm.MethodName)) ∈ lw_tbl := lw_at lw_m5 103 rfl
theorem q1182 : (Jvm.Cond.instanceMethod ({ cls := "ObjectForgeModel", name := "must", desc := "(Z)Z" } : Jvm.MethodName)) ∈ lw_all := lw_g (lw_at lw_m5 104 rfl) rfl
theorem q1183 : (Jvm.Cond.code ({ cls := "ObjectForgeModel", name := "must", desc := "(Z)Z" } : Jvm.MethodName) prog_4_method_35_code (2 : Nat) (Option.some Jvm.ClassFile.FieldType.boolean)) ∈ lw_all := lw_g (lw_at lw_m5 105 rfl) rfl
theorem q1184 : (Jvm.Cond.methodLink "ObjectForgeModel" (988 : Nat) ({ cls := "ObjectForgeModel", name := "wrong", desc := "(I)V" } : Jvm.MethodName)) ∈ lw_all := lw_g (lw_at lw_m5 106 rfl) rfl
theorem q1185 : (Jvm.Cond.privateMethod ({ cls := "ObjectForgeModel", name := "wrong", desc := "(I)V" } : Jvm.MethodName)) ∈ lw_tbl := lw_at lw_m5 107 rfl
theorem q1186 : (Jvm.Cond.instanceMethod ({ cls := "ObjectForgeModel", name := "wrong", desc := "(I)V" } : Jvm.MethodName)) ∈ lw_all := lw_g (lw_at lw_m5 108 rfl) rfl
theorem q1187 : (Jvm.Cond.code ({ cls := "ObjectForgeModel", name := "wrong", desc := "(I)V" } : Jvm.MethodName) prog_4_method_32_code (2 : Nat) (Option.none : Option Jvm.ClassFile.FieldType)) ∈ lw_all := lw_g (lw_at lw_m5 109 rfl) rfl
theorem q1188 : (Jvm.Cond.methodLink "ObjectForgeModel" (991 : Nat) ({ cls := "ObjectForgeModel", name := "isSign", desc := "(I)Z" } : Jvm.MethodName)) ∈ lw_all := lw_g (lw_at lw_m5 110 rfl) rfl
theorem q1189 : (Jvm.Cond.privateMethod ({ cls := "ObjectForgeModel", name := "isSign", desc := "(I)Z" } : Jvm.MethodName)) ∈ lw_tbl := lw_at lw_m5 111 rfl
theorem q1190 : (Jvm.Cond.instanceMethod ({ cls := "ObjectForgeModel", name := "isSign", desc := "(I)Z" } : Jvm.MethodName)) ∈ lw_all := lw_g (lw_at lw_m5 112 rfl) rfl
theorem q1191 : (Jvm.Cond.code ({ cls := "ObjectForgeModel", name := "isSign", desc := "(I)Z" } : Jvm.MethodName) prog_4_method_34_code (2 : Nat) (Option.some Jvm.ClassFile.FieldType.boolean)) ∈ lw_all := lw_g (lw_at lw_m5 113 rfl) rfl
theorem q1192 : (Jvm.Cond.methodLink "ObjectForgeModel" (1150 : Nat) ({ cls := "ObjectForgeModel", name := "label", desc := "()V" } : Jvm.MethodName)) ∈ lw_all := lw_g (lw_at lw_m5 114 rfl) rfl
theorem q1193 : (Jvm.Cond.privateMethod ({ cls := "ObjectForgeModel", name := "label", desc := "()V" } : Jvm.MethodName)) ∈ lw_tbl := lw_at lw_m5 115 rfl
theorem q1194 : (Jvm.Cond.instanceMethod ({ cls := "ObjectForgeModel", name := "label", desc := "()V" } : Jvm.MethodName)) ∈ lw_all := lw_g (lw_at lw_m5 116 rfl) rfl
theorem q1195 : (Jvm.Cond.code ({ cls := "ObjectForgeModel", name := "label", desc := "()V" } : Jvm.MethodName) prog_4_method_70_code (3 : Nat) (Option.none : Option Jvm.ClassFile.FieldType)) ∈ lw_all := lw_g (lw_at lw_m5 117 rfl) rfl
theorem q1196 : (Jvm.Cond.methodLink "ObjectForgeModel" (1013 : Nat) ({ cls := "ObjectForgeModel", name := "symbolHere", desc := "()I" } : Jvm.MethodName)) ∈ lw_all := lw_g (lw_at lw_m5 118 rfl) rfl
theorem q1197 : (Jvm.Cond.privateMethod ({ cls := "ObjectForgeModel", name := "symbolHere", desc := "()I" } : Jvm.MethodName)) ∈ lw_tbl := lw_at lw_m5 119 rfl
theorem q1198 : (Jvm.Cond.instanceMethod ({ cls := "ObjectForgeModel", name := "symbolHere", desc := "()I" } : Jvm.MethodName)) ∈ lw_all := lw_g (lw_at lw_m5 120 rfl) rfl
theorem q1199 : (Jvm.Cond.code ({ cls := "ObjectForgeModel", name := "symbolHere", desc := "()I" } : Jvm.MethodName) prog_4_method_43_code (4 : Nat) (Option.some Jvm.ClassFile.FieldType.int)) ∈ lw_all := lw_g (lw_at lw_m5 121 rfl) rfl
theorem q1200 : (Jvm.Cond.methodLink "ObjectForgeModel" (1153 : Nat) ({ cls := "ObjectForgeModel", name := "found", desc := "(J)J" } : Jvm.MethodName)) ∈ lw_all := lw_g (lw_at lw_m5 122 rfl) rfl
theorem q1201 : (Jvm.Cond.static ({ cls := "ObjectForgeModel", name := "found", desc := "(J)J" } : Jvm.MethodName)) ∈ lw_all := lw_g (lw_at lw_m5 123 rfl) rfl
theorem q1202 : (Jvm.Cond.code ({ cls := "ObjectForgeModel", name := "found", desc := "(J)J" } : Jvm.MethodName) prog_4_method_31_code (4 : Nat) (Option.some Jvm.ClassFile.FieldType.long)) ∈ lw_all := lw_g (lw_at lw_m5 124 rfl) rfl
theorem q1203 : (Jvm.Cond.methodLink "ObjectForgeModel" (954 : Nat) ({ cls := "ObjectForgeModel", name := "ofFour", desc := "(J)J" } : Jvm.MethodName)) ∈ lw_all := lw_g (lw_at lw_m5 125 rfl) rfl
theorem q1204 : (Jvm.Cond.static ({ cls := "ObjectForgeModel", name := "ofFour", desc := "(J)J" } : Jvm.MethodName)) ∈ lw_all := lw_g (lw_at lw_m5 126 rfl) rfl
theorem q1205 : (Jvm.Cond.code ({ cls := "ObjectForgeModel", name := "ofFour", desc := "(J)J" } : Jvm.MethodName) prog_4_method_22_code (2 : Nat) (Option.some Jvm.ClassFile.FieldType.long)) ∈ lw_all := lw_g (lw_at lw_m5 127 rfl) rfl
theorem q1206 : (Jvm.Cond.constantLong "ObjectForgeModel" (216 : Nat) (60821 : Int64)) ∈ lw_all := lw_g (lw_at lw_m5 128 rfl) rfl
theorem q1207 : (Jvm.Cond.constantLong "ObjectForgeModel" (218 : Nat) (4294967329 : Int64)) ∈ lw_all := lw_g (lw_at lw_m5 129 rfl) rfl
theorem q1208 : (Jvm.Cond.constantLong "ObjectForgeModel" (220 : Nat) (1072989 : Int64)) ∈ lw_all := lw_g (lw_at lw_m5 130 rfl) rfl
theorem q1209 : (Jvm.Cond.constantLong "ObjectForgeModel" (222 : Nat) (4294967331 : Int64)) ∈ lw_all := lw_g (lw_at lw_m5 131 rfl) rfl
theorem q1210 : (Jvm.Cond.constantLong "ObjectForgeModel" (224 : Nat) (1060677 : Int64)) ∈ lw_all := lw_g (lw_at lw_m5 132 rfl) rfl
theorem q1211 : (Jvm.Cond.constantLong "ObjectForgeModel" (226 : Nat) (4294967339 : Int64)) ∈ lw_all := lw_g (lw_at lw_m5 133 rfl) rfl
theorem q1212 : (Jvm.Cond.constantLong "ObjectForgeModel" (228 : Nat) (735858 : Int64)) ∈ lw_all := lw_g (lw_at lw_m5 134 rfl) rfl
theorem q1213 : (Jvm.Cond.constantLong "ObjectForgeModel" (230 : Nat) (4294967306 : Int64)) ∈ lw_all := lw_g (lw_at lw_m5 135 rfl) rfl
theorem q1214 : (Jvm.Cond.constantLong "ObjectForgeModel" (232 : Nat) (735846 : Int64)) ∈ lw_all := lw_g (lw_at lw_m5 136 rfl) rfl
theorem q1215 : (Jvm.Cond.constantLong "ObjectForgeModel" (234 : Nat) (4294967307 : Int64)) ∈ lw_all := lw_g (lw_at lw_m5 137 rfl) rfl
theorem q1216 : (Jvm.Cond.constantLong "ObjectForgeModel" (236 : Nat) (1060374 : Int64)) ∈ lw_all := lw_g (lw_at lw_m5 138 rfl) rfl
theorem q1217 : (Jvm.Cond.constantLong "ObjectForgeModel" (238 : Nat) (12884901892 : Int64)) ∈ lw_all := lw_g (lw_at lw_m5 139 rfl) rfl
theorem q1218 : (Jvm.Cond.constantLong "ObjectForgeModel" (240 : Nat) (1069038 : Int64)) ∈ lw_all := lw_g (lw_at lw_m5 140 rfl) rfl
theorem q1219 : (Jvm.Cond.constantLong "ObjectForgeModel" (242 : Nat) (12884901894 : Int64)) ∈ lw_all := lw_g (lw_at lw_m5 141 rfl) rfl
theorem q1220 : (Jvm.Cond.constantLong "ObjectForgeModel" (244 : Nat) (1068620 : Int64)) ∈ lw_all := lw_g (lw_at lw_m5 142 rfl) rfl
theorem q1221 : (Jvm.Cond.constantLong "ObjectForgeModel" (246 : Nat) (12884901895 : Int64)) ∈ lw_all := lw_g (lw_at lw_m5 143 rfl) rfl
theorem q1222 : (Jvm.Cond.constantLong "ObjectForgeModel" (248 : Nat) (744136 : Int64)) ∈ lw_all := lw_g (lw_at lw_m5 144 rfl) rfl
theorem q1223 : (Jvm.Cond.constantLong "ObjectForgeModel" (250 : Nat) (17179869208 : Int64)) ∈ lw_all := lw_g (lw_at lw_m5 145 rfl) rfl
theorem q1224 : (Jvm.Cond.constantLong "ObjectForgeModel" (252 : Nat) (1107759 : Int64)) ∈ lw_all := lw_g (lw_at lw_m5 146 rfl) rfl
theorem q1225 : (Jvm.Cond.constantLong "ObjectForgeModel" (254 : Nat) (17179869233 : Int64)) ∈ lw_all := lw_g (lw_at lw_m5 147 rfl) rfl
theorem q1226 : (Jvm.Cond.constantLong "ObjectForgeModel" (256 : Nat) (1115549 : Int64)) ∈ lw_all := lw_g (lw_at lw_m5 148 rfl) rfl
theorem q1227 : (Jvm.Cond.constantLong "ObjectForgeModel" (258 : Nat) (17179869235 : Int64)) ∈ lw_all := lw_g (lw_at lw_m5 149 rfl) rfl
theorem q1228 : (Jvm.Cond.constantLong "ObjectForgeModel" (260 : Nat) (714936 : Int64)) ∈ lw_all := lw_g (lw_at lw_m5 150 rfl) rfl
theorem q1229 : (Jvm.Cond.constantLong "ObjectForgeModel" (262 : Nat) (19058917376 : Int64)) ∈ lw_all := lw_g (lw_at lw_m5 151 rfl) rfl
theorem q1230 : (Jvm.Cond.constantLong "ObjectForgeModel" (264 : Nat) (741572 : Int64)) ∈ lw_all := lw_g (lw_at lw_m5 152 rfl) rfl
theorem q1231 : (Jvm.Cond.constantLong "ObjectForgeModel" (266 : Nat) (19058917380 : Int64)) ∈ lw_all := lw_g (lw_at lw_m5 153 rfl) rfl
theorem q1232 : (Jvm.Cond.constantLong "ObjectForgeModel" (268 : Nat) (722313 : Int64)) ∈ lw_all := lw_g (lw_at lw_m5 154 rfl) rfl
theorem q1233 : (Jvm.Cond.constantLong "ObjectForgeModel" (270 : Nat) (21474836496 : Int64)) ∈ lw_all := lw_g (lw_at lw_m5 155 rfl) rfl
theorem q1234 : (Jvm.Cond.constantLong "ObjectForgeModel" (272 : Nat) (722471 : Int64)) ∈ lw_all := lw_g (lw_at lw_m5 156 rfl) rfl
theorem q1235 : (Jvm.Cond.constantLong "ObjectForgeModel" (274 : Nat) (21474836498 : Int64)) ∈ lw_all := lw_g (lw_at lw_m5 157 rfl) rfl
theorem q1236 : (Jvm.Cond.constantLong "ObjectForgeModel" (276 : Nat) (742529 : Int64)) ∈ lw_all := lw_g (lw_at lw_m5 158 rfl) rfl
theorem q1237 : (Jvm.Cond.constantLong "ObjectForgeModel" (278 : Nat) (25769803793 : Int64)) ∈ lw_all := lw_g (lw_at lw_m5 159 rfl) rfl
theorem q1238 : (Jvm.Cond.constantLong "ObjectForgeModel" (280 : Nat) (742687 : Int64)) ∈ lw_all := lw_g (lw_at lw_m5 160 rfl) rfl
theorem q1239 : (Jvm.Cond.constantLong "ObjectForgeModel" (282 : Nat) (25769803795 : Int64)) ∈ lw_all := lw_g (lw_at lw_m5 161 rfl) rfl
theorem q1240 : (Jvm.Cond.constantLong "ObjectForgeModel" (284 : Nat) (60809 : Int64)) ∈ lw_all := lw_g (lw_at lw_m5 162 rfl) rfl
theorem q1241 : (Jvm.Cond.constantLong "ObjectForgeModel" (286 : Nat) (34896609280 : Int64)) ∈ lw_all := lw_g (lw_at lw_m5 163 rfl) rfl
theorem q1242 : (Jvm.Cond.constantLong "ObjectForgeModel" (288 : Nat) (1060665 : Int64)) ∈ lw_all := lw_g (lw_at lw_m5 164 rfl) rfl
theorem q1243 : (Jvm.Cond.constantLong "ObjectForgeModel" (290 : Nat) (35030827008 : Int64)) ∈ lw_all := lw_g (lw_at lw_m5 165 rfl) rfl
theorem q1244 : (Jvm.Cond.constantLong "ObjectForgeModel" (292 : Nat) (75249 : Int64)) ∈ lw_all := lw_g (lw_at lw_m5 166 rfl) rfl
theorem q1245 : (Jvm.Cond.constantLong "ObjectForgeModel" (294 : Nat) (39460012032 : Int64)) ∈ lw_all := lw_g (lw_at lw_m5 167 rfl) rfl
theorem q1246 : (Jvm.Cond.constantLong "ObjectForgeModel" (296 : Nat) (1339281 : Int64)) ∈ lw_all := lw_g (lw_at lw_m5 168 rfl) rfl
theorem q1247 : (Jvm.Cond.constantLong "ObjectForgeModel" (298 : Nat) (39594229760 : Int64)) ∈ lw_all := lw_g (lw_at lw_m5 169 rfl) rfl
theorem q1248 : (Jvm.Cond.constantLong "ObjectForgeModel" (300 : Nat) (691819 : Int64)) ∈ lw_all := lw_g (lw_at lw_m5 170 rfl) rfl
theorem q1249 : (Jvm.Cond.constantLong "ObjectForgeModel" (302 : Nat) (54827941888 : Int64)) ∈ lw_all := lw_g (lw_at lw_m5 171 rfl) rfl
theorem q1250 : (Jvm.Cond.constantLong "ObjectForgeModel" (304 : Nat) (1075923 : Int64)) ∈ lw_all := lw_g (lw_at lw_m5 172 rfl) rfl
theorem q1251 : (Jvm.Cond.constantLong "ObjectForgeModel" (306 : Nat) (55364812800 : Int64)) ∈ lw_all := lw_g (lw_at lw_m5 173 rfl) rfl
theorem q1252 : (Jvm.Cond.constantLong "ObjectForgeModel" (308 : Nat) (664383 : Int64)) ∈ lw_all := lw_g (lw_at lw_m5 174 rfl) rfl
theorem q1253 : (Jvm.Cond.constantLong "ObjectForgeModel" (310 : Nat) (55096377344 : Int64)) ∈ lw_all := lw_g (lw_at lw_m5 175 rfl) rfl
theorem q1254 : (Jvm.Cond.constantLong "ObjectForgeModel" (312 : Nat) (1048487 : Int64)) ∈ lw_all := lw_g (lw_at lw_m5 176 rfl) rfl
theorem q1255 : (Jvm.Cond.constantLong "ObjectForgeModel" (314 : Nat) (55633248256 : Int64)) ∈ lw_all := lw_g (lw_at lw_m5 177 rfl) rfl
theorem q1256 : (Jvm.Cond.constantLong "ObjectForgeModel" (316 : Nat) (117622 : Int64)) ∈ lw_all := lw_g (lw_at lw_m5 178 rfl) rfl
theorem q1257 : (Jvm.Cond.constantLong "ObjectForgeModel" (318 : Nat) (57176752128 : Int64)) ∈ lw_all := lw_g (lw_at lw_m5 179 rfl) rfl
theorem q1258 : (Jvm.Cond.constantLong "ObjectForgeModel" (320 : Nat) (130162 : Int64)) ∈ lw_all := lw_g (lw_at lw_m5 180 rfl) rfl
theorem q1259 : (Jvm.Cond.constantLong "ObjectForgeModel" (322 : Nat) (57243860992 : Int64)) ∈ lw_all := lw_g (lw_at lw_m5 181 rfl) rfl
theorem q1260 : (Jvm.Cond.constantLong "ObjectForgeModel" (324 : Nat) (127288 : Int64)) ∈ lw_all := lw_g (lw_at lw_m5 182 rfl) rfl
theorem q1261 : (Jvm.Cond.constantLong "ObjectForgeModel" (326 : Nat) (60532195328 : Int64)) ∈ lw_all := lw_g (lw_at lw_m5 183 rfl) rfl
theorem q1262 : (Jvm.Cond.constantLong "ObjectForgeModel" (328 : Nat) (120638 : Int64)) ∈ lw_all := lw_g (lw_at lw_m5 184 rfl) rfl
theorem q1263 : (Jvm.Cond.constantLong "ObjectForgeModel" (330 : Nat) (60599304192 : Int64)) ∈ lw_all := lw_g (lw_at lw_m5 185 rfl) rfl
theorem q1264 : (Jvm.Cond.constantLong "ObjectForgeModel" (332 : Nat) (127858 : Int64)) ∈ lw_all := lw_g (lw_at lw_m5 186 rfl) rfl
theorem q1265 : (Jvm.Cond.constantLong "ObjectForgeModel" (334 : Nat) (60196651008 : Int64)) ∈ lw_all := lw_g (lw_at lw_m5 187 rfl) rfl
theorem q1266 : (Jvm.Cond.methodLink "ObjectForgeModel" (958 : Nat) ({ cls := "ObjectForgeModel", name := "ofFourMore", desc := "(J)J" } : Jvm.MethodName)) ∈ lw_all := lw_g (lw_at lw_m5 188 rfl) rfl
theorem q1267 : (Jvm.Cond.static ({ cls := "ObjectForgeModel", name := "ofFourMore", desc := "(J)J" } : Jvm.MethodName)) ∈ lw_all := lw_g (lw_at lw_m5 189 rfl) rfl
theorem q1268 : (Jvm.Cond.code ({ cls := "ObjectForgeModel", name := "ofFourMore", desc := "(J)J" } : Jvm.MethodName) prog_4_method_23_code (2 : Nat) (Option.some Jvm.ClassFile.FieldType.long)) ∈ lw_all := lw_g (lw_at lw_m5 190 rfl) rfl
theorem q1269 : (Jvm.Cond.constantLong "ObjectForgeModel" (336 : Nat) (120068 : Int64)) ∈ lw_all := lw_g (lw_at lw_m5 191 rfl) rfl
theorem q1270 : (Jvm.Cond.constantLong "ObjectForgeModel" (338 : Nat) (60196716544 : Int64)) ∈ lw_all := lw_g (lw_at lw_m5 192 rfl) rfl
theorem q1271 : (Jvm.Cond.constantLong "ObjectForgeModel" (340 : Nat) (115184 : Int64)) ∈ lw_all := lw_g (lw_at lw_m5 193 rfl) rfl
theorem q1272 : (Jvm.Cond.constantLong "ObjectForgeModel" (342 : Nat) (65582137344 : Int64)) ∈ lw_all := lw_g (lw_at lw_m5 194 rfl) rfl
theorem q1273 : (Jvm.Cond.constantLong "ObjectForgeModel" (344 : Nat) (115198 : Int64)) ∈ lw_all := lw_g (lw_at lw_m5 195 rfl) rfl
theorem q1274 : (Jvm.Cond.constantLong "ObjectForgeModel" (346 : Nat) (65582202880 : Int64)) ∈ lw_all := lw_g (lw_at lw_m5 196 rfl) rfl
theorem q1275 : (Jvm.Cond.constantLong "ObjectForgeModel" (348 : Nat) (722143 : Int64)) ∈ lw_all := lw_g (lw_at lw_m5 197 rfl) rfl
theorem q1276 : (Jvm.Cond.constantLong "ObjectForgeModel" (350 : Nat) (74155294720 : Int64)) ∈ lw_all := lw_g (lw_at lw_m5 198 rfl) rfl
theorem q1277 : (Jvm.Cond.constantLong "ObjectForgeModel" (352 : Nat) (742359 : Int64)) ∈ lw_all := lw_g (lw_at lw_m5 199 rfl) rfl
theorem q1278 : (Jvm.Cond.constantLong "ObjectForgeModel" (354 : Nat) (74163683328 : Int64)) ∈ lw_all := lw_g (lw_at lw_m5 200 rfl) rfl
theorem q1279 : (Jvm.Cond.constantLong "ObjectForgeModel" (356 : Nat) (1079203 : Int64)) ∈ lw_all := lw_g (lw_at lw_m5 201 rfl) rfl
theorem q1280 : (Jvm.Cond.constantLong "ObjectForgeModel" (358 : Nat) (77309411343 : Int64)) ∈ lw_all := lw_g (lw_at lw_m5 202 rfl) rfl
theorem q1281 : (Jvm.Cond.constantLong "ObjectForgeModel" (360 : Nat) (735837 : Int64)) ∈ lw_all := lw_g (lw_at lw_m5 203 rfl) rfl
theorem q1282 : (Jvm.Cond.constantLong "ObjectForgeModel" (362 : Nat) (98784247841 : Int64)) ∈ lw_all := lw_g (lw_at lw_m5 204 rfl) rfl
theorem q1283 : (Jvm.Cond.constantLong "ObjectForgeModel" (364 : Nat) (550638 : Int64)) ∈ lw_all := lw_g (lw_at lw_m5 205 rfl) rfl
theorem q1284 : (Jvm.Cond.constantLong "ObjectForgeModel" (366 : Nat) (111669149705 : Int64)) ∈ lw_all := lw_g (lw_at lw_m5 206 rfl) rfl
theorem q1285 : (Jvm.Cond.constantLong "ObjectForgeModel" (368 : Nat) (117636 : Int64)) ∈ lw_all := lw_g (lw_at lw_m5 207 rfl) rfl
theorem q1286 : (Jvm.Cond.constantLong "ObjectForgeModel" (370 : Nat) (120527519744 : Int64)) ∈ lw_all := lw_g (lw_at lw_m5 208 rfl) rfl
theorem q1287 : (Jvm.Cond.constantLong "ObjectForgeModel" (372 : Nat) (130176 : Int64)) ∈ lw_all := lw_g (lw_at lw_m5 209 rfl) rfl
theorem q1288 : (Jvm.Cond.constantLong "ObjectForgeModel" (374 : Nat) (120594628608 : Int64)) ∈ lw_all := lw_g (lw_at lw_m5 210 rfl) rfl
theorem q1289 : (Jvm.Cond.constantLong "ObjectForgeModel" (376 : Nat) (127853 : Int64)) ∈ lw_all := lw_g (lw_at lw_m5 211 rfl) rfl
theorem q1290 : (Jvm.Cond.constantLong "ObjectForgeModel" (378 : Nat) (133143987499 : Int64)) ∈ lw_all := lw_g (lw_at lw_m5 212 rfl) rfl
theorem q1291 : (Jvm.Cond.constantLong "ObjectForgeModel" (380 : Nat) (120063 : Int64)) ∈ lw_all := lw_g (lw_at lw_m5 213 rfl) rfl
theorem q1292 : (Jvm.Cond.constantLong "ObjectForgeModel" (382 : Nat) (133143987243 : Int64)) ∈ lw_all := lw_g (lw_at lw_m5 214 rfl) rfl
theorem q1293 : (Jvm.Cond.constantLong "ObjectForgeModel" (384 : Nat) (120633 : Int64)) ∈ lw_all := lw_g (lw_at lw_m5 215 rfl) rfl
theorem q1294 : (Jvm.Cond.constantLong "ObjectForgeModel" (386 : Nat) (133143987563 : Int64)) ∈ lw_all := lw_g (lw_at lw_m5 216 rfl) rfl
theorem q1295 : (Jvm.Cond.constantLong "ObjectForgeModel" (388 : Nat) (127283 : Int64)) ∈ lw_all := lw_g (lw_at lw_m5 217 rfl) rfl
theorem q1296 : (Jvm.Cond.constantLong "ObjectForgeModel" (390 : Nat) (133143987307 : Int64)) ∈ lw_all := lw_g (lw_at lw_m5 218 rfl) rfl
theorem q1297 : (Jvm.Cond.constantLong "ObjectForgeModel" (392 : Nat) (233341 : Int64)) ∈ lw_all := lw_g (lw_at lw_m5 219 rfl) rfl
theorem q1298 : (Jvm.Cond.constantLong "ObjectForgeModel" (394 : Nat) (137438953499 : Int64)) ∈ lw_all := lw_g (lw_at lw_m5 220 rfl) rfl
theorem q1299 : (Jvm.Cond.constantLong "ObjectForgeModel" (396 : Nat) (995431 : Int64)) ∈ lw_all := lw_g (lw_at lw_m5 221 rfl) rfl
theorem q1300 : (Jvm.Cond.constantLong "ObjectForgeModel" (398 : Nat) (141733920795 : Int64)) ∈ lw_all := lw_g (lw_at lw_m5 222 rfl) rfl
theorem q1301 : (Jvm.Cond.constantLong "ObjectForgeModel" (400 : Nat) (1485173 : Int64)) ∈ lw_all := lw_g (lw_at lw_m5 223 rfl) rfl
theorem q1302 : (Jvm.Cond.constantLong "ObjectForgeModel" (402 : Nat) (180388626432 : Int64)) ∈ lw_all := lw_g (lw_at lw_m5 224 rfl) rfl
theorem q1303 : (Jvm.Cond.methodLink "ObjectForgeModel" (961 : Nat) ({ cls := "ObjectForgeModel", name := "ofThree", desc := "(J)J" } : Jvm.MethodName)) ∈ lw_all := lw_g (lw_at lw_m5 225 rfl) rfl
theorem q1304 : (Jvm.Cond.static ({ cls := "ObjectForgeModel", name := "ofThree", desc := "(J)J" } : Jvm.MethodName)) ∈ lw_all := lw_g (lw_at lw_m5 226 rfl) rfl
theorem q1305 : (Jvm.Cond.code ({ cls := "ObjectForgeModel", name := "ofThree", desc := "(J)J" } : Jvm.MethodName) prog_4_method_24_code (2 : Nat) (Option.some Jvm.ClassFile.FieldType.long)) ∈ lw_all := lw_g (lw_at lw_m5 227 rfl) rfl
theorem q1306 : (Jvm.Cond.constantLong "ObjectForgeModel" (404 : Nat) (1600 : Int64)) ∈ lw_all := lw_g (lw_at lw_m5 228 rfl) rfl
theorem q1307 : (Jvm.Cond.constantLong "ObjectForgeModel" (406 : Nat) (4294967328 : Int64)) ∈ lw_all := lw_g (lw_at lw_m5 229 rfl) rfl
theorem q1308 : (Jvm.Cond.constantLong "ObjectForgeModel" (408 : Nat) (28236 : Int64)) ∈ lw_all := lw_g (lw_at lw_m5 230 rfl) rfl
theorem q1309 : (Jvm.Cond.constantLong "ObjectForgeModel" (410 : Nat) (4294967330 : Int64)) ∈ lw_all := lw_g (lw_at lw_m5 231 rfl) rfl
theorem q1310 : (Jvm.Cond.constantLong "ObjectForgeModel" (412 : Nat) (1980 : Int64)) ∈ lw_all := lw_g (lw_at lw_m5 232 rfl) rfl
theorem q1311 : (Jvm.Cond.constantLong "ObjectForgeModel" (414 : Nat) (4294967332 : Int64)) ∈ lw_all := lw_g (lw_at lw_m5 233 rfl) rfl
theorem q1312 : (Jvm.Cond.constantLong "ObjectForgeModel" (416 : Nat) (588 : Int64)) ∈ lw_all := lw_g (lw_at lw_m5 234 rfl) rfl
theorem q1313 : (Jvm.Cond.constantLong "ObjectForgeModel" (418 : Nat) (4294967333 : Int64)) ∈ lw_all := lw_g (lw_at lw_m5 235 rfl) rfl
theorem q1314 : (Jvm.Cond.constantLong "ObjectForgeModel" (420 : Nat) (35244 : Int64)) ∈ lw_all := lw_g (lw_at lw_m5 236 rfl) rfl
theorem q1315 : (Jvm.Cond.constantLong "ObjectForgeModel" (422 : Nat) (4294967334 : Int64)) ∈ lw_all := lw_g (lw_at lw_m5 237 rfl) rfl
theorem q1316 : (Jvm.Cond.constantLong "ObjectForgeModel" (424 : Nat) (20804 : Int64)) ∈ lw_all := lw_g (lw_at lw_m5 238 rfl) rfl
theorem q1317 : (Jvm.Cond.constantLong "ObjectForgeModel" (426 : Nat) (4294967335 : Int64)) ∈ lw_all := lw_g (lw_at lw_m5 239 rfl) rfl
theorem q1318 : (Jvm.Cond.constantLong "ObjectForgeModel" (428 : Nat) (27912 : Int64)) ∈ lw_all := lw_g (lw_at lw_m6 0 rfl) rfl
theorem q1319 : (Jvm.Cond.constantLong "ObjectForgeModel" (430 : Nat) (4294967338 : Int64)) ∈ lw_all := lw_g (lw_at lw_m6 1 rfl) rfl
theorem q1320 : (Jvm.Cond.constantLong "ObjectForgeModel" (432 : Nat) (19582 : Int64)) ∈ lw_all := lw_g (lw_at lw_m6 2 rfl) rfl
theorem q1321 : (Jvm.Cond.constantLong "ObjectForgeModel" (434 : Nat) (6174015490 : Int64)) ∈ lw_all := lw_g (lw_at lw_m6 3 rfl) rfl
theorem q1322 : (Jvm.Cond.constantLong "ObjectForgeModel" (436 : Nat) (27904 : Int64)) ∈ lw_all := lw_g (lw_at lw_m6 4 rfl) rfl
theorem q1323 : (Jvm.Cond.constantLong "ObjectForgeModel" (438 : Nat) (8589934592 : Int64)) ∈ lw_all := lw_g (lw_at lw_m6 5 rfl) rfl
theorem q1324 : (Jvm.Cond.constantLong "ObjectForgeModel" (440 : Nat) (28132 : Int64)) ∈ lw_all := lw_g (lw_at lw_m6 6 rfl) rfl
theorem q1325 : (Jvm.Cond.constantLong "ObjectForgeModel" (442 : Nat) (8589934594 : Int64)) ∈ lw_all := lw_g (lw_at lw_m6 7 rfl) rfl
theorem q1326 : (Jvm.Cond.constantLong "ObjectForgeModel" (444 : Nat) (28121 : Int64)) ∈ lw_all := lw_g (lw_at lw_m6 8 rfl) rfl
theorem q1327 : (Jvm.Cond.constantLong "ObjectForgeModel" (446 : Nat) (8589934595 : Int64)) ∈ lw_all := lw_g (lw_at lw_m6 9 rfl) rfl
theorem q1328 : (Jvm.Cond.constantLong "ObjectForgeModel" (448 : Nat) (29087 : Int64)) ∈ lw_all := lw_g (lw_at lw_m6 10 rfl) rfl
theorem q1329 : (Jvm.Cond.constantLong "ObjectForgeModel" (450 : Nat) (17179869236 : Int64)) ∈ lw_all := lw_g (lw_at lw_m6 11 rfl) rfl
theorem q1330 : (Jvm.Cond.constantLong "ObjectForgeModel" (452 : Nat) (29417 : Int64)) ∈ lw_all := lw_g (lw_at lw_m6 12 rfl) rfl
theorem q1331 : (Jvm.Cond.constantLong "ObjectForgeModel" (454 : Nat) (17179869238 : Int64)) ∈ lw_all := lw_g (lw_at lw_m6 13 rfl) rfl
theorem q1332 : (Jvm.Cond.constantLong "ObjectForgeModel" (456 : Nat) (29151 : Int64)) ∈ lw_all := lw_g (lw_at lw_m6 14 rfl) rfl
theorem q1333 : (Jvm.Cond.constantLong "ObjectForgeModel" (458 : Nat) (17179869232 : Int64)) ∈ lw_all := lw_g (lw_at lw_m6 15 rfl) rfl
theorem q1334 : (Jvm.Cond.constantLong "ObjectForgeModel" (460 : Nat) (29356 : Int64)) ∈ lw_all := lw_g (lw_at lw_m6 16 rfl) rfl
theorem q1335 : (Jvm.Cond.constantLong "ObjectForgeModel" (462 : Nat) (17179869234 : Int64)) ∈ lw_all := lw_g (lw_at lw_m6 17 rfl) rfl
theorem q1336 : (Jvm.Cond.constantLong "ObjectForgeModel" (464 : Nat) (398 : Int64)) ∈ lw_all := lw_g (lw_at lw_m6 18 rfl) rfl
theorem q1337 : (Jvm.Cond.constantLong "ObjectForgeModel" (466 : Nat) (25769803784 : Int64)) ∈ lw_all := lw_g (lw_at lw_m6 19 rfl) rfl
theorem q1338 : (Jvm.Cond.constantLong "ObjectForgeModel" (468 : Nat) (4814 : Int64)) ∈ lw_all := lw_g (lw_at lw_m6 20 rfl) rfl
theorem q1339 : (Jvm.Cond.constantLong "ObjectForgeModel" (470 : Nat) (31943819296 : Int64)) ∈ lw_all := lw_g (lw_at lw_m6 21 rfl) rfl
theorem q1340 : (Jvm.Cond.constantLong "ObjectForgeModel" (472 : Nat) (4803 : Int64)) ∈ lw_all := lw_g (lw_at lw_m6 22 rfl) rfl
theorem q1341 : (Jvm.Cond.constantLong "ObjectForgeModel" (474 : Nat) (31943819297 : Int64)) ∈ lw_all := lw_g (lw_at lw_m6 23 rfl) rfl
theorem q1342 : (Jvm.Cond.constantLong "ObjectForgeModel" (476 : Nat) (22353 : Int64)) ∈ lw_all := lw_g (lw_at lw_m6 24 rfl) rfl
theorem q1343 : (Jvm.Cond.constantLong "ObjectForgeModel" (478 : Nat) (39527120896 : Int64)) ∈ lw_all := lw_g (lw_at lw_m6 25 rfl) rfl
theorem q1344 : (Jvm.Cond.constantLong "ObjectForgeModel" (480 : Nat) (18135 : Int64)) ∈ lw_all := lw_g (lw_at lw_m6 26 rfl) rfl
theorem q1345 : (Jvm.Cond.constantLong "ObjectForgeModel" (482 : Nat) (43956305920 : Int64)) ∈ lw_all := lw_g (lw_at lw_m6 27 rfl) rfl
theorem q1346 : (Jvm.Cond.constantLong "ObjectForgeModel" (484 : Nat) (458 : Int64)) ∈ lw_all := lw_g (lw_at lw_m6 28 rfl) rfl
theorem q1347 : (Jvm.Cond.constantLong "ObjectForgeModel" (486 : Nat) (49392123904 : Int64)) ∈ lw_all := lw_g (lw_at lw_m6 29 rfl) rfl
theorem q1348 : (Jvm.Cond.constantLong "ObjectForgeModel" (488 : Nat) (17425 : Int64)) ∈ lw_all := lw_g (lw_at lw_m6 30 rfl) rfl
theorem q1349 : (Jvm.Cond.constantLong "ObjectForgeModel" (490 : Nat) (49660559360 : Int64)) ∈ lw_all := lw_g (lw_at lw_m6 31 rfl) rfl
theorem q1350 : (Jvm.Cond.constantLong "ObjectForgeModel" (492 : Nat) (464 : Int64)) ∈ lw_all := lw_g (lw_at lw_m6 32 rfl) rfl
theorem q1351 : (Jvm.Cond.constantLong "ObjectForgeModel" (494 : Nat) (49459232768 : Int64)) ∈ lw_all := lw_g (lw_at lw_m6 33 rfl) rfl
theorem q1352 : (Jvm.Cond.constantLong "ObjectForgeModel" (496 : Nat) (17653 : Int64)) ∈ lw_all := lw_g (lw_at lw_m6 34 rfl) rfl
theorem q1353 : (Jvm.Cond.constantLong "ObjectForgeModel" (498 : Nat) (49727668224 : Int64)) ∈ lw_all := lw_g (lw_at lw_m6 35 rfl) rfl
theorem q1354 : (Jvm.Cond.constantLong "ObjectForgeModel" (500 : Nat) (479 : Int64)) ∈ lw_all := lw_g (lw_at lw_m6 36 rfl) rfl
theorem q1355 : (Jvm.Cond.constantLong "ObjectForgeModel" (502 : Nat) (49593450496 : Int64)) ∈ lw_all := lw_g (lw_at lw_m6 37 rfl) rfl
theorem q1356 : (Jvm.Cond.constantLong "ObjectForgeModel" (504 : Nat) (18214 : Int64)) ∈ lw_all := lw_g (lw_at lw_m6 38 rfl) rfl
theorem q1357 : (Jvm.Cond.constantLong "ObjectForgeModel" (506 : Nat) (49526341632 : Int64)) ∈ lw_all := lw_g (lw_at lw_m6 39 rfl) rfl
theorem q1358 : (Jvm.Cond.constantLong "ObjectForgeModel" (508 : Nat) (18220 : Int64)) ∈ lw_all := lw_g (lw_at lw_m6 40 rfl) rfl
theorem q1359 : (Jvm.Cond.constantLong "ObjectForgeModel" (510 : Nat) (49794777088 : Int64)) ∈ lw_all := lw_g (lw_at lw_m6 41 rfl) rfl
theorem q1360 : (Jvm.Cond.constantLong "ObjectForgeModel" (512 : Nat) (724 : Int64)) ∈ lw_all := lw_g (lw_at lw_m6 42 rfl) rfl
theorem q1361 : (Jvm.Cond.constantLong "ObjectForgeModel" (514 : Nat) (49928994816 : Int64)) ∈ lw_all := lw_g (lw_at lw_m6 43 rfl) rfl
theorem q1362 : (Jvm.Cond.constantLong "ObjectForgeModel" (516 : Nat) (730 : Int64)) ∈ lw_all := lw_g (lw_at lw_m6 44 rfl) rfl
theorem q1363 : (Jvm.Cond.constantLong "ObjectForgeModel" (518 : Nat) (49996103680 : Int64)) ∈ lw_all := lw_g (lw_at lw_m6 45 rfl) rfl
theorem q1364 : (Jvm.Cond.constantLong "ObjectForgeModel" (520 : Nat) (745 : Int64)) ∈ lw_all := lw_g (lw_at lw_m6 46 rfl) rfl
theorem q1365 : (Jvm.Cond.constantLong "ObjectForgeModel" (522 : Nat) (50130321408 : Int64)) ∈ lw_all := lw_g (lw_at lw_m6 47 rfl) rfl
theorem q1366 : (Jvm.Cond.methodLink "ObjectForgeModel" (964 : Nat) ({ cls := "ObjectForgeModel", name := "ofThreeMore", desc := "(J)J" } : Jvm.MethodName)) ∈ lw_all := lw_g (lw_at lw_m6 48 rfl) rfl
theorem q1367 : (Jvm.Cond.static ({ cls := "ObjectForgeModel", name := "ofThreeMore", desc := "(J)J" } : Jvm.MethodName)) ∈ lw_all := lw_g (lw_at lw_m6 49 rfl) rfl
theorem q1368 : (Jvm.Cond.code ({ cls := "ObjectForgeModel", name := "ofThreeMore", desc := "(J)J" } : Jvm.MethodName) prog_4_method_25_code (2 : Nat) (Option.some Jvm.ClassFile.FieldType.long)) ∈ lw_all := lw_g (lw_at lw_m6 50 rfl) rfl
theorem q1369 : (Jvm.Cond.constantLong "ObjectForgeModel" (524 : Nat) (28322 : Int64)) ∈ lw_all := lw_g (lw_at lw_m6 51 rfl) rfl
theorem q1370 : (Jvm.Cond.constantLong "ObjectForgeModel" (526 : Nat) (50063212544 : Int64)) ∈ lw_all := lw_g (lw_at lw_m6 52 rfl) rfl
theorem q1371 : (Jvm.Cond.constantLong "ObjectForgeModel" (528 : Nat) (28328 : Int64)) ∈ lw_all := lw_g (lw_at lw_m6 53 rfl) rfl
theorem q1372 : (Jvm.Cond.constantLong "ObjectForgeModel" (530 : Nat) (50331648000 : Int64)) ∈ lw_all := lw_g (lw_at lw_m6 54 rfl) rfl
theorem q1373 : (Jvm.Cond.constantLong "ObjectForgeModel" (532 : Nat) (468 : Int64)) ∈ lw_all := lw_g (lw_at lw_m6 55 rfl) rfl
theorem q1374 : (Jvm.Cond.constantLong "ObjectForgeModel" (534 : Nat) (50465865728 : Int64)) ∈ lw_all := lw_g (lw_at lw_m6 56 rfl) rfl
theorem q1375 : (Jvm.Cond.constantLong "ObjectForgeModel" (536 : Nat) (725 : Int64)) ∈ lw_all := lw_g (lw_at lw_m6 57 rfl) rfl
theorem q1376 : (Jvm.Cond.constantLong "ObjectForgeModel" (538 : Nat) (51002736640 : Int64)) ∈ lw_all := lw_g (lw_at lw_m6 58 rfl) rfl
theorem q1377 : (Jvm.Cond.constantLong "ObjectForgeModel" (540 : Nat) (3095 : Int64)) ∈ lw_all := lw_g (lw_at lw_m6 59 rfl) rfl
theorem q1378 : (Jvm.Cond.constantLong "ObjectForgeModel" (542 : Nat) (56103010304 : Int64)) ∈ lw_all := lw_g (lw_at lw_m6 60 rfl) rfl
theorem q1379 : (Jvm.Cond.constantLong "ObjectForgeModel" (544 : Nat) (3425 : Int64)) ∈ lw_all := lw_g (lw_at lw_m6 61 rfl) rfl
theorem q1380 : (Jvm.Cond.constantLong "ObjectForgeModel" (546 : Nat) (56170119168 : Int64)) ∈ lw_all := lw_g (lw_at lw_m6 62 rfl) rfl
theorem q1381 : (Jvm.Cond.constantLong "ObjectForgeModel" (548 : Nat) (68853694464 : Int64)) ∈ lw_all := lw_g (lw_at lw_m6 63 rfl) rfl
theorem q1382 : (Jvm.Cond.constantLong "ObjectForgeModel" (550 : Nat) (14490 : Int64)) ∈ lw_all := lw_g (lw_at lw_m6 64 rfl) rfl
theorem q1383 : (Jvm.Cond.constantLong "ObjectForgeModel" (552 : Nat) (68920803328 : Int64)) ∈ lw_all := lw_g (lw_at lw_m6 65 rfl) rfl
theorem q1384 : (Jvm.Cond.constantLong "ObjectForgeModel" (554 : Nat) (20802 : Int64)) ∈ lw_all := lw_g (lw_at lw_m6 66 rfl) rfl
theorem q1385 : (Jvm.Cond.constantLong "ObjectForgeModel" (556 : Nat) (77309411328 : Int64)) ∈ lw_all := lw_g (lw_at lw_m6 67 rfl) rfl
theorem q1386 : (Jvm.Cond.constantLong "ObjectForgeModel" (558 : Nat) (20806 : Int64)) ∈ lw_all := lw_g (lw_at lw_m6 68 rfl) rfl
theorem q1387 : (Jvm.Cond.constantLong "ObjectForgeModel" (560 : Nat) (98784247847 : Int64)) ∈ lw_all := lw_g (lw_at lw_m6 69 rfl) rfl
theorem q1388 : (Jvm.Cond.constantLong "ObjectForgeModel" (562 : Nat) (20413 : Int64)) ∈ lw_all := lw_g (lw_at lw_m6 70 rfl) rfl
theorem q1389 : (Jvm.Cond.constantLong "ObjectForgeModel" (564 : Nat) (107374182435 : Int64)) ∈ lw_all := lw_g (lw_at lw_m6 71 rfl) rfl
theorem q1390 : (Jvm.Cond.constantLong "ObjectForgeModel" (566 : Nat) (2 : Int64)) ∈ lw_all := lw_g (lw_at lw_m6 72 rfl) rfl
theorem q1391 : (Jvm.Cond.constantLong "ObjectForgeModel" (568 : Nat) (116232552448 : Int64)) ∈ lw_all := lw_g (lw_at lw_m6 73 rfl) rfl
theorem q1392 : (Jvm.Cond.constantLong "ObjectForgeModel" (570 : Nat) (2938 : Int64)) ∈ lw_all := lw_g (lw_at lw_m6 74 rfl) rfl
theorem q1393 : (Jvm.Cond.constantLong "ObjectForgeModel" (572 : Nat) (116032339968 : Int64)) ∈ lw_all := lw_g (lw_at lw_m6 75 rfl) rfl
theorem q1394 : (Jvm.Cond.constantLong "ObjectForgeModel" (574 : Nat) (465 : Int64)) ∈ lw_all := lw_g (lw_at lw_m6 76 rfl) rfl
theorem q1395 : (Jvm.Cond.constantLong "ObjectForgeModel" (576 : Nat) (124554051584 : Int64)) ∈ lw_all := lw_g (lw_at lw_m6 77 rfl) rfl
theorem q1396 : (Jvm.Cond.constantLong "ObjectForgeModel" (578 : Nat) (457 : Int64)) ∈ lw_all := lw_g (lw_at lw_m6 78 rfl) rfl
theorem q1397 : (Jvm.Cond.constantLong "ObjectForgeModel" (580 : Nat) (128849018880 : Int64)) ∈ lw_all := lw_g (lw_at lw_m6 79 rfl) rfl
theorem q1398 : (Jvm.Cond.constantLong "ObjectForgeModel" (582 : Nat) (3364 : Int64)) ∈ lw_all := lw_g (lw_at lw_m6 80 rfl) rfl
theorem q1399 : (Jvm.Cond.constantLong "ObjectForgeModel" (584 : Nat) (133143987498 : Int64)) ∈ lw_all := lw_g (lw_at lw_m6 81 rfl) rfl
theorem q1400 : (Jvm.Cond.constantLong "ObjectForgeModel" (586 : Nat) (3159 : Int64)) ∈ lw_all := lw_g (lw_at lw_m6 82 rfl) rfl
theorem q1401 : (Jvm.Cond.constantLong "ObjectForgeModel" (588 : Nat) (133143987242 : Int64)) ∈ lw_all := lw_g (lw_at lw_m6 83 rfl) rfl
theorem q1402 : (Jvm.Cond.constantLong "ObjectForgeModel" (590 : Nat) (3174 : Int64)) ∈ lw_all := lw_g (lw_at lw_m6 84 rfl) rfl
theorem q1403 : (Jvm.Cond.constantLong "ObjectForgeModel" (592 : Nat) (133143987562 : Int64)) ∈ lw_all := lw_g (lw_at lw_m6 85 rfl) rfl
theorem q1404 : (Jvm.Cond.constantLong "ObjectForgeModel" (594 : Nat) (3349 : Int64)) ∈ lw_all := lw_g (lw_at lw_m6 86 rfl) rfl
theorem q1405 : (Jvm.Cond.constantLong "ObjectForgeModel" (596 : Nat) (133143987306 : Int64)) ∈ lw_all := lw_g (lw_at lw_m6 87 rfl) rfl
theorem q1406 : (Jvm.Cond.constantLong "ObjectForgeModel" (598 : Nat) (6140 : Int64)) ∈ lw_all := lw_g (lw_at lw_m6 88 rfl) rfl
theorem q1407 : (Jvm.Cond.constantLong "ObjectForgeModel" (600 : Nat) (137438953498 : Int64)) ∈ lw_all := lw_g (lw_at lw_m6 89 rfl) rfl
theorem q1408 : (Jvm.Cond.constantLong "ObjectForgeModel" (602 : Nat) (26195 : Int64)) ∈ lw_all := lw_g (lw_at lw_m6 90 rfl) rfl
theorem q1409 : (Jvm.Cond.constantLong "ObjectForgeModel" (604 : Nat) (141733920794 : Int64)) ∈ lw_all := lw_g (lw_at lw_m6 91 rfl) rfl
theorem q1410 : (Jvm.Cond.methodLink "ObjectForgeModel" (967 : Nat) ({ cls := "ObjectForgeModel", name := "ofFive", desc := "(J)J" } : Jvm.MethodName)) ∈ lw_all := lw_g (lw_at lw_m6 92 rfl) rfl
theorem q1411 : (Jvm.Cond.static ({ cls := "ObjectForgeModel", name := "ofFive", desc := "(J)J" } : Jvm.MethodName)) ∈ lw_all := lw_g (lw_at lw_m6 93 rfl) rfl
theorem q1412 : (Jvm.Cond.code ({ cls := "ObjectForgeModel", name := "ofFive", desc := "(J)J" } : Jvm.MethodName) prog_4_method_26_code (2 : Nat) (Option.some Jvm.ClassFile.FieldType.long)) ∈ lw_all := lw_g (lw_at lw_m6 94 rfl) rfl
theorem q1413 : (Jvm.Cond.constantLong "ObjectForgeModel" (606 : Nat) (28277189 : Int64)) ∈ lw_all := lw_g (lw_at lw_m6 95 rfl) rfl
theorem q1414 : (Jvm.Cond.constantLong "ObjectForgeModel" (608 : Nat) (17179869209 : Int64)) ∈ lw_all := lw_g (lw_at lw_m6 96 rfl) rfl
theorem q1415 : (Jvm.Cond.constantLong "ObjectForgeModel" (610 : Nat) (27167589 : Int64)) ∈ lw_all := lw_g (lw_at lw_m6 97 rfl) rfl
theorem q1416 : (Jvm.Cond.constantLong "ObjectForgeModel" (612 : Nat) (19058917377 : Int64)) ∈ lw_all := lw_g (lw_at lw_m6 98 rfl) rfl
theorem q1417 : (Jvm.Cond.constantLong "ObjectForgeModel" (614 : Nat) (28179757 : Int64)) ∈ lw_all := lw_g (lw_at lw_m6 99 rfl) rfl
theorem q1418 : (Jvm.Cond.constantLong "ObjectForgeModel" (616 : Nat) (19058917381 : Int64)) ∈ lw_all := lw_g (lw_at lw_m6 100 rfl) rfl
theorem q1419 : (Jvm.Cond.constantLong "ObjectForgeModel" (618 : Nat) (2310763 : Int64)) ∈ lw_all := lw_g (lw_at lw_m6 101 rfl) rfl
theorem q1420 : (Jvm.Cond.constantLong "ObjectForgeModel" (620 : Nat) (34963718144 : Int64)) ∈ lw_all := lw_g (lw_at lw_m6 102 rfl) rfl
theorem q1421 : (Jvm.Cond.constantLong "ObjectForgeModel" (622 : Nat) (40305291 : Int64)) ∈ lw_all := lw_g (lw_at lw_m6 103 rfl) rfl
theorem q1422 : (Jvm.Cond.constantLong "ObjectForgeModel" (624 : Nat) (35097935872 : Int64)) ∈ lw_all := lw_g (lw_at lw_m6 104 rfl) rfl
theorem q1423 : (Jvm.Cond.constantLong "ObjectForgeModel" (626 : Nat) (4836956 : Int64)) ∈ lw_all := lw_g (lw_at lw_m6 105 rfl) rfl
theorem q1424 : (Jvm.Cond.constantLong "ObjectForgeModel" (628 : Nat) (61605937152 : Int64)) ∈ lw_all := lw_g (lw_at lw_m6 106 rfl) rfl
theorem q1425 : (Jvm.Cond.constantLong "ObjectForgeModel" (630 : Nat) (4584256 : Int64)) ∈ lw_all := lw_g (lw_at lw_m6 107 rfl) rfl
theorem q1426 : (Jvm.Cond.constantLong "ObjectForgeModel" (632 : Nat) (61673046016 : Int64)) ∈ lw_all := lw_g (lw_at lw_m6 108 rfl) rfl
theorem q1427 : (Jvm.Cond.constantLong "ObjectForgeModel" (634 : Nat) (4858616 : Int64)) ∈ lw_all := lw_g (lw_at lw_m6 109 rfl) rfl
theorem q1428 : (Jvm.Cond.constantLong "ObjectForgeModel" (636 : Nat) (60196782080 : Int64)) ∈ lw_all := lw_g (lw_at lw_m6 110 rfl) rfl
theorem q1429 : (Jvm.Cond.constantLong "ObjectForgeModel" (638 : Nat) (4562596 : Int64)) ∈ lw_all := lw_g (lw_at lw_m6 111 rfl) rfl
theorem q1430 : (Jvm.Cond.constantLong "ObjectForgeModel" (640 : Nat) (60196847616 : Int64)) ∈ lw_all := lw_g (lw_at lw_m6 112 rfl) rfl
theorem q1431 : (Jvm.Cond.constantLong "ObjectForgeModel" (642 : Nat) (4377004 : Int64)) ∈ lw_all := lw_g (lw_at lw_m6 113 rfl) rfl
theorem q1432 : (Jvm.Cond.constantLong "ObjectForgeModel" (644 : Nat) (65582268416 : Int64)) ∈ lw_all := lw_g (lw_at lw_m6 114 rfl) rfl
theorem q1433 : (Jvm.Cond.constantLong "ObjectForgeModel" (646 : Nat) (4377536 : Int64)) ∈ lw_all := lw_g (lw_at lw_m6 115 rfl) rfl
theorem q1434 : (Jvm.Cond.constantLong "ObjectForgeModel" (648 : Nat) (65582333952 : Int64)) ∈ lw_all := lw_g (lw_at lw_m6 116 rfl) rfl
theorem q1435 : (Jvm.Cond.constantLong "ObjectForgeModel" (650 : Nat) (5165237 : Int64)) ∈ lw_all := lw_g (lw_at lw_m6 117 rfl) rfl
theorem q1436 : (Jvm.Cond.constantLong "ObjectForgeModel" (652 : Nat) (81604378637 : Int64)) ∈ lw_all := lw_g (lw_at lw_m6 118 rfl) rfl
theorem q1437 : (Jvm.Cond.constantLong "ObjectForgeModel" (654 : Nat) (2311445 : Int64)) ∈ lw_all := lw_g (lw_at lw_m6 119 rfl) rfl
theorem q1438 : (Jvm.Cond.constantLong "ObjectForgeModel" (656 : Nat) (87073751040 : Int64)) ∈ lw_all := lw_g (lw_at lw_m6 120 rfl) rfl
theorem q1439 : (Jvm.Cond.constantLong "ObjectForgeModel" (658 : Nat) (40773829 : Int64)) ∈ lw_all := lw_g (lw_at lw_m6 121 rfl) rfl
theorem q1440 : (Jvm.Cond.constantLong "ObjectForgeModel" (660 : Nat) (87073751041 : Int64)) ∈ lw_all := lw_g (lw_at lw_m6 122 rfl) rfl
theorem q1441 : (Jvm.Cond.constantLong "ObjectForgeModel" (662 : Nat) (28277453 : Int64)) ∈ lw_all := lw_g (lw_at lw_m6 123 rfl) rfl
theorem q1442 : (Jvm.Cond.constantLong "ObjectForgeModel" (664 : Nat) (87073751042 : Int64)) ∈ lw_all := lw_g (lw_at lw_m6 124 rfl) rfl
theorem q1443 : (Jvm.Cond.constantLong "ObjectForgeModel" (666 : Nat) (8867205 : Int64)) ∈ lw_all := lw_g (lw_at lw_m6 125 rfl) rfl
theorem q1444 : (Jvm.Cond.constantLong "ObjectForgeModel" (668 : Nat) (87073751043 : Int64)) ∈ lw_all := lw_g (lw_at lw_m6 126 rfl) rfl
theorem q1445 : (Jvm.Cond.constantLong "ObjectForgeModel" (670 : Nat) (2223361 : Int64)) ∈ lw_all := lw_g (lw_at lw_m6 127 rfl) rfl
theorem q1446 : (Jvm.Cond.constantLong "ObjectForgeModel" (672 : Nat) (91368718341 : Int64)) ∈ lw_all := lw_g (lw_at lw_m6 128 rfl) rfl
theorem q1447 : (Jvm.Cond.constantLong "ObjectForgeModel" (674 : Nat) (29477417 : Int64)) ∈ lw_all := lw_g (lw_at lw_m6 129 rfl) rfl
theorem q1448 : (Jvm.Cond.constantLong "ObjectForgeModel" (676 : Nat) (91368718343 : Int64)) ∈ lw_all := lw_g (lw_at lw_m6 130 rfl) rfl
theorem q1449 : (Jvm.Cond.constantLong "ObjectForgeModel" (678 : Nat) (27962661 : Int64)) ∈ lw_all := lw_g (lw_at lw_m6 131 rfl) rfl
theorem q1450 : (Jvm.Cond.constantLong "ObjectForgeModel" (680 : Nat) (91368718342 : Int64)) ∈ lw_all := lw_g (lw_at lw_m6 132 rfl) rfl
theorem q1451 : (Jvm.Cond.constantLong "ObjectForgeModel" (682 : Nat) (7746661 : Int64)) ∈ lw_all := lw_g (lw_at lw_m6 133 rfl) rfl
theorem q1452 : (Jvm.Cond.constantLong "ObjectForgeModel" (684 : Nat) (95663685680 : Int64)) ∈ lw_all := lw_g (lw_at lw_m6 134 rfl) rfl
theorem q1453 : (Jvm.Cond.constantLong "ObjectForgeModel" (686 : Nat) (2311430 : Int64)) ∈ lw_all := lw_g (lw_at lw_m6 135 rfl) rfl
theorem q1454 : (Jvm.Cond.constantLong "ObjectForgeModel" (688 : Nat) (87075848192 : Int64)) ∈ lw_all := lw_g (lw_at lw_m6 136 rfl) rfl
theorem q1455 : (Jvm.Cond.constantLong "ObjectForgeModel" (690 : Nat) (40773814 : Int64)) ∈ lw_all := lw_g (lw_at lw_m6 137 rfl) rfl
theorem q1456 : (Jvm.Cond.constantLong "ObjectForgeModel" (692 : Nat) (87075848193 : Int64)) ∈ lw_all := lw_g (lw_at lw_m6 138 rfl) rfl
theorem q1457 : (Jvm.Cond.constantLong "ObjectForgeModel" (694 : Nat) (28277438 : Int64)) ∈ lw_all := lw_g (lw_at lw_m6 139 rfl) rfl
theorem q1458 : (Jvm.Cond.constantLong "ObjectForgeModel" (696 : Nat) (87075848194 : Int64)) ∈ lw_all := lw_g (lw_at lw_m6 140 rfl) rfl
theorem q1459 : (Jvm.Cond.constantLong "ObjectForgeModel" (698 : Nat) (8867190 : Int64)) ∈ lw_all := lw_g (lw_at lw_m6 141 rfl) rfl
theorem q1460 : (Jvm.Cond.constantLong "ObjectForgeModel" (700 : Nat) (87075848195 : Int64)) ∈ lw_all := lw_g (lw_at lw_m6 142 rfl) rfl
theorem q1461 : (Jvm.Cond.constantLong "ObjectForgeModel" (702 : Nat) (2223346 : Int64)) ∈ lw_all := lw_g (lw_at lw_m6 143 rfl) rfl
theorem q1462 : (Jvm.Cond.constantLong "ObjectForgeModel" (704 : Nat) (91370815493 : Int64)) ∈ lw_all := lw_g (lw_at lw_m6 144 rfl) rfl
theorem q1463 : (Jvm.Cond.constantLong "ObjectForgeModel" (706 : Nat) (29477402 : Int64)) ∈ lw_all := lw_g (lw_at lw_m6 145 rfl) rfl
theorem q1464 : (Jvm.Cond.constantLong "ObjectForgeModel" (708 : Nat) (91370815495 : Int64)) ∈ lw_all := lw_g (lw_at lw_m6 146 rfl) rfl
theorem q1465 : (Jvm.Cond.constantLong "ObjectForgeModel" (710 : Nat) (27962646 : Int64)) ∈ lw_all := lw_g (lw_at lw_m6 147 rfl) rfl
theorem q1466 : (Jvm.Cond.constantLong "ObjectForgeModel" (712 : Nat) (91370815494 : Int64)) ∈ lw_all := lw_g (lw_at lw_m6 148 rfl) rfl
theorem q1467 : (Jvm.Cond.constantLong "ObjectForgeModel" (714 : Nat) (7746646 : Int64)) ∈ lw_all := lw_g (lw_at lw_m6 149 rfl) rfl
theorem q1468 : (Jvm.Cond.constantLong "ObjectForgeModel" (716 : Nat) (95665782832 : Int64)) ∈ lw_all := lw_g (lw_at lw_m6 150 rfl) rfl
theorem q1469 : (Jvm.Cond.constantLong "ObjectForgeModel" (718 : Nat) (57404264 : Int64)) ∈ lw_all := lw_g (lw_at lw_m6 151 rfl) rfl
theorem q1470 : (Jvm.Cond.constantLong "ObjectForgeModel" (720 : Nat) (171798691840 : Int64)) ∈ lw_all := lw_g (lw_at lw_m6 152 rfl) rfl
theorem q1471 : (Jvm.Cond.constantLong "ObjectForgeModel" (722 : Nat) (56520365 : Int64)) ∈ lw_all := lw_g (lw_at lw_m6 153 rfl) rfl
theorem q1472 : (Jvm.Cond.constantLong "ObjectForgeModel" (724 : Nat) (176093659136 : Int64)) ∈ lw_all := lw_g (lw_at lw_m6 154 rfl) rfl
theorem q1473 : (Jvm.Cond.methodLink "ObjectForgeModel" (970 : Nat) ({ cls := "ObjectForgeModel", name := "ofFiveMore", desc := "(J)J" } : Jvm.MethodName)) ∈ lw_all := lw_g (lw_at lw_m6 155 rfl) rfl
theorem q1474 : (Jvm.Cond.static ({ cls := "ObjectForgeModel", name := "ofFiveMore", desc := "(J)J" } : Jvm.MethodName)) ∈ lw_all := lw_g (lw_at lw_m6 156 rfl) rfl
theorem q1475 : (Jvm.Cond.code ({ cls := "ObjectForgeModel", name := "ofFiveMore", desc := "(J)J" } : Jvm.MethodName) prog_4_method_27_code (2 : Nat) (Option.some Jvm.ClassFile.FieldType.long)) ∈ lw_all := lw_g (lw_at lw_m6 157 rfl) rfl
theorem q1476 : (Jvm.Cond.constantLong "ObjectForgeModel" (726 : Nat) (57583076 : Int64)) ∈ lw_all := lw_g (lw_at lw_m6 158 rfl) rfl
theorem q1477 : (Jvm.Cond.constantLong "ObjectForgeModel" (728 : Nat) (188978561024 : Int64)) ∈ lw_all := lw_g (lw_at lw_m6 159 rfl) rfl
theorem q1478 : (Jvm.Cond.constantLong "ObjectForgeModel" (730 : Nat) (56739554 : Int64)) ∈ lw_all := lw_g (lw_at lw_m6 160 rfl) rfl
theorem q1479 : (Jvm.Cond.constantLong "ObjectForgeModel" (732 : Nat) (193273528320 : Int64)) ∈ lw_all := lw_g (lw_at lw_m6 161 rfl) rfl
theorem q1480 : (Jvm.Cond.constantLong "ObjectForgeModel" (734 : Nat) (56445281 : Int64)) ∈ lw_all := lw_g (lw_at lw_m6 162 rfl) rfl
theorem q1481 : (Jvm.Cond.constantLong "ObjectForgeModel" (736 : Nat) (197568495616 : Int64)) ∈ lw_all := lw_g (lw_at lw_m6 163 rfl) rfl
theorem q1482 : (Jvm.Cond.methodLink "ObjectForgeModel" (973 : Nat) ({ cls := "ObjectForgeModel", name := "ofSix", desc := "(J)J" } : Jvm.MethodName)) ∈ lw_all := lw_g (lw_at lw_m6 164 rfl) rfl
theorem q1483 : (Jvm.Cond.static ({ cls := "ObjectForgeModel", name := "ofSix", desc := "(J)J" } : Jvm.MethodName)) ∈ lw_all := lw_g (lw_at lw_m6 165 rfl) rfl
theorem q1484 : (Jvm.Cond.code ({ cls := "ObjectForgeModel", name := "ofSix", desc := "(J)J" } : Jvm.MethodName) prog_4_method_28_code (2 : Nat) (Option.some Jvm.ClassFile.FieldType.long)) ∈ lw_all := lw_g (lw_at lw_m6 166 rfl) rfl
theorem q1485 : (Jvm.Cond.constantLong "ObjectForgeModel" (738 : Nat) (184627002 : Int64)) ∈ lw_all := lw_g (lw_at lw_m6 167 rfl) rfl
theorem q1486 : (Jvm.Cond.constantLong "ObjectForgeModel" (740 : Nat) (60197699584 : Int64)) ∈ lw_all := lw_g (lw_at lw_m6 168 rfl) rfl
theorem q1487 : (Jvm.Cond.constantLong "ObjectForgeModel" (742 : Nat) (173378242 : Int64)) ∈ lw_all := lw_g (lw_at lw_m6 169 rfl) rfl
theorem q1488 : (Jvm.Cond.constantLong "ObjectForgeModel" (744 : Nat) (60197765120 : Int64)) ∈ lw_all := lw_g (lw_at lw_m6 170 rfl) rfl
theorem q1489 : (Jvm.Cond.constantLong "ObjectForgeModel" (746 : Nat) (1541933125 : Int64)) ∈ lw_all := lw_g (lw_at lw_m6 171 rfl) rfl
theorem q1490 : (Jvm.Cond.constantLong "ObjectForgeModel" (748 : Nat) (91368718340 : Int64)) ∈ lw_all := lw_g (lw_at lw_m6 172 rfl) rfl
theorem q1491 : (Jvm.Cond.constantLong "ObjectForgeModel" (750 : Nat) (295177749 : Int64)) ∈ lw_all := lw_g (lw_at lw_m6 173 rfl) rfl
theorem q1492 : (Jvm.Cond.constantLong "ObjectForgeModel" (752 : Nat) (95663685681 : Int64)) ∈ lw_all := lw_g (lw_at lw_m6 174 rfl) rfl
theorem q1493 : (Jvm.Cond.constantLong "ObjectForgeModel" (754 : Nat) (294304129 : Int64)) ∈ lw_all := lw_g (lw_at lw_m6 175 rfl) rfl
theorem q1494 : (Jvm.Cond.constantLong "ObjectForgeModel" (756 : Nat) (95663685682 : Int64)) ∈ lw_all := lw_g (lw_at lw_m6 176 rfl) rfl
theorem q1495 : (Jvm.Cond.constantLong "ObjectForgeModel" (758 : Nat) (295056453 : Int64)) ∈ lw_all := lw_g (lw_at lw_m6 177 rfl) rfl
theorem q1496 : (Jvm.Cond.constantLong "ObjectForgeModel" (760 : Nat) (95663685688 : Int64)) ∈ lw_all := lw_g (lw_at lw_m6 178 rfl) rfl
theorem q1497 : (Jvm.Cond.constantLong "ObjectForgeModel" (762 : Nat) (294692565 : Int64)) ∈ lw_all := lw_g (lw_at lw_m6 179 rfl) rfl
theorem q1498 : (Jvm.Cond.constantLong "ObjectForgeModel" (764 : Nat) (95663685692 : Int64)) ∈ lw_all := lw_g (lw_at lw_m6 180 rfl) rfl
theorem q1499 : (Jvm.Cond.constantLong "ObjectForgeModel" (766 : Nat) (294670905 : Int64)) ∈ lw_all := lw_g (lw_at lw_m6 181 rfl) rfl
theorem q1500 : (Jvm.Cond.constantLong "ObjectForgeModel" (768 : Nat) (95663685694 : Int64)) ∈ lw_all := lw_g (lw_at lw_m6 182 rfl) rfl
theorem q1501 : (Jvm.Cond.constantLong "ObjectForgeModel" (770 : Nat) (1541933110 : Int64)) ∈ lw_all := lw_g (lw_at lw_m6 183 rfl) rfl
theorem q1502 : (Jvm.Cond.constantLong "ObjectForgeModel" (772 : Nat) (91370815492 : Int64)) ∈ lw_all := lw_g (lw_at lw_m6 184 rfl) rfl
theorem q1503 : (Jvm.Cond.constantLong "ObjectForgeModel" (774 : Nat) (295177734 : Int64)) ∈ lw_all := lw_g (lw_at lw_m6 185 rfl) rfl
theorem q1504 : (Jvm.Cond.constantLong "ObjectForgeModel" (776 : Nat) (95665782833 : Int64)) ∈ lw_all := lw_g (lw_at lw_m6 186 rfl) rfl
theorem q1505 : (Jvm.Cond.constantLong "ObjectForgeModel" (778 : Nat) (294304114 : Int64)) ∈ lw_all := lw_g (lw_at lw_m6 187 rfl) rfl
theorem q1506 : (Jvm.Cond.constantLong "ObjectForgeModel" (780 : Nat) (95665782834 : Int64)) ∈ lw_all := lw_g (lw_at lw_m6 188 rfl) rfl
theorem q1507 : (Jvm.Cond.constantLong "ObjectForgeModel" (782 : Nat) (295056438 : Int64)) ∈ lw_all := lw_g (lw_at lw_m6 189 rfl) rfl
theorem q1508 : (Jvm.Cond.constantLong "ObjectForgeModel" (784 : Nat) (95665782840 : Int64)) ∈ lw_all := lw_g (lw_at lw_m6 190 rfl) rfl
theorem q1509 : (Jvm.Cond.constantLong "ObjectForgeModel" (786 : Nat) (294692550 : Int64)) ∈ lw_all := lw_g (lw_at lw_m6 191 rfl) rfl
theorem q1510 : (Jvm.Cond.constantLong "ObjectForgeModel" (788 : Nat) (95665782844 : Int64)) ∈ lw_all := lw_g (lw_at lw_m6 192 rfl) rfl
theorem q1511 : (Jvm.Cond.constantLong "ObjectForgeModel" (790 : Nat) (294670890 : Int64)) ∈ lw_all := lw_g (lw_at lw_m6 193 rfl) rfl
theorem q1512 : (Jvm.Cond.constantLong "ObjectForgeModel" (792 : Nat) (95665782846 : Int64)) ∈ lw_all := lw_g (lw_at lw_m6 194 rfl) rfl
theorem q1513 : (Jvm.Cond.constantLong "ObjectForgeModel" (794 : Nat) (2154625700 : Int64)) ∈ lw_all := lw_g (lw_at lw_m6 195 rfl) rfl
theorem q1514 : (Jvm.Cond.constantLong "ObjectForgeModel" (796 : Nat) (184683593728 : Int64)) ∈ lw_all := lw_g (lw_at lw_m6 196 rfl) rfl
theorem q1515 : (Jvm.Cond.constantLong "ObjectForgeModel" (798 : Nat) (2179846635 : Int64)) ∈ lw_all := lw_g (lw_at lw_m6 197 rfl) rfl
theorem q1516 : (Jvm.Cond.constantLong "ObjectForgeModel" (800 : Nat) (201863462912 : Int64)) ∈ lw_all := lw_g (lw_at lw_m6 198 rfl) rfl
theorem q1517 : (Jvm.Cond.constantLong "ObjectForgeModel" (802 : Nat) (2142106412 : Int64)) ∈ lw_all := lw_g (lw_at lw_m6 199 rfl) rfl
theorem q1518 : (Jvm.Cond.constantLong "ObjectForgeModel" (804 : Nat) (206158430208 : Int64)) ∈ lw_all := lw_g (lw_at lw_m6 200 rfl) rfl
theorem q1519 : (Jvm.Cond.constantLong "ObjectForgeModel" (806 : Nat) (2142481923 : Int64)) ∈ lw_all := lw_g (lw_at lw_m6 201 rfl) rfl
theorem q1520 : (Jvm.Cond.constantLong "ObjectForgeModel" (808 : Nat) (210453397504 : Int64)) ∈ lw_all := lw_g (lw_at lw_m6 202 rfl) rfl
theorem q1521 : (Jvm.Cond.methodLink "ObjectForgeModel" (976 : Nat) ({ cls := "ObjectForgeModel", name := "ofMany", desc := "(J)J" } : Jvm.MethodName)) ∈ lw_all := lw_g (lw_at lw_m6 203 rfl) rfl
theorem q1522 : (Jvm.Cond.static ({ cls := "ObjectForgeModel", name := "ofMany", desc := "(J)J" } : Jvm.MethodName)) ∈ lw_all := lw_g (lw_at lw_m6 204 rfl) rfl
theorem q1523 : (Jvm.Cond.code ({ cls := "ObjectForgeModel", name := "ofMany", desc := "(J)J" } : Jvm.MethodName) prog_4_method_29_code (2 : Nat) (Option.some Jvm.ClassFile.FieldType.long)) ∈ lw_all := lw_g (lw_at lw_m6 205 rfl) rfl
theorem q1524 : (Jvm.Cond.constantLong "ObjectForgeModel" (810 : Nat) (59228454608 : Int64)) ∈ lw_all := lw_g (lw_at lw_m6 206 rfl) rfl
theorem q1525 : (Jvm.Cond.constantLong "ObjectForgeModel" (812 : Nat) (81604378636 : Int64)) ∈ lw_all := lw_g (lw_at lw_m6 207 rfl) rfl
theorem q1526 : (Jvm.Cond.constantLong "ObjectForgeModel" (814 : Nat) (89079669984201 : Int64)) ∈ lw_all := lw_g (lw_at lw_m6 208 rfl) rfl
theorem q1527 : (Jvm.Cond.constantLong "ObjectForgeModel" (816 : Nat) (91368718349 : Int64)) ∈ lw_all := lw_g (lw_at lw_m6 209 rfl) rfl
theorem q1528 : (Jvm.Cond.constantLong "ObjectForgeModel" (818 : Nat) (80040841044569 : Int64)) ∈ lw_all := lw_g (lw_at lw_m6 210 rfl) rfl
theorem q1529 : (Jvm.Cond.constantLong "ObjectForgeModel" (820 : Nat) (91368718348 : Int64)) ∈ lw_all := lw_g (lw_at lw_m6 211 rfl) rfl
theorem q1530 : (Jvm.Cond.constantLong "ObjectForgeModel" (822 : Nat) (359041083641 : Int64)) ∈ lw_all := lw_g (lw_at lw_m6 212 rfl) rfl
theorem q1531 : (Jvm.Cond.constantLong "ObjectForgeModel" (824 : Nat) (91368718350 : Int64)) ∈ lw_all := lw_g (lw_at lw_m6 213 rfl) rfl
theorem q1532 : (Jvm.Cond.constantLong "ObjectForgeModel" (826 : Nat) (27506131443609 : Int64)) ∈ lw_all := lw_g (lw_at lw_m6 214 rfl) rfl
theorem q1533 : (Jvm.Cond.constantLong "ObjectForgeModel" (828 : Nat) (91368718351 : Int64)) ∈ lw_all := lw_g (lw_at lw_m6 215 rfl) rfl
theorem q1534 : (Jvm.Cond.constantLong "ObjectForgeModel" (830 : Nat) (10819201369 : Int64)) ∈ lw_all := lw_g (lw_at lw_m6 216 rfl) rfl
theorem q1535 : (Jvm.Cond.constantLong "ObjectForgeModel" (832 : Nat) (91368718372 : Int64)) ∈ lw_all := lw_g (lw_at lw_m6 217 rfl) rfl
theorem q1536 : (Jvm.Cond.constantLong "ObjectForgeModel" (834 : Nat) (11216246497 : Int64)) ∈ lw_all := lw_g (lw_at lw_m6 218 rfl) rfl
theorem q1537 : (Jvm.Cond.constantLong "ObjectForgeModel" (836 : Nat) (95663685683 : Int64)) ∈ lw_all := lw_g (lw_at lw_m6 219 rfl) rfl
theorem q1538 : (Jvm.Cond.constantLong "ObjectForgeModel" (838 : Nat) (11204124117 : Int64)) ∈ lw_all := lw_g (lw_at lw_m6 220 rfl) rfl
theorem q1539 : (Jvm.Cond.constantLong "ObjectForgeModel" (840 : Nat) (95663685684 : Int64)) ∈ lw_all := lw_g (lw_at lw_m6 221 rfl) rfl
theorem q1540 : (Jvm.Cond.constantLong "ObjectForgeModel" (842 : Nat) (11216634933 : Int64)) ∈ lw_all := lw_g (lw_at lw_m6 222 rfl) rfl
theorem q1541 : (Jvm.Cond.constantLong "ObjectForgeModel" (844 : Nat) (95663685685 : Int64)) ∈ lw_all := lw_g (lw_at lw_m6 223 rfl) rfl
theorem q1542 : (Jvm.Cond.constantLong "ObjectForgeModel" (846 : Nat) (11204102457 : Int64)) ∈ lw_all := lw_g (lw_at lw_m6 224 rfl) rfl
theorem q1543 : (Jvm.Cond.constantLong "ObjectForgeModel" (848 : Nat) (95663685686 : Int64)) ∈ lw_all := lw_g (lw_at lw_m6 225 rfl) rfl
theorem q1544 : (Jvm.Cond.constantLong "ObjectForgeModel" (850 : Nat) (11216613273 : Int64)) ∈ lw_all := lw_g (lw_at lw_m6 226 rfl) rfl
theorem q1545 : (Jvm.Cond.constantLong "ObjectForgeModel" (852 : Nat) (95663685687 : Int64)) ∈ lw_all := lw_g (lw_at lw_m6 227 rfl) rfl
theorem q1546 : (Jvm.Cond.constantLong "ObjectForgeModel" (854 : Nat) (425666585177 : Int64)) ∈ lw_all := lw_g (lw_at lw_m6 228 rfl) rfl
theorem q1547 : (Jvm.Cond.constantLong "ObjectForgeModel" (856 : Nat) (95663685689 : Int64)) ∈ lw_all := lw_g (lw_at lw_m6 229 rfl) rfl
theorem q1548 : (Jvm.Cond.constantLong "ObjectForgeModel" (858 : Nat) (11212076225 : Int64)) ∈ lw_all := lw_g (lw_at lw_m6 230 rfl) rfl
theorem q1549 : (Jvm.Cond.constantLong "ObjectForgeModel" (860 : Nat) (95663685690 : Int64)) ∈ lw_all := lw_g (lw_at lw_m6 231 rfl) rfl
theorem q1550 : (Jvm.Cond.constantLong "ObjectForgeModel" (862 : Nat) (11201753069 : Int64)) ∈ lw_all := lw_g (lw_at lw_m6 232 rfl) rfl
theorem q1551 : (Jvm.Cond.constantLong "ObjectForgeModel" (864 : Nat) (95663685691 : Int64)) ∈ lw_all := lw_g (lw_at lw_m6 233 rfl) rfl
theorem q1552 : (Jvm.Cond.constantLong "ObjectForgeModel" (866 : Nat) (11201742961 : Int64)) ∈ lw_all := lw_g (lw_at lw_m6 234 rfl) rfl
theorem q1553 : (Jvm.Cond.constantLong "ObjectForgeModel" (868 : Nat) (95663685693 : Int64)) ∈ lw_all := lw_g (lw_at lw_m6 235 rfl) rfl
theorem q1554 : (Jvm.Cond.constantLong "ObjectForgeModel" (870 : Nat) (11201764621 : Int64)) ∈ lw_all := lw_g (lw_at lw_m6 236 rfl) rfl
theorem q1555 : (Jvm.Cond.constantLong "ObjectForgeModel" (872 : Nat) (95663685695 : Int64)) ∈ lw_all := lw_g (lw_at lw_m6 237 rfl) rfl
theorem q1556 : (Jvm.Cond.constantLong "ObjectForgeModel" (874 : Nat) (89079669984186 : Int64)) ∈ lw_all := lw_g (lw_at lw_m6 238 rfl) rfl
theorem q1557 : (Jvm.Cond.constantLong "ObjectForgeModel" (876 : Nat) (91370815501 : Int64)) ∈ lw_all := lw_g (lw_at lw_m6 239 rfl) rfl
theorem q1558 : (Jvm.Cond.constantLong "ObjectForgeModel" (878 : Nat) (80040841044554 : Int64)) ∈ lw_all := lw_g (lw_at lw_m7 0 rfl) rfl
theorem q1559 : (Jvm.Cond.constantLong "ObjectForgeModel" (880 : Nat) (91370815500 : Int64)) ∈ lw_all := lw_g (lw_at lw_m7 1 rfl) rfl
theorem q1560 : (Jvm.Cond.constantLong "ObjectForgeModel" (882 : Nat) (359041083626 : Int64)) ∈ lw_all := lw_g (lw_at lw_m7 2 rfl) rfl
theorem q1561 : (Jvm.Cond.constantLong "ObjectForgeModel" (884 : Nat) (91370815502 : Int64)) ∈ lw_all := lw_g (lw_at lw_m7 3 rfl) rfl
theorem q1562 : (Jvm.Cond.constantLong "ObjectForgeModel" (886 : Nat) (27506131443594 : Int64)) ∈ lw_all := lw_g (lw_at lw_m7 4 rfl) rfl
theorem q1563 : (Jvm.Cond.constantLong "ObjectForgeModel" (888 : Nat) (91370815503 : Int64)) ∈ lw_all := lw_g (lw_at lw_m7 5 rfl) rfl
theorem q1564 : (Jvm.Cond.constantLong "ObjectForgeModel" (890 : Nat) (10819201354 : Int64)) ∈ lw_all := lw_g (lw_at lw_m7 6 rfl) rfl
theorem q1565 : (Jvm.Cond.constantLong "ObjectForgeModel" (892 : Nat) (91370815524 : Int64)) ∈ lw_all := lw_g (lw_at lw_m7 7 rfl) rfl
theorem q1566 : (Jvm.Cond.constantLong "ObjectForgeModel" (894 : Nat) (11216246482 : Int64)) ∈ lw_all := lw_g (lw_at lw_m7 8 rfl) rfl
theorem q1567 : (Jvm.Cond.constantLong "ObjectForgeModel" (896 : Nat) (95665782835 : Int64)) ∈ lw_all := lw_g (lw_at lw_m7 9 rfl) rfl
theorem q1568 : (Jvm.Cond.constantLong "ObjectForgeModel" (898 : Nat) (11204124102 : Int64)) ∈ lw_all := lw_g (lw_at lw_m7 10 rfl) rfl
theorem q1569 : (Jvm.Cond.constantLong "ObjectForgeModel" (900 : Nat) (95665782836 : Int64)) ∈ lw_all := lw_g (lw_at lw_m7 11 rfl) rfl
theorem q1570 : (Jvm.Cond.constantLong "ObjectForgeModel" (902 : Nat) (11216634918 : Int64)) ∈ lw_all := lw_g (lw_at lw_m7 12 rfl) rfl
theorem q1571 : (Jvm.Cond.constantLong "ObjectForgeModel" (904 : Nat) (95665782837 : Int64)) ∈ lw_all := lw_g (lw_at lw_m7 13 rfl) rfl
theorem q1572 : (Jvm.Cond.constantLong "ObjectForgeModel" (906 : Nat) (11204102442 : Int64)) ∈ lw_all := lw_g (lw_at lw_m7 14 rfl) rfl
theorem q1573 : (Jvm.Cond.constantLong "ObjectForgeModel" (908 : Nat) (95665782838 : Int64)) ∈ lw_all := lw_g (lw_at lw_m7 15 rfl) rfl
theorem q1574 : (Jvm.Cond.constantLong "ObjectForgeModel" (910 : Nat) (11216613258 : Int64)) ∈ lw_all := lw_g (lw_at lw_m7 16 rfl) rfl
theorem q1575 : (Jvm.Cond.constantLong "ObjectForgeModel" (912 : Nat) (95665782839 : Int64)) ∈ lw_all := lw_g (lw_at lw_m7 17 rfl) rfl
theorem q1576 : (Jvm.Cond.constantLong "ObjectForgeModel" (914 : Nat) (425666585162 : Int64)) ∈ lw_all := lw_g (lw_at lw_m7 18 rfl) rfl
theorem q1577 : (Jvm.Cond.constantLong "ObjectForgeModel" (916 : Nat) (95665782841 : Int64)) ∈ lw_all := lw_g (lw_at lw_m7 19 rfl) rfl
theorem q1578 : (Jvm.Cond.constantLong "ObjectForgeModel" (918 : Nat) (11212076210 : Int64)) ∈ lw_all := lw_g (lw_at lw_m7 20 rfl) rfl
theorem q1579 : (Jvm.Cond.constantLong "ObjectForgeModel" (920 : Nat) (95665782842 : Int64)) ∈ lw_all := lw_g (lw_at lw_m7 21 rfl) rfl
theorem q1580 : (Jvm.Cond.constantLong "ObjectForgeModel" (922 : Nat) (11201753054 : Int64)) ∈ lw_all := lw_g (lw_at lw_m7 22 rfl) rfl
theorem q1581 : (Jvm.Cond.constantLong "ObjectForgeModel" (924 : Nat) (95665782843 : Int64)) ∈ lw_all := lw_g (lw_at lw_m7 23 rfl) rfl
theorem q1582 : (Jvm.Cond.constantLong "ObjectForgeModel" (926 : Nat) (11201742946 : Int64)) ∈ lw_all := lw_g (lw_at lw_m7 24 rfl) rfl
theorem q1583 : (Jvm.Cond.constantLong "ObjectForgeModel" (928 : Nat) (95665782845 : Int64)) ∈ lw_all := lw_g (lw_at lw_m7 25 rfl) rfl
theorem q1584 : (Jvm.Cond.methodLink "ObjectForgeModel" (979 : Nat) ({ cls := "ObjectForgeModel", name := "ofManyMore", desc := "(J)J" } : Jvm.MethodName)) ∈ lw_all := lw_g (lw_at lw_m7 26 rfl) rfl
theorem q1585 : (Jvm.Cond.static ({ cls := "ObjectForgeModel", name := "ofManyMore", desc := "(J)J" } : Jvm.MethodName)) ∈ lw_all := lw_g (lw_at lw_m7 27 rfl) rfl
theorem q1586 : (Jvm.Cond.code ({ cls := "ObjectForgeModel", name := "ofManyMore", desc := "(J)J" } : Jvm.MethodName) prog_4_method_30_code (2 : Nat) (Option.some Jvm.ClassFile.FieldType.long)) ∈ lw_all := lw_g (lw_at lw_m7 28 rfl) rfl
theorem q1587 : (Jvm.Cond.constantLong "ObjectForgeModel" (930 : Nat) (11201764606 : Int64)) ∈ lw_all := lw_g (lw_at lw_m7 29 rfl) rfl
theorem q1588 : (Jvm.Cond.constantLong "ObjectForgeModel" (932 : Nat) (95665782847 : Int64)) ∈ lw_all := lw_g (lw_at lw_m7 30 rfl) rfl
theorem q1589 : (Jvm.Cond.constantLong "ObjectForgeModel" (934 : Nat) (10819195578 : Int64)) ∈ lw_all := lw_g (lw_at lw_m7 31 rfl) rfl
theorem q1590 : (Jvm.Cond.constantLong "ObjectForgeModel" (936 : Nat) (91370815520 : Int64)) ∈ lw_all := lw_g (lw_at lw_m7 32 rfl) rfl
theorem q1591 : (Jvm.Cond.constantLong "ObjectForgeModel" (938 : Nat) (10819195597 : Int64)) ∈ lw_all := lw_g (lw_at lw_m7 33 rfl) rfl
theorem q1592 : (Jvm.Cond.constantLong "ObjectForgeModel" (940 : Nat) (91377106976 : Int64)) ∈ lw_all := lw_g (lw_at lw_m7 34 rfl) rfl
theorem q1593 : (Jvm.Cond.constantLong "ObjectForgeModel" (942 : Nat) (10819173933 : Int64)) ∈ lw_all := lw_g (lw_at lw_m7 35 rfl) rfl
theorem q1594 : (Jvm.Cond.constantLong "ObjectForgeModel" (944 : Nat) (91368718369 : Int64)) ∈ lw_all := lw_g (lw_at lw_m7 36 rfl) rfl
theorem q1595 : (Jvm.Cond.constantLong "ObjectForgeModel" (946 : Nat) (10819173937 : Int64)) ∈ lw_all := lw_g (lw_at lw_m7 37 rfl) rfl
theorem q1596 : (Jvm.Cond.constantLong "ObjectForgeModel" (948 : Nat) (91377106977 : Int64)) ∈ lw_all := lw_g (lw_at lw_m7 38 rfl) rfl
theorem q1597 : (Jvm.Cond.constantLong "ObjectForgeModel" (950 : Nat) (81414313100 : Int64)) ∈ lw_all := lw_g (lw_at lw_m7 39 rfl) rfl
theorem q1598 : (Jvm.Cond.constantLong "ObjectForgeModel" (952 : Nat) (214748364800 : Int64)) ∈ lw_all := lw_g (lw_at lw_m7 40 rfl) rfl
theorem q1599 : (Jvm.Cond.methodLink "ObjectForgeModel" (1156 : Nat) ({ cls := "ObjectForgeModel", name := "mayStand", desc := "(I)Z" } : Jvm.MethodName)) ∈ lw_all := lw_g (lw_at lw_m7 41 rfl) rfl
theorem q1600 : (Jvm.Cond.privateMethod ({ cls := "ObjectForgeModel", name := "mayStand", desc := "(I)Z" } : Jvm.MethodName)) ∈ lw_tbl := lw_at lw_m7 42 rfl
theorem q1601 : (Jvm.Cond.instanceMethod ({ cls := "ObjectForgeModel", name := "mayStand", desc := "(I)Z" } : Jvm.MethodName)) ∈ lw_all := lw_g (lw_at lw_m7 43 rfl) rfl
theorem q1602 : (Jvm.Cond.code ({ cls := "ObjectForgeModel", name := "mayStand", desc := "(I)Z" } : Jvm.MethodName) prog_4_method_68_code (3 : Nat) (Option.some Jvm.ClassFile.FieldType.boolean)) ∈ lw_all := lw_g (lw_at lw_m7 44 rfl) rfl
theorem q1603 : (Jvm.Cond.constantLong "ObjectForgeModel" (1159 : Nat) (40 : Int64)) ∈ lw_all := lw_g (lw_at lw_m7 45 rfl) rfl
theorem q1604 : (Jvm.Cond.methodLink "ObjectForgeModel" (1161 : Nat) ({ cls := "ObjectForgeModel", name := "instruction", desc := "(II)V" } : Jvm.MethodName)) ∈ lw_all := lw_g (lw_at lw_m7 46 rfl) rfl
theorem q1605 : (Jvm.Cond.privateMethod ({ cls := "ObjectForgeModel", name := "instruction", desc := "(II)V" } : Jvm.MethodName)) ∈ lw_tbl := lw_at lw_m7 47 rfl
theorem q1606 : (Jvm.Cond.instanceMethod ({ cls := "ObjectForgeModel", name := "instruction", desc := "(II)V" } : Jvm.MethodName)) ∈ lw_all := lw_g (lw_at lw_m7 48 rfl) rfl
theorem q1607 : (Jvm.Cond.code ({ cls := "ObjectForgeModel", name := "instruction", desc := "(II)V" } : Jvm.MethodName) prog_4_method_55_code (3 : Nat) (Option.none : Option Jvm.ClassFile.FieldType)) ∈ lw_all := lw_g (lw_at lw_m7 49 rfl) rfl
theorem q1608 : (Jvm.Cond.methodLink "ObjectForgeModel" (1069 : Nat) ({ cls := "ObjectForgeModel", name := "registers", desc := "(II)V" } : Jvm.MethodName)) ∈ lw_all := lw_g (lw_at lw_m7 50 rfl) rfl
theorem q1609 : (Jvm.Cond.privateMethod ({ cls := "ObjectForgeModel", name := "registers", desc := "(II)V" } : Jvm.MethodName)) ∈ lw_tbl := lw_at lw_m7 51 rfl
theorem q1610 : (Jvm.Cond.instanceMethod ({ cls := "ObjectForgeModel", name := "registers", desc := "(II)V" } : Jvm.MethodName)) ∈ lw_all := lw_g (lw_at lw_m7 52 rfl) rfl
theorem q1611 : (Jvm.Cond.code ({ cls := "ObjectForgeModel", name := "registers", desc := "(II)V" } : Jvm.MethodName) prog_4_method_56_code (6 : Nat) (Option.none : Option Jvm.ClassFile.FieldType)) ∈ lw_all := lw_g (lw_at lw_m7 53 rfl) rfl
theorem q1612 : (Jvm.Cond.methodLink "ObjectForgeModel" (1090 : Nat) ({ cls := "ObjectForgeModel", name := "reg", desc := "()I" } : Jvm.MethodName)) ∈ lw_all := lw_g (lw_at lw_m7 54 rfl) rfl
theorem q1613 : (Jvm.Cond.privateMethod ({ cls := "ObjectForgeModel", name := "reg", desc := "()I" } : Jvm.MethodName)) ∈ lw_tbl := lw_at lw_m7 55 rfl
theorem q1614 : (Jvm.Cond.instanceMethod ({ cls := "ObjectForgeModel", name := "reg", desc := "()I" } : Jvm.MethodName)) ∈ lw_all := lw_g (lw_at lw_m7 56 rfl) rfl
theorem q1615 : (Jvm.Cond.code ({ cls := "ObjectForgeModel", name := "reg", desc := "()I" } : Jvm.MethodName) prog_4_method_38_code (2 : Nat) (Option.some Jvm.ClassFile.FieldType.int)) ∈ lw_all := lw_g (lw_at lw_m7 57 rfl) rfl
theorem q1616 : (Jvm.Cond.methodLink "ObjectForgeModel" (1093 : Nat) ({ cls := "ObjectForgeModel", name := "comma", desc := "()V" } : Jvm.MethodName)) ∈ lw_all := lw_g (lw_at lw_m7 58 rfl) rfl
theorem q1617 : (Jvm.Cond.privateMethod ({ cls := "ObjectForgeModel", name := "comma", desc := "()V" } : Jvm.MethodName)) ∈ lw_tbl := lw_at lw_m7 59 rfl
theorem q1618 : (Jvm.Cond.instanceMethod ({ cls := "ObjectForgeModel", name := "comma", desc := "()V" } : Jvm.MethodName)) ∈ lw_all := lw_g (lw_at lw_m7 60 rfl) rfl
theorem q1619 : (Jvm.Cond.code ({ cls := "ObjectForgeModel", name := "comma", desc := "()V" } : Jvm.MethodName) prog_4_method_37_code (1 : Nat) (Option.none : Option Jvm.ClassFile.FieldType)) ∈ lw_all := lw_g (lw_at lw_m7 61 rfl) rfl
theorem q1620 : (Jvm.Cond.methodLink "ObjectForgeModel" (1001 : Nat) ({ cls := "ObjectForgeModel", name := "take", desc := "(I)V" } : Jvm.MethodName)) ∈ lw_all := lw_g (lw_at lw_m7 62 rfl) rfl
theorem q1621 : (Jvm.Cond.privateMethod ({ cls := "ObjectForgeModel", name := "take", desc := "(I)V" } : Jvm.MethodName)) ∈ lw_tbl := lw_at lw_m7 63 rfl
theorem q1622 : (Jvm.Cond.instanceMethod ({ cls := "ObjectForgeModel", name := "take", desc := "(I)V" } : Jvm.MethodName)) ∈ lw_all := lw_g (lw_at lw_m7 64 rfl) rfl
theorem q1623 : (Jvm.Cond.code ({ cls := "ObjectForgeModel", name := "take", desc := "(I)V" } : Jvm.MethodName) prog_4_method_36_code (2 : Nat) (Option.none : Option Jvm.ClassFile.FieldType)) ∈ lw_all := lw_g (lw_at lw_m7 65 rfl) rfl
theorem q1624 : (Jvm.Cond.constantLong "ObjectForgeModel" (1096 : Nat) (31 : Int64)) ∈ lw_all := lw_g (lw_at lw_m7 66 rfl) rfl
theorem q1625 : (Jvm.Cond.methodLink "ObjectForgeModel" (1046 : Nat) ({ cls := "ObjectForgeModel", name := "bounded", desc := "(JJ)I" } : Jvm.MethodName)) ∈ lw_all := lw_g (lw_at lw_m7 67 rfl) rfl
theorem q1626 : (Jvm.Cond.privateMethod ({ cls := "ObjectForgeModel", name := "bounded", desc := "(JJ)I" } : Jvm.MethodName)) ∈ lw_tbl := lw_at lw_m7 68 rfl
theorem q1627 : (Jvm.Cond.instanceMethod ({ cls := "ObjectForgeModel", name := "bounded", desc := "(JJ)I" } : Jvm.MethodName)) ∈ lw_all := lw_g (lw_at lw_m7 69 rfl) rfl
theorem q1628 : (Jvm.Cond.code ({ cls := "ObjectForgeModel", name := "bounded", desc := "(JJ)I" } : Jvm.MethodName) prog_4_method_42_code (7 : Nat) (Option.some Jvm.ClassFile.FieldType.int)) ∈ lw_all := lw_g (lw_at lw_m7 70 rfl) rfl
theorem q1629 : (Jvm.Cond.methodLink "ObjectForgeModel" (1006 : Nat) ({ cls := "ObjectForgeModel", name := "signed", desc := "()J" } : Jvm.MethodName)) ∈ lw_all := lw_g (lw_at lw_m7 71 rfl) rfl
theorem q1630 : (Jvm.Cond.privateMethod ({ cls := "ObjectForgeModel", name := "signed", desc := "()J" } : Jvm.MethodName)) ∈ lw_tbl := lw_at lw_m7 72 rfl
theorem q1631 : (Jvm.Cond.instanceMethod ({ cls := "ObjectForgeModel", name := "signed", desc := "()J" } : Jvm.MethodName)) ∈ lw_all := lw_g (lw_at lw_m7 73 rfl) rfl
theorem q1632 : (Jvm.Cond.code ({ cls := "ObjectForgeModel", name := "signed", desc := "()J" } : Jvm.MethodName) prog_4_method_41_code (4 : Nat) (Option.some Jvm.ClassFile.FieldType.long)) ∈ lw_all := lw_g (lw_at lw_m7 74 rfl) rfl
theorem q1633 : (Jvm.Cond.constantLong "ObjectForgeModel" (1004 : Nat) (-2147483648 : Int64)) ∈ lw_all := lw_g (lw_at lw_m7 75 rfl) rfl
theorem q1634 : (Jvm.Cond.methodLink "ObjectForgeModel" (1098 : Nat) ({ cls := "ObjectForgeModel", name := "of", desc := "(IIII)I" } : Jvm.MethodName)) ∈ lw_all := lw_g (lw_at lw_m7 76 rfl) rfl
theorem q1635 : (Jvm.Cond.static ({ cls := "ObjectForgeModel", name := "of", desc := "(IIII)I" } : Jvm.MethodName)) ∈ lw_all := lw_g (lw_at lw_m7 77 rfl) rfl
theorem q1636 : (Jvm.Cond.code ({ cls := "ObjectForgeModel", name := "of", desc := "(IIII)I" } : Jvm.MethodName) prog_4_method_54_code (4 : Nat) (Option.some Jvm.ClassFile.FieldType.int)) ∈ lw_all := lw_g (lw_at lw_m7 78 rfl) rfl
theorem q1637 : (Jvm.Cond.methodLink "ObjectForgeModel" (1066 : Nat) ({ cls := "ObjectForgeModel", name := "emit", desc := "(I)V" } : Jvm.MethodName)) ∈ lw_all := lw_g (lw_at lw_m7 79 rfl) rfl
theorem q1638 : (Jvm.Cond.privateMethod ({ cls := "ObjectForgeModel", name := "emit", desc := "(I)V" } : Jvm.MethodName)) ∈ lw_tbl := lw_at lw_m7 80 rfl
theorem q1639 : (Jvm.Cond.instanceMethod ({ cls := "ObjectForgeModel", name := "emit", desc := "(I)V" } : Jvm.MethodName)) ∈ lw_all := lw_g (lw_at lw_m7 81 rfl) rfl
theorem q1640 : (Jvm.Cond.code ({ cls := "ObjectForgeModel", name := "emit", desc := "(I)V" } : Jvm.MethodName) prog_4_method_51_code (2 : Nat) (Option.none : Option Jvm.ClassFile.FieldType)) ∈ lw_all := lw_g (lw_at lw_m7 82 rfl) rfl
theorem q1641 : (Jvm.Cond.methodLink "ObjectForgeModel" (1058 : Nat) ({ cls := "ObjectForgeModel", name := "putAll", desc := "(II)V" } : Jvm.MethodName)) ∈ lw_all := lw_g (lw_at lw_m7 83 rfl) rfl
theorem q1642 : (Jvm.Cond.privateMethod ({ cls := "ObjectForgeModel", name := "putAll", desc := "(II)V" } : Jvm.MethodName)) ∈ lw_tbl := lw_at lw_m7 84 rfl
theorem q1643 : (Jvm.Cond.instanceMethod ({ cls := "ObjectForgeModel", name := "putAll", desc := "(II)V" } : Jvm.MethodName)) ∈ lw_all := lw_g (lw_at lw_m7 85 rfl) rfl
theorem q1644 : (Jvm.Cond.code ({ cls := "ObjectForgeModel", name := "putAll", desc := "(II)V" } : Jvm.MethodName) prog_4_method_49_code (4 : Nat) (Option.none : Option Jvm.ClassFile.FieldType)) ∈ lw_all := lw_g (lw_at lw_m7 86 rfl) rfl
theorem q1645 : (Jvm.Cond.methodLink "ObjectForgeModel" (1052 : Nat) ({ cls := "ObjectForgeModel", name := "put", desc := "(I)V" } : Jvm.MethodName)) ∈ lw_all := lw_g (lw_at lw_m7 87 rfl) rfl
theorem q1646 : (Jvm.Cond.privateMethod ({ cls := "ObjectForgeModel", name := "put", desc := "(I)V" } : Jvm.MethodName)) ∈ lw_tbl := lw_at lw_m7 88 rfl
theorem q1647 : (Jvm.Cond.instanceMethod ({ cls := "ObjectForgeModel", name := "put", desc := "(I)V" } : Jvm.MethodName)) ∈ lw_all := lw_g (lw_at lw_m7 89 rfl) rfl
theorem q1648 : (Jvm.Cond.code ({ cls := "ObjectForgeModel", name := "put", desc := "(I)V" } : Jvm.MethodName) prog_4_method_48_code (3 : Nat) (Option.none : Option Jvm.ClassFile.FieldType)) ∈ lw_all := lw_g (lw_at lw_m7 90 rfl) rfl
theorem q1649 : (Jvm.Cond.methodLink "ObjectForgeModel" (1072 : Nat) ({ cls := "ObjectForgeModel", name := "halves", desc := "(II)V" } : Jvm.MethodName)) ∈ lw_all := lw_g (lw_at lw_m7 91 rfl) rfl
theorem q1650 : (Jvm.Cond.privateMethod ({ cls := "ObjectForgeModel", name := "halves", desc := "(II)V" } : Jvm.MethodName)) ∈ lw_tbl := lw_at lw_m7 92 rfl
theorem q1651 : (Jvm.Cond.instanceMethod ({ cls := "ObjectForgeModel", name := "halves", desc := "(II)V" } : Jvm.MethodName)) ∈ lw_all := lw_g (lw_at lw_m7 93 rfl) rfl
theorem q1652 : (Jvm.Cond.code ({ cls := "ObjectForgeModel", name := "halves", desc := "(II)V" } : Jvm.MethodName) prog_4_method_57_code (5 : Nat) (Option.none : Option Jvm.ClassFile.FieldType)) ∈ lw_all := lw_g (lw_at lw_m7 94 rfl) rfl
theorem q1653 : (Jvm.Cond.methodLink "ObjectForgeModel" (1102 : Nat) ({ cls := "ObjectForgeModel", name := "frac", desc := "()I" } : Jvm.MethodName)) ∈ lw_all := lw_g (lw_at lw_m7 95 rfl) rfl
theorem q1654 : (Jvm.Cond.privateMethod ({ cls := "ObjectForgeModel", name := "frac", desc := "()I" } : Jvm.MethodName)) ∈ lw_tbl := lw_at lw_m7 96 rfl
theorem q1655 : (Jvm.Cond.instanceMethod ({ cls := "ObjectForgeModel", name := "frac", desc := "()I" } : Jvm.MethodName)) ∈ lw_all := lw_g (lw_at lw_m7 97 rfl) rfl
theorem q1656 : (Jvm.Cond.code ({ cls := "ObjectForgeModel", name := "frac", desc := "()I" } : Jvm.MethodName) prog_4_method_39_code (2 : Nat) (Option.some Jvm.ClassFile.FieldType.int)) ∈ lw_all := lw_g (lw_at lw_m7 98 rfl) rfl
theorem q1657 : (Jvm.Cond.methodLink "ObjectForgeModel" (1105 : Nat) ({ cls := "ObjectForgeModel", name := "memory", desc := "(II)V" } : Jvm.MethodName)) ∈ lw_all := lw_g (lw_at lw_m7 99 rfl) rfl
theorem q1658 : (Jvm.Cond.privateMethod ({ cls := "ObjectForgeModel", name := "memory", desc := "(II)V" } : Jvm.MethodName)) ∈ lw_tbl := lw_at lw_m7 100 rfl
theorem q1659 : (Jvm.Cond.instanceMethod ({ cls := "ObjectForgeModel", name := "memory", desc := "(II)V" } : Jvm.MethodName)) ∈ lw_all := lw_g (lw_at lw_m7 101 rfl) rfl
theorem q1660 : (Jvm.Cond.code ({ cls := "ObjectForgeModel", name := "memory", desc := "(II)V" } : Jvm.MethodName) prog_4_method_58_code (6 : Nat) (Option.none : Option Jvm.ClassFile.FieldType)) ∈ lw_all := lw_g (lw_at lw_m7 102 rfl) rfl
theorem q1661 : (Jvm.Cond.methodLink "ObjectForgeModel" (1025 : Nat) ({ cls := "ObjectForgeModel", name := "bearing", desc := "()V" } : Jvm.MethodName)) ∈ lw_all := lw_g (lw_at lw_m7 103 rfl) rfl
theorem q1662 : (Jvm.Cond.privateMethod ({ cls := "ObjectForgeModel", name := "bearing", desc := "()V" } : Jvm.MethodName)) ∈ lw_tbl := lw_at lw_m7 104 rfl
theorem q1663 : (Jvm.Cond.instanceMethod ({ cls := "ObjectForgeModel", name := "bearing", desc := "()V" } : Jvm.MethodName)) ∈ lw_all := lw_g (lw_at lw_m7 105 rfl) rfl
theorem q1664 : (Jvm.Cond.code ({ cls := "ObjectForgeModel", name := "bearing", desc := "()V" } : Jvm.MethodName) prog_4_method_44_code (2 : Nat) (Option.none : Option Jvm.ClassFile.FieldType)) ∈ lw_all := lw_g (lw_at lw_m7 106 rfl) rfl
theorem q1665 : (Jvm.Cond.constant "ObjectForgeModel" (1122 : Nat) (1006698496 : Int32)) ∈ lw_all := lw_g (lw_at lw_m7 107 rfl) rfl
theorem q1666 : (Jvm.Cond.methodLink "ObjectForgeModel" (1118 : Nat) ({ cls := "ObjectForgeModel", name := "wordFor", desc := "(IIII)V" } : Jvm.MethodName)) ∈ lw_all := lw_g (lw_at lw_m7 108 rfl) rfl
theorem q1667 : (Jvm.Cond.privateMethod ({ cls := "ObjectForgeModel", name := "wordFor", desc := "(IIII)V" } : Jvm.MethodName)) ∈ lw_tbl := lw_at lw_m7 109 rfl
theorem q1668 : (Jvm.Cond.instanceMethod ({ cls := "ObjectForgeModel", name := "wordFor", desc := "(IIII)V" } : Jvm.MethodName)) ∈ lw_all := lw_g (lw_at lw_m7 110 rfl) rfl
theorem q1669 : (Jvm.Cond.code ({ cls := "ObjectForgeModel", name := "wordFor", desc := "(IIII)V" } : Jvm.MethodName) prog_4_method_52_code (5 : Nat) (Option.none : Option Jvm.ClassFile.FieldType)) ∈ lw_all := lw_g (lw_at lw_m7 111 rfl) rfl
theorem q1670 : (Jvm.Cond.methodLink "ObjectForgeModel" (1062 : Nat) ({ cls := "ObjectForgeModel", name := "refers", desc := "(III)V" } : Jvm.MethodName)) ∈ lw_all := lw_g (lw_at lw_m7 112 rfl) rfl
theorem q1671 : (Jvm.Cond.privateMethod ({ cls := "ObjectForgeModel", name := "refers", desc := "(III)V" } : Jvm.MethodName)) ∈ lw_tbl := lw_at lw_m7 113 rfl
theorem q1672 : (Jvm.Cond.instanceMethod ({ cls := "ObjectForgeModel", name := "refers", desc := "(III)V" } : Jvm.MethodName)) ∈ lw_all := lw_g (lw_at lw_m7 114 rfl) rfl
theorem q1673 : (Jvm.Cond.code ({ cls := "ObjectForgeModel", name := "refers", desc := "(III)V" } : Jvm.MethodName) prog_4_method_50_code (6 : Nat) (Option.none : Option Jvm.ClassFile.FieldType)) ∈ lw_all := lw_g (lw_at lw_m7 115 rfl) rfl
theorem q1674 : (Jvm.Cond.constantLong "ObjectForgeModel" (1108 : Nat) (-32768 : Int64)) ∈ lw_all := lw_g (lw_at lw_m7 116 rfl) rfl
theorem q1675 : (Jvm.Cond.constantLong "ObjectForgeModel" (1110 : Nat) (32767 : Int64)) ∈ lw_all := lw_g (lw_at lw_m7 117 rfl) rfl
theorem q1676 : (Jvm.Cond.methodLink "ObjectForgeModel" (1112 : Nat) ({ cls := "ObjectForgeModel", name := "halved", desc := "(JJZ)V" } : Jvm.MethodName)) ∈ lw_all := lw_g (lw_at lw_m7 118 rfl) rfl
theorem q1677 : (Jvm.Cond.privateMethod ({ cls := "ObjectForgeModel", name := "halved", desc := "(JJZ)V" } : Jvm.MethodName)) ∈ lw_tbl := lw_at lw_m7 119 rfl
theorem q1678 : (Jvm.Cond.instanceMethod ({ cls := "ObjectForgeModel", name := "halved", desc := "(JJZ)V" } : Jvm.MethodName)) ∈ lw_all := lw_g (lw_at lw_m7 120 rfl) rfl
theorem q1679 : (Jvm.Cond.code ({ cls := "ObjectForgeModel", name := "halved", desc := "(JJZ)V" } : Jvm.MethodName) prog_4_method_47_code (6 : Nat) (Option.none : Option Jvm.ClassFile.FieldType)) ∈ lw_all := lw_g (lw_at lw_m7 121 rfl) rfl
theorem q1680 : (Jvm.Cond.methodLink "ObjectForgeModel" (1042 : Nat) ({ cls := "ObjectForgeModel", name := "part", desc := "(Z)V" } : Jvm.MethodName)) ∈ lw_all := lw_g (lw_at lw_m7 122 rfl) rfl
theorem q1681 : (Jvm.Cond.privateMethod ({ cls := "ObjectForgeModel", name := "part", desc := "(Z)V" } : Jvm.MethodName)) ∈ lw_tbl := lw_at lw_m7 123 rfl
theorem q1682 : (Jvm.Cond.instanceMethod ({ cls := "ObjectForgeModel", name := "part", desc := "(Z)V" } : Jvm.MethodName)) ∈ lw_all := lw_g (lw_at lw_m7 124 rfl) rfl
theorem q1683 : (Jvm.Cond.code ({ cls := "ObjectForgeModel", name := "part", desc := "(Z)V" } : Jvm.MethodName) prog_4_method_46_code (4 : Nat) (Option.none : Option Jvm.ClassFile.FieldType)) ∈ lw_all := lw_g (lw_at lw_m7 125 rfl) rfl
theorem q1684 : (Jvm.Cond.constantLong "ObjectForgeModel" (1028 : Nat) (313 : Int64)) ∈ lw_all := lw_g (lw_at lw_m7 126 rfl) rfl
theorem q1685 : (Jvm.Cond.constantLong "ObjectForgeModel" (1030 : Nat) (471 : Int64)) ∈ lw_all := lw_g (lw_at lw_m7 127 rfl) rfl
theorem q1686 : (Jvm.Cond.methodLink "ObjectForgeModel" (1032 : Nat) ({ cls := "ObjectForgeModel", name := "expression", desc := "()V" } : Jvm.MethodName)) ∈ lw_all := lw_g (lw_at lw_m7 128 rfl) rfl
theorem q1687 : (Jvm.Cond.privateMethod ({ cls := "ObjectForgeModel", name := "expression", desc := "()V" } : Jvm.MethodName)) ∈ lw_tbl := lw_at lw_m7 129 rfl
theorem q1688 : (Jvm.Cond.instanceMethod ({ cls := "ObjectForgeModel", name := "expression", desc := "()V" } : Jvm.MethodName)) ∈ lw_all := lw_g (lw_at lw_m7 130 rfl) rfl
theorem q1689 : (Jvm.Cond.code ({ cls := "ObjectForgeModel", name := "expression", desc := "()V" } : Jvm.MethodName) prog_4_method_45_code (1 : Nat) (Option.none : Option Jvm.ClassFile.FieldType)) ∈ lw_all := lw_g (lw_at lw_m7 131 rfl) rfl
theorem q1690 : (Jvm.Cond.methodLink "ObjectForgeModel" (1022 : Nat) ({ cls := "ObjectForgeModel", name := "isNumber", desc := "()Z" } : Jvm.MethodName)) ∈ lw_all := lw_g (lw_at lw_m7 132 rfl) rfl
theorem q1691 : (Jvm.Cond.privateMethod ({ cls := "ObjectForgeModel", name := "isNumber", desc := "()Z" } : Jvm.MethodName)) ∈ lw_tbl := lw_at lw_m7 133 rfl
theorem q1692 : (Jvm.Cond.instanceMethod ({ cls := "ObjectForgeModel", name := "isNumber", desc := "()Z" } : Jvm.MethodName)) ∈ lw_all := lw_g (lw_at lw_m7 134 rfl) rfl
theorem q1693 : (Jvm.Cond.code ({ cls := "ObjectForgeModel", name := "isNumber", desc := "()Z" } : Jvm.MethodName) prog_4_method_40_code (1 : Nat) (Option.some Jvm.ClassFile.FieldType.boolean)) ∈ lw_all := lw_g (lw_at lw_m7 135 rfl) rfl
theorem q1694 : (Jvm.Cond.constant "ObjectForgeModel" (1038 : Nat) (65535 : Int32)) ∈ lw_all := lw_g (lw_at lw_m7 136 rfl) rfl
theorem q1695 : (Jvm.Cond.constantLong "ObjectForgeModel" (1116 : Nat) (65535 : Int64)) ∈ lw_all := lw_g (lw_at lw_m7 137 rfl) rfl
theorem q1696 : (Jvm.Cond.methodLink "ObjectForgeModel" (1075 : Nat) ({ cls := "ObjectForgeModel", name := "others", desc := "(II)V" } : Jvm.MethodName)) ∈ lw_all := lw_g (lw_at lw_m7 138 rfl) rfl
theorem q1697 : (Jvm.Cond.privateMethod ({ cls := "ObjectForgeModel", name := "others", desc := "(II)V" } : Jvm.MethodName)) ∈ lw_tbl := lw_at lw_m7 139 rfl
theorem q1698 : (Jvm.Cond.instanceMethod ({ cls := "ObjectForgeModel", name := "others", desc := "(II)V" } : Jvm.MethodName)) ∈ lw_all := lw_g (lw_at lw_m7 140 rfl) rfl
theorem q1699 : (Jvm.Cond.code ({ cls := "ObjectForgeModel", name := "others", desc := "(II)V" } : Jvm.MethodName) prog_4_method_60_code (5 : Nat) (Option.none : Option Jvm.ClassFile.FieldType)) ∈ lw_all := lw_g (lw_at lw_m7 141 rfl) rfl
theorem q1700 : (Jvm.Cond.methodLink "ObjectForgeModel" (1123 : Nat) ({ cls := "ObjectForgeModel", name := "target", desc := "(II)V" } : Jvm.MethodName)) ∈ lw_all := lw_g (lw_at lw_m7 142 rfl) rfl
theorem q1701 : (Jvm.Cond.privateMethod ({ cls := "ObjectForgeModel", name := "target", desc := "(II)V" } : Jvm.MethodName)) ∈ lw_tbl := lw_at lw_m7 143 rfl
theorem q1702 : (Jvm.Cond.instanceMethod ({ cls := "ObjectForgeModel", name := "target", desc := "(II)V" } : Jvm.MethodName)) ∈ lw_all := lw_g (lw_at lw_m7 144 rfl) rfl
theorem q1703 : (Jvm.Cond.code ({ cls := "ObjectForgeModel", name := "target", desc := "(II)V" } : Jvm.MethodName) prog_4_method_59_code (3 : Nat) (Option.none : Option Jvm.ClassFile.FieldType)) ∈ lw_all := lw_g (lw_at lw_m7 145 rfl) rfl
theorem q1704 : (Jvm.Cond.constantLong "ObjectForgeModel" (1126 : Nat) (7 : Int64)) ∈ lw_all := lw_g (lw_at lw_m7 146 rfl) rfl
theorem q1705 : (Jvm.Cond.constantLong "ObjectForgeModel" (1128 : Nat) (1048575 : Int64)) ∈ lw_all := lw_g (lw_at lw_m7 147 rfl) rfl
theorem q1706 : (Jvm.Cond.methodLink "ObjectForgeModel" (1078 : Nat) ({ cls := "ObjectForgeModel", name := "fractions", desc := "(II)V" } : Jvm.MethodName)) ∈ lw_all := lw_g (lw_at lw_m7 148 rfl) rfl
theorem q1707 : (Jvm.Cond.privateMethod ({ cls := "ObjectForgeModel", name := "fractions", desc := "(II)V" } : Jvm.MethodName)) ∈ lw_tbl := lw_at lw_m7 149 rfl
theorem q1708 : (Jvm.Cond.instanceMethod ({ cls := "ObjectForgeModel", name := "fractions", desc := "(II)V" } : Jvm.MethodName)) ∈ lw_all := lw_g (lw_at lw_m7 150 rfl) rfl
theorem q1709 : (Jvm.Cond.code ({ cls := "ObjectForgeModel", name := "fractions", desc := "(II)V" } : Jvm.MethodName) prog_4_method_61_code (7 : Nat) (Option.none : Option Jvm.ClassFile.FieldType)) ∈ lw_all := lw_g (lw_at lw_m7 151 rfl) rfl
theorem q1710 : (Jvm.Cond.methodLink "ObjectForgeModel" (1081 : Nat) ({ cls := "ObjectForgeModel", name := "written", desc := "(II)V" } : Jvm.MethodName)) ∈ lw_all := lw_g (lw_at lw_m7 152 rfl) rfl
theorem q1711 : (Jvm.Cond.privateMethod ({ cls := "ObjectForgeModel", name := "written", desc := "(II)V" } : Jvm.MethodName)) ∈ lw_tbl := lw_at lw_m7 153 rfl
theorem q1712 : (Jvm.Cond.instanceMethod ({ cls := "ObjectForgeModel", name := "written", desc := "(II)V" } : Jvm.MethodName)) ∈ lw_all := lw_g (lw_at lw_m7 154 rfl) rfl
theorem q1713 : (Jvm.Cond.code ({ cls := "ObjectForgeModel", name := "written", desc := "(II)V" } : Jvm.MethodName) prog_4_method_62_code (5 : Nat) (Option.none : Option Jvm.ClassFile.FieldType)) ∈ lw_all := lw_g (lw_at lw_m7 155 rfl) rfl
theorem q1714 : (Jvm.Cond.methodLink "ObjectForgeModel" (1084 : Nat) ({ cls := "ObjectForgeModel", name := "longer", desc := "(II)V" } : Jvm.MethodName)) ∈ lw_all := lw_g (lw_at lw_m7 156 rfl) rfl
theorem q1715 : (Jvm.Cond.privateMethod ({ cls := "ObjectForgeModel", name := "longer", desc := "(II)V" } : Jvm.MethodName)) ∈ lw_tbl := lw_at lw_m7 157 rfl
theorem q1716 : (Jvm.Cond.instanceMethod ({ cls := "ObjectForgeModel", name := "longer", desc := "(II)V" } : Jvm.MethodName)) ∈ lw_all := lw_g (lw_at lw_m7 158 rfl) rfl
theorem q1717 : (Jvm.Cond.code ({ cls := "ObjectForgeModel", name := "longer", desc := "(II)V" } : Jvm.MethodName) prog_4_method_63_code (6 : Nat) (Option.none : Option Jvm.ClassFile.FieldType)) ∈ lw_all := lw_g (lw_at lw_m7 159 rfl) rfl
theorem q1718 : (Jvm.Cond.methodLink "ObjectForgeModel" (1130 : Nat) ({ cls := "ObjectForgeModel", name := "loads", desc := "(II)V" } : Jvm.MethodName)) ∈ lw_all := lw_g (lw_at lw_m7 160 rfl) rfl
theorem q1719 : (Jvm.Cond.privateMethod ({ cls := "ObjectForgeModel", name := "loads", desc := "(II)V" } : Jvm.MethodName)) ∈ lw_tbl := lw_at lw_m7 161 rfl
theorem q1720 : (Jvm.Cond.instanceMethod ({ cls := "ObjectForgeModel", name := "loads", desc := "(II)V" } : Jvm.MethodName)) ∈ lw_all := lw_g (lw_at lw_m7 162 rfl) rfl
theorem q1721 : (Jvm.Cond.code ({ cls := "ObjectForgeModel", name := "loads", desc := "(II)V" } : Jvm.MethodName) prog_4_method_64_code (3 : Nat) (Option.none : Option Jvm.ClassFile.FieldType)) ∈ lw_all := lw_g (lw_at lw_m7 163 rfl) rfl
theorem q1722 : (Jvm.Cond.constant "ObjectForgeModel" (1134 : Nat) (603979776 : Int32)) ∈ lw_all := lw_g (lw_at lw_m7 164 rfl) rfl
theorem q1723 : (Jvm.Cond.constant "ObjectForgeModel" (1138 : Nat) (872415232 : Int32)) ∈ lw_all := lw_g (lw_at lw_m7 165 rfl) rfl
theorem q1724 : (Jvm.Cond.constant "ObjectForgeModel" (1133 : Nat) (1006632960 : Int32)) ∈ lw_all := lw_g (lw_at lw_m7 166 rfl) rfl
theorem q1725 : (Jvm.Cond.methodLink "ObjectForgeModel" (1135 : Nat) ({ cls := "ObjectForgeModel", name := "divides", desc := "(III)V" } : Jvm.MethodName)) ∈ lw_all := lw_g (lw_at lw_m7 167 rfl) rfl
theorem q1726 : (Jvm.Cond.privateMethod ({ cls := "ObjectForgeModel", name := "divides", desc := "(III)V" } : Jvm.MethodName)) ∈ lw_tbl := lw_at lw_m7 168 rfl
theorem q1727 : (Jvm.Cond.instanceMethod ({ cls := "ObjectForgeModel", name := "divides", desc := "(III)V" } : Jvm.MethodName)) ∈ lw_all := lw_g (lw_at lw_m7 169 rfl) rfl
theorem q1728 : (Jvm.Cond.code ({ cls := "ObjectForgeModel", name := "divides", desc := "(III)V" } : Jvm.MethodName) prog_4_method_65_code (6 : Nat) (Option.none : Option Jvm.ClassFile.FieldType)) ∈ lw_all := lw_g (lw_at lw_m7 170 rfl) rfl
theorem q1729 : (Jvm.Cond.methodLink "ObjectForgeModel" (1087 : Nat) ({ cls := "ObjectForgeModel", name := "ends", desc := "()V" } : Jvm.MethodName)) ∈ lw_all := lw_g (lw_at lw_m7 171 rfl) rfl
theorem q1730 : (Jvm.Cond.privateMethod ({ cls := "ObjectForgeModel", name := "ends", desc := "()V" } : Jvm.MethodName)) ∈ lw_tbl := lw_at lw_m7 172 rfl
theorem q1731 : (Jvm.Cond.instanceMethod ({ cls := "ObjectForgeModel", name := "ends", desc := "()V" } : Jvm.MethodName)) ∈ lw_all := lw_g (lw_at lw_m7 173 rfl) rfl
theorem q1732 : (Jvm.Cond.code ({ cls := "ObjectForgeModel", name := "ends", desc := "()V" } : Jvm.MethodName) prog_4_method_53_code (1 : Nat) (Option.none : Option Jvm.ClassFile.FieldType)) ∈ lw_all := lw_g (lw_at lw_m7 174 rfl) rfl
theorem q1733 : (Jvm.Cond.methodLink "ObjectForgeModel" (1164 : Nat) ({ cls := "ObjectForgeModel", name := "directive", desc := "(I)V" } : Jvm.MethodName)) ∈ lw_all := lw_g (lw_at lw_m7 175 rfl) rfl
theorem q1734 : (Jvm.Cond.privateMethod ({ cls := "ObjectForgeModel", name := "directive", desc := "(I)V" } : Jvm.MethodName)) ∈ lw_tbl := lw_at lw_m7 176 rfl
theorem q1735 : (Jvm.Cond.instanceMethod ({ cls := "ObjectForgeModel", name := "directive", desc := "(I)V" } : Jvm.MethodName)) ∈ lw_all := lw_g (lw_at lw_m7 177 rfl) rfl
theorem q1736 : (Jvm.Cond.code ({ cls := "ObjectForgeModel", name := "directive", desc := "(I)V" } : Jvm.MethodName) prog_4_method_66_code (3 : Nat) (Option.none : Option Jvm.ClassFile.FieldType)) ∈ lw_all := lw_g (lw_at lw_m7 178 rfl) rfl
theorem q1737 : (Jvm.Cond.methodLink "ObjectForgeModel" (1139 : Nat) ({ cls := "ObjectForgeModel", name := "item", desc := "(I)V" } : Jvm.MethodName)) ∈ lw_all := lw_g (lw_at lw_m7 179 rfl) rfl
theorem q1738 : (Jvm.Cond.privateMethod ({ cls := "ObjectForgeModel", name := "item", desc := "(I)V" } : Jvm.MethodName)) ∈ lw_tbl := lw_at lw_m7 180 rfl
theorem q1739 : (Jvm.Cond.instanceMethod ({ cls := "ObjectForgeModel", name := "item", desc := "(I)V" } : Jvm.MethodName)) ∈ lw_all := lw_g (lw_at lw_m7 181 rfl) rfl
theorem q1740 : (Jvm.Cond.code ({ cls := "ObjectForgeModel", name := "item", desc := "(I)V" } : Jvm.MethodName) prog_4_method_67_code (5 : Nat) (Option.none : Option Jvm.ClassFile.FieldType)) ∈ lw_all := lw_g (lw_at lw_m7 182 rfl) rfl
theorem q1741 : (Jvm.Cond.constantLong "ObjectForgeModel" (1142 : Nat) (-128 : Int64)) ∈ lw_all := lw_g (lw_at lw_m7 183 rfl) rfl
theorem q1742 : (Jvm.Cond.constantLong "ObjectForgeModel" (1144 : Nat) (255 : Int64)) ∈ lw_all := lw_g (lw_at lw_m7 184 rfl) rfl
theorem q1743 : (Jvm.Cond.constantLong "ObjectForgeModel" (1146 : Nat) (4096 : Int64)) ∈ lw_all := lw_g (lw_at lw_m7 185 rfl) rfl
theorem q1744 : (Jvm.Cond.constantLong "ObjectForgeModel" (1148 : Nat) (3 : Int64)) ∈ lw_all := lw_g (lw_at lw_m7 186 rfl) rfl
theorem q1745 : (Jvm.Cond.methodLink "ObjectForgeModel" (1172 : Nat) ({ cls := "ObjectForgeModel", name := "settle", desc := "()V" } : Jvm.MethodName)) ∈ lw_all := lw_g (lw_at lw_m7 187 rfl) rfl
theorem q1746 : (Jvm.Cond.privateMethod ({ cls := "ObjectForgeModel", name := "settle", desc := "()V" } : Jvm.MethodName)) ∈ lw_tbl := lw_at lw_m7 188 rfl
theorem q1747 : (Jvm.Cond.instanceMethod ({ cls := "ObjectForgeModel", name := "settle", desc := "()V" } : Jvm.MethodName)) ∈ lw_all := lw_g (lw_at lw_m7 189 rfl) rfl
theorem q1748 : (Jvm.Cond.code ({ cls := "ObjectForgeModel", name := "settle", desc := "()V" } : Jvm.MethodName) prog_4_method_71_code (9 : Nat) (Option.none : Option Jvm.ClassFile.FieldType)) ∈ lw_all := lw_g (lw_at lw_m7 190 rfl) rfl
theorem q1749 : (Jvm.Cond.constantLong "ObjectForgeModel" (1167 : Nat) (4 : Int64)) ∈ lw_all := lw_g (lw_at lw_m7 191 rfl) rfl
theorem q1751 : (Jvm.Cond.instanceMethod ({ cls := "ObjectForgeModel", name := "fault", desc := "(I)I" } : Jvm.MethodName)) ∈ lw_all := lw_g (lw_at lw_m7 193 rfl) rfl
theorem q1752 : (Jvm.Cond.selects "ObjectForgeModel" ({ cls := "ObjectForgeModel", name := "fault", desc := "(I)I" } : Jvm.MethodName) ({ cls := "ObjectForgeModel", name := "fault", desc := "(I)I" } : Jvm.MethodName)) ∈ lw_all := lw_g (lw_at lw_m7 194 rfl) rfl
theorem q1753 : (Jvm.Cond.code ({ cls := "ObjectForgeModel", name := "fault", desc := "(I)I" } : Jvm.MethodName) prog_4_method_73_code (2 : Nat) (Option.some Jvm.ClassFile.FieldType.int)) ∈ lw_all := lw_g (lw_at lw_m7 195 rfl) rfl
theorem q1755 : (Jvm.Cond.instanceMethod ({ cls := "ObjectForgeModel", name := "size", desc := "(II)I" } : Jvm.MethodName)) ∈ lw_all := lw_g (lw_at lw_m7 197 rfl) rfl
theorem q1756 : (Jvm.Cond.selects "ObjectForgeModel" ({ cls := "ObjectForgeModel", name := "size", desc := "(II)I" } : Jvm.MethodName) ({ cls := "ObjectForgeModel", name := "size", desc := "(II)I" } : Jvm.MethodName)) ∈ lw_all := lw_g (lw_at lw_m7 198 rfl) rfl
theorem q1757 : (Jvm.Cond.code ({ cls := "ObjectForgeModel", name := "size", desc := "(II)I" } : Jvm.MethodName) prog_4_method_75_code (3 : Nat) (Option.some Jvm.ClassFile.FieldType.int)) ∈ lw_all := lw_g (lw_at lw_m7 199 rfl) rfl
theorem q1758 : (Jvm.Cond.methodLink "ObjectForgeModel" (1181 : Nat) ({ cls := "ObjectForgeModel", name := "within", desc := "(II)Z" } : Jvm.MethodName)) ∈ lw_all := lw_g (lw_at lw_m7 200 rfl) rfl
theorem q1759 : (Jvm.Cond.static ({ cls := "ObjectForgeModel", name := "within", desc := "(II)Z" } : Jvm.MethodName)) ∈ lw_all := lw_g (lw_at lw_m7 201 rfl) rfl
theorem q1760 : (Jvm.Cond.code ({ cls := "ObjectForgeModel", name := "within", desc := "(II)Z" } : Jvm.MethodName) prog_4_method_74_code (2 : Nat) (Option.some Jvm.ClassFile.FieldType.boolean)) ∈ lw_all := lw_g (lw_at lw_m7 202 rfl) rfl
theorem q1762 : (Jvm.Cond.instanceMethod ({ cls := "ObjectForgeModel", name := "byteAt", desc := "(III)I" } : Jvm.MethodName)) ∈ lw_all := lw_g (lw_at lw_m7 204 rfl) rfl
theorem q1763 : (Jvm.Cond.selects "ObjectForgeModel" ({ cls := "ObjectForgeModel", name := "byteAt", desc := "(III)I" } : Jvm.MethodName) ({ cls := "ObjectForgeModel", name := "byteAt", desc := "(III)I" } : Jvm.MethodName)) ∈ lw_all := lw_g (lw_at lw_m7 205 rfl) rfl
theorem q1764 : (Jvm.Cond.code ({ cls := "ObjectForgeModel", name := "byteAt", desc := "(III)I" } : Jvm.MethodName) prog_4_method_76_code (4 : Nat) (Option.some Jvm.ClassFile.FieldType.int)) ∈ lw_all := lw_g (lw_at lw_m7 206 rfl) rfl
theorem q1766 : (Jvm.Cond.instanceMethod ({ cls := "ObjectForgeModel", name := "symbol", desc := "(III)I" } : Jvm.MethodName)) ∈ lw_all := lw_g (lw_at lw_m7 208 rfl) rfl
theorem q1767 : (Jvm.Cond.selects "ObjectForgeModel" ({ cls := "ObjectForgeModel", name := "symbol", desc := "(III)I" } : Jvm.MethodName) ({ cls := "ObjectForgeModel", name := "symbol", desc := "(III)I" } : Jvm.MethodName)) ∈ lw_all := lw_g (lw_at lw_m7 209 rfl) rfl
theorem q1768 : (Jvm.Cond.code ({ cls := "ObjectForgeModel", name := "symbol", desc := "(III)I" } : Jvm.MethodName) prog_4_method_77_code (5 : Nat) (Option.some Jvm.ClassFile.FieldType.int)) ∈ lw_all := lw_g (lw_at lw_m7 210 rfl) rfl
theorem q1770 : (Jvm.Cond.instanceMethod ({ cls := "ObjectForgeModel", name := "letter", desc := "(III)I" } : Jvm.MethodName)) ∈ lw_all := lw_g (lw_at lw_m7 212 rfl) rfl
theorem q1771 : (Jvm.Cond.selects "ObjectForgeModel" ({ cls := "ObjectForgeModel", name := "letter", desc := "(III)I" } : Jvm.MethodName) ({ cls := "ObjectForgeModel", name := "letter", desc := "(III)I" } : Jvm.MethodName)) ∈ lw_all := lw_g (lw_at lw_m7 213 rfl) rfl
theorem q1772 : (Jvm.Cond.code ({ cls := "ObjectForgeModel", name := "letter", desc := "(III)I" } : Jvm.MethodName) prog_4_method_78_code (9 : Nat) (Option.some Jvm.ClassFile.FieldType.int)) ∈ lw_all := lw_g (lw_at lw_m7 214 rfl) rfl
theorem q1774 : (Jvm.Cond.instanceMethod ({ cls := "ObjectForgeModel", name := "relocation", desc := "(III)I" } : Jvm.MethodName)) ∈ lw_all := lw_g (lw_at lw_m7 216 rfl) rfl
theorem q1775 : (Jvm.Cond.selects "ObjectForgeModel" ({ cls := "ObjectForgeModel", name := "relocation", desc := "(III)I" } : Jvm.MethodName) ({ cls := "ObjectForgeModel", name := "relocation", desc := "(III)I" } : Jvm.MethodName)) ∈ lw_all := lw_g (lw_at lw_m7 217 rfl) rfl
theorem q1776 : (Jvm.Cond.code ({ cls := "ObjectForgeModel", name := "relocation", desc := "(III)I" } : Jvm.MethodName) prog_4_method_79_code (5 : Nat) (Option.some Jvm.ClassFile.FieldType.int)) ∈ lw_all := lw_g (lw_at lw_m7 218 rfl) rfl
theorem q1778 : (Jvm.Cond.instanceMethod ({ cls := "ObjectForgeModel", name := "link", desc := "(I)I" } : Jvm.MethodName)) ∈ lw_all := lw_g (lw_at lw_m7 220 rfl) rfl
theorem q1779 : (Jvm.Cond.selects "ObjectForgeModel" ({ cls := "ObjectForgeModel", name := "link", desc := "(I)I" } : Jvm.MethodName) ({ cls := "ObjectForgeModel", name := "link", desc := "(I)I" } : Jvm.MethodName)) ∈ lw_all := lw_g (lw_at lw_m7 221 rfl) rfl
theorem q1780 : (Jvm.Cond.code ({ cls := "ObjectForgeModel", name := "link", desc := "(I)I" } : Jvm.MethodName) prog_4_method_85_code (7 : Nat) (Option.some Jvm.ClassFile.FieldType.int)) ∈ lw_all := lw_g (lw_at lw_m7 222 rfl) rfl
theorem q1781 : (Jvm.Cond.methodLink "ObjectForgeModel" (1195 : Nat) ({ cls := "ObjectForgeModel", name := "failed", desc := "(III)I" } : Jvm.MethodName)) ∈ lw_all := lw_g (lw_at lw_m7 223 rfl) rfl
theorem q1782 : (Jvm.Cond.privateMethod ({ cls := "ObjectForgeModel", name := "failed", desc := "(III)I" } : Jvm.MethodName)) ∈ lw_tbl := lw_at lw_m7 224 rfl
theorem q1783 : (Jvm.Cond.instanceMethod ({ cls := "ObjectForgeModel", name := "failed", desc := "(III)I" } : Jvm.MethodName)) ∈ lw_all := lw_g (lw_at lw_m7 225 rfl) rfl
theorem q1784 : (Jvm.Cond.code ({ cls := "ObjectForgeModel", name := "failed", desc := "(III)I" } : Jvm.MethodName) prog_4_method_80_code (4 : Nat) (Option.some Jvm.ClassFile.FieldType.int)) ∈ lw_all := lw_g (lw_at lw_m7 226 rfl) rfl
theorem q1785 : (Jvm.Cond.methodLink "ObjectForgeModel" (1199 : Nat) ({ cls := "ObjectForgeModel", name := "lay", desc := "()I" } : Jvm.MethodName)) ∈ lw_all := lw_g (lw_at lw_m7 227 rfl) rfl
theorem q1786 : (Jvm.Cond.privateMethod ({ cls := "ObjectForgeModel", name := "lay", desc := "()I" } : Jvm.MethodName)) ∈ lw_tbl := lw_at lw_m7 228 rfl
theorem q1787 : (Jvm.Cond.instanceMethod ({ cls := "ObjectForgeModel", name := "lay", desc := "()I" } : Jvm.MethodName)) ∈ lw_all := lw_g (lw_at lw_m7 229 rfl) rfl
theorem q1788 : (Jvm.Cond.code ({ cls := "ObjectForgeModel", name := "lay", desc := "()I" } : Jvm.MethodName) prog_4_method_81_code (4 : Nat) (Option.some Jvm.ClassFile.FieldType.int)) ∈ lw_all := lw_g (lw_at lw_m7 230 rfl) rfl
theorem q1789 : (Jvm.Cond.methodLink "ObjectForgeModel" (1202 : Nat) ({ cls := "ObjectForgeModel", name := "other", desc := "(III)I" } : Jvm.MethodName)) ∈ lw_all := lw_g (lw_at lw_m7 231 rfl) rfl
theorem q1790 : (Jvm.Cond.privateMethod ({ cls := "ObjectForgeModel", name := "other", desc := "(III)I" } : Jvm.MethodName)) ∈ lw_tbl := lw_at lw_m7 232 rfl
theorem q1791 : (Jvm.Cond.instanceMethod ({ cls := "ObjectForgeModel", name := "other", desc := "(III)I" } : Jvm.MethodName)) ∈ lw_all := lw_g (lw_at lw_m7 233 rfl) rfl
theorem q1792 : (Jvm.Cond.code ({ cls := "ObjectForgeModel", name := "other", desc := "(III)I" } : Jvm.MethodName) prog_4_method_83_code (6 : Nat) (Option.some Jvm.ClassFile.FieldType.int)) ∈ lw_all := lw_g (lw_at lw_m7 234 rfl) rfl
theorem q1793 : (Jvm.Cond.methodLink "ObjectForgeModel" (1185 : Nat) ({ cls := "ObjectForgeModel", name := "sameName", desc := "(II)Z" } : Jvm.MethodName)) ∈ lw_all := lw_g (lw_at lw_m7 235 rfl) rfl
theorem q1794 : (Jvm.Cond.privateMethod ({ cls := "ObjectForgeModel", name := "sameName", desc := "(II)Z" } : Jvm.MethodName)) ∈ lw_tbl := lw_at lw_m7 236 rfl
theorem q1795 : (Jvm.Cond.instanceMethod ({ cls := "ObjectForgeModel", name := "sameName", desc := "(II)Z" } : Jvm.MethodName)) ∈ lw_all := lw_g (lw_at lw_m7 237 rfl) rfl
theorem q1796 : (Jvm.Cond.code ({ cls := "ObjectForgeModel", name := "sameName", desc := "(II)Z" } : Jvm.MethodName) prog_4_method_82_code (3 : Nat) (Option.some Jvm.ClassFile.FieldType.boolean)) ∈ lw_all := lw_g (lw_at lw_m7 238 rfl) rfl
theorem q1797 : (Jvm.Cond.methodLink "ObjectForgeModel" (1205 : Nat) ({ cls := "ObjectForgeModel", name := "placeOf", desc := "(I)I" } : Jvm.MethodName)) ∈ lw_all := lw_g (lw_at lw_m7 239 rfl) rfl
theorem q1798 : (Jvm.Cond.privateMethod ({ cls := "ObjectForgeModel", name := "placeOf", desc := "(I)I" } : Jvm.MethodName)) ∈ lw_tbl := lw_at lw_m8 0 rfl
theorem q1799 : (Jvm.Cond.instanceMethod ({ cls := "ObjectForgeModel", name := "placeOf", desc := "(I)I" } : Jvm.MethodName)) ∈ lw_all := lw_g (lw_at lw_m8 1 rfl) rfl
theorem q1800 : (Jvm.Cond.code ({ cls := "ObjectForgeModel", name := "placeOf", desc := "(I)I" } : Jvm.MethodName) prog_4_method_84_code (2 : Nat) (Option.some Jvm.ClassFile.FieldType.int)) ∈ lw_all := lw_g (lw_at lw_m8 2 rfl) rfl
theorem q1801 : (Jvm.Cond.methodLink "ObjectForgeModel" (1208 : Nat) ({ cls := "ObjectForgeModel", name := "done", desc := "(II)Z" } : Jvm.MethodName)) ∈ lw_all := lw_g (lw_at lw_m8 3 rfl) rfl
theorem q1802 : (Jvm.Cond.privateMethod ({ cls := "ObjectForgeModel", name := "done", desc := "(II)Z" } : Jvm.MethodName)) ∈ lw_tbl := lw_at lw_m8 4 rfl
theorem q1803 : (Jvm.Cond.instanceMethod ({ cls := "ObjectForgeModel", name := "done", desc := "(II)Z" } : Jvm.MethodName)) ∈ lw_all := lw_g (lw_at lw_m8 5 rfl) rfl
theorem q1804 : (Jvm.Cond.code ({ cls := "ObjectForgeModel", name := "done", desc := "(II)Z" } : Jvm.MethodName) prog_4_method_87_code (10 : Nat) (Option.some Jvm.ClassFile.FieldType.boolean)) ∈ lw_all := lw_g (lw_at lw_m8 6 rfl) rfl
theorem q1805 : (Jvm.Cond.methodLink "ObjectForgeModel" (1217 : Nat) ({ cls := "ObjectForgeModel", name := "wordIn", desc := "(I)I" } : Jvm.MethodName)) ∈ lw_all := lw_g (lw_at lw_m8 7 rfl) rfl
theorem q1806 : (Jvm.Cond.privateMethod ({ cls := "ObjectForgeModel", name := "wordIn", desc := "(I)I" } : Jvm.MethodName)) ∈ lw_tbl := lw_at lw_m8 8 rfl
theorem q1807 : (Jvm.Cond.instanceMethod ({ cls := "ObjectForgeModel", name := "wordIn", desc := "(I)I" } : Jvm.MethodName)) ∈ lw_all := lw_g (lw_at lw_m8 9 rfl) rfl
theorem q1808 : (Jvm.Cond.code ({ cls := "ObjectForgeModel", name := "wordIn", desc := "(I)I" } : Jvm.MethodName) prog_4_method_86_code (2 : Nat) (Option.some Jvm.ClassFile.FieldType.int)) ∈ lw_all := lw_g (lw_at lw_m8 10 rfl) rfl
theorem q1809 : (Jvm.Cond.constant "ObjectForgeModel" (1220 : Nat) (-65536 : Int32)) ∈ lw_all := lw_g (lw_at lw_m8 11 rfl) rfl
theorem q1810 : (Jvm.Cond.constant "ObjectForgeModel" (1221 : Nat) (-67108864 : Int32)) ∈ lw_all := lw_g (lw_at lw_m8 12 rfl) rfl
theorem q1811 : (Jvm.Cond.constant "ObjectForgeModel" (1222 : Nat) (67108863 : Int32)) ∈ lw_all := lw_g (lw_at lw_m8 13 rfl) rfl
theorem q1813 : (Jvm.Cond.instanceMethod ({ cls := "ObjectForgeModel", name := "word", desc := "(I)I" } : Jvm.MethodName)) ∈ lw_all := lw_g (lw_at lw_m8 15 rfl) rfl
theorem q1814 : (Jvm.Cond.selects "ObjectForgeModel" ({ cls := "ObjectForgeModel", name := "word", desc := "(I)I" } : Jvm.MethodName) ({ cls := "ObjectForgeModel", name := "word", desc := "(I)I" } : Jvm.MethodName)) ∈ lw_all := lw_g (lw_at lw_m8 16 rfl) rfl
theorem q1815 : (Jvm.Cond.code ({ cls := "ObjectForgeModel", name := "word", desc := "(I)I" } : Jvm.MethodName) prog_4_method_88_code (3 : Nat) (Option.some Jvm.ClassFile.FieldType.int)) ∈ lw_all := lw_g (lw_at lw_m8 17 rfl) rfl
theorem q1817 : (Jvm.Cond.instanceMethod ({ cls := "ObjectForgeModel", name := "address", desc := "(II)I" } : Jvm.MethodName)) ∈ lw_all := lw_g (lw_at lw_m8 19 rfl) rfl
theorem q1818 : (Jvm.Cond.selects "ObjectForgeModel" ({ cls := "ObjectForgeModel", name := "address", desc := "(II)I" } : Jvm.MethodName) ({ cls := "ObjectForgeModel", name := "address", desc := "(II)I" } : Jvm.MethodName)) ∈ lw_all := lw_g (lw_at lw_m8 20 rfl) rfl
theorem q1819 : (Jvm.Cond.code ({ cls := "ObjectForgeModel", name := "address", desc := "(II)I" } : Jvm.MethodName) prog_4_method_89_code (3 : Nat) (Option.some Jvm.ClassFile.FieldType.int)) ∈ lw_all := lw_g (lw_at lw_m8 21 rfl) rfl
theorem q1821 : (Jvm.Cond.instanceMethod ({ cls := "ObjectForgeModel", name := "clear", desc := "()I" } : Jvm.MethodName)) ∈ lw_all := lw_g (lw_at lw_m8 23 rfl) rfl
theorem q1822 : (Jvm.Cond.selects "ObjectForgeModel" ({ cls := "ObjectForgeModel", name := "clear", desc := "()I" } : Jvm.MethodName) ({ cls := "ObjectForgeModel", name := "clear", desc := "()I" } : Jvm.MethodName)) ∈ lw_all := lw_g (lw_at lw_m8 24 rfl) rfl
theorem q1823 : (Jvm.Cond.code ({ cls := "ObjectForgeModel", name := "clear", desc := "()I" } : Jvm.MethodName) prog_4_method_90_code (2 : Nat) (Option.some Jvm.ClassFile.FieldType.int)) ∈ lw_all := lw_g (lw_at lw_m8 25 rfl) rfl
theorem q1825 : (Jvm.Cond.instanceMethod ({ cls := "ObjectForgeModel", name := "count", desc := "(II)I" } : Jvm.MethodName)) ∈ lw_all := lw_g (lw_at lw_m8 27 rfl) rfl
theorem q1826 : (Jvm.Cond.selects "ObjectForgeModel" ({ cls := "ObjectForgeModel", name := "count", desc := "(II)I" } : Jvm.MethodName) ({ cls := "ObjectForgeModel", name := "count", desc := "(II)I" } : Jvm.MethodName)) ∈ lw_all := lw_g (lw_at lw_m8 28 rfl) rfl
theorem q1827 : (Jvm.Cond.code ({ cls := "ObjectForgeModel", name := "count", desc := "(II)I" } : Jvm.MethodName) prog_4_method_91_code (3 : Nat) (Option.some Jvm.ClassFile.FieldType.int)) ∈ lw_all := lw_g (lw_at lw_m8 29 rfl) rfl
theorem in_X2 : ∀ w ∈ wsX20, w ∈ lw_all := lw_in wsX20 [973, 975, 977, 979, 981, 983, 985, 987, 989, 991, 993, 995, 997, 999, 1001, 1003, 1005, 1007, 1009, 1011, 1013, 1015, 1017, 1019, 1021, 1023, 1025, 1027, 1029, 1031, 1033, 1035, 1037, 1039, 1041, 1043, 1045, 1047, 1049, 1051, 1053, 1055, 1057, 1059, 1061, 1063, 1065, 1067, 1069, 1071, 1073, 1075] (by decide +kernel) (by decide +kernel)
