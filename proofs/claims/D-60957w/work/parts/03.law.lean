/-! ObjectForge$Unit -/
set_option maxRecDepth 100000
def RX3 : String := "ObjectForge$Unit"
def TX3 : u_T := fun k => match k with
  | 0 => ("ObjectForge$Unit", "text", "[B", true)
  | 1 => ("ObjectForge$Unit", "data", "[B", true)
  | 2 => ("ObjectForge$Unit", "sizes", "[I", true)
  | 3 => ("ObjectForge$Unit", "letters", "[B", true)
  | 4 => ("ObjectForge$Unit", "lengths", "[I", true)
  | 5 => ("ObjectForge$Unit", "sections", "[I", true)
  | 6 => ("ObjectForge$Unit", "values", "[I", true)
  | 7 => ("ObjectForge$Unit", "global", "[Z", true)
  | 8 => ("ObjectForge$Unit", "addresses", "[I", true)
  | 9 => ("ObjectForge$Unit", "begins", "[I", true)
  | 10 => ("ObjectForge$Unit", "symbols", "I", false)
  | 11 => ("ObjectForge$Unit", "where", "[I", true)
  | 12 => ("ObjectForge$Unit", "place", "[I", true)
  | 13 => ("ObjectForge$Unit", "kind", "[I", true)
  | 14 => ("ObjectForge$Unit", "symbol", "[I", true)
  | 15 => ("ObjectForge$Unit", "addend", "[I", true)
  | 16 => ("ObjectForge$Unit", "line", "[I", true)
  | _ => ("ObjectForge$Unit", "relocations", "I", false)
def tyX3 : Nat → FieldType := fun k => match k with
  | 0 => .array .byte
  | 1 => .array .byte
  | 2 => .array .int
  | 3 => .array .byte
  | 4 => .array .int
  | 5 => .array .int
  | 6 => .array .int
  | 7 => .array .boolean
  | 8 => .array .int
  | 9 => .array .int
  | 10 => .int
  | 11 => .array .int
  | 12 => .array .int
  | 13 => .array .int
  | 14 => .array .int
  | 15 => .array .int
  | 16 => .array .int
  | _ => .int
abbrev wsX30 : List Cond := u_ws RX3 TX3 18
set_option maxRecDepth 100000 in
theorem nmX3 : ∀ a, a < 18 → ∀ b, b < 18 → a ≠ b → (TX3 a).2.1 ≠ (TX3 b).2.1 := by decide +kernel
set_option maxRecDepth 100000 in
theorem tyX3_ok : ∀ k, k < 18 → parseFieldDescriptor (TX3 k).2.2.1 = some (tyX3 k) := by decide +kernel
abbrev cX3_init : ByteArray := prog_2_method_1_code
def yX3_init : MethodName := ⟨RX3, "<init>", "()V"⟩
def dkwX3_init_5 : List UInt8 := [181, 0, 53, 42, 17, 1, 0, 188, 10, 181, 0, 56, 42, 17, 1, 0, 188, 10, 181, 0, 59, 177]
abbrev dktX3_init_5 : List UInt8 := dkwX3_init_5 ++ []
def dkwX3_init_4 : List UInt8 := [17, 1, 0, 188, 10, 181, 0, 47, 42, 17, 1, 0, 188, 10, 181, 0, 50, 42, 17, 1, 0, 188, 10]
abbrev dktX3_init_4 : List UInt8 := dkwX3_init_4 ++ dktX3_init_5
def dkwX3_init_3 : List UInt8 := [16, 64, 188, 10, 181, 0, 38, 42, 6, 188, 10, 181, 0, 41, 42, 17, 1, 0, 188, 10, 181, 0, 44, 42]
abbrev dktX3_init_3 : List UInt8 := dkwX3_init_3 ++ dktX3_init_4
def dkwX3_init_2 : List UInt8 := [16, 64, 188, 10, 181, 0, 28, 42, 16, 64, 188, 10, 181, 0, 31, 42, 16, 64, 188, 4, 181, 0, 34, 42]
abbrev dktX3_init_2 : List UInt8 := dkwX3_init_2 ++ dktX3_init_3
def dkwX3_init_1 : List UInt8 := [188, 10, 181, 0, 18, 42, 17, 6, 0, 188, 8, 181, 0, 22, 42, 16, 64, 188, 10, 181, 0, 25, 42]
abbrev dktX3_init_1 : List UInt8 := dkwX3_init_1 ++ dktX3_init_2
def dkwX3_init_0 : List UInt8 := [42, 183, 0, 3, 42, 17, 16, 0, 188, 8, 181, 0, 9, 42, 17, 16, 0, 188, 8, 181, 0, 15, 42, 6]
abbrev dktX3_init_0 : List UInt8 := dkwX3_init_0 ++ dktX3_init_1
theorem dksX3_init_0 : cX3_init.data.toList.drop 0 = dktX3_init_0 := by decide +kernel
theorem dksX3_init_1 : cX3_init.data.toList.drop 24 = dktX3_init_1 := dk_seg dksX3_init_0 24 rfl rfl
theorem dksX3_init_2 : cX3_init.data.toList.drop 47 = dktX3_init_2 := dk_seg dksX3_init_1 23 rfl rfl
theorem dksX3_init_3 : cX3_init.data.toList.drop 71 = dktX3_init_3 := dk_seg dksX3_init_2 24 rfl rfl
theorem dksX3_init_4 : cX3_init.data.toList.drop 95 = dktX3_init_4 := dk_seg dksX3_init_3 24 rfl rfl
theorem dksX3_init_5 : cX3_init.data.toList.drop 118 = dktX3_init_5 := dk_seg dksX3_init_4 23 rfl rfl
theorem dX3_init_0 : decode cX3_init 0 = .ok (.aload_n 0, 1) := dk_42 (dk_at dksX3_init_0 0 rfl rfl)
theorem dX3_init_1 : decode cX3_init 1 = .ok (.invokespecial 3, 3) := dk_183 0 3 (dk_at dksX3_init_0 1 rfl rfl)
theorem dX3_init_4 : decode cX3_init 4 = .ok (.aload_n 0, 1) := dk_42 (dk_at dksX3_init_0 4 rfl rfl)
theorem dX3_init_5 : decode cX3_init 5 = .ok (.sipush 4096, 3) := dk_17 16 0 (dk_at dksX3_init_0 5 rfl rfl)
theorem dX3_init_8 : decode cX3_init 8 = .ok (.newarray .byte, 2) := dk_188_8 (dk_at dksX3_init_0 8 rfl rfl)
theorem dX3_init_10 : decode cX3_init 10 = .ok (.putfield 9, 3) := dk_181 0 9 (dk_at dksX3_init_0 10 rfl rfl)
theorem dX3_init_13 : decode cX3_init 13 = .ok (.aload_n 0, 1) := dk_42 (dk_at dksX3_init_0 13 rfl rfl)
theorem dX3_init_14 : decode cX3_init 14 = .ok (.sipush 4096, 3) := dk_17 16 0 (dk_at dksX3_init_0 14 rfl rfl)
theorem dX3_init_17 : decode cX3_init 17 = .ok (.newarray .byte, 2) := dk_188_8 (dk_at dksX3_init_0 17 rfl rfl)
theorem dX3_init_19 : decode cX3_init 19 = .ok (.putfield 15, 3) := dk_181 0 15 (dk_at dksX3_init_0 19 rfl rfl)
theorem dX3_init_22 : decode cX3_init 22 = .ok (.aload_n 0, 1) := dk_42 (dk_at dksX3_init_0 22 rfl rfl)
theorem dX3_init_23 : decode cX3_init 23 = .ok (.iconst 3, 1) := dk_6 (dk_at dksX3_init_0 23 rfl rfl)
theorem dX3_init_24 : decode cX3_init 24 = .ok (.newarray .int, 2) := dk_188_10 (dk_at dksX3_init_1 0 rfl rfl)
theorem dX3_init_26 : decode cX3_init 26 = .ok (.putfield 18, 3) := dk_181 0 18 (dk_at dksX3_init_1 2 rfl rfl)
theorem dX3_init_29 : decode cX3_init 29 = .ok (.aload_n 0, 1) := dk_42 (dk_at dksX3_init_1 5 rfl rfl)
theorem dX3_init_30 : decode cX3_init 30 = .ok (.sipush 1536, 3) := dk_17 6 0 (dk_at dksX3_init_1 6 rfl rfl)
theorem dX3_init_33 : decode cX3_init 33 = .ok (.newarray .byte, 2) := dk_188_8 (dk_at dksX3_init_1 9 rfl rfl)
theorem dX3_init_35 : decode cX3_init 35 = .ok (.putfield 22, 3) := dk_181 0 22 (dk_at dksX3_init_1 11 rfl rfl)
theorem dX3_init_38 : decode cX3_init 38 = .ok (.aload_n 0, 1) := dk_42 (dk_at dksX3_init_1 14 rfl rfl)
theorem dX3_init_39 : decode cX3_init 39 = .ok (.bipush 64, 2) := dk_16 64 (dk_at dksX3_init_1 15 rfl rfl)
theorem dX3_init_41 : decode cX3_init 41 = .ok (.newarray .int, 2) := dk_188_10 (dk_at dksX3_init_1 17 rfl rfl)
theorem dX3_init_43 : decode cX3_init 43 = .ok (.putfield 25, 3) := dk_181 0 25 (dk_at dksX3_init_1 19 rfl rfl)
theorem dX3_init_46 : decode cX3_init 46 = .ok (.aload_n 0, 1) := dk_42 (dk_at dksX3_init_1 22 rfl rfl)
theorem dX3_init_47 : decode cX3_init 47 = .ok (.bipush 64, 2) := dk_16 64 (dk_at dksX3_init_2 0 rfl rfl)
theorem dX3_init_49 : decode cX3_init 49 = .ok (.newarray .int, 2) := dk_188_10 (dk_at dksX3_init_2 2 rfl rfl)
theorem dX3_init_51 : decode cX3_init 51 = .ok (.putfield 28, 3) := dk_181 0 28 (dk_at dksX3_init_2 4 rfl rfl)
theorem dX3_init_54 : decode cX3_init 54 = .ok (.aload_n 0, 1) := dk_42 (dk_at dksX3_init_2 7 rfl rfl)
theorem dX3_init_55 : decode cX3_init 55 = .ok (.bipush 64, 2) := dk_16 64 (dk_at dksX3_init_2 8 rfl rfl)
theorem dX3_init_57 : decode cX3_init 57 = .ok (.newarray .int, 2) := dk_188_10 (dk_at dksX3_init_2 10 rfl rfl)
theorem dX3_init_59 : decode cX3_init 59 = .ok (.putfield 31, 3) := dk_181 0 31 (dk_at dksX3_init_2 12 rfl rfl)
theorem dX3_init_62 : decode cX3_init 62 = .ok (.aload_n 0, 1) := dk_42 (dk_at dksX3_init_2 15 rfl rfl)
theorem dX3_init_63 : decode cX3_init 63 = .ok (.bipush 64, 2) := dk_16 64 (dk_at dksX3_init_2 16 rfl rfl)
theorem dX3_init_65 : decode cX3_init 65 = .ok (.newarray .boolean, 2) := dk_188_4 (dk_at dksX3_init_2 18 rfl rfl)
theorem dX3_init_67 : decode cX3_init 67 = .ok (.putfield 34, 3) := dk_181 0 34 (dk_at dksX3_init_2 20 rfl rfl)
theorem dX3_init_70 : decode cX3_init 70 = .ok (.aload_n 0, 1) := dk_42 (dk_at dksX3_init_2 23 rfl rfl)
theorem dX3_init_71 : decode cX3_init 71 = .ok (.bipush 64, 2) := dk_16 64 (dk_at dksX3_init_3 0 rfl rfl)
theorem dX3_init_73 : decode cX3_init 73 = .ok (.newarray .int, 2) := dk_188_10 (dk_at dksX3_init_3 2 rfl rfl)
theorem dX3_init_75 : decode cX3_init 75 = .ok (.putfield 38, 3) := dk_181 0 38 (dk_at dksX3_init_3 4 rfl rfl)
theorem dX3_init_78 : decode cX3_init 78 = .ok (.aload_n 0, 1) := dk_42 (dk_at dksX3_init_3 7 rfl rfl)
theorem dX3_init_79 : decode cX3_init 79 = .ok (.iconst 3, 1) := dk_6 (dk_at dksX3_init_3 8 rfl rfl)
theorem dX3_init_80 : decode cX3_init 80 = .ok (.newarray .int, 2) := dk_188_10 (dk_at dksX3_init_3 9 rfl rfl)
theorem dX3_init_82 : decode cX3_init 82 = .ok (.putfield 41, 3) := dk_181 0 41 (dk_at dksX3_init_3 11 rfl rfl)
theorem dX3_init_85 : decode cX3_init 85 = .ok (.aload_n 0, 1) := dk_42 (dk_at dksX3_init_3 14 rfl rfl)
theorem dX3_init_86 : decode cX3_init 86 = .ok (.sipush 256, 3) := dk_17 1 0 (dk_at dksX3_init_3 15 rfl rfl)
theorem dX3_init_89 : decode cX3_init 89 = .ok (.newarray .int, 2) := dk_188_10 (dk_at dksX3_init_3 18 rfl rfl)
theorem dX3_init_91 : decode cX3_init 91 = .ok (.putfield 44, 3) := dk_181 0 44 (dk_at dksX3_init_3 20 rfl rfl)
theorem dX3_init_94 : decode cX3_init 94 = .ok (.aload_n 0, 1) := dk_42 (dk_at dksX3_init_3 23 rfl rfl)
theorem dX3_init_95 : decode cX3_init 95 = .ok (.sipush 256, 3) := dk_17 1 0 (dk_at dksX3_init_4 0 rfl rfl)
theorem dX3_init_98 : decode cX3_init 98 = .ok (.newarray .int, 2) := dk_188_10 (dk_at dksX3_init_4 3 rfl rfl)
theorem dX3_init_100 : decode cX3_init 100 = .ok (.putfield 47, 3) := dk_181 0 47 (dk_at dksX3_init_4 5 rfl rfl)
theorem dX3_init_103 : decode cX3_init 103 = .ok (.aload_n 0, 1) := dk_42 (dk_at dksX3_init_4 8 rfl rfl)
theorem dX3_init_104 : decode cX3_init 104 = .ok (.sipush 256, 3) := dk_17 1 0 (dk_at dksX3_init_4 9 rfl rfl)
theorem dX3_init_107 : decode cX3_init 107 = .ok (.newarray .int, 2) := dk_188_10 (dk_at dksX3_init_4 12 rfl rfl)
theorem dX3_init_109 : decode cX3_init 109 = .ok (.putfield 50, 3) := dk_181 0 50 (dk_at dksX3_init_4 14 rfl rfl)
theorem dX3_init_112 : decode cX3_init 112 = .ok (.aload_n 0, 1) := dk_42 (dk_at dksX3_init_4 17 rfl rfl)
theorem dX3_init_113 : decode cX3_init 113 = .ok (.sipush 256, 3) := dk_17 1 0 (dk_at dksX3_init_4 18 rfl rfl)
theorem dX3_init_116 : decode cX3_init 116 = .ok (.newarray .int, 2) := dk_188_10 (dk_at dksX3_init_4 21 rfl rfl)
theorem dX3_init_118 : decode cX3_init 118 = .ok (.putfield 53, 3) := dk_181 0 53 (dk_at dksX3_init_5 0 rfl rfl)
theorem dX3_init_121 : decode cX3_init 121 = .ok (.aload_n 0, 1) := dk_42 (dk_at dksX3_init_5 3 rfl rfl)
theorem dX3_init_122 : decode cX3_init 122 = .ok (.sipush 256, 3) := dk_17 1 0 (dk_at dksX3_init_5 4 rfl rfl)
theorem dX3_init_125 : decode cX3_init 125 = .ok (.newarray .int, 2) := dk_188_10 (dk_at dksX3_init_5 7 rfl rfl)
theorem dX3_init_127 : decode cX3_init 127 = .ok (.putfield 56, 3) := dk_181 0 56 (dk_at dksX3_init_5 9 rfl rfl)
theorem dX3_init_130 : decode cX3_init 130 = .ok (.aload_n 0, 1) := dk_42 (dk_at dksX3_init_5 12 rfl rfl)
theorem dX3_init_131 : decode cX3_init 131 = .ok (.sipush 256, 3) := dk_17 1 0 (dk_at dksX3_init_5 13 rfl rfl)
theorem dX3_init_134 : decode cX3_init 134 = .ok (.newarray .int, 2) := dk_188_10 (dk_at dksX3_init_5 16 rfl rfl)
theorem dX3_init_136 : decode cX3_init 136 = .ok (.putfield 59, 3) := dk_181 0 59 (dk_at dksX3_init_5 18 rfl rfl)
theorem dX3_init_139 : decode cX3_init 139 = .ok (.return_, 1) := dk_177 (dk_at dksX3_init_5 21 rfl rfl)
abbrev cX3_clear : ByteArray := prog_2_method_2_code
def yX3_clear : MethodName := ⟨RX3, "clear", "()V"⟩
def dkwX3_clear_1 : List UInt8 := [181, 0, 62, 42, 3, 181, 0, 66, 177]
abbrev dktX3_clear_1 : List UInt8 := dkwX3_clear_1 ++ []
def dkwX3_clear_0 : List UInt8 := [3, 60, 27, 6, 162, 0, 16, 42, 180, 0, 18, 27, 3, 79, 132, 1, 1, 167, 255, 241, 42, 3]
abbrev dktX3_clear_0 : List UInt8 := dkwX3_clear_0 ++ dktX3_clear_1
theorem dksX3_clear_0 : cX3_clear.data.toList.drop 0 = dktX3_clear_0 := by decide +kernel
theorem dksX3_clear_1 : cX3_clear.data.toList.drop 22 = dktX3_clear_1 := dk_seg dksX3_clear_0 22 rfl rfl
theorem dX3_clear_0 : decode cX3_clear 0 = .ok (.iconst 0, 1) := dk_3 (dk_at dksX3_clear_0 0 rfl rfl)
theorem dX3_clear_1 : decode cX3_clear 1 = .ok (.istore_n 1, 1) := dk_60 (dk_at dksX3_clear_0 1 rfl rfl)
theorem dX3_clear_2 : decode cX3_clear 2 = .ok (.iload_n 1, 1) := dk_27 (dk_at dksX3_clear_0 2 rfl rfl)
theorem dX3_clear_3 : decode cX3_clear 3 = .ok (.iconst 3, 1) := dk_6 (dk_at dksX3_clear_0 3 rfl rfl)
theorem dX3_clear_4 : decode cX3_clear 4 = .ok (.if_icmp .ge 16, 3) := dk_162 0 16 (dk_at dksX3_clear_0 4 rfl rfl)
theorem dX3_clear_7 : decode cX3_clear 7 = .ok (.aload_n 0, 1) := dk_42 (dk_at dksX3_clear_0 7 rfl rfl)
theorem dX3_clear_8 : decode cX3_clear 8 = .ok (.getfield 18, 3) := dk_180 0 18 (dk_at dksX3_clear_0 8 rfl rfl)
theorem dX3_clear_11 : decode cX3_clear 11 = .ok (.iload_n 1, 1) := dk_27 (dk_at dksX3_clear_0 11 rfl rfl)
theorem dX3_clear_12 : decode cX3_clear 12 = .ok (.iconst 0, 1) := dk_3 (dk_at dksX3_clear_0 12 rfl rfl)
theorem dX3_clear_13 : decode cX3_clear 13 = .ok (.iastore, 1) := dk_79 (dk_at dksX3_clear_0 13 rfl rfl)
theorem dX3_clear_14 : decode cX3_clear 14 = .ok (.iinc 1 1, 3) := dk_132 1 1 (dk_at dksX3_clear_0 14 rfl rfl)
theorem dX3_clear_17 : decode cX3_clear 17 = .ok (.goto (-15), 3) := dk_167 255 241 (dk_at dksX3_clear_0 17 rfl rfl)
theorem dX3_clear_20 : decode cX3_clear 20 = .ok (.aload_n 0, 1) := dk_42 (dk_at dksX3_clear_0 20 rfl rfl)
theorem dX3_clear_21 : decode cX3_clear 21 = .ok (.iconst 0, 1) := dk_3 (dk_at dksX3_clear_0 21 rfl rfl)
theorem dX3_clear_22 : decode cX3_clear 22 = .ok (.putfield 62, 3) := dk_181 0 62 (dk_at dksX3_clear_1 0 rfl rfl)
theorem dX3_clear_25 : decode cX3_clear 25 = .ok (.aload_n 0, 1) := dk_42 (dk_at dksX3_clear_1 3 rfl rfl)
theorem dX3_clear_26 : decode cX3_clear 26 = .ok (.iconst 0, 1) := dk_3 (dk_at dksX3_clear_1 4 rfl rfl)
theorem dX3_clear_27 : decode cX3_clear 27 = .ok (.putfield 66, 3) := dk_181 0 66 (dk_at dksX3_clear_1 5 rfl rfl)
theorem dX3_clear_30 : decode cX3_clear 30 = .ok (.return_, 1) := dk_177 (dk_at dksX3_clear_1 8 rfl rfl)
abbrev cX3_bytes : ByteArray := prog_2_method_3_code
def yX3_bytes : MethodName := ⟨RX3, "bytes", "(I)[B"⟩
def dkwX3_bytes_0 : List UInt8 := [27, 154, 0, 10, 42, 180, 0, 9, 167, 0, 7, 42, 180, 0, 15, 176]
abbrev dktX3_bytes_0 : List UInt8 := dkwX3_bytes_0 ++ []
theorem dksX3_bytes_0 : cX3_bytes.data.toList.drop 0 = dktX3_bytes_0 := by decide +kernel
theorem dX3_bytes_0 : decode cX3_bytes 0 = .ok (.iload_n 1, 1) := dk_27 (dk_at dksX3_bytes_0 0 rfl rfl)
theorem dX3_bytes_1 : decode cX3_bytes 1 = .ok (.ifCond .ne 10, 3) := dk_154 0 10 (dk_at dksX3_bytes_0 1 rfl rfl)
theorem dX3_bytes_4 : decode cX3_bytes 4 = .ok (.aload_n 0, 1) := dk_42 (dk_at dksX3_bytes_0 4 rfl rfl)
theorem dX3_bytes_5 : decode cX3_bytes 5 = .ok (.getfield 9, 3) := dk_180 0 9 (dk_at dksX3_bytes_0 5 rfl rfl)
theorem dX3_bytes_8 : decode cX3_bytes 8 = .ok (.goto 7, 3) := dk_167 0 7 (dk_at dksX3_bytes_0 8 rfl rfl)
theorem dX3_bytes_11 : decode cX3_bytes 11 = .ok (.aload_n 0, 1) := dk_42 (dk_at dksX3_bytes_0 11 rfl rfl)
theorem dX3_bytes_12 : decode cX3_bytes 12 = .ok (.getfield 15, 3) := dk_180 0 15 (dk_at dksX3_bytes_0 12 rfl rfl)
theorem dX3_bytes_15 : decode cX3_bytes 15 = .ok (.areturn, 1) := dk_176 (dk_at dksX3_bytes_0 15 rfl rfl)
abbrev cX3_isOpen : ByteArray := prog_2_method_7_code
def yX3_isOpen : MethodName := ⟨RX3, "isOpen", "(I)Z"⟩
def dkwX3_isOpen_0 : List UInt8 := [42, 180, 0, 28, 27, 46, 2, 160, 0, 7, 4, 167, 0, 4, 3, 172]
abbrev dktX3_isOpen_0 : List UInt8 := dkwX3_isOpen_0 ++ []
theorem dksX3_isOpen_0 : cX3_isOpen.data.toList.drop 0 = dktX3_isOpen_0 := by decide +kernel
theorem dX3_isOpen_0 : decode cX3_isOpen 0 = .ok (.aload_n 0, 1) := dk_42 (dk_at dksX3_isOpen_0 0 rfl rfl)
theorem dX3_isOpen_1 : decode cX3_isOpen 1 = .ok (.getfield 28, 3) := dk_180 0 28 (dk_at dksX3_isOpen_0 1 rfl rfl)
theorem dX3_isOpen_4 : decode cX3_isOpen 4 = .ok (.iload_n 1, 1) := dk_27 (dk_at dksX3_isOpen_0 4 rfl rfl)
theorem dX3_isOpen_5 : decode cX3_isOpen 5 = .ok (.iaload, 1) := dk_46 (dk_at dksX3_isOpen_0 5 rfl rfl)
theorem dX3_isOpen_6 : decode cX3_isOpen 6 = .ok (.iconst (-1), 1) := dk_2 (dk_at dksX3_isOpen_0 6 rfl rfl)
theorem dX3_isOpen_7 : decode cX3_isOpen 7 = .ok (.if_icmp .ne 7, 3) := dk_160 0 7 (dk_at dksX3_isOpen_0 7 rfl rfl)
theorem dX3_isOpen_10 : decode cX3_isOpen 10 = .ok (.iconst 1, 1) := dk_4 (dk_at dksX3_isOpen_0 10 rfl rfl)
theorem dX3_isOpen_11 : decode cX3_isOpen 11 = .ok (.goto 4, 3) := dk_167 0 4 (dk_at dksX3_isOpen_0 11 rfl rfl)
theorem dX3_isOpen_14 : decode cX3_isOpen 14 = .ok (.iconst 0, 1) := dk_3 (dk_at dksX3_isOpen_0 14 rfl rfl)
theorem dX3_isOpen_15 : decode cX3_isOpen 15 = .ok (.ireturn, 1) := dk_172 (dk_at dksX3_isOpen_0 15 rfl rfl)
abbrev cX3_word : ByteArray := prog_2_method_4_code
def yX3_word : MethodName := ⟨RX3, "word", "(II)I"⟩
def dkwX3_word_2 : List UInt8 := [172]
abbrev dktX3_word_2 : List UInt8 := dkwX3_word_2 ++ []
def dkwX3_word_1 : List UInt8 := [128, 45, 28, 5, 96, 51, 17, 0, 255, 126, 16, 8, 120, 128, 45, 28, 6, 96, 51, 17, 0, 255, 126, 128]
abbrev dktX3_word_1 : List UInt8 := dkwX3_word_1 ++ dktX3_word_2
def dkwX3_word_0 : List UInt8 := [42, 27, 182, 0, 69, 78, 45, 28, 51, 16, 24, 120, 45, 28, 4, 96, 51, 17, 0, 255, 126, 16, 16, 120]
abbrev dktX3_word_0 : List UInt8 := dkwX3_word_0 ++ dktX3_word_1
theorem dksX3_word_0 : cX3_word.data.toList.drop 0 = dktX3_word_0 := by decide +kernel
theorem dksX3_word_1 : cX3_word.data.toList.drop 24 = dktX3_word_1 := dk_seg dksX3_word_0 24 rfl rfl
theorem dksX3_word_2 : cX3_word.data.toList.drop 48 = dktX3_word_2 := dk_seg dksX3_word_1 24 rfl rfl
theorem dX3_word_0 : decode cX3_word 0 = .ok (.aload_n 0, 1) := dk_42 (dk_at dksX3_word_0 0 rfl rfl)
theorem dX3_word_1 : decode cX3_word 1 = .ok (.iload_n 1, 1) := dk_27 (dk_at dksX3_word_0 1 rfl rfl)
theorem dX3_word_2 : decode cX3_word 2 = .ok (.invokevirtual 69, 3) := dk_182 0 69 (dk_at dksX3_word_0 2 rfl rfl)
theorem dX3_word_5 : decode cX3_word 5 = .ok (.astore_n 3, 1) := dk_78 (dk_at dksX3_word_0 5 rfl rfl)
theorem dX3_word_6 : decode cX3_word 6 = .ok (.aload_n 3, 1) := dk_45 (dk_at dksX3_word_0 6 rfl rfl)
theorem dX3_word_7 : decode cX3_word 7 = .ok (.iload_n 2, 1) := dk_28 (dk_at dksX3_word_0 7 rfl rfl)
theorem dX3_word_8 : decode cX3_word 8 = .ok (.baload, 1) := dk_51 (dk_at dksX3_word_0 8 rfl rfl)
theorem dX3_word_9 : decode cX3_word 9 = .ok (.bipush 24, 2) := dk_16 24 (dk_at dksX3_word_0 9 rfl rfl)
theorem dX3_word_11 : decode cX3_word 11 = .ok (.ishl, 1) := dk_120 (dk_at dksX3_word_0 11 rfl rfl)
theorem dX3_word_12 : decode cX3_word 12 = .ok (.aload_n 3, 1) := dk_45 (dk_at dksX3_word_0 12 rfl rfl)
theorem dX3_word_13 : decode cX3_word 13 = .ok (.iload_n 2, 1) := dk_28 (dk_at dksX3_word_0 13 rfl rfl)
theorem dX3_word_14 : decode cX3_word 14 = .ok (.iconst 1, 1) := dk_4 (dk_at dksX3_word_0 14 rfl rfl)
theorem dX3_word_15 : decode cX3_word 15 = .ok (.iadd, 1) := dk_96 (dk_at dksX3_word_0 15 rfl rfl)
theorem dX3_word_16 : decode cX3_word 16 = .ok (.baload, 1) := dk_51 (dk_at dksX3_word_0 16 rfl rfl)
theorem dX3_word_17 : decode cX3_word 17 = .ok (.sipush 255, 3) := dk_17 0 255 (dk_at dksX3_word_0 17 rfl rfl)
theorem dX3_word_20 : decode cX3_word 20 = .ok (.iand, 1) := dk_126 (dk_at dksX3_word_0 20 rfl rfl)
theorem dX3_word_21 : decode cX3_word 21 = .ok (.bipush 16, 2) := dk_16 16 (dk_at dksX3_word_0 21 rfl rfl)
theorem dX3_word_23 : decode cX3_word 23 = .ok (.ishl, 1) := dk_120 (dk_at dksX3_word_0 23 rfl rfl)
theorem dX3_word_24 : decode cX3_word 24 = .ok (.ior, 1) := dk_128 (dk_at dksX3_word_1 0 rfl rfl)
theorem dX3_word_25 : decode cX3_word 25 = .ok (.aload_n 3, 1) := dk_45 (dk_at dksX3_word_1 1 rfl rfl)
theorem dX3_word_26 : decode cX3_word 26 = .ok (.iload_n 2, 1) := dk_28 (dk_at dksX3_word_1 2 rfl rfl)
theorem dX3_word_27 : decode cX3_word 27 = .ok (.iconst 2, 1) := dk_5 (dk_at dksX3_word_1 3 rfl rfl)
theorem dX3_word_28 : decode cX3_word 28 = .ok (.iadd, 1) := dk_96 (dk_at dksX3_word_1 4 rfl rfl)
theorem dX3_word_29 : decode cX3_word 29 = .ok (.baload, 1) := dk_51 (dk_at dksX3_word_1 5 rfl rfl)
theorem dX3_word_30 : decode cX3_word 30 = .ok (.sipush 255, 3) := dk_17 0 255 (dk_at dksX3_word_1 6 rfl rfl)
theorem dX3_word_33 : decode cX3_word 33 = .ok (.iand, 1) := dk_126 (dk_at dksX3_word_1 9 rfl rfl)
theorem dX3_word_34 : decode cX3_word 34 = .ok (.bipush 8, 2) := dk_16 8 (dk_at dksX3_word_1 10 rfl rfl)
theorem dX3_word_36 : decode cX3_word 36 = .ok (.ishl, 1) := dk_120 (dk_at dksX3_word_1 12 rfl rfl)
theorem dX3_word_37 : decode cX3_word 37 = .ok (.ior, 1) := dk_128 (dk_at dksX3_word_1 13 rfl rfl)
theorem dX3_word_38 : decode cX3_word 38 = .ok (.aload_n 3, 1) := dk_45 (dk_at dksX3_word_1 14 rfl rfl)
theorem dX3_word_39 : decode cX3_word 39 = .ok (.iload_n 2, 1) := dk_28 (dk_at dksX3_word_1 15 rfl rfl)
theorem dX3_word_40 : decode cX3_word 40 = .ok (.iconst 3, 1) := dk_6 (dk_at dksX3_word_1 16 rfl rfl)
theorem dX3_word_41 : decode cX3_word 41 = .ok (.iadd, 1) := dk_96 (dk_at dksX3_word_1 17 rfl rfl)
theorem dX3_word_42 : decode cX3_word 42 = .ok (.baload, 1) := dk_51 (dk_at dksX3_word_1 18 rfl rfl)
theorem dX3_word_43 : decode cX3_word 43 = .ok (.sipush 255, 3) := dk_17 0 255 (dk_at dksX3_word_1 19 rfl rfl)
theorem dX3_word_46 : decode cX3_word 46 = .ok (.iand, 1) := dk_126 (dk_at dksX3_word_1 22 rfl rfl)
theorem dX3_word_47 : decode cX3_word 47 = .ok (.ior, 1) := dk_128 (dk_at dksX3_word_1 23 rfl rfl)
theorem dX3_word_48 : decode cX3_word 48 = .ok (.ireturn, 1) := dk_172 (dk_at dksX3_word_2 0 rfl rfl)
abbrev cX3_setWord : ByteArray := prog_2_method_5_code
def yX3_setWord : MethodName := ⟨RX3, "setWord", "(III)V"⟩
def dkwX3_setWord_1 : List UInt8 := [21, 4, 104, 100, 122, 145, 84, 132, 4, 1, 167, 255, 226, 177]
abbrev dktX3_setWord_1 : List UInt8 := dkwX3_setWord_1 ++ []
def dkwX3_setWord_0 : List UInt8 := [3, 54, 4, 21, 4, 7, 162, 0, 30, 42, 27, 182, 0, 69, 28, 21, 4, 96, 29, 16, 24, 16, 8]
abbrev dktX3_setWord_0 : List UInt8 := dkwX3_setWord_0 ++ dktX3_setWord_1
theorem dksX3_setWord_0 : cX3_setWord.data.toList.drop 0 = dktX3_setWord_0 := by decide +kernel
theorem dksX3_setWord_1 : cX3_setWord.data.toList.drop 23 = dktX3_setWord_1 := dk_seg dksX3_setWord_0 23 rfl rfl
theorem dX3_setWord_0 : decode cX3_setWord 0 = .ok (.iconst 0, 1) := dk_3 (dk_at dksX3_setWord_0 0 rfl rfl)
theorem dX3_setWord_1 : decode cX3_setWord 1 = .ok (.istore 4, 2) := dk_54 4 (dk_at dksX3_setWord_0 1 rfl rfl)
theorem dX3_setWord_3 : decode cX3_setWord 3 = .ok (.iload 4, 2) := dk_21 4 (dk_at dksX3_setWord_0 3 rfl rfl)
theorem dX3_setWord_5 : decode cX3_setWord 5 = .ok (.iconst 4, 1) := dk_7 (dk_at dksX3_setWord_0 5 rfl rfl)
theorem dX3_setWord_6 : decode cX3_setWord 6 = .ok (.if_icmp .ge 30, 3) := dk_162 0 30 (dk_at dksX3_setWord_0 6 rfl rfl)
theorem dX3_setWord_9 : decode cX3_setWord 9 = .ok (.aload_n 0, 1) := dk_42 (dk_at dksX3_setWord_0 9 rfl rfl)
theorem dX3_setWord_10 : decode cX3_setWord 10 = .ok (.iload_n 1, 1) := dk_27 (dk_at dksX3_setWord_0 10 rfl rfl)
theorem dX3_setWord_11 : decode cX3_setWord 11 = .ok (.invokevirtual 69, 3) := dk_182 0 69 (dk_at dksX3_setWord_0 11 rfl rfl)
theorem dX3_setWord_14 : decode cX3_setWord 14 = .ok (.iload_n 2, 1) := dk_28 (dk_at dksX3_setWord_0 14 rfl rfl)
theorem dX3_setWord_15 : decode cX3_setWord 15 = .ok (.iload 4, 2) := dk_21 4 (dk_at dksX3_setWord_0 15 rfl rfl)
theorem dX3_setWord_17 : decode cX3_setWord 17 = .ok (.iadd, 1) := dk_96 (dk_at dksX3_setWord_0 17 rfl rfl)
theorem dX3_setWord_18 : decode cX3_setWord 18 = .ok (.iload_n 3, 1) := dk_29 (dk_at dksX3_setWord_0 18 rfl rfl)
theorem dX3_setWord_19 : decode cX3_setWord 19 = .ok (.bipush 24, 2) := dk_16 24 (dk_at dksX3_setWord_0 19 rfl rfl)
theorem dX3_setWord_21 : decode cX3_setWord 21 = .ok (.bipush 8, 2) := dk_16 8 (dk_at dksX3_setWord_0 21 rfl rfl)
theorem dX3_setWord_23 : decode cX3_setWord 23 = .ok (.iload 4, 2) := dk_21 4 (dk_at dksX3_setWord_1 0 rfl rfl)
theorem dX3_setWord_25 : decode cX3_setWord 25 = .ok (.imul, 1) := dk_104 (dk_at dksX3_setWord_1 2 rfl rfl)
theorem dX3_setWord_26 : decode cX3_setWord 26 = .ok (.isub, 1) := dk_100 (dk_at dksX3_setWord_1 3 rfl rfl)
theorem dX3_setWord_27 : decode cX3_setWord 27 = .ok (.ishr, 1) := dk_122 (dk_at dksX3_setWord_1 4 rfl rfl)
theorem dX3_setWord_28 : decode cX3_setWord 28 = .ok (.i2b, 1) := dk_145 (dk_at dksX3_setWord_1 5 rfl rfl)
theorem dX3_setWord_29 : decode cX3_setWord 29 = .ok (.bastore, 1) := dk_84 (dk_at dksX3_setWord_1 6 rfl rfl)
theorem dX3_setWord_30 : decode cX3_setWord 30 = .ok (.iinc 4 1, 3) := dk_132 4 1 (dk_at dksX3_setWord_1 7 rfl rfl)
theorem dX3_setWord_33 : decode cX3_setWord 33 = .ok (.goto (-30), 3) := dk_167 255 226 (dk_at dksX3_setWord_1 10 rfl rfl)
theorem dX3_setWord_36 : decode cX3_setWord 36 = .ok (.return_, 1) := dk_177 (dk_at dksX3_setWord_1 13 rfl rfl)
abbrev cX3_drop : ByteArray := prog_2_method_8_code
def yX3_drop : MethodName := ⟨RX3, "drop", "(I)V"⟩
def dkwX3_drop_4 : List UInt8 := [180, 0, 59, 28, 4, 96, 46, 79, 132, 2, 1, 167, 255, 161, 177]
abbrev dktX3_drop_4 : List UInt8 := dkwX3_drop_4 ++ []
def dkwX3_drop_3 : List UInt8 := [4, 96, 46, 79, 42, 180, 0, 56, 28, 42, 180, 0, 56, 28, 4, 96, 46, 79, 42, 180, 0, 59, 28, 42]
abbrev dktX3_drop_3 : List UInt8 := dkwX3_drop_3 ++ dktX3_drop_4
def dkwX3_drop_2 : List UInt8 := [42, 180, 0, 50, 28, 42, 180, 0, 50, 28, 4, 96, 46, 79, 42, 180, 0, 53, 28, 42, 180, 0, 53, 28]
abbrev dktX3_drop_2 : List UInt8 := dkwX3_drop_2 ++ dktX3_drop_3
def dkwX3_drop_1 : List UInt8 := [28, 42, 180, 0, 44, 28, 4, 96, 46, 79, 42, 180, 0, 47, 28, 42, 180, 0, 47, 28, 4, 96, 46, 79]
abbrev dktX3_drop_1 : List UInt8 := dkwX3_drop_1 ++ dktX3_drop_2
def dkwX3_drop_0 : List UInt8 := [42, 89, 180, 0, 66, 4, 100, 181, 0, 66, 27, 61, 28, 42, 180, 0, 66, 162, 0, 93, 42, 180, 0, 44]
abbrev dktX3_drop_0 : List UInt8 := dkwX3_drop_0 ++ dktX3_drop_1
theorem dksX3_drop_0 : cX3_drop.data.toList.drop 0 = dktX3_drop_0 := by decide +kernel
theorem dksX3_drop_1 : cX3_drop.data.toList.drop 24 = dktX3_drop_1 := dk_seg dksX3_drop_0 24 rfl rfl
theorem dksX3_drop_2 : cX3_drop.data.toList.drop 48 = dktX3_drop_2 := dk_seg dksX3_drop_1 24 rfl rfl
theorem dksX3_drop_3 : cX3_drop.data.toList.drop 72 = dktX3_drop_3 := dk_seg dksX3_drop_2 24 rfl rfl
theorem dksX3_drop_4 : cX3_drop.data.toList.drop 96 = dktX3_drop_4 := dk_seg dksX3_drop_3 24 rfl rfl
theorem dX3_drop_0 : decode cX3_drop 0 = .ok (.aload_n 0, 1) := dk_42 (dk_at dksX3_drop_0 0 rfl rfl)
theorem dX3_drop_1 : decode cX3_drop 1 = .ok (.dup, 1) := dk_89 (dk_at dksX3_drop_0 1 rfl rfl)
theorem dX3_drop_2 : decode cX3_drop 2 = .ok (.getfield 66, 3) := dk_180 0 66 (dk_at dksX3_drop_0 2 rfl rfl)
theorem dX3_drop_5 : decode cX3_drop 5 = .ok (.iconst 1, 1) := dk_4 (dk_at dksX3_drop_0 5 rfl rfl)
theorem dX3_drop_6 : decode cX3_drop 6 = .ok (.isub, 1) := dk_100 (dk_at dksX3_drop_0 6 rfl rfl)
theorem dX3_drop_7 : decode cX3_drop 7 = .ok (.putfield 66, 3) := dk_181 0 66 (dk_at dksX3_drop_0 7 rfl rfl)
theorem dX3_drop_10 : decode cX3_drop 10 = .ok (.iload_n 1, 1) := dk_27 (dk_at dksX3_drop_0 10 rfl rfl)
theorem dX3_drop_11 : decode cX3_drop 11 = .ok (.istore_n 2, 1) := dk_61 (dk_at dksX3_drop_0 11 rfl rfl)
theorem dX3_drop_12 : decode cX3_drop 12 = .ok (.iload_n 2, 1) := dk_28 (dk_at dksX3_drop_0 12 rfl rfl)
theorem dX3_drop_13 : decode cX3_drop 13 = .ok (.aload_n 0, 1) := dk_42 (dk_at dksX3_drop_0 13 rfl rfl)
theorem dX3_drop_14 : decode cX3_drop 14 = .ok (.getfield 66, 3) := dk_180 0 66 (dk_at dksX3_drop_0 14 rfl rfl)
theorem dX3_drop_17 : decode cX3_drop 17 = .ok (.if_icmp .ge 93, 3) := dk_162 0 93 (dk_at dksX3_drop_0 17 rfl rfl)
theorem dX3_drop_20 : decode cX3_drop 20 = .ok (.aload_n 0, 1) := dk_42 (dk_at dksX3_drop_0 20 rfl rfl)
theorem dX3_drop_21 : decode cX3_drop 21 = .ok (.getfield 44, 3) := dk_180 0 44 (dk_at dksX3_drop_0 21 rfl rfl)
theorem dX3_drop_24 : decode cX3_drop 24 = .ok (.iload_n 2, 1) := dk_28 (dk_at dksX3_drop_1 0 rfl rfl)
theorem dX3_drop_25 : decode cX3_drop 25 = .ok (.aload_n 0, 1) := dk_42 (dk_at dksX3_drop_1 1 rfl rfl)
theorem dX3_drop_26 : decode cX3_drop 26 = .ok (.getfield 44, 3) := dk_180 0 44 (dk_at dksX3_drop_1 2 rfl rfl)
theorem dX3_drop_29 : decode cX3_drop 29 = .ok (.iload_n 2, 1) := dk_28 (dk_at dksX3_drop_1 5 rfl rfl)
theorem dX3_drop_30 : decode cX3_drop 30 = .ok (.iconst 1, 1) := dk_4 (dk_at dksX3_drop_1 6 rfl rfl)
theorem dX3_drop_31 : decode cX3_drop 31 = .ok (.iadd, 1) := dk_96 (dk_at dksX3_drop_1 7 rfl rfl)
theorem dX3_drop_32 : decode cX3_drop 32 = .ok (.iaload, 1) := dk_46 (dk_at dksX3_drop_1 8 rfl rfl)
theorem dX3_drop_33 : decode cX3_drop 33 = .ok (.iastore, 1) := dk_79 (dk_at dksX3_drop_1 9 rfl rfl)
theorem dX3_drop_34 : decode cX3_drop 34 = .ok (.aload_n 0, 1) := dk_42 (dk_at dksX3_drop_1 10 rfl rfl)
theorem dX3_drop_35 : decode cX3_drop 35 = .ok (.getfield 47, 3) := dk_180 0 47 (dk_at dksX3_drop_1 11 rfl rfl)
theorem dX3_drop_38 : decode cX3_drop 38 = .ok (.iload_n 2, 1) := dk_28 (dk_at dksX3_drop_1 14 rfl rfl)
theorem dX3_drop_39 : decode cX3_drop 39 = .ok (.aload_n 0, 1) := dk_42 (dk_at dksX3_drop_1 15 rfl rfl)
theorem dX3_drop_40 : decode cX3_drop 40 = .ok (.getfield 47, 3) := dk_180 0 47 (dk_at dksX3_drop_1 16 rfl rfl)
theorem dX3_drop_43 : decode cX3_drop 43 = .ok (.iload_n 2, 1) := dk_28 (dk_at dksX3_drop_1 19 rfl rfl)
theorem dX3_drop_44 : decode cX3_drop 44 = .ok (.iconst 1, 1) := dk_4 (dk_at dksX3_drop_1 20 rfl rfl)
theorem dX3_drop_45 : decode cX3_drop 45 = .ok (.iadd, 1) := dk_96 (dk_at dksX3_drop_1 21 rfl rfl)
theorem dX3_drop_46 : decode cX3_drop 46 = .ok (.iaload, 1) := dk_46 (dk_at dksX3_drop_1 22 rfl rfl)
theorem dX3_drop_47 : decode cX3_drop 47 = .ok (.iastore, 1) := dk_79 (dk_at dksX3_drop_1 23 rfl rfl)
theorem dX3_drop_48 : decode cX3_drop 48 = .ok (.aload_n 0, 1) := dk_42 (dk_at dksX3_drop_2 0 rfl rfl)
theorem dX3_drop_49 : decode cX3_drop 49 = .ok (.getfield 50, 3) := dk_180 0 50 (dk_at dksX3_drop_2 1 rfl rfl)
theorem dX3_drop_52 : decode cX3_drop 52 = .ok (.iload_n 2, 1) := dk_28 (dk_at dksX3_drop_2 4 rfl rfl)
theorem dX3_drop_53 : decode cX3_drop 53 = .ok (.aload_n 0, 1) := dk_42 (dk_at dksX3_drop_2 5 rfl rfl)
theorem dX3_drop_54 : decode cX3_drop 54 = .ok (.getfield 50, 3) := dk_180 0 50 (dk_at dksX3_drop_2 6 rfl rfl)
theorem dX3_drop_57 : decode cX3_drop 57 = .ok (.iload_n 2, 1) := dk_28 (dk_at dksX3_drop_2 9 rfl rfl)
theorem dX3_drop_58 : decode cX3_drop 58 = .ok (.iconst 1, 1) := dk_4 (dk_at dksX3_drop_2 10 rfl rfl)
theorem dX3_drop_59 : decode cX3_drop 59 = .ok (.iadd, 1) := dk_96 (dk_at dksX3_drop_2 11 rfl rfl)
theorem dX3_drop_60 : decode cX3_drop 60 = .ok (.iaload, 1) := dk_46 (dk_at dksX3_drop_2 12 rfl rfl)
theorem dX3_drop_61 : decode cX3_drop 61 = .ok (.iastore, 1) := dk_79 (dk_at dksX3_drop_2 13 rfl rfl)
theorem dX3_drop_62 : decode cX3_drop 62 = .ok (.aload_n 0, 1) := dk_42 (dk_at dksX3_drop_2 14 rfl rfl)
theorem dX3_drop_63 : decode cX3_drop 63 = .ok (.getfield 53, 3) := dk_180 0 53 (dk_at dksX3_drop_2 15 rfl rfl)
theorem dX3_drop_66 : decode cX3_drop 66 = .ok (.iload_n 2, 1) := dk_28 (dk_at dksX3_drop_2 18 rfl rfl)
theorem dX3_drop_67 : decode cX3_drop 67 = .ok (.aload_n 0, 1) := dk_42 (dk_at dksX3_drop_2 19 rfl rfl)
theorem dX3_drop_68 : decode cX3_drop 68 = .ok (.getfield 53, 3) := dk_180 0 53 (dk_at dksX3_drop_2 20 rfl rfl)
theorem dX3_drop_71 : decode cX3_drop 71 = .ok (.iload_n 2, 1) := dk_28 (dk_at dksX3_drop_2 23 rfl rfl)
theorem dX3_drop_72 : decode cX3_drop 72 = .ok (.iconst 1, 1) := dk_4 (dk_at dksX3_drop_3 0 rfl rfl)
theorem dX3_drop_73 : decode cX3_drop 73 = .ok (.iadd, 1) := dk_96 (dk_at dksX3_drop_3 1 rfl rfl)
theorem dX3_drop_74 : decode cX3_drop 74 = .ok (.iaload, 1) := dk_46 (dk_at dksX3_drop_3 2 rfl rfl)
theorem dX3_drop_75 : decode cX3_drop 75 = .ok (.iastore, 1) := dk_79 (dk_at dksX3_drop_3 3 rfl rfl)
theorem dX3_drop_76 : decode cX3_drop 76 = .ok (.aload_n 0, 1) := dk_42 (dk_at dksX3_drop_3 4 rfl rfl)
theorem dX3_drop_77 : decode cX3_drop 77 = .ok (.getfield 56, 3) := dk_180 0 56 (dk_at dksX3_drop_3 5 rfl rfl)
theorem dX3_drop_80 : decode cX3_drop 80 = .ok (.iload_n 2, 1) := dk_28 (dk_at dksX3_drop_3 8 rfl rfl)
theorem dX3_drop_81 : decode cX3_drop 81 = .ok (.aload_n 0, 1) := dk_42 (dk_at dksX3_drop_3 9 rfl rfl)
theorem dX3_drop_82 : decode cX3_drop 82 = .ok (.getfield 56, 3) := dk_180 0 56 (dk_at dksX3_drop_3 10 rfl rfl)
theorem dX3_drop_85 : decode cX3_drop 85 = .ok (.iload_n 2, 1) := dk_28 (dk_at dksX3_drop_3 13 rfl rfl)
theorem dX3_drop_86 : decode cX3_drop 86 = .ok (.iconst 1, 1) := dk_4 (dk_at dksX3_drop_3 14 rfl rfl)
theorem dX3_drop_87 : decode cX3_drop 87 = .ok (.iadd, 1) := dk_96 (dk_at dksX3_drop_3 15 rfl rfl)
theorem dX3_drop_88 : decode cX3_drop 88 = .ok (.iaload, 1) := dk_46 (dk_at dksX3_drop_3 16 rfl rfl)
theorem dX3_drop_89 : decode cX3_drop 89 = .ok (.iastore, 1) := dk_79 (dk_at dksX3_drop_3 17 rfl rfl)
theorem dX3_drop_90 : decode cX3_drop 90 = .ok (.aload_n 0, 1) := dk_42 (dk_at dksX3_drop_3 18 rfl rfl)
theorem dX3_drop_91 : decode cX3_drop 91 = .ok (.getfield 59, 3) := dk_180 0 59 (dk_at dksX3_drop_3 19 rfl rfl)
theorem dX3_drop_94 : decode cX3_drop 94 = .ok (.iload_n 2, 1) := dk_28 (dk_at dksX3_drop_3 22 rfl rfl)
theorem dX3_drop_95 : decode cX3_drop 95 = .ok (.aload_n 0, 1) := dk_42 (dk_at dksX3_drop_3 23 rfl rfl)
theorem dX3_drop_96 : decode cX3_drop 96 = .ok (.getfield 59, 3) := dk_180 0 59 (dk_at dksX3_drop_4 0 rfl rfl)
theorem dX3_drop_99 : decode cX3_drop 99 = .ok (.iload_n 2, 1) := dk_28 (dk_at dksX3_drop_4 3 rfl rfl)
theorem dX3_drop_100 : decode cX3_drop 100 = .ok (.iconst 1, 1) := dk_4 (dk_at dksX3_drop_4 4 rfl rfl)
theorem dX3_drop_101 : decode cX3_drop 101 = .ok (.iadd, 1) := dk_96 (dk_at dksX3_drop_4 5 rfl rfl)
theorem dX3_drop_102 : decode cX3_drop 102 = .ok (.iaload, 1) := dk_46 (dk_at dksX3_drop_4 6 rfl rfl)
theorem dX3_drop_103 : decode cX3_drop 103 = .ok (.iastore, 1) := dk_79 (dk_at dksX3_drop_4 7 rfl rfl)
theorem dX3_drop_104 : decode cX3_drop 104 = .ok (.iinc 2 1, 3) := dk_132 2 1 (dk_at dksX3_drop_4 8 rfl rfl)
theorem dX3_drop_107 : decode cX3_drop 107 = .ok (.goto (-95), 3) := dk_167 255 161 (dk_at dksX3_drop_4 11 rfl rfl)
theorem dX3_drop_110 : decode cX3_drop 110 = .ok (.return_, 1) := dk_177 (dk_at dksX3_drop_4 14 rfl rfl)
abbrev cX3_same : ByteArray := prog_2_method_6_code
def yX3_same : MethodName := ⟨RX3, "same", "(ILObjectForge$Unit;I)Z"⟩
def dkwX3_same_3 : List UInt8 := [167, 0, 4, 3, 54, 4, 132, 5, 1, 167, 255, 203, 21, 4, 172]
abbrev dktX3_same_3 : List UInt8 := dkwX3_same_3 ++ []
def dkwX3_same_2 : List UInt8 := [27, 104, 21, 5, 96, 51, 44, 180, 0, 22, 16, 24, 29, 104, 21, 5, 96, 51, 160, 0, 7, 4]
abbrev dktX3_same_2 : List UInt8 := dkwX3_same_2 ++ dktX3_same_3
def dkwX3_same_1 : List UInt8 := [54, 5, 21, 5, 42, 180, 0, 25, 27, 46, 162, 0, 48, 21, 4, 153, 0, 43, 42, 180, 0, 22, 16, 24]
abbrev dktX3_same_1 : List UInt8 := dkwX3_same_1 ++ dktX3_same_2
def dkwX3_same_0 : List UInt8 := [42, 180, 0, 25, 27, 46, 44, 180, 0, 25, 29, 46, 160, 0, 7, 4, 167, 0, 4, 3, 54, 4, 3]
abbrev dktX3_same_0 : List UInt8 := dkwX3_same_0 ++ dktX3_same_1
theorem dksX3_same_0 : cX3_same.data.toList.drop 0 = dktX3_same_0 := by decide +kernel
theorem dksX3_same_1 : cX3_same.data.toList.drop 23 = dktX3_same_1 := dk_seg dksX3_same_0 23 rfl rfl
theorem dksX3_same_2 : cX3_same.data.toList.drop 47 = dktX3_same_2 := dk_seg dksX3_same_1 24 rfl rfl
theorem dksX3_same_3 : cX3_same.data.toList.drop 69 = dktX3_same_3 := dk_seg dksX3_same_2 22 rfl rfl
theorem dX3_same_0 : decode cX3_same 0 = .ok (.aload_n 0, 1) := dk_42 (dk_at dksX3_same_0 0 rfl rfl)
theorem dX3_same_1 : decode cX3_same 1 = .ok (.getfield 25, 3) := dk_180 0 25 (dk_at dksX3_same_0 1 rfl rfl)
theorem dX3_same_4 : decode cX3_same 4 = .ok (.iload_n 1, 1) := dk_27 (dk_at dksX3_same_0 4 rfl rfl)
theorem dX3_same_5 : decode cX3_same 5 = .ok (.iaload, 1) := dk_46 (dk_at dksX3_same_0 5 rfl rfl)
theorem dX3_same_6 : decode cX3_same 6 = .ok (.aload_n 2, 1) := dk_44 (dk_at dksX3_same_0 6 rfl rfl)
theorem dX3_same_7 : decode cX3_same 7 = .ok (.getfield 25, 3) := dk_180 0 25 (dk_at dksX3_same_0 7 rfl rfl)
theorem dX3_same_10 : decode cX3_same 10 = .ok (.iload_n 3, 1) := dk_29 (dk_at dksX3_same_0 10 rfl rfl)
theorem dX3_same_11 : decode cX3_same 11 = .ok (.iaload, 1) := dk_46 (dk_at dksX3_same_0 11 rfl rfl)
theorem dX3_same_12 : decode cX3_same 12 = .ok (.if_icmp .ne 7, 3) := dk_160 0 7 (dk_at dksX3_same_0 12 rfl rfl)
theorem dX3_same_15 : decode cX3_same 15 = .ok (.iconst 1, 1) := dk_4 (dk_at dksX3_same_0 15 rfl rfl)
theorem dX3_same_16 : decode cX3_same 16 = .ok (.goto 4, 3) := dk_167 0 4 (dk_at dksX3_same_0 16 rfl rfl)
theorem dX3_same_19 : decode cX3_same 19 = .ok (.iconst 0, 1) := dk_3 (dk_at dksX3_same_0 19 rfl rfl)
theorem dX3_same_20 : decode cX3_same 20 = .ok (.istore 4, 2) := dk_54 4 (dk_at dksX3_same_0 20 rfl rfl)
theorem dX3_same_22 : decode cX3_same 22 = .ok (.iconst 0, 1) := dk_3 (dk_at dksX3_same_0 22 rfl rfl)
theorem dX3_same_23 : decode cX3_same 23 = .ok (.istore 5, 2) := dk_54 5 (dk_at dksX3_same_1 0 rfl rfl)
theorem dX3_same_25 : decode cX3_same 25 = .ok (.iload 5, 2) := dk_21 5 (dk_at dksX3_same_1 2 rfl rfl)
theorem dX3_same_27 : decode cX3_same 27 = .ok (.aload_n 0, 1) := dk_42 (dk_at dksX3_same_1 4 rfl rfl)
theorem dX3_same_28 : decode cX3_same 28 = .ok (.getfield 25, 3) := dk_180 0 25 (dk_at dksX3_same_1 5 rfl rfl)
theorem dX3_same_31 : decode cX3_same 31 = .ok (.iload_n 1, 1) := dk_27 (dk_at dksX3_same_1 8 rfl rfl)
theorem dX3_same_32 : decode cX3_same 32 = .ok (.iaload, 1) := dk_46 (dk_at dksX3_same_1 9 rfl rfl)
theorem dX3_same_33 : decode cX3_same 33 = .ok (.if_icmp .ge 48, 3) := dk_162 0 48 (dk_at dksX3_same_1 10 rfl rfl)
theorem dX3_same_36 : decode cX3_same 36 = .ok (.iload 4, 2) := dk_21 4 (dk_at dksX3_same_1 13 rfl rfl)
theorem dX3_same_38 : decode cX3_same 38 = .ok (.ifCond .eq 43, 3) := dk_153 0 43 (dk_at dksX3_same_1 15 rfl rfl)
theorem dX3_same_41 : decode cX3_same 41 = .ok (.aload_n 0, 1) := dk_42 (dk_at dksX3_same_1 18 rfl rfl)
theorem dX3_same_42 : decode cX3_same 42 = .ok (.getfield 22, 3) := dk_180 0 22 (dk_at dksX3_same_1 19 rfl rfl)
theorem dX3_same_45 : decode cX3_same 45 = .ok (.bipush 24, 2) := dk_16 24 (dk_at dksX3_same_1 22 rfl rfl)
theorem dX3_same_47 : decode cX3_same 47 = .ok (.iload_n 1, 1) := dk_27 (dk_at dksX3_same_2 0 rfl rfl)
theorem dX3_same_48 : decode cX3_same 48 = .ok (.imul, 1) := dk_104 (dk_at dksX3_same_2 1 rfl rfl)
theorem dX3_same_49 : decode cX3_same 49 = .ok (.iload 5, 2) := dk_21 5 (dk_at dksX3_same_2 2 rfl rfl)
theorem dX3_same_51 : decode cX3_same 51 = .ok (.iadd, 1) := dk_96 (dk_at dksX3_same_2 4 rfl rfl)
theorem dX3_same_52 : decode cX3_same 52 = .ok (.baload, 1) := dk_51 (dk_at dksX3_same_2 5 rfl rfl)
theorem dX3_same_53 : decode cX3_same 53 = .ok (.aload_n 2, 1) := dk_44 (dk_at dksX3_same_2 6 rfl rfl)
theorem dX3_same_54 : decode cX3_same 54 = .ok (.getfield 22, 3) := dk_180 0 22 (dk_at dksX3_same_2 7 rfl rfl)
theorem dX3_same_57 : decode cX3_same 57 = .ok (.bipush 24, 2) := dk_16 24 (dk_at dksX3_same_2 10 rfl rfl)
theorem dX3_same_59 : decode cX3_same 59 = .ok (.iload_n 3, 1) := dk_29 (dk_at dksX3_same_2 12 rfl rfl)
theorem dX3_same_60 : decode cX3_same 60 = .ok (.imul, 1) := dk_104 (dk_at dksX3_same_2 13 rfl rfl)
theorem dX3_same_61 : decode cX3_same 61 = .ok (.iload 5, 2) := dk_21 5 (dk_at dksX3_same_2 14 rfl rfl)
theorem dX3_same_63 : decode cX3_same 63 = .ok (.iadd, 1) := dk_96 (dk_at dksX3_same_2 16 rfl rfl)
theorem dX3_same_64 : decode cX3_same 64 = .ok (.baload, 1) := dk_51 (dk_at dksX3_same_2 17 rfl rfl)
theorem dX3_same_65 : decode cX3_same 65 = .ok (.if_icmp .ne 7, 3) := dk_160 0 7 (dk_at dksX3_same_2 18 rfl rfl)
theorem dX3_same_68 : decode cX3_same 68 = .ok (.iconst 1, 1) := dk_4 (dk_at dksX3_same_2 21 rfl rfl)
theorem dX3_same_69 : decode cX3_same 69 = .ok (.goto 4, 3) := dk_167 0 4 (dk_at dksX3_same_3 0 rfl rfl)
theorem dX3_same_72 : decode cX3_same 72 = .ok (.iconst 0, 1) := dk_3 (dk_at dksX3_same_3 3 rfl rfl)
theorem dX3_same_73 : decode cX3_same 73 = .ok (.istore 4, 2) := dk_54 4 (dk_at dksX3_same_3 4 rfl rfl)
theorem dX3_same_75 : decode cX3_same 75 = .ok (.iinc 5 1, 3) := dk_132 5 1 (dk_at dksX3_same_3 6 rfl rfl)
theorem dX3_same_78 : decode cX3_same 78 = .ok (.goto (-53), 3) := dk_167 255 203 (dk_at dksX3_same_3 9 rfl rfl)
theorem dX3_same_81 : decode cX3_same 81 = .ok (.iload 4, 2) := dk_21 4 (dk_at dksX3_same_3 12 rfl rfl)
theorem dX3_same_83 : decode cX3_same 83 = .ok (.ireturn, 1) := dk_172 (dk_at dksX3_same_3 14 rfl rfl)
theorem q126 : (Jvm.Cond.initialized "ObjectForge$Unit") ∈ lw_all := lw_g (lw_at lw_m1 8 rfl) rfl
theorem q328 : (Jvm.Cond.instantiable "ObjectForge$Unit" (18 : Nat)) ∈ lw_all := lw_g (lw_at lw_m1 210 rfl) rfl
theorem q330 : (Jvm.Cond.instanceMethod ({ cls := "ObjectForge$Unit", name := "<init>", desc := "()V" } : Jvm.MethodName)) ∈ lw_all := lw_g (lw_at lw_m1 212 rfl) rfl
theorem q331 : (Jvm.Cond.code ({ cls := "ObjectForge$Unit", name := "<init>", desc := "()V" } : Jvm.MethodName) prog_2_method_1_code (1 : Nat) (Option.none : Option Jvm.ClassFile.FieldType)) ∈ lw_all := lw_g (lw_at lw_m1 213 rfl) rfl
theorem q332 : (Jvm.Cond.methodLink "ObjectForge$Unit" (3 : Nat) ({ cls := "java/lang/Object", name := "<init>", desc := "()V" } : Jvm.MethodName)) ∈ lw_all := lw_g (lw_at lw_m1 214 rfl) rfl
theorem q333 : (Jvm.Cond.fieldLink "ObjectForge$Unit" (9 : Nat) "ObjectForge$Unit" "text" "[B") ∈ lw_all := lw_g (lw_at lw_m1 215 rfl) rfl
theorem q334 : (Jvm.Cond.fieldLink "ObjectForge$Unit" (15 : Nat) "ObjectForge$Unit" "data" "[B") ∈ lw_all := lw_g (lw_at lw_m1 216 rfl) rfl
theorem q335 : (Jvm.Cond.fieldLink "ObjectForge$Unit" (18 : Nat) "ObjectForge$Unit" "sizes" "[I") ∈ lw_all := lw_g (lw_at lw_m1 217 rfl) rfl
theorem q337 : (Jvm.Cond.fieldLink "ObjectForge$Unit" (22 : Nat) "ObjectForge$Unit" "letters" "[B") ∈ lw_all := lw_g (lw_at lw_m1 219 rfl) rfl
theorem q339 : (Jvm.Cond.fieldLink "ObjectForge$Unit" (25 : Nat) "ObjectForge$Unit" "lengths" "[I") ∈ lw_all := lw_g (lw_at lw_m1 221 rfl) rfl
theorem q341 : (Jvm.Cond.fieldLink "ObjectForge$Unit" (28 : Nat) "ObjectForge$Unit" "sections" "[I") ∈ lw_all := lw_g (lw_at lw_m1 223 rfl) rfl
theorem q343 : (Jvm.Cond.fieldLink "ObjectForge$Unit" (31 : Nat) "ObjectForge$Unit" "values" "[I") ∈ lw_all := lw_g (lw_at lw_m1 225 rfl) rfl
theorem q345 : (Jvm.Cond.fieldLink "ObjectForge$Unit" (34 : Nat) "ObjectForge$Unit" "global" "[Z") ∈ lw_all := lw_g (lw_at lw_m1 227 rfl) rfl
theorem q347 : (Jvm.Cond.fieldLink "ObjectForge$Unit" (38 : Nat) "ObjectForge$Unit" "addresses" "[I") ∈ lw_all := lw_g (lw_at lw_m1 229 rfl) rfl
theorem q349 : (Jvm.Cond.fieldLink "ObjectForge$Unit" (41 : Nat) "ObjectForge$Unit" "begins" "[I") ∈ lw_all := lw_g (lw_at lw_m1 231 rfl) rfl
theorem q351 : (Jvm.Cond.fieldLink "ObjectForge$Unit" (62 : Nat) "ObjectForge$Unit" "symbols" "I") ∈ lw_all := lw_g (lw_at lw_m1 233 rfl) rfl
theorem q353 : (Jvm.Cond.fieldLink "ObjectForge$Unit" (44 : Nat) "ObjectForge$Unit" "where" "[I") ∈ lw_all := lw_g (lw_at lw_m1 235 rfl) rfl
theorem q355 : (Jvm.Cond.fieldLink "ObjectForge$Unit" (47 : Nat) "ObjectForge$Unit" "place" "[I") ∈ lw_all := lw_g (lw_at lw_m1 237 rfl) rfl
theorem q357 : (Jvm.Cond.fieldLink "ObjectForge$Unit" (50 : Nat) "ObjectForge$Unit" "kind" "[I") ∈ lw_all := lw_g (lw_at lw_m1 239 rfl) rfl
theorem q359 : (Jvm.Cond.fieldLink "ObjectForge$Unit" (53 : Nat) "ObjectForge$Unit" "symbol" "[I") ∈ lw_all := lw_g (lw_at lw_m2 1 rfl) rfl
theorem q361 : (Jvm.Cond.fieldLink "ObjectForge$Unit" (56 : Nat) "ObjectForge$Unit" "addend" "[I") ∈ lw_all := lw_g (lw_at lw_m2 3 rfl) rfl
theorem q363 : (Jvm.Cond.fieldLink "ObjectForge$Unit" (59 : Nat) "ObjectForge$Unit" "line" "[I") ∈ lw_all := lw_g (lw_at lw_m2 5 rfl) rfl
theorem q365 : (Jvm.Cond.fieldLink "ObjectForge$Unit" (66 : Nat) "ObjectForge$Unit" "relocations" "I") ∈ lw_all := lw_g (lw_at lw_m2 7 rfl) rfl
theorem q367 : (Jvm.Cond.laysFinal "ObjectForge$Unit" "ObjectForge$Unit" "text" "[B") ∈ lw_all := lw_g (lw_at lw_m2 9 rfl) rfl
theorem q368 : (Jvm.Cond.soleField "ObjectForge$Unit" "text") ∈ lw_all := lw_g (lw_at lw_m2 10 rfl) rfl
theorem q369 : (Jvm.Cond.laysFinal "ObjectForge$Unit" "ObjectForge$Unit" "data" "[B") ∈ lw_all := lw_g (lw_at lw_m2 11 rfl) rfl
theorem q370 : (Jvm.Cond.soleField "ObjectForge$Unit" "data") ∈ lw_all := lw_g (lw_at lw_m2 12 rfl) rfl
theorem q371 : (Jvm.Cond.laysFinal "ObjectForge$Unit" "ObjectForge$Unit" "sizes" "[I") ∈ lw_all := lw_g (lw_at lw_m2 13 rfl) rfl
theorem q372 : (Jvm.Cond.soleField "ObjectForge$Unit" "sizes") ∈ lw_all := lw_g (lw_at lw_m2 14 rfl) rfl
theorem q373 : (Jvm.Cond.laysFinal "ObjectForge$Unit" "ObjectForge$Unit" "letters" "[B") ∈ lw_all := lw_g (lw_at lw_m2 15 rfl) rfl
theorem q374 : (Jvm.Cond.soleField "ObjectForge$Unit" "letters") ∈ lw_all := lw_g (lw_at lw_m2 16 rfl) rfl
theorem q375 : (Jvm.Cond.laysFinal "ObjectForge$Unit" "ObjectForge$Unit" "lengths" "[I") ∈ lw_all := lw_g (lw_at lw_m2 17 rfl) rfl
theorem q376 : (Jvm.Cond.soleField "ObjectForge$Unit" "lengths") ∈ lw_all := lw_g (lw_at lw_m2 18 rfl) rfl
theorem q377 : (Jvm.Cond.laysFinal "ObjectForge$Unit" "ObjectForge$Unit" "sections" "[I") ∈ lw_all := lw_g (lw_at lw_m2 19 rfl) rfl
theorem q378 : (Jvm.Cond.soleField "ObjectForge$Unit" "sections") ∈ lw_all := lw_g (lw_at lw_m2 20 rfl) rfl
theorem q379 : (Jvm.Cond.laysFinal "ObjectForge$Unit" "ObjectForge$Unit" "values" "[I") ∈ lw_all := lw_g (lw_at lw_m2 21 rfl) rfl
theorem q380 : (Jvm.Cond.soleField "ObjectForge$Unit" "values") ∈ lw_all := lw_g (lw_at lw_m2 22 rfl) rfl
theorem q381 : (Jvm.Cond.laysFinal "ObjectForge$Unit" "ObjectForge$Unit" "global" "[Z") ∈ lw_all := lw_g (lw_at lw_m2 23 rfl) rfl
theorem q382 : (Jvm.Cond.soleField "ObjectForge$Unit" "global") ∈ lw_all := lw_g (lw_at lw_m2 24 rfl) rfl
theorem q383 : (Jvm.Cond.laysFinal "ObjectForge$Unit" "ObjectForge$Unit" "addresses" "[I") ∈ lw_all := lw_g (lw_at lw_m2 25 rfl) rfl
theorem q384 : (Jvm.Cond.soleField "ObjectForge$Unit" "addresses") ∈ lw_all := lw_g (lw_at lw_m2 26 rfl) rfl
theorem q385 : (Jvm.Cond.laysFinal "ObjectForge$Unit" "ObjectForge$Unit" "begins" "[I") ∈ lw_all := lw_g (lw_at lw_m2 27 rfl) rfl
theorem q386 : (Jvm.Cond.soleField "ObjectForge$Unit" "begins") ∈ lw_all := lw_g (lw_at lw_m2 28 rfl) rfl
theorem q387 : (Jvm.Cond.lays "ObjectForge$Unit" "ObjectForge$Unit" "symbols" "I") ∈ lw_all := lw_g (lw_at lw_m2 29 rfl) rfl
theorem q388 : (Jvm.Cond.soleField "ObjectForge$Unit" "symbols") ∈ lw_all := lw_g (lw_at lw_m2 30 rfl) rfl
theorem q389 : (Jvm.Cond.laysFinal "ObjectForge$Unit" "ObjectForge$Unit" "where" "[I") ∈ lw_all := lw_g (lw_at lw_m2 31 rfl) rfl
theorem q390 : (Jvm.Cond.soleField "ObjectForge$Unit" "where") ∈ lw_all := lw_g (lw_at lw_m2 32 rfl) rfl
theorem q391 : (Jvm.Cond.laysFinal "ObjectForge$Unit" "ObjectForge$Unit" "place" "[I") ∈ lw_all := lw_g (lw_at lw_m2 33 rfl) rfl
theorem q392 : (Jvm.Cond.soleField "ObjectForge$Unit" "place") ∈ lw_all := lw_g (lw_at lw_m2 34 rfl) rfl
theorem q393 : (Jvm.Cond.laysFinal "ObjectForge$Unit" "ObjectForge$Unit" "kind" "[I") ∈ lw_all := lw_g (lw_at lw_m2 35 rfl) rfl
theorem q394 : (Jvm.Cond.soleField "ObjectForge$Unit" "kind") ∈ lw_all := lw_g (lw_at lw_m2 36 rfl) rfl
theorem q395 : (Jvm.Cond.laysFinal "ObjectForge$Unit" "ObjectForge$Unit" "symbol" "[I") ∈ lw_all := lw_g (lw_at lw_m2 37 rfl) rfl
theorem q396 : (Jvm.Cond.soleField "ObjectForge$Unit" "symbol") ∈ lw_all := lw_g (lw_at lw_m2 38 rfl) rfl
theorem q397 : (Jvm.Cond.laysFinal "ObjectForge$Unit" "ObjectForge$Unit" "addend" "[I") ∈ lw_all := lw_g (lw_at lw_m2 39 rfl) rfl
theorem q398 : (Jvm.Cond.soleField "ObjectForge$Unit" "addend") ∈ lw_all := lw_g (lw_at lw_m2 40 rfl) rfl
theorem q399 : (Jvm.Cond.laysFinal "ObjectForge$Unit" "ObjectForge$Unit" "line" "[I") ∈ lw_all := lw_g (lw_at lw_m2 41 rfl) rfl
theorem q400 : (Jvm.Cond.soleField "ObjectForge$Unit" "line") ∈ lw_all := lw_g (lw_at lw_m2 42 rfl) rfl
theorem q401 : (Jvm.Cond.lays "ObjectForge$Unit" "ObjectForge$Unit" "relocations" "I") ∈ lw_all := lw_g (lw_at lw_m2 43 rfl) rfl
theorem q402 : (Jvm.Cond.soleField "ObjectForge$Unit" "relocations") ∈ lw_all := lw_g (lw_at lw_m2 44 rfl) rfl
theorem q403 : (Jvm.Cond.superclass "ObjectForge$Unit" "java/lang/Object") ∈ lw_all := lw_g (lw_at lw_m2 45 rfl) rfl
theorem q407 : (Jvm.Cond.instanceMethod ({ cls := "ObjectForge$Unit", name := "clear", desc := "()V" } : Jvm.MethodName)) ∈ lw_all := lw_g (lw_at lw_m2 49 rfl) rfl
theorem q408 : (Jvm.Cond.selects "ObjectForge$Unit" ({ cls := "ObjectForge$Unit", name := "clear", desc := "()V" } : Jvm.MethodName) ({ cls := "ObjectForge$Unit", name := "clear", desc := "()V" } : Jvm.MethodName)) ∈ lw_all := lw_g (lw_at lw_m2 50 rfl) rfl
theorem q409 : (Jvm.Cond.code ({ cls := "ObjectForge$Unit", name := "clear", desc := "()V" } : Jvm.MethodName) prog_2_method_2_code (2 : Nat) (Option.none : Option Jvm.ClassFile.FieldType)) ∈ lw_all := lw_g (lw_at lw_m2 51 rfl) rfl
theorem q583 : (Jvm.Cond.instanceMethod ({ cls := "ObjectForge$Unit", name := "bytes", desc := "(I)[B" } : Jvm.MethodName)) ∈ lw_all := lw_g (lw_at lw_m2 225 rfl) rfl
theorem q584 : (Jvm.Cond.selects "ObjectForge$Unit" ({ cls := "ObjectForge$Unit", name := "bytes", desc := "(I)[B" } : Jvm.MethodName) ({ cls := "ObjectForge$Unit", name := "bytes", desc := "(I)[B" } : Jvm.MethodName)) ∈ lw_all := lw_g (lw_at lw_m2 226 rfl) rfl
theorem q585 : (Jvm.Cond.code ({ cls := "ObjectForge$Unit", name := "bytes", desc := "(I)[B" } : Jvm.MethodName) prog_2_method_3_code (2 : Nat) (Option.some (Jvm.ClassFile.FieldType.array Jvm.ClassFile.FieldType.byte))) ∈ lw_all := lw_g (lw_at lw_m2 227 rfl) rfl
theorem q734 : (Jvm.Cond.instanceMethod ({ cls := "ObjectForge$Unit", name := "isOpen", desc := "(I)Z" } : Jvm.MethodName)) ∈ lw_all := lw_g (lw_at lw_m3 136 rfl) rfl
theorem q735 : (Jvm.Cond.selects "ObjectForge$Unit" ({ cls := "ObjectForge$Unit", name := "isOpen", desc := "(I)Z" } : Jvm.MethodName) ({ cls := "ObjectForge$Unit", name := "isOpen", desc := "(I)Z" } : Jvm.MethodName)) ∈ lw_all := lw_g (lw_at lw_m3 137 rfl) rfl
theorem q736 : (Jvm.Cond.code ({ cls := "ObjectForge$Unit", name := "isOpen", desc := "(I)Z" } : Jvm.MethodName) prog_2_method_7_code (2 : Nat) (Option.some Jvm.ClassFile.FieldType.boolean)) ∈ lw_all := lw_g (lw_at lw_m3 138 rfl) rfl
theorem q741 : (Jvm.Cond.instanceMethod ({ cls := "ObjectForge$Unit", name := "word", desc := "(II)I" } : Jvm.MethodName)) ∈ lw_all := lw_g (lw_at lw_m3 143 rfl) rfl
theorem q742 : (Jvm.Cond.selects "ObjectForge$Unit" ({ cls := "ObjectForge$Unit", name := "word", desc := "(II)I" } : Jvm.MethodName) ({ cls := "ObjectForge$Unit", name := "word", desc := "(II)I" } : Jvm.MethodName)) ∈ lw_all := lw_g (lw_at lw_m3 144 rfl) rfl
theorem q743 : (Jvm.Cond.code ({ cls := "ObjectForge$Unit", name := "word", desc := "(II)I" } : Jvm.MethodName) prog_2_method_4_code (4 : Nat) (Option.some Jvm.ClassFile.FieldType.int)) ∈ lw_all := lw_g (lw_at lw_m3 145 rfl) rfl
theorem q744 : (Jvm.Cond.methodLink "ObjectForge$Unit" (69 : Nat) ({ cls := "ObjectForge$Unit", name := "bytes", desc := "(I)[B" } : Jvm.MethodName)) ∈ lw_all := lw_g (lw_at lw_m3 146 rfl) rfl
theorem q746 : (Jvm.Cond.instanceMethod ({ cls := "ObjectForge$Unit", name := "setWord", desc := "(III)V" } : Jvm.MethodName)) ∈ lw_all := lw_g (lw_at lw_m3 148 rfl) rfl
theorem q747 : (Jvm.Cond.selects "ObjectForge$Unit" ({ cls := "ObjectForge$Unit", name := "setWord", desc := "(III)V" } : Jvm.MethodName) ({ cls := "ObjectForge$Unit", name := "setWord", desc := "(III)V" } : Jvm.MethodName)) ∈ lw_all := lw_g (lw_at lw_m3 149 rfl) rfl
theorem q748 : (Jvm.Cond.code ({ cls := "ObjectForge$Unit", name := "setWord", desc := "(III)V" } : Jvm.MethodName) prog_2_method_5_code (5 : Nat) (Option.none : Option Jvm.ClassFile.FieldType)) ∈ lw_all := lw_g (lw_at lw_m3 150 rfl) rfl
theorem q750 : (Jvm.Cond.instanceMethod ({ cls := "ObjectForge$Unit", name := "drop", desc := "(I)V" } : Jvm.MethodName)) ∈ lw_all := lw_g (lw_at lw_m3 152 rfl) rfl
theorem q751 : (Jvm.Cond.selects "ObjectForge$Unit" ({ cls := "ObjectForge$Unit", name := "drop", desc := "(I)V" } : Jvm.MethodName) ({ cls := "ObjectForge$Unit", name := "drop", desc := "(I)V" } : Jvm.MethodName)) ∈ lw_all := lw_g (lw_at lw_m3 153 rfl) rfl
theorem q752 : (Jvm.Cond.code ({ cls := "ObjectForge$Unit", name := "drop", desc := "(I)V" } : Jvm.MethodName) prog_2_method_8_code (3 : Nat) (Option.none : Option Jvm.ClassFile.FieldType)) ∈ lw_all := lw_g (lw_at lw_m3 154 rfl) rfl
theorem q873 : (Jvm.Cond.instanceMethod ({ cls := "ObjectForge$Unit", name := "same", desc := "(ILObjectForge$Unit;I)Z" } : Jvm.MethodName)) ∈ lw_all := lw_g (lw_at lw_m4 35 rfl) rfl
theorem q874 : (Jvm.Cond.selects "ObjectForge$Unit" ({ cls := "ObjectForge$Unit", name := "same", desc := "(ILObjectForge$Unit;I)Z" } : Jvm.MethodName) ({ cls := "ObjectForge$Unit", name := "same", desc := "(ILObjectForge$Unit;I)Z" } : Jvm.MethodName)) ∈ lw_all := lw_g (lw_at lw_m4 36 rfl) rfl
theorem q875 : (Jvm.Cond.code ({ cls := "ObjectForge$Unit", name := "same", desc := "(ILObjectForge$Unit;I)Z" } : Jvm.MethodName) prog_2_method_6_code (6 : Nat) (Option.some Jvm.ClassFile.FieldType.boolean)) ∈ lw_all := lw_g (lw_at lw_m4 37 rfl) rfl
theorem in_X3 : ∀ w ∈ wsX30, w ∈ lw_all := lw_in wsX30 [367, 369, 371, 373, 375, 377, 379, 381, 383, 385, 387, 389, 391, 393, 395, 397, 399, 401] (by decide +kernel) (by decide +kernel)
/-! ObjectForgeLaw -/
set_option maxRecDepth 100000
def RX0 : String := "ObjectForgeLaw"
abbrev cX0_feed : ByteArray := method_3_code
def yX0_feed : MethodName := ⟨RX0, "feed", "(LObjectForge;IIII[J)I"⟩
def dkwX0_feed_0 : List UInt8 := [25, 5, 3, 42, 27, 28, 29, 21, 4, 182, 0, 7, 133, 80, 167, 0, 7, 58, 6, 4, 172, 3, 172]
abbrev dktX0_feed_0 : List UInt8 := dkwX0_feed_0 ++ []
theorem dksX0_feed_0 : cX0_feed.data.toList.drop 0 = dktX0_feed_0 := by decide +kernel
theorem dX0_feed_0 : decode cX0_feed 0 = .ok (.aload 5, 2) := dk_25 5 (dk_at dksX0_feed_0 0 rfl rfl)
theorem dX0_feed_2 : decode cX0_feed 2 = .ok (.iconst 0, 1) := dk_3 (dk_at dksX0_feed_0 2 rfl rfl)
theorem dX0_feed_3 : decode cX0_feed 3 = .ok (.aload_n 0, 1) := dk_42 (dk_at dksX0_feed_0 3 rfl rfl)
theorem dX0_feed_4 : decode cX0_feed 4 = .ok (.iload_n 1, 1) := dk_27 (dk_at dksX0_feed_0 4 rfl rfl)
theorem dX0_feed_5 : decode cX0_feed 5 = .ok (.iload_n 2, 1) := dk_28 (dk_at dksX0_feed_0 5 rfl rfl)
theorem dX0_feed_6 : decode cX0_feed 6 = .ok (.iload_n 3, 1) := dk_29 (dk_at dksX0_feed_0 6 rfl rfl)
theorem dX0_feed_7 : decode cX0_feed 7 = .ok (.iload 4, 2) := dk_21 4 (dk_at dksX0_feed_0 7 rfl rfl)
theorem dX0_feed_9 : decode cX0_feed 9 = .ok (.invokevirtual 7, 3) := dk_182 0 7 (dk_at dksX0_feed_0 9 rfl rfl)
theorem dX0_feed_12 : decode cX0_feed 12 = .ok (.i2l, 1) := dk_133 (dk_at dksX0_feed_0 12 rfl rfl)
theorem dX0_feed_13 : decode cX0_feed 13 = .ok (.lastore, 1) := dk_80 (dk_at dksX0_feed_0 13 rfl rfl)
theorem dX0_feed_14 : decode cX0_feed 14 = .ok (.goto 7, 3) := dk_167 0 7 (dk_at dksX0_feed_0 14 rfl rfl)
theorem dX0_feed_17 : decode cX0_feed 17 = .ok (.astore 6, 2) := dk_58 6 (dk_at dksX0_feed_0 17 rfl rfl)
theorem dX0_feed_19 : decode cX0_feed 19 = .ok (.iconst 1, 1) := dk_4 (dk_at dksX0_feed_0 19 rfl rfl)
theorem dX0_feed_20 : decode cX0_feed 20 = .ok (.ireturn, 1) := dk_172 (dk_at dksX0_feed_0 20 rfl rfl)
theorem dX0_feed_21 : decode cX0_feed 21 = .ok (.iconst 0, 1) := dk_3 (dk_at dksX0_feed_0 21 rfl rfl)
theorem dX0_feed_22 : decode cX0_feed 22 = .ok (.ireturn, 1) := dk_172 (dk_at dksX0_feed_0 22 rfl rfl)
abbrev cX0_end : ByteArray := method_4_code
def yX0_end : MethodName := ⟨RX0, "end", "(LObjectForge;I[J)I"⟩
def dkwX0_end_0 : List UInt8 := [44, 3, 42, 27, 182, 0, 15, 133, 80, 167, 0, 6, 78, 4, 172, 3, 172]
abbrev dktX0_end_0 : List UInt8 := dkwX0_end_0 ++ []
theorem dksX0_end_0 : cX0_end.data.toList.drop 0 = dktX0_end_0 := by decide +kernel
theorem dX0_end_0 : decode cX0_end 0 = .ok (.aload_n 2, 1) := dk_44 (dk_at dksX0_end_0 0 rfl rfl)
theorem dX0_end_1 : decode cX0_end 1 = .ok (.iconst 0, 1) := dk_3 (dk_at dksX0_end_0 1 rfl rfl)
theorem dX0_end_2 : decode cX0_end 2 = .ok (.aload_n 0, 1) := dk_42 (dk_at dksX0_end_0 2 rfl rfl)
theorem dX0_end_3 : decode cX0_end 3 = .ok (.iload_n 1, 1) := dk_27 (dk_at dksX0_end_0 3 rfl rfl)
theorem dX0_end_4 : decode cX0_end 4 = .ok (.invokevirtual 15, 3) := dk_182 0 15 (dk_at dksX0_end_0 4 rfl rfl)
theorem dX0_end_7 : decode cX0_end 7 = .ok (.i2l, 1) := dk_133 (dk_at dksX0_end_0 7 rfl rfl)
theorem dX0_end_8 : decode cX0_end 8 = .ok (.lastore, 1) := dk_80 (dk_at dksX0_end_0 8 rfl rfl)
theorem dX0_end_9 : decode cX0_end 9 = .ok (.goto 6, 3) := dk_167 0 6 (dk_at dksX0_end_0 9 rfl rfl)
theorem dX0_end_12 : decode cX0_end 12 = .ok (.astore_n 3, 1) := dk_78 (dk_at dksX0_end_0 12 rfl rfl)
theorem dX0_end_13 : decode cX0_end 13 = .ok (.iconst 1, 1) := dk_4 (dk_at dksX0_end_0 13 rfl rfl)
theorem dX0_end_14 : decode cX0_end 14 = .ok (.ireturn, 1) := dk_172 (dk_at dksX0_end_0 14 rfl rfl)
theorem dX0_end_15 : decode cX0_end 15 = .ok (.iconst 0, 1) := dk_3 (dk_at dksX0_end_0 15 rfl rfl)
theorem dX0_end_16 : decode cX0_end 16 = .ok (.ireturn, 1) := dk_172 (dk_at dksX0_end_0 16 rfl rfl)
abbrev cX0_assemble : ByteArray := method_5_code
def yX0_assemble : MethodName := ⟨RX0, "assemble", "(LObjectForge;[J)I"⟩
def dkwX0_assemble_0 : List UInt8 := [43, 3, 42, 182, 0, 21, 133, 80, 167, 0, 6, 77, 4, 172, 3, 172]
abbrev dktX0_assemble_0 : List UInt8 := dkwX0_assemble_0 ++ []
theorem dksX0_assemble_0 : cX0_assemble.data.toList.drop 0 = dktX0_assemble_0 := by decide +kernel
theorem dX0_assemble_0 : decode cX0_assemble 0 = .ok (.aload_n 1, 1) := dk_43 (dk_at dksX0_assemble_0 0 rfl rfl)
theorem dX0_assemble_1 : decode cX0_assemble 1 = .ok (.iconst 0, 1) := dk_3 (dk_at dksX0_assemble_0 1 rfl rfl)
theorem dX0_assemble_2 : decode cX0_assemble 2 = .ok (.aload_n 0, 1) := dk_42 (dk_at dksX0_assemble_0 2 rfl rfl)
theorem dX0_assemble_3 : decode cX0_assemble 3 = .ok (.invokevirtual 21, 3) := dk_182 0 21 (dk_at dksX0_assemble_0 3 rfl rfl)
theorem dX0_assemble_6 : decode cX0_assemble 6 = .ok (.i2l, 1) := dk_133 (dk_at dksX0_assemble_0 6 rfl rfl)
theorem dX0_assemble_7 : decode cX0_assemble 7 = .ok (.lastore, 1) := dk_80 (dk_at dksX0_assemble_0 7 rfl rfl)
theorem dX0_assemble_8 : decode cX0_assemble 8 = .ok (.goto 6, 3) := dk_167 0 6 (dk_at dksX0_assemble_0 8 rfl rfl)
theorem dX0_assemble_11 : decode cX0_assemble 11 = .ok (.astore_n 2, 1) := dk_77 (dk_at dksX0_assemble_0 11 rfl rfl)
theorem dX0_assemble_12 : decode cX0_assemble 12 = .ok (.iconst 1, 1) := dk_4 (dk_at dksX0_assemble_0 12 rfl rfl)
theorem dX0_assemble_13 : decode cX0_assemble 13 = .ok (.ireturn, 1) := dk_172 (dk_at dksX0_assemble_0 13 rfl rfl)
theorem dX0_assemble_14 : decode cX0_assemble 14 = .ok (.iconst 0, 1) := dk_3 (dk_at dksX0_assemble_0 14 rfl rfl)
theorem dX0_assemble_15 : decode cX0_assemble 15 = .ok (.ireturn, 1) := dk_172 (dk_at dksX0_assemble_0 15 rfl rfl)
abbrev cX0_fault : ByteArray := method_6_code
def yX0_fault : MethodName := ⟨RX0, "fault", "(LObjectForge;I[J)I"⟩
def dkwX0_fault_0 : List UInt8 := [44, 3, 42, 27, 182, 0, 25, 133, 80, 167, 0, 6, 78, 4, 172, 3, 172]
abbrev dktX0_fault_0 : List UInt8 := dkwX0_fault_0 ++ []
theorem dksX0_fault_0 : cX0_fault.data.toList.drop 0 = dktX0_fault_0 := by decide +kernel
theorem dX0_fault_0 : decode cX0_fault 0 = .ok (.aload_n 2, 1) := dk_44 (dk_at dksX0_fault_0 0 rfl rfl)
theorem dX0_fault_1 : decode cX0_fault 1 = .ok (.iconst 0, 1) := dk_3 (dk_at dksX0_fault_0 1 rfl rfl)
theorem dX0_fault_2 : decode cX0_fault 2 = .ok (.aload_n 0, 1) := dk_42 (dk_at dksX0_fault_0 2 rfl rfl)
theorem dX0_fault_3 : decode cX0_fault 3 = .ok (.iload_n 1, 1) := dk_27 (dk_at dksX0_fault_0 3 rfl rfl)
theorem dX0_fault_4 : decode cX0_fault 4 = .ok (.invokevirtual 25, 3) := dk_182 0 25 (dk_at dksX0_fault_0 4 rfl rfl)
theorem dX0_fault_7 : decode cX0_fault 7 = .ok (.i2l, 1) := dk_133 (dk_at dksX0_fault_0 7 rfl rfl)
theorem dX0_fault_8 : decode cX0_fault 8 = .ok (.lastore, 1) := dk_80 (dk_at dksX0_fault_0 8 rfl rfl)
theorem dX0_fault_9 : decode cX0_fault 9 = .ok (.goto 6, 3) := dk_167 0 6 (dk_at dksX0_fault_0 9 rfl rfl)
theorem dX0_fault_12 : decode cX0_fault 12 = .ok (.astore_n 3, 1) := dk_78 (dk_at dksX0_fault_0 12 rfl rfl)
theorem dX0_fault_13 : decode cX0_fault 13 = .ok (.iconst 1, 1) := dk_4 (dk_at dksX0_fault_0 13 rfl rfl)
theorem dX0_fault_14 : decode cX0_fault 14 = .ok (.ireturn, 1) := dk_172 (dk_at dksX0_fault_0 14 rfl rfl)
theorem dX0_fault_15 : decode cX0_fault 15 = .ok (.iconst 0, 1) := dk_3 (dk_at dksX0_fault_0 15 rfl rfl)
theorem dX0_fault_16 : decode cX0_fault 16 = .ok (.ireturn, 1) := dk_172 (dk_at dksX0_fault_0 16 rfl rfl)
abbrev cX0_size : ByteArray := method_7_code
def yX0_size : MethodName := ⟨RX0, "size", "(LObjectForge;II[J)I"⟩
def dkwX0_size_0 : List UInt8 := [45, 3, 42, 27, 28, 182, 0, 30, 133, 80, 167, 0, 7, 58, 4, 4, 172, 3, 172]
abbrev dktX0_size_0 : List UInt8 := dkwX0_size_0 ++ []
theorem dksX0_size_0 : cX0_size.data.toList.drop 0 = dktX0_size_0 := by decide +kernel
theorem dX0_size_0 : decode cX0_size 0 = .ok (.aload_n 3, 1) := dk_45 (dk_at dksX0_size_0 0 rfl rfl)
theorem dX0_size_1 : decode cX0_size 1 = .ok (.iconst 0, 1) := dk_3 (dk_at dksX0_size_0 1 rfl rfl)
theorem dX0_size_2 : decode cX0_size 2 = .ok (.aload_n 0, 1) := dk_42 (dk_at dksX0_size_0 2 rfl rfl)
theorem dX0_size_3 : decode cX0_size 3 = .ok (.iload_n 1, 1) := dk_27 (dk_at dksX0_size_0 3 rfl rfl)
theorem dX0_size_4 : decode cX0_size 4 = .ok (.iload_n 2, 1) := dk_28 (dk_at dksX0_size_0 4 rfl rfl)
theorem dX0_size_5 : decode cX0_size 5 = .ok (.invokevirtual 30, 3) := dk_182 0 30 (dk_at dksX0_size_0 5 rfl rfl)
theorem dX0_size_8 : decode cX0_size 8 = .ok (.i2l, 1) := dk_133 (dk_at dksX0_size_0 8 rfl rfl)
theorem dX0_size_9 : decode cX0_size 9 = .ok (.lastore, 1) := dk_80 (dk_at dksX0_size_0 9 rfl rfl)
theorem dX0_size_10 : decode cX0_size 10 = .ok (.goto 7, 3) := dk_167 0 7 (dk_at dksX0_size_0 10 rfl rfl)
theorem dX0_size_13 : decode cX0_size 13 = .ok (.astore 4, 2) := dk_58 4 (dk_at dksX0_size_0 13 rfl rfl)
theorem dX0_size_15 : decode cX0_size 15 = .ok (.iconst 1, 1) := dk_4 (dk_at dksX0_size_0 15 rfl rfl)
theorem dX0_size_16 : decode cX0_size 16 = .ok (.ireturn, 1) := dk_172 (dk_at dksX0_size_0 16 rfl rfl)
theorem dX0_size_17 : decode cX0_size 17 = .ok (.iconst 0, 1) := dk_3 (dk_at dksX0_size_0 17 rfl rfl)
theorem dX0_size_18 : decode cX0_size 18 = .ok (.ireturn, 1) := dk_172 (dk_at dksX0_size_0 18 rfl rfl)
abbrev cX0_byteAt : ByteArray := method_8_code
def yX0_byteAt : MethodName := ⟨RX0, "byteAt", "(LObjectForge;III[J)I"⟩
def dkwX0_byteAt_0 : List UInt8 := [25, 4, 3, 42, 27, 28, 29, 182, 0, 34, 133, 80, 167, 0, 7, 58, 5, 4, 172, 3, 172]
abbrev dktX0_byteAt_0 : List UInt8 := dkwX0_byteAt_0 ++ []
theorem dksX0_byteAt_0 : cX0_byteAt.data.toList.drop 0 = dktX0_byteAt_0 := by decide +kernel
theorem dX0_byteAt_0 : decode cX0_byteAt 0 = .ok (.aload 4, 2) := dk_25 4 (dk_at dksX0_byteAt_0 0 rfl rfl)
theorem dX0_byteAt_2 : decode cX0_byteAt 2 = .ok (.iconst 0, 1) := dk_3 (dk_at dksX0_byteAt_0 2 rfl rfl)
theorem dX0_byteAt_3 : decode cX0_byteAt 3 = .ok (.aload_n 0, 1) := dk_42 (dk_at dksX0_byteAt_0 3 rfl rfl)
theorem dX0_byteAt_4 : decode cX0_byteAt 4 = .ok (.iload_n 1, 1) := dk_27 (dk_at dksX0_byteAt_0 4 rfl rfl)
theorem dX0_byteAt_5 : decode cX0_byteAt 5 = .ok (.iload_n 2, 1) := dk_28 (dk_at dksX0_byteAt_0 5 rfl rfl)
theorem dX0_byteAt_6 : decode cX0_byteAt 6 = .ok (.iload_n 3, 1) := dk_29 (dk_at dksX0_byteAt_0 6 rfl rfl)
theorem dX0_byteAt_7 : decode cX0_byteAt 7 = .ok (.invokevirtual 34, 3) := dk_182 0 34 (dk_at dksX0_byteAt_0 7 rfl rfl)
theorem dX0_byteAt_10 : decode cX0_byteAt 10 = .ok (.i2l, 1) := dk_133 (dk_at dksX0_byteAt_0 10 rfl rfl)
theorem dX0_byteAt_11 : decode cX0_byteAt 11 = .ok (.lastore, 1) := dk_80 (dk_at dksX0_byteAt_0 11 rfl rfl)
theorem dX0_byteAt_12 : decode cX0_byteAt 12 = .ok (.goto 7, 3) := dk_167 0 7 (dk_at dksX0_byteAt_0 12 rfl rfl)
theorem dX0_byteAt_15 : decode cX0_byteAt 15 = .ok (.astore 5, 2) := dk_58 5 (dk_at dksX0_byteAt_0 15 rfl rfl)
theorem dX0_byteAt_17 : decode cX0_byteAt 17 = .ok (.iconst 1, 1) := dk_4 (dk_at dksX0_byteAt_0 17 rfl rfl)
theorem dX0_byteAt_18 : decode cX0_byteAt 18 = .ok (.ireturn, 1) := dk_172 (dk_at dksX0_byteAt_0 18 rfl rfl)
theorem dX0_byteAt_19 : decode cX0_byteAt 19 = .ok (.iconst 0, 1) := dk_3 (dk_at dksX0_byteAt_0 19 rfl rfl)
theorem dX0_byteAt_20 : decode cX0_byteAt 20 = .ok (.ireturn, 1) := dk_172 (dk_at dksX0_byteAt_0 20 rfl rfl)
abbrev cX0_symbol : ByteArray := method_9_code
def yX0_symbol : MethodName := ⟨RX0, "symbol", "(LObjectForge;III[J)I"⟩
def dkwX0_symbol_0 : List UInt8 := [25, 4, 3, 42, 27, 28, 29, 182, 0, 38, 133, 80, 167, 0, 7, 58, 5, 4, 172, 3, 172]
abbrev dktX0_symbol_0 : List UInt8 := dkwX0_symbol_0 ++ []
theorem dksX0_symbol_0 : cX0_symbol.data.toList.drop 0 = dktX0_symbol_0 := by decide +kernel
theorem dX0_symbol_0 : decode cX0_symbol 0 = .ok (.aload 4, 2) := dk_25 4 (dk_at dksX0_symbol_0 0 rfl rfl)
theorem dX0_symbol_2 : decode cX0_symbol 2 = .ok (.iconst 0, 1) := dk_3 (dk_at dksX0_symbol_0 2 rfl rfl)
theorem dX0_symbol_3 : decode cX0_symbol 3 = .ok (.aload_n 0, 1) := dk_42 (dk_at dksX0_symbol_0 3 rfl rfl)
theorem dX0_symbol_4 : decode cX0_symbol 4 = .ok (.iload_n 1, 1) := dk_27 (dk_at dksX0_symbol_0 4 rfl rfl)
theorem dX0_symbol_5 : decode cX0_symbol 5 = .ok (.iload_n 2, 1) := dk_28 (dk_at dksX0_symbol_0 5 rfl rfl)
theorem dX0_symbol_6 : decode cX0_symbol 6 = .ok (.iload_n 3, 1) := dk_29 (dk_at dksX0_symbol_0 6 rfl rfl)
theorem dX0_symbol_7 : decode cX0_symbol 7 = .ok (.invokevirtual 38, 3) := dk_182 0 38 (dk_at dksX0_symbol_0 7 rfl rfl)
theorem dX0_symbol_10 : decode cX0_symbol 10 = .ok (.i2l, 1) := dk_133 (dk_at dksX0_symbol_0 10 rfl rfl)
theorem dX0_symbol_11 : decode cX0_symbol 11 = .ok (.lastore, 1) := dk_80 (dk_at dksX0_symbol_0 11 rfl rfl)
theorem dX0_symbol_12 : decode cX0_symbol 12 = .ok (.goto 7, 3) := dk_167 0 7 (dk_at dksX0_symbol_0 12 rfl rfl)
theorem dX0_symbol_15 : decode cX0_symbol 15 = .ok (.astore 5, 2) := dk_58 5 (dk_at dksX0_symbol_0 15 rfl rfl)
theorem dX0_symbol_17 : decode cX0_symbol 17 = .ok (.iconst 1, 1) := dk_4 (dk_at dksX0_symbol_0 17 rfl rfl)
theorem dX0_symbol_18 : decode cX0_symbol 18 = .ok (.ireturn, 1) := dk_172 (dk_at dksX0_symbol_0 18 rfl rfl)
theorem dX0_symbol_19 : decode cX0_symbol 19 = .ok (.iconst 0, 1) := dk_3 (dk_at dksX0_symbol_0 19 rfl rfl)
theorem dX0_symbol_20 : decode cX0_symbol 20 = .ok (.ireturn, 1) := dk_172 (dk_at dksX0_symbol_0 20 rfl rfl)
abbrev cX0_letter : ByteArray := method_10_code
def yX0_letter : MethodName := ⟨RX0, "letter", "(LObjectForge;III[J)I"⟩
def dkwX0_letter_0 : List UInt8 := [25, 4, 3, 42, 27, 28, 29, 182, 0, 41, 133, 80, 167, 0, 7, 58, 5, 4, 172, 3, 172]
abbrev dktX0_letter_0 : List UInt8 := dkwX0_letter_0 ++ []
theorem dksX0_letter_0 : cX0_letter.data.toList.drop 0 = dktX0_letter_0 := by decide +kernel
theorem dX0_letter_0 : decode cX0_letter 0 = .ok (.aload 4, 2) := dk_25 4 (dk_at dksX0_letter_0 0 rfl rfl)
theorem dX0_letter_2 : decode cX0_letter 2 = .ok (.iconst 0, 1) := dk_3 (dk_at dksX0_letter_0 2 rfl rfl)
theorem dX0_letter_3 : decode cX0_letter 3 = .ok (.aload_n 0, 1) := dk_42 (dk_at dksX0_letter_0 3 rfl rfl)
theorem dX0_letter_4 : decode cX0_letter 4 = .ok (.iload_n 1, 1) := dk_27 (dk_at dksX0_letter_0 4 rfl rfl)
theorem dX0_letter_5 : decode cX0_letter 5 = .ok (.iload_n 2, 1) := dk_28 (dk_at dksX0_letter_0 5 rfl rfl)
theorem dX0_letter_6 : decode cX0_letter 6 = .ok (.iload_n 3, 1) := dk_29 (dk_at dksX0_letter_0 6 rfl rfl)
theorem dX0_letter_7 : decode cX0_letter 7 = .ok (.invokevirtual 41, 3) := dk_182 0 41 (dk_at dksX0_letter_0 7 rfl rfl)
theorem dX0_letter_10 : decode cX0_letter 10 = .ok (.i2l, 1) := dk_133 (dk_at dksX0_letter_0 10 rfl rfl)
theorem dX0_letter_11 : decode cX0_letter 11 = .ok (.lastore, 1) := dk_80 (dk_at dksX0_letter_0 11 rfl rfl)
theorem dX0_letter_12 : decode cX0_letter 12 = .ok (.goto 7, 3) := dk_167 0 7 (dk_at dksX0_letter_0 12 rfl rfl)
theorem dX0_letter_15 : decode cX0_letter 15 = .ok (.astore 5, 2) := dk_58 5 (dk_at dksX0_letter_0 15 rfl rfl)
theorem dX0_letter_17 : decode cX0_letter 17 = .ok (.iconst 1, 1) := dk_4 (dk_at dksX0_letter_0 17 rfl rfl)
theorem dX0_letter_18 : decode cX0_letter 18 = .ok (.ireturn, 1) := dk_172 (dk_at dksX0_letter_0 18 rfl rfl)
theorem dX0_letter_19 : decode cX0_letter 19 = .ok (.iconst 0, 1) := dk_3 (dk_at dksX0_letter_0 19 rfl rfl)
theorem dX0_letter_20 : decode cX0_letter 20 = .ok (.ireturn, 1) := dk_172 (dk_at dksX0_letter_0 20 rfl rfl)
abbrev cX0_relocation : ByteArray := method_11_code
def yX0_relocation : MethodName := ⟨RX0, "relocation", "(LObjectForge;III[J)I"⟩
def dkwX0_relocation_0 : List UInt8 := [25, 4, 3, 42, 27, 28, 29, 182, 0, 44, 133, 80, 167, 0, 7, 58, 5, 4, 172, 3, 172]
abbrev dktX0_relocation_0 : List UInt8 := dkwX0_relocation_0 ++ []
theorem dksX0_relocation_0 : cX0_relocation.data.toList.drop 0 = dktX0_relocation_0 := by decide +kernel
theorem dX0_relocation_0 : decode cX0_relocation 0 = .ok (.aload 4, 2) := dk_25 4 (dk_at dksX0_relocation_0 0 rfl rfl)
theorem dX0_relocation_2 : decode cX0_relocation 2 = .ok (.iconst 0, 1) := dk_3 (dk_at dksX0_relocation_0 2 rfl rfl)
theorem dX0_relocation_3 : decode cX0_relocation 3 = .ok (.aload_n 0, 1) := dk_42 (dk_at dksX0_relocation_0 3 rfl rfl)
theorem dX0_relocation_4 : decode cX0_relocation 4 = .ok (.iload_n 1, 1) := dk_27 (dk_at dksX0_relocation_0 4 rfl rfl)
theorem dX0_relocation_5 : decode cX0_relocation 5 = .ok (.iload_n 2, 1) := dk_28 (dk_at dksX0_relocation_0 5 rfl rfl)
theorem dX0_relocation_6 : decode cX0_relocation 6 = .ok (.iload_n 3, 1) := dk_29 (dk_at dksX0_relocation_0 6 rfl rfl)
theorem dX0_relocation_7 : decode cX0_relocation 7 = .ok (.invokevirtual 44, 3) := dk_182 0 44 (dk_at dksX0_relocation_0 7 rfl rfl)
theorem dX0_relocation_10 : decode cX0_relocation 10 = .ok (.i2l, 1) := dk_133 (dk_at dksX0_relocation_0 10 rfl rfl)
theorem dX0_relocation_11 : decode cX0_relocation 11 = .ok (.lastore, 1) := dk_80 (dk_at dksX0_relocation_0 11 rfl rfl)
theorem dX0_relocation_12 : decode cX0_relocation 12 = .ok (.goto 7, 3) := dk_167 0 7 (dk_at dksX0_relocation_0 12 rfl rfl)
theorem dX0_relocation_15 : decode cX0_relocation 15 = .ok (.astore 5, 2) := dk_58 5 (dk_at dksX0_relocation_0 15 rfl rfl)
theorem dX0_relocation_17 : decode cX0_relocation 17 = .ok (.iconst 1, 1) := dk_4 (dk_at dksX0_relocation_0 17 rfl rfl)
theorem dX0_relocation_18 : decode cX0_relocation 18 = .ok (.ireturn, 1) := dk_172 (dk_at dksX0_relocation_0 18 rfl rfl)
theorem dX0_relocation_19 : decode cX0_relocation 19 = .ok (.iconst 0, 1) := dk_3 (dk_at dksX0_relocation_0 19 rfl rfl)
theorem dX0_relocation_20 : decode cX0_relocation 20 = .ok (.ireturn, 1) := dk_172 (dk_at dksX0_relocation_0 20 rfl rfl)
abbrev cX0_link : ByteArray := method_12_code
def yX0_link : MethodName := ⟨RX0, "link", "(LObjectForge;I[J)I"⟩
def dkwX0_link_0 : List UInt8 := [44, 3, 42, 27, 182, 0, 47, 133, 80, 167, 0, 9, 78, 4, 172, 78, 5, 172, 3, 172]
abbrev dktX0_link_0 : List UInt8 := dkwX0_link_0 ++ []
theorem dksX0_link_0 : cX0_link.data.toList.drop 0 = dktX0_link_0 := by decide +kernel
theorem dX0_link_0 : decode cX0_link 0 = .ok (.aload_n 2, 1) := dk_44 (dk_at dksX0_link_0 0 rfl rfl)
theorem dX0_link_1 : decode cX0_link 1 = .ok (.iconst 0, 1) := dk_3 (dk_at dksX0_link_0 1 rfl rfl)
theorem dX0_link_2 : decode cX0_link 2 = .ok (.aload_n 0, 1) := dk_42 (dk_at dksX0_link_0 2 rfl rfl)
theorem dX0_link_3 : decode cX0_link 3 = .ok (.iload_n 1, 1) := dk_27 (dk_at dksX0_link_0 3 rfl rfl)
theorem dX0_link_4 : decode cX0_link 4 = .ok (.invokevirtual 47, 3) := dk_182 0 47 (dk_at dksX0_link_0 4 rfl rfl)
theorem dX0_link_7 : decode cX0_link 7 = .ok (.i2l, 1) := dk_133 (dk_at dksX0_link_0 7 rfl rfl)
theorem dX0_link_8 : decode cX0_link 8 = .ok (.lastore, 1) := dk_80 (dk_at dksX0_link_0 8 rfl rfl)
theorem dX0_link_9 : decode cX0_link 9 = .ok (.goto 9, 3) := dk_167 0 9 (dk_at dksX0_link_0 9 rfl rfl)
theorem dX0_link_12 : decode cX0_link 12 = .ok (.astore_n 3, 1) := dk_78 (dk_at dksX0_link_0 12 rfl rfl)
theorem dX0_link_13 : decode cX0_link 13 = .ok (.iconst 1, 1) := dk_4 (dk_at dksX0_link_0 13 rfl rfl)
theorem dX0_link_14 : decode cX0_link 14 = .ok (.ireturn, 1) := dk_172 (dk_at dksX0_link_0 14 rfl rfl)
theorem dX0_link_15 : decode cX0_link 15 = .ok (.astore_n 3, 1) := dk_78 (dk_at dksX0_link_0 15 rfl rfl)
theorem dX0_link_16 : decode cX0_link 16 = .ok (.iconst 2, 1) := dk_5 (dk_at dksX0_link_0 16 rfl rfl)
theorem dX0_link_17 : decode cX0_link 17 = .ok (.ireturn, 1) := dk_172 (dk_at dksX0_link_0 17 rfl rfl)
theorem dX0_link_18 : decode cX0_link 18 = .ok (.iconst 0, 1) := dk_3 (dk_at dksX0_link_0 18 rfl rfl)
theorem dX0_link_19 : decode cX0_link 19 = .ok (.ireturn, 1) := dk_172 (dk_at dksX0_link_0 19 rfl rfl)
abbrev cX0_word : ByteArray := method_13_code
def yX0_word : MethodName := ⟨RX0, "word", "(LObjectForge;I[J)I"⟩
def dkwX0_word_0 : List UInt8 := [44, 3, 42, 27, 182, 0, 50, 133, 80, 167, 0, 6, 78, 4, 172, 3, 172]
abbrev dktX0_word_0 : List UInt8 := dkwX0_word_0 ++ []
theorem dksX0_word_0 : cX0_word.data.toList.drop 0 = dktX0_word_0 := by decide +kernel
theorem dX0_word_0 : decode cX0_word 0 = .ok (.aload_n 2, 1) := dk_44 (dk_at dksX0_word_0 0 rfl rfl)
theorem dX0_word_1 : decode cX0_word 1 = .ok (.iconst 0, 1) := dk_3 (dk_at dksX0_word_0 1 rfl rfl)
theorem dX0_word_2 : decode cX0_word 2 = .ok (.aload_n 0, 1) := dk_42 (dk_at dksX0_word_0 2 rfl rfl)
theorem dX0_word_3 : decode cX0_word 3 = .ok (.iload_n 1, 1) := dk_27 (dk_at dksX0_word_0 3 rfl rfl)
theorem dX0_word_4 : decode cX0_word 4 = .ok (.invokevirtual 50, 3) := dk_182 0 50 (dk_at dksX0_word_0 4 rfl rfl)
theorem dX0_word_7 : decode cX0_word 7 = .ok (.i2l, 1) := dk_133 (dk_at dksX0_word_0 7 rfl rfl)
theorem dX0_word_8 : decode cX0_word 8 = .ok (.lastore, 1) := dk_80 (dk_at dksX0_word_0 8 rfl rfl)
theorem dX0_word_9 : decode cX0_word 9 = .ok (.goto 6, 3) := dk_167 0 6 (dk_at dksX0_word_0 9 rfl rfl)
theorem dX0_word_12 : decode cX0_word 12 = .ok (.astore_n 3, 1) := dk_78 (dk_at dksX0_word_0 12 rfl rfl)
theorem dX0_word_13 : decode cX0_word 13 = .ok (.iconst 1, 1) := dk_4 (dk_at dksX0_word_0 13 rfl rfl)
theorem dX0_word_14 : decode cX0_word 14 = .ok (.ireturn, 1) := dk_172 (dk_at dksX0_word_0 14 rfl rfl)
theorem dX0_word_15 : decode cX0_word 15 = .ok (.iconst 0, 1) := dk_3 (dk_at dksX0_word_0 15 rfl rfl)
theorem dX0_word_16 : decode cX0_word 16 = .ok (.ireturn, 1) := dk_172 (dk_at dksX0_word_0 16 rfl rfl)
abbrev cX0_address : ByteArray := method_14_code
def yX0_address : MethodName := ⟨RX0, "address", "(LObjectForge;II[J)I"⟩
def dkwX0_address_0 : List UInt8 := [45, 3, 42, 27, 28, 182, 0, 53, 133, 80, 167, 0, 11, 58, 4, 4, 172, 58, 4, 5, 172, 3, 172]
abbrev dktX0_address_0 : List UInt8 := dkwX0_address_0 ++ []
theorem dksX0_address_0 : cX0_address.data.toList.drop 0 = dktX0_address_0 := by decide +kernel
theorem dX0_address_0 : decode cX0_address 0 = .ok (.aload_n 3, 1) := dk_45 (dk_at dksX0_address_0 0 rfl rfl)
theorem dX0_address_1 : decode cX0_address 1 = .ok (.iconst 0, 1) := dk_3 (dk_at dksX0_address_0 1 rfl rfl)
theorem dX0_address_2 : decode cX0_address 2 = .ok (.aload_n 0, 1) := dk_42 (dk_at dksX0_address_0 2 rfl rfl)
theorem dX0_address_3 : decode cX0_address 3 = .ok (.iload_n 1, 1) := dk_27 (dk_at dksX0_address_0 3 rfl rfl)
theorem dX0_address_4 : decode cX0_address 4 = .ok (.iload_n 2, 1) := dk_28 (dk_at dksX0_address_0 4 rfl rfl)
theorem dX0_address_5 : decode cX0_address 5 = .ok (.invokevirtual 53, 3) := dk_182 0 53 (dk_at dksX0_address_0 5 rfl rfl)
theorem dX0_address_8 : decode cX0_address 8 = .ok (.i2l, 1) := dk_133 (dk_at dksX0_address_0 8 rfl rfl)
theorem dX0_address_9 : decode cX0_address 9 = .ok (.lastore, 1) := dk_80 (dk_at dksX0_address_0 9 rfl rfl)
theorem dX0_address_10 : decode cX0_address 10 = .ok (.goto 11, 3) := dk_167 0 11 (dk_at dksX0_address_0 10 rfl rfl)
theorem dX0_address_13 : decode cX0_address 13 = .ok (.astore 4, 2) := dk_58 4 (dk_at dksX0_address_0 13 rfl rfl)
theorem dX0_address_15 : decode cX0_address 15 = .ok (.iconst 1, 1) := dk_4 (dk_at dksX0_address_0 15 rfl rfl)
theorem dX0_address_16 : decode cX0_address 16 = .ok (.ireturn, 1) := dk_172 (dk_at dksX0_address_0 16 rfl rfl)
theorem dX0_address_17 : decode cX0_address 17 = .ok (.astore 4, 2) := dk_58 4 (dk_at dksX0_address_0 17 rfl rfl)
theorem dX0_address_19 : decode cX0_address 19 = .ok (.iconst 2, 1) := dk_5 (dk_at dksX0_address_0 19 rfl rfl)
theorem dX0_address_20 : decode cX0_address 20 = .ok (.ireturn, 1) := dk_172 (dk_at dksX0_address_0 20 rfl rfl)
theorem dX0_address_21 : decode cX0_address 21 = .ok (.iconst 0, 1) := dk_3 (dk_at dksX0_address_0 21 rfl rfl)
theorem dX0_address_22 : decode cX0_address 22 = .ok (.ireturn, 1) := dk_172 (dk_at dksX0_address_0 22 rfl rfl)
abbrev cX0_count : ByteArray := method_15_code
def yX0_count : MethodName := ⟨RX0, "count", "(LObjectForge;II[J)I"⟩
def dkwX0_count_0 : List UInt8 := [45, 3, 42, 27, 28, 182, 0, 56, 133, 80, 167, 0, 7, 58, 4, 4, 172, 3, 172]
abbrev dktX0_count_0 : List UInt8 := dkwX0_count_0 ++ []
theorem dksX0_count_0 : cX0_count.data.toList.drop 0 = dktX0_count_0 := by decide +kernel
theorem dX0_count_0 : decode cX0_count 0 = .ok (.aload_n 3, 1) := dk_45 (dk_at dksX0_count_0 0 rfl rfl)
theorem dX0_count_1 : decode cX0_count 1 = .ok (.iconst 0, 1) := dk_3 (dk_at dksX0_count_0 1 rfl rfl)
theorem dX0_count_2 : decode cX0_count 2 = .ok (.aload_n 0, 1) := dk_42 (dk_at dksX0_count_0 2 rfl rfl)
theorem dX0_count_3 : decode cX0_count 3 = .ok (.iload_n 1, 1) := dk_27 (dk_at dksX0_count_0 3 rfl rfl)
theorem dX0_count_4 : decode cX0_count 4 = .ok (.iload_n 2, 1) := dk_28 (dk_at dksX0_count_0 4 rfl rfl)
theorem dX0_count_5 : decode cX0_count 5 = .ok (.invokevirtual 56, 3) := dk_182 0 56 (dk_at dksX0_count_0 5 rfl rfl)
theorem dX0_count_8 : decode cX0_count 8 = .ok (.i2l, 1) := dk_133 (dk_at dksX0_count_0 8 rfl rfl)
theorem dX0_count_9 : decode cX0_count 9 = .ok (.lastore, 1) := dk_80 (dk_at dksX0_count_0 9 rfl rfl)
theorem dX0_count_10 : decode cX0_count 10 = .ok (.goto 7, 3) := dk_167 0 7 (dk_at dksX0_count_0 10 rfl rfl)
theorem dX0_count_13 : decode cX0_count 13 = .ok (.astore 4, 2) := dk_58 4 (dk_at dksX0_count_0 13 rfl rfl)
theorem dX0_count_15 : decode cX0_count 15 = .ok (.iconst 1, 1) := dk_4 (dk_at dksX0_count_0 15 rfl rfl)
theorem dX0_count_16 : decode cX0_count 16 = .ok (.ireturn, 1) := dk_172 (dk_at dksX0_count_0 16 rfl rfl)
theorem dX0_count_17 : decode cX0_count 17 = .ok (.iconst 0, 1) := dk_3 (dk_at dksX0_count_0 17 rfl rfl)
theorem dX0_count_18 : decode cX0_count 18 = .ok (.ireturn, 1) := dk_172 (dk_at dksX0_count_0 18 rfl rfl)
theorem q118 : (Jvm.Cond.initialized "ObjectForgeLaw") ∈ lw_all := lw_g (lw_at lw_m1 0 rfl) rfl
theorem q133 : (Jvm.Cond.classLink "ObjectForgeLaw" (8 : Nat) "ObjectForge") ∈ lw_all := lw_g (lw_at lw_m1 15 rfl) rfl
theorem q135 : (Jvm.Cond.methodLink "ObjectForgeLaw" (59 : Nat) ({ cls := "ObjectForge", name := "<init>", desc := "()V" } : Jvm.MethodName)) ∈ lw_all := lw_g (lw_at lw_m1 17 rfl) rfl
theorem q221 : (Jvm.Cond.methodLink "ObjectForgeLaw" (109 : Nat) ({ cls := "ObjectForge", name := "clear", desc := "()I" } : Jvm.MethodName)) ∈ lw_all := lw_g (lw_at lw_m1 103 rfl) rfl
theorem q225 : (Jvm.Cond.methodLink "ObjectForgeLaw" (63 : Nat) ({ cls := "ObjectForgeLaw", name := "feed", desc := "(LObjectForge;IIII[J)I" } : Jvm.MethodName)) ∈ lw_all := lw_g (lw_at lw_m1 107 rfl) rfl
theorem q226 : (Jvm.Cond.static ({ cls := "ObjectForgeLaw", name := "feed", desc := "(LObjectForge;IIII[J)I" } : Jvm.MethodName)) ∈ lw_all := lw_g (lw_at lw_m1 108 rfl) rfl
theorem q227 : (Jvm.Cond.codeWith ({ cls := "ObjectForgeLaw", name := "feed", desc := "(LObjectForge;IIII[J)I" } : Jvm.MethodName) method_3_code (7 : Nat) (Option.some Jvm.ClassFile.FieldType.int) [((0 : Nat), (14 : Nat), (17 : Nat), (13 : Nat))]) ∈ lw_all := lw_g (lw_at lw_m1 109 rfl) rfl
theorem q228 : (Jvm.Cond.classLink "ObjectForgeLaw" (13 : Nat) "java/lang/IllegalStateException") ∈ lw_all := lw_g (lw_at lw_m1 110 rfl) rfl
theorem q229 : (Jvm.Cond.methodLink "ObjectForgeLaw" (7 : Nat) ({ cls := "ObjectForge", name := "feed", desc := "(IIII)I" } : Jvm.MethodName)) ∈ lw_all := lw_g (lw_at lw_m1 111 rfl) rfl
theorem q298 : (Jvm.Cond.methodLink "ObjectForgeLaw" (72 : Nat) ({ cls := "ObjectForgeLaw", name := "end", desc := "(LObjectForge;I[J)I" } : Jvm.MethodName)) ∈ lw_all := lw_g (lw_at lw_m1 180 rfl) rfl
theorem q299 : (Jvm.Cond.static ({ cls := "ObjectForgeLaw", name := "end", desc := "(LObjectForge;I[J)I" } : Jvm.MethodName)) ∈ lw_all := lw_g (lw_at lw_m1 181 rfl) rfl
theorem q300 : (Jvm.Cond.codeWith ({ cls := "ObjectForgeLaw", name := "end", desc := "(LObjectForge;I[J)I" } : Jvm.MethodName) method_4_code (4 : Nat) (Option.some Jvm.ClassFile.FieldType.int) [((0 : Nat), (9 : Nat), (12 : Nat), (19 : Nat))]) ∈ lw_all := lw_g (lw_at lw_m1 182 rfl) rfl
theorem q301 : (Jvm.Cond.classLink "ObjectForgeLaw" (19 : Nat) "java/lang/IllegalArgumentException") ∈ lw_all := lw_g (lw_at lw_m1 183 rfl) rfl
theorem q302 : (Jvm.Cond.methodLink "ObjectForgeLaw" (15 : Nat) ({ cls := "ObjectForge", name := "end", desc := "(I)I" } : Jvm.MethodName)) ∈ lw_all := lw_g (lw_at lw_m1 184 rfl) rfl
theorem q321 : (Jvm.Cond.methodLink "ObjectForgeLaw" (76 : Nat) ({ cls := "ObjectForgeLaw", name := "assemble", desc := "(LObjectForge;[J)I" } : Jvm.MethodName)) ∈ lw_all := lw_g (lw_at lw_m1 203 rfl) rfl
theorem q322 : (Jvm.Cond.static ({ cls := "ObjectForgeLaw", name := "assemble", desc := "(LObjectForge;[J)I" } : Jvm.MethodName)) ∈ lw_all := lw_g (lw_at lw_m1 204 rfl) rfl
theorem q323 : (Jvm.Cond.codeWith ({ cls := "ObjectForgeLaw", name := "assemble", desc := "(LObjectForge;[J)I" } : Jvm.MethodName) method_5_code (3 : Nat) (Option.some Jvm.ClassFile.FieldType.int) [((0 : Nat), (8 : Nat), (11 : Nat), (13 : Nat))]) ∈ lw_all := lw_g (lw_at lw_m1 205 rfl) rfl
theorem q324 : (Jvm.Cond.methodLink "ObjectForgeLaw" (21 : Nat) ({ cls := "ObjectForge", name := "assemble", desc := "()I" } : Jvm.MethodName)) ∈ lw_all := lw_g (lw_at lw_m1 206 rfl) rfl
theorem q753 : (Jvm.Cond.methodLink "ObjectForgeLaw" (80 : Nat) ({ cls := "ObjectForgeLaw", name := "fault", desc := "(LObjectForge;I[J)I" } : Jvm.MethodName)) ∈ lw_all := lw_g (lw_at lw_m3 155 rfl) rfl
theorem q754 : (Jvm.Cond.static ({ cls := "ObjectForgeLaw", name := "fault", desc := "(LObjectForge;I[J)I" } : Jvm.MethodName)) ∈ lw_all := lw_g (lw_at lw_m3 156 rfl) rfl
theorem q755 : (Jvm.Cond.codeWith ({ cls := "ObjectForgeLaw", name := "fault", desc := "(LObjectForge;I[J)I" } : Jvm.MethodName) method_6_code (4 : Nat) (Option.some Jvm.ClassFile.FieldType.int) [((0 : Nat), (9 : Nat), (12 : Nat), (28 : Nat))]) ∈ lw_all := lw_g (lw_at lw_m3 157 rfl) rfl
theorem q756 : (Jvm.Cond.classLink "ObjectForgeLaw" (28 : Nat) "java/lang/IndexOutOfBoundsException") ∈ lw_all := lw_g (lw_at lw_m3 158 rfl) rfl
theorem q788 : (Jvm.Cond.methodLink "ObjectForgeLaw" (25 : Nat) ({ cls := "ObjectForge", name := "fault", desc := "(I)I" } : Jvm.MethodName)) ∈ lw_all := lw_g (lw_at lw_m3 190 rfl) rfl
theorem q810 : (Jvm.Cond.methodLink "ObjectForgeLaw" (83 : Nat) ({ cls := "ObjectForgeLaw", name := "size", desc := "(LObjectForge;II[J)I" } : Jvm.MethodName)) ∈ lw_all := lw_g (lw_at lw_m3 212 rfl) rfl
theorem q811 : (Jvm.Cond.static ({ cls := "ObjectForgeLaw", name := "size", desc := "(LObjectForge;II[J)I" } : Jvm.MethodName)) ∈ lw_all := lw_g (lw_at lw_m3 213 rfl) rfl
theorem q812 : (Jvm.Cond.codeWith ({ cls := "ObjectForgeLaw", name := "size", desc := "(LObjectForge;II[J)I" } : Jvm.MethodName) method_7_code (5 : Nat) (Option.some Jvm.ClassFile.FieldType.int) [((0 : Nat), (10 : Nat), (13 : Nat), (28 : Nat))]) ∈ lw_all := lw_g (lw_at lw_m3 214 rfl) rfl
theorem q813 : (Jvm.Cond.methodLink "ObjectForgeLaw" (30 : Nat) ({ cls := "ObjectForge", name := "size", desc := "(II)I" } : Jvm.MethodName)) ∈ lw_all := lw_g (lw_at lw_m3 215 rfl) rfl
theorem q821 : (Jvm.Cond.methodLink "ObjectForgeLaw" (87 : Nat) ({ cls := "ObjectForgeLaw", name := "byteAt", desc := "(LObjectForge;III[J)I" } : Jvm.MethodName)) ∈ lw_all := lw_g (lw_at lw_m3 223 rfl) rfl
theorem q822 : (Jvm.Cond.static ({ cls := "ObjectForgeLaw", name := "byteAt", desc := "(LObjectForge;III[J)I" } : Jvm.MethodName)) ∈ lw_all := lw_g (lw_at lw_m3 224 rfl) rfl
theorem q823 : (Jvm.Cond.codeWith ({ cls := "ObjectForgeLaw", name := "byteAt", desc := "(LObjectForge;III[J)I" } : Jvm.MethodName) method_8_code (6 : Nat) (Option.some Jvm.ClassFile.FieldType.int) [((0 : Nat), (12 : Nat), (15 : Nat), (28 : Nat))]) ∈ lw_all := lw_g (lw_at lw_m3 225 rfl) rfl
theorem q824 : (Jvm.Cond.methodLink "ObjectForgeLaw" (34 : Nat) ({ cls := "ObjectForge", name := "byteAt", desc := "(III)I" } : Jvm.MethodName)) ∈ lw_all := lw_g (lw_at lw_m3 226 rfl) rfl
theorem q828 : (Jvm.Cond.methodLink "ObjectForgeLaw" (91 : Nat) ({ cls := "ObjectForgeLaw", name := "symbol", desc := "(LObjectForge;III[J)I" } : Jvm.MethodName)) ∈ lw_all := lw_g (lw_at lw_m3 230 rfl) rfl
theorem q829 : (Jvm.Cond.static ({ cls := "ObjectForgeLaw", name := "symbol", desc := "(LObjectForge;III[J)I" } : Jvm.MethodName)) ∈ lw_all := lw_g (lw_at lw_m3 231 rfl) rfl
theorem q830 : (Jvm.Cond.codeWith ({ cls := "ObjectForgeLaw", name := "symbol", desc := "(LObjectForge;III[J)I" } : Jvm.MethodName) method_9_code (6 : Nat) (Option.some Jvm.ClassFile.FieldType.int) [((0 : Nat), (12 : Nat), (15 : Nat), (28 : Nat))]) ∈ lw_all := lw_g (lw_at lw_m3 232 rfl) rfl
theorem q831 : (Jvm.Cond.methodLink "ObjectForgeLaw" (38 : Nat) ({ cls := "ObjectForge", name := "symbol", desc := "(III)I" } : Jvm.MethodName)) ∈ lw_all := lw_g (lw_at lw_m3 233 rfl) rfl
theorem q835 : (Jvm.Cond.methodLink "ObjectForgeLaw" (94 : Nat) ({ cls := "ObjectForgeLaw", name := "letter", desc := "(LObjectForge;III[J)I" } : Jvm.MethodName)) ∈ lw_all := lw_g (lw_at lw_m3 237 rfl) rfl
theorem q836 : (Jvm.Cond.static ({ cls := "ObjectForgeLaw", name := "letter", desc := "(LObjectForge;III[J)I" } : Jvm.MethodName)) ∈ lw_all := lw_g (lw_at lw_m3 238 rfl) rfl
theorem q837 : (Jvm.Cond.codeWith ({ cls := "ObjectForgeLaw", name := "letter", desc := "(LObjectForge;III[J)I" } : Jvm.MethodName) method_10_code (6 : Nat) (Option.some Jvm.ClassFile.FieldType.int) [((0 : Nat), (12 : Nat), (15 : Nat), (28 : Nat))]) ∈ lw_all := lw_g (lw_at lw_m3 239 rfl) rfl
theorem q838 : (Jvm.Cond.methodLink "ObjectForgeLaw" (41 : Nat) ({ cls := "ObjectForge", name := "letter", desc := "(III)I" } : Jvm.MethodName)) ∈ lw_all := lw_g (lw_at lw_m4 0 rfl) rfl
theorem q842 : (Jvm.Cond.methodLink "ObjectForgeLaw" (97 : Nat) ({ cls := "ObjectForgeLaw", name := "relocation", desc := "(LObjectForge;III[J)I" } : Jvm.MethodName)) ∈ lw_all := lw_g (lw_at lw_m4 4 rfl) rfl
theorem q843 : (Jvm.Cond.static ({ cls := "ObjectForgeLaw", name := "relocation", desc := "(LObjectForge;III[J)I" } : Jvm.MethodName)) ∈ lw_all := lw_g (lw_at lw_m4 5 rfl) rfl
theorem q844 : (Jvm.Cond.codeWith ({ cls := "ObjectForgeLaw", name := "relocation", desc := "(LObjectForge;III[J)I" } : Jvm.MethodName) method_11_code (6 : Nat) (Option.some Jvm.ClassFile.FieldType.int) [((0 : Nat), (12 : Nat), (15 : Nat), (28 : Nat))]) ∈ lw_all := lw_g (lw_at lw_m4 6 rfl) rfl
theorem q845 : (Jvm.Cond.methodLink "ObjectForgeLaw" (44 : Nat) ({ cls := "ObjectForge", name := "relocation", desc := "(III)I" } : Jvm.MethodName)) ∈ lw_all := lw_g (lw_at lw_m4 7 rfl) rfl
theorem q849 : (Jvm.Cond.methodLink "ObjectForgeLaw" (100 : Nat) ({ cls := "ObjectForgeLaw", name := "link", desc := "(LObjectForge;I[J)I" } : Jvm.MethodName)) ∈ lw_all := lw_g (lw_at lw_m4 11 rfl) rfl
theorem q850 : (Jvm.Cond.static ({ cls := "ObjectForgeLaw", name := "link", desc := "(LObjectForge;I[J)I" } : Jvm.MethodName)) ∈ lw_all := lw_g (lw_at lw_m4 12 rfl) rfl
theorem q851 : (Jvm.Cond.codeWith ({ cls := "ObjectForgeLaw", name := "link", desc := "(LObjectForge;I[J)I" } : Jvm.MethodName) method_12_code (4 : Nat) (Option.some Jvm.ClassFile.FieldType.int) [((0 : Nat), (9 : Nat), (12 : Nat), (19 : Nat)), ((0 : Nat), (9 : Nat), (15 : Nat), (13 : Nat))]) ∈ lw_all := lw_g (lw_at lw_m4 13 rfl) rfl
theorem q852 : (Jvm.Cond.methodLink "ObjectForgeLaw" (47 : Nat) ({ cls := "ObjectForge", name := "link", desc := "(I)I" } : Jvm.MethodName)) ∈ lw_all := lw_g (lw_at lw_m4 14 rfl) rfl
theorem q892 : (Jvm.Cond.methodLink "ObjectForgeLaw" (103 : Nat) ({ cls := "ObjectForgeLaw", name := "word", desc := "(LObjectForge;I[J)I" } : Jvm.MethodName)) ∈ lw_all := lw_g (lw_at lw_m4 54 rfl) rfl
theorem q893 : (Jvm.Cond.static ({ cls := "ObjectForgeLaw", name := "word", desc := "(LObjectForge;I[J)I" } : Jvm.MethodName)) ∈ lw_all := lw_g (lw_at lw_m4 55 rfl) rfl
theorem q894 : (Jvm.Cond.codeWith ({ cls := "ObjectForgeLaw", name := "word", desc := "(LObjectForge;I[J)I" } : Jvm.MethodName) method_13_code (4 : Nat) (Option.some Jvm.ClassFile.FieldType.int) [((0 : Nat), (9 : Nat), (12 : Nat), (28 : Nat))]) ∈ lw_all := lw_g (lw_at lw_m4 56 rfl) rfl
theorem q895 : (Jvm.Cond.methodLink "ObjectForgeLaw" (50 : Nat) ({ cls := "ObjectForge", name := "word", desc := "(I)I" } : Jvm.MethodName)) ∈ lw_all := lw_g (lw_at lw_m4 57 rfl) rfl
theorem q899 : (Jvm.Cond.methodLink "ObjectForgeLaw" (106 : Nat) ({ cls := "ObjectForgeLaw", name := "address", desc := "(LObjectForge;II[J)I" } : Jvm.MethodName)) ∈ lw_all := lw_g (lw_at lw_m4 61 rfl) rfl
theorem q900 : (Jvm.Cond.static ({ cls := "ObjectForgeLaw", name := "address", desc := "(LObjectForge;II[J)I" } : Jvm.MethodName)) ∈ lw_all := lw_g (lw_at lw_m4 62 rfl) rfl
theorem q901 : (Jvm.Cond.codeWith ({ cls := "ObjectForgeLaw", name := "address", desc := "(LObjectForge;II[J)I" } : Jvm.MethodName) method_14_code (5 : Nat) (Option.some Jvm.ClassFile.FieldType.int) [((0 : Nat), (10 : Nat), (13 : Nat), (28 : Nat)), ((0 : Nat), (10 : Nat), (17 : Nat), (13 : Nat))]) ∈ lw_all := lw_g (lw_at lw_m4 63 rfl) rfl
theorem q902 : (Jvm.Cond.methodLink "ObjectForgeLaw" (53 : Nat) ({ cls := "ObjectForge", name := "address", desc := "(II)I" } : Jvm.MethodName)) ∈ lw_all := lw_g (lw_at lw_m4 64 rfl) rfl
theorem q906 : (Jvm.Cond.methodLink "ObjectForgeLaw" (113 : Nat) ({ cls := "ObjectForgeLaw", name := "count", desc := "(LObjectForge;II[J)I" } : Jvm.MethodName)) ∈ lw_all := lw_g (lw_at lw_m4 68 rfl) rfl
theorem q907 : (Jvm.Cond.static ({ cls := "ObjectForgeLaw", name := "count", desc := "(LObjectForge;II[J)I" } : Jvm.MethodName)) ∈ lw_all := lw_g (lw_at lw_m4 69 rfl) rfl
theorem q908 : (Jvm.Cond.codeWith ({ cls := "ObjectForgeLaw", name := "count", desc := "(LObjectForge;II[J)I" } : Jvm.MethodName) method_15_code (5 : Nat) (Option.some Jvm.ClassFile.FieldType.int) [((0 : Nat), (10 : Nat), (13 : Nat), (28 : Nat))]) ∈ lw_all := lw_g (lw_at lw_m4 70 rfl) rfl
theorem q909 : (Jvm.Cond.methodLink "ObjectForgeLaw" (56 : Nat) ({ cls := "ObjectForge", name := "count", desc := "(II)I" } : Jvm.MethodName)) ∈ lw_all := lw_g (lw_at lw_m4 71 rfl) rfl
theorem q913 : (Jvm.Cond.classLink "ObjectForgeLaw" (60 : Nat) "ObjectForgeModel") ∈ lw_all := lw_g (lw_at lw_m4 75 rfl) rfl
theorem q915 : (Jvm.Cond.methodLink "ObjectForgeLaw" (62 : Nat) ({ cls := "ObjectForgeModel", name := "<init>", desc := "()V" } : Jvm.MethodName)) ∈ lw_all := lw_g (lw_at lw_m4 77 rfl) rfl
theorem q1079 : (Jvm.Cond.methodLink "ObjectForgeLaw" (69 : Nat) ({ cls := "ObjectForgeModel", name := "thrown", desc := "()I" } : Jvm.MethodName)) ∈ lw_all := lw_g (lw_at lw_m5 1 rfl) rfl
theorem q1083 : (Jvm.Cond.methodLink "ObjectForgeLaw" (68 : Nat) ({ cls := "ObjectForgeModel", name := "feed", desc := "(IIII)I" } : Jvm.MethodName)) ∈ lw_all := lw_g (lw_at lw_m5 5 rfl) rfl
theorem q1095 : (Jvm.Cond.methodLink "ObjectForgeLaw" (75 : Nat) ({ cls := "ObjectForgeModel", name := "end", desc := "(I)I" } : Jvm.MethodName)) ∈ lw_all := lw_g (lw_at lw_m5 17 rfl) rfl
theorem q1099 : (Jvm.Cond.methodLink "ObjectForgeLaw" (79 : Nat) ({ cls := "ObjectForgeModel", name := "assemble", desc := "()I" } : Jvm.MethodName)) ∈ lw_all := lw_g (lw_at lw_m5 21 rfl) rfl
theorem q1750 : (Jvm.Cond.methodLink "ObjectForgeLaw" (82 : Nat) ({ cls := "ObjectForgeModel", name := "fault", desc := "(I)I" } : Jvm.MethodName)) ∈ lw_all := lw_g (lw_at lw_m7 192 rfl) rfl
theorem q1754 : (Jvm.Cond.methodLink "ObjectForgeLaw" (86 : Nat) ({ cls := "ObjectForgeModel", name := "size", desc := "(II)I" } : Jvm.MethodName)) ∈ lw_all := lw_g (lw_at lw_m7 196 rfl) rfl
theorem q1761 : (Jvm.Cond.methodLink "ObjectForgeLaw" (90 : Nat) ({ cls := "ObjectForgeModel", name := "byteAt", desc := "(III)I" } : Jvm.MethodName)) ∈ lw_all := lw_g (lw_at lw_m7 203 rfl) rfl
theorem q1765 : (Jvm.Cond.methodLink "ObjectForgeLaw" (93 : Nat) ({ cls := "ObjectForgeModel", name := "symbol", desc := "(III)I" } : Jvm.MethodName)) ∈ lw_all := lw_g (lw_at lw_m7 207 rfl) rfl
theorem q1769 : (Jvm.Cond.methodLink "ObjectForgeLaw" (96 : Nat) ({ cls := "ObjectForgeModel", name := "letter", desc := "(III)I" } : Jvm.MethodName)) ∈ lw_all := lw_g (lw_at lw_m7 211 rfl) rfl
theorem q1773 : (Jvm.Cond.methodLink "ObjectForgeLaw" (99 : Nat) ({ cls := "ObjectForgeModel", name := "relocation", desc := "(III)I" } : Jvm.MethodName)) ∈ lw_all := lw_g (lw_at lw_m7 215 rfl) rfl
theorem q1777 : (Jvm.Cond.methodLink "ObjectForgeLaw" (102 : Nat) ({ cls := "ObjectForgeModel", name := "link", desc := "(I)I" } : Jvm.MethodName)) ∈ lw_all := lw_g (lw_at lw_m7 219 rfl) rfl
theorem q1812 : (Jvm.Cond.methodLink "ObjectForgeLaw" (105 : Nat) ({ cls := "ObjectForgeModel", name := "word", desc := "(I)I" } : Jvm.MethodName)) ∈ lw_all := lw_g (lw_at lw_m8 14 rfl) rfl
theorem q1816 : (Jvm.Cond.methodLink "ObjectForgeLaw" (108 : Nat) ({ cls := "ObjectForgeModel", name := "address", desc := "(II)I" } : Jvm.MethodName)) ∈ lw_all := lw_g (lw_at lw_m8 18 rfl) rfl
theorem q1820 : (Jvm.Cond.methodLink "ObjectForgeLaw" (112 : Nat) ({ cls := "ObjectForgeModel", name := "clear", desc := "()I" } : Jvm.MethodName)) ∈ lw_all := lw_g (lw_at lw_m8 22 rfl) rfl
theorem q1824 : (Jvm.Cond.methodLink "ObjectForgeLaw" (115 : Nat) ({ cls := "ObjectForgeModel", name := "count", desc := "(II)I" } : Jvm.MethodName)) ∈ lw_all := lw_g (lw_at lw_m8 26 rfl) rfl
/-! the law's own entry -/
set_option maxRecDepth 100000
abbrev cL_law : ByteArray := code
def dkwL_law_41 : List UInt8 := [21, 6, 133, 148, 153, 0, 5, 3, 172, 167, 0, 3, 132, 4, 5, 167, 252, 39, 4, 172]
abbrev dktL_law_41 : List UInt8 := dkwL_law_41 ++ []
def dkwL_law_40 : List UInt8 := [182, 0, 115, 54, 6, 44, 182, 0, 69, 21, 5, 159, 0, 5, 3, 172, 21, 5, 154, 0, 15, 45, 3, 47]
abbrev dktL_law_40 : List UInt8 := dkwL_law_40 ++ dktL_law_41
def dkwL_law_39 : List UInt8 := [21, 4, 5, 96, 46, 45, 184, 0, 113, 54, 5, 44, 42, 21, 4, 4, 96, 46, 42, 21, 4, 5, 96, 46]
abbrev dktL_law_39 : List UInt8 := dkwL_law_39 ++ dktL_law_40
def dkwL_law_38 : List UInt8 := [167, 0, 84, 43, 182, 0, 109, 44, 182, 0, 112, 159, 0, 73, 3, 172, 43, 42, 21, 4, 4, 96, 46, 42]
abbrev dktL_law_38 : List UInt8 := dkwL_law_38 ++ dktL_law_39
def dkwL_law_37 : List UInt8 := [159, 0, 5, 3, 172, 21, 5, 154, 0, 15, 45, 3, 47, 21, 6, 133, 148, 153, 0, 5, 3, 172]
abbrev dktL_law_37 : List UInt8 := dkwL_law_37 ++ dktL_law_38
def dkwL_law_36 : List UInt8 := [21, 4, 4, 96, 46, 42, 21, 4, 5, 96, 46, 182, 0, 108, 54, 6, 44, 182, 0, 69, 21, 5]
abbrev dktL_law_36 : List UInt8 := dkwL_law_36 ++ dktL_law_37
def dkwL_law_35 : List UInt8 := [167, 0, 152, 43, 42, 21, 4, 4, 96, 46, 42, 21, 4, 5, 96, 46, 45, 184, 0, 106, 54, 5, 44, 42]
abbrev dktL_law_35 : List UInt8 := dkwL_law_35 ++ dktL_law_36
def dkwL_law_34 : List UInt8 := [21, 5, 159, 0, 5, 3, 172, 21, 5, 154, 0, 15, 45, 3, 47, 21, 6, 133, 148, 153, 0, 5, 3, 172]
abbrev dktL_law_34 : List UInt8 := dkwL_law_34 ++ dktL_law_35
def dkwL_law_33 : List UInt8 := [46, 45, 184, 0, 103, 54, 5, 44, 42, 21, 4, 4, 96, 46, 182, 0, 105, 54, 6, 44, 182, 0, 69]
abbrev dktL_law_33 : List UInt8 := dkwL_law_33 ++ dktL_law_34
def dkwL_law_32 : List UInt8 := [154, 0, 15, 45, 3, 47, 21, 6, 133, 148, 153, 0, 5, 3, 172, 167, 0, 208, 43, 42, 21, 4, 4, 96]
abbrev dktL_law_32 : List UInt8 := dkwL_law_32 ++ dktL_law_33
def dkwL_law_31 : List UInt8 := [21, 4, 4, 96, 46, 182, 0, 102, 54, 6, 44, 182, 0, 69, 21, 5, 159, 0, 5, 3, 172, 21, 5]
abbrev dktL_law_31 : List UInt8 := dkwL_law_31 ++ dktL_law_32
def dkwL_law_30 : List UInt8 := [153, 0, 5, 3, 172, 167, 1, 8, 43, 42, 21, 4, 4, 96, 46, 45, 184, 0, 100, 54, 5, 44, 42]
abbrev dktL_law_30 : List UInt8 := dkwL_law_30 ++ dktL_law_31
def dkwL_law_29 : List UInt8 := [182, 0, 69, 21, 5, 159, 0, 5, 3, 172, 21, 5, 154, 0, 15, 45, 3, 47, 21, 6, 133, 148]
abbrev dktL_law_29 : List UInt8 := dkwL_law_29 ++ dktL_law_30
def dkwL_law_28 : List UInt8 := [21, 4, 4, 96, 46, 42, 21, 4, 5, 96, 46, 42, 21, 4, 6, 96, 46, 182, 0, 99, 54, 6, 44]
abbrev dktL_law_28 : List UInt8 := dkwL_law_28 ++ dktL_law_29
def dkwL_law_27 : List UInt8 := [4, 96, 46, 42, 21, 4, 5, 96, 46, 42, 21, 4, 6, 96, 46, 45, 184, 0, 97, 54, 5, 44, 42]
abbrev dktL_law_27 : List UInt8 := dkwL_law_27 ++ dktL_law_28
def dkwL_law_26 : List UInt8 := [21, 5, 154, 0, 15, 45, 3, 47, 21, 6, 133, 148, 153, 0, 5, 3, 172, 167, 1, 88, 43, 42, 21, 4]
abbrev dktL_law_26 : List UInt8 := dkwL_law_26 ++ dktL_law_27
def dkwL_law_25 : List UInt8 := [96, 46, 42, 21, 4, 6, 96, 46, 182, 0, 96, 54, 6, 44, 182, 0, 69, 21, 5, 159, 0, 5, 3, 172]
abbrev dktL_law_25 : List UInt8 := dkwL_law_25 ++ dktL_law_26
def dkwL_law_24 : List UInt8 := [46, 42, 21, 4, 6, 96, 46, 45, 184, 0, 94, 54, 5, 44, 42, 21, 4, 4, 96, 46, 42, 21, 4, 5]
abbrev dktL_law_24 : List UInt8 := dkwL_law_24 ++ dktL_law_25
def dkwL_law_23 : List UInt8 := [21, 6, 133, 148, 153, 0, 5, 3, 172, 167, 1, 168, 43, 42, 21, 4, 4, 96, 46, 42, 21, 4, 5, 96]
abbrev dktL_law_23 : List UInt8 := dkwL_law_23 ++ dktL_law_24
def dkwL_law_22 : List UInt8 := [182, 0, 93, 54, 6, 44, 182, 0, 69, 21, 5, 159, 0, 5, 3, 172, 21, 5, 154, 0, 15, 45, 3, 47]
abbrev dktL_law_22 : List UInt8 := dkwL_law_22 ++ dktL_law_23
def dkwL_law_21 : List UInt8 := [184, 0, 91, 54, 5, 44, 42, 21, 4, 4, 96, 46, 42, 21, 4, 5, 96, 46, 42, 21, 4, 6, 96, 46]
abbrev dktL_law_21 : List UInt8 := dkwL_law_21 ++ dktL_law_22
def dkwL_law_20 : List UInt8 := [167, 1, 248, 43, 42, 21, 4, 4, 96, 46, 42, 21, 4, 5, 96, 46, 42, 21, 4, 6, 96, 46, 45]
abbrev dktL_law_20 : List UInt8 := dkwL_law_20 ++ dktL_law_21
def dkwL_law_19 : List UInt8 := [159, 0, 5, 3, 172, 21, 5, 154, 0, 15, 45, 3, 47, 21, 6, 133, 148, 153, 0, 5, 3, 172]
abbrev dktL_law_19 : List UInt8 := dkwL_law_19 ++ dktL_law_20
def dkwL_law_18 : List UInt8 := [21, 4, 5, 96, 46, 42, 21, 4, 6, 96, 46, 182, 0, 90, 54, 6, 44, 182, 0, 69, 21, 5]
abbrev dktL_law_18 : List UInt8 := dkwL_law_18 ++ dktL_law_19
def dkwL_law_17 : List UInt8 := [5, 96, 46, 42, 21, 4, 6, 96, 46, 45, 184, 0, 87, 54, 5, 44, 42, 21, 4, 4, 96, 46, 42]
abbrev dktL_law_17 : List UInt8 := dkwL_law_17 ++ dktL_law_18
def dkwL_law_16 : List UInt8 := [3, 47, 21, 6, 133, 148, 153, 0, 5, 3, 172, 167, 2, 72, 43, 42, 21, 4, 4, 96, 46, 42, 21, 4]
abbrev dktL_law_16 : List UInt8 := dkwL_law_16 ++ dktL_law_17
def dkwL_law_15 : List UInt8 := [96, 46, 182, 0, 86, 54, 6, 44, 182, 0, 69, 21, 5, 159, 0, 5, 3, 172, 21, 5, 154, 0, 15, 45]
abbrev dktL_law_15 : List UInt8 := dkwL_law_15 ++ dktL_law_16
def dkwL_law_14 : List UInt8 := [46, 42, 21, 4, 5, 96, 46, 45, 184, 0, 83, 54, 5, 44, 42, 21, 4, 4, 96, 46, 42, 21, 4, 5]
abbrev dktL_law_14 : List UInt8 := dkwL_law_14 ++ dktL_law_15
def dkwL_law_13 : List UInt8 := [154, 0, 15, 45, 3, 47, 21, 6, 133, 148, 153, 0, 5, 3, 172, 167, 2, 140, 43, 42, 21, 4, 4, 96]
abbrev dktL_law_13 : List UInt8 := dkwL_law_13 ++ dktL_law_14
def dkwL_law_12 : List UInt8 := [21, 4, 4, 96, 46, 182, 0, 82, 54, 6, 44, 182, 0, 69, 21, 5, 159, 0, 5, 3, 172, 21, 5]
abbrev dktL_law_12 : List UInt8 := dkwL_law_12 ++ dktL_law_13
def dkwL_law_11 : List UInt8 := [153, 0, 5, 3, 172, 167, 2, 196, 43, 42, 21, 4, 4, 96, 46, 45, 184, 0, 80, 54, 5, 44, 42]
abbrev dktL_law_11 : List UInt8 := dkwL_law_11 ++ dktL_law_12
def dkwL_law_10 : List UInt8 := [182, 0, 69, 21, 5, 159, 0, 5, 3, 172, 21, 5, 154, 0, 15, 45, 3, 47, 21, 6, 133, 148]
abbrev dktL_law_10 : List UInt8 := dkwL_law_10 ++ dktL_law_11
def dkwL_law_9 : List UInt8 := [153, 0, 5, 3, 172, 167, 2, 240, 43, 45, 184, 0, 76, 54, 5, 44, 182, 0, 79, 54, 6, 44]
abbrev dktL_law_9 : List UInt8 := dkwL_law_9 ++ dktL_law_10
def dkwL_law_8 : List UInt8 := [182, 0, 69, 21, 5, 159, 0, 5, 3, 172, 21, 5, 154, 0, 15, 45, 3, 47, 21, 6, 133, 148]
abbrev dktL_law_8 : List UInt8 := dkwL_law_8 ++ dktL_law_9
def dkwL_law_7 : List UInt8 := [4, 96, 46, 45, 184, 0, 72, 54, 5, 44, 42, 21, 4, 4, 96, 46, 182, 0, 75, 54, 6, 44]
abbrev dktL_law_7 : List UInt8 := dkwL_law_7 ++ dktL_law_8
def dkwL_law_6 : List UInt8 := [21, 5, 154, 0, 15, 45, 3, 47, 21, 6, 133, 148, 153, 0, 5, 3, 172, 167, 3, 40, 43, 42, 21, 4]
abbrev dktL_law_6 : List UInt8 := dkwL_law_6 ++ dktL_law_7
def dkwL_law_5 : List UInt8 := [96, 46, 42, 21, 4, 7, 96, 46, 182, 0, 68, 54, 6, 44, 182, 0, 69, 21, 5, 159, 0, 5, 3, 172]
abbrev dktL_law_5 : List UInt8 := dkwL_law_5 ++ dktL_law_6
def dkwL_law_4 : List UInt8 := [46, 45, 184, 0, 63, 54, 5, 44, 42, 21, 4, 4, 96, 46, 42, 21, 4, 5, 96, 46, 42, 21, 4, 6]
abbrev dktL_law_4 : List UInt8 := dkwL_law_4 ++ dktL_law_5
def dkwL_law_3 : List UInt8 := [43, 42, 21, 4, 4, 96, 46, 42, 21, 4, 5, 96, 46, 42, 21, 4, 6, 96, 46, 42, 21, 4, 7, 96]
abbrev dktL_law_3 : List UInt8 := dkwL_law_3 ++ dktL_law_4
def dkwL_law_2 : List UInt8 := [170, 0, 0, 3, 198, 0, 0, 0, 0, 0, 0, 0, 13, 0, 0, 0, 69, 0, 0, 0, 161, 0, 0, 0, 217, 0, 0, 1, 5, 0, 0, 1, 61, 0, 0, 1, 129, 0, 0, 1, 209, 0, 0, 2, 33, 0, 0, 2, 113, 0, 0, 2, 193, 0, 0, 2, 249, 0, 0, 3, 49, 0, 0, 3, 117, 0, 0, 3, 130]
abbrev dktL_law_2 : List UInt8 := dkwL_law_2 ++ dktL_law_3
def dkwL_law_1 : List UInt8 := [21, 4, 42, 190, 8, 100, 163, 3, 214, 42, 21, 4, 46, 16, 15, 126]
abbrev dktL_law_1 : List UInt8 := dkwL_law_1 ++ dktL_law_2
def dkwL_law_0 : List UInt8 := [187, 0, 8, 89, 183, 0, 59, 76, 187, 0, 60, 89, 183, 0, 62, 77, 4, 188, 11, 78, 3, 54, 4]
abbrev dktL_law_0 : List UInt8 := dkwL_law_0 ++ dktL_law_1
theorem dksL_law_0 : cL_law.data.toList.drop 0 = dktL_law_0 := by decide +kernel
theorem dksL_law_1 : cL_law.data.toList.drop 23 = dktL_law_1 := dk_seg dksL_law_0 23 rfl rfl
theorem dksL_law_2 : cL_law.data.toList.drop 39 = dktL_law_2 := dk_seg dksL_law_1 16 rfl rfl
theorem dksL_law_3 : cL_law.data.toList.drop 108 = dktL_law_3 := dk_seg dksL_law_2 69 rfl rfl
theorem dksL_law_4 : cL_law.data.toList.drop 132 = dktL_law_4 := dk_seg dksL_law_3 24 rfl rfl
theorem dksL_law_5 : cL_law.data.toList.drop 156 = dktL_law_5 := dk_seg dksL_law_4 24 rfl rfl
theorem dksL_law_6 : cL_law.data.toList.drop 180 = dktL_law_6 := dk_seg dksL_law_5 24 rfl rfl
theorem dksL_law_7 : cL_law.data.toList.drop 204 = dktL_law_7 := dk_seg dksL_law_6 24 rfl rfl
theorem dksL_law_8 : cL_law.data.toList.drop 226 = dktL_law_8 := dk_seg dksL_law_7 22 rfl rfl
theorem dksL_law_9 : cL_law.data.toList.drop 248 = dktL_law_9 := dk_seg dksL_law_8 22 rfl rfl
theorem dksL_law_10 : cL_law.data.toList.drop 270 = dktL_law_10 := dk_seg dksL_law_9 22 rfl rfl
theorem dksL_law_11 : cL_law.data.toList.drop 292 = dktL_law_11 := dk_seg dksL_law_10 22 rfl rfl
theorem dksL_law_12 : cL_law.data.toList.drop 315 = dktL_law_12 := dk_seg dksL_law_11 23 rfl rfl
theorem dksL_law_13 : cL_law.data.toList.drop 338 = dktL_law_13 := dk_seg dksL_law_12 23 rfl rfl
theorem dksL_law_14 : cL_law.data.toList.drop 362 = dktL_law_14 := dk_seg dksL_law_13 24 rfl rfl
theorem dksL_law_15 : cL_law.data.toList.drop 386 = dktL_law_15 := dk_seg dksL_law_14 24 rfl rfl
theorem dksL_law_16 : cL_law.data.toList.drop 410 = dktL_law_16 := dk_seg dksL_law_15 24 rfl rfl
theorem dksL_law_17 : cL_law.data.toList.drop 434 = dktL_law_17 := dk_seg dksL_law_16 24 rfl rfl
theorem dksL_law_18 : cL_law.data.toList.drop 457 = dktL_law_18 := dk_seg dksL_law_17 23 rfl rfl
theorem dksL_law_19 : cL_law.data.toList.drop 479 = dktL_law_19 := dk_seg dksL_law_18 22 rfl rfl
theorem dksL_law_20 : cL_law.data.toList.drop 501 = dktL_law_20 := dk_seg dksL_law_19 22 rfl rfl
theorem dksL_law_21 : cL_law.data.toList.drop 524 = dktL_law_21 := dk_seg dksL_law_20 23 rfl rfl
theorem dksL_law_22 : cL_law.data.toList.drop 548 = dktL_law_22 := dk_seg dksL_law_21 24 rfl rfl
theorem dksL_law_23 : cL_law.data.toList.drop 572 = dktL_law_23 := dk_seg dksL_law_22 24 rfl rfl
theorem dksL_law_24 : cL_law.data.toList.drop 596 = dktL_law_24 := dk_seg dksL_law_23 24 rfl rfl
theorem dksL_law_25 : cL_law.data.toList.drop 620 = dktL_law_25 := dk_seg dksL_law_24 24 rfl rfl
theorem dksL_law_26 : cL_law.data.toList.drop 644 = dktL_law_26 := dk_seg dksL_law_25 24 rfl rfl
theorem dksL_law_27 : cL_law.data.toList.drop 668 = dktL_law_27 := dk_seg dksL_law_26 24 rfl rfl
theorem dksL_law_28 : cL_law.data.toList.drop 691 = dktL_law_28 := dk_seg dksL_law_27 23 rfl rfl
theorem dksL_law_29 : cL_law.data.toList.drop 714 = dktL_law_29 := dk_seg dksL_law_28 23 rfl rfl
theorem dksL_law_30 : cL_law.data.toList.drop 736 = dktL_law_30 := dk_seg dksL_law_29 22 rfl rfl
theorem dksL_law_31 : cL_law.data.toList.drop 759 = dktL_law_31 := dk_seg dksL_law_30 23 rfl rfl
theorem dksL_law_32 : cL_law.data.toList.drop 782 = dktL_law_32 := dk_seg dksL_law_31 23 rfl rfl
theorem dksL_law_33 : cL_law.data.toList.drop 806 = dktL_law_33 := dk_seg dksL_law_32 24 rfl rfl
theorem dksL_law_34 : cL_law.data.toList.drop 829 = dktL_law_34 := dk_seg dksL_law_33 23 rfl rfl
theorem dksL_law_35 : cL_law.data.toList.drop 853 = dktL_law_35 := dk_seg dksL_law_34 24 rfl rfl
theorem dksL_law_36 : cL_law.data.toList.drop 877 = dktL_law_36 := dk_seg dksL_law_35 24 rfl rfl
theorem dksL_law_37 : cL_law.data.toList.drop 899 = dktL_law_37 := dk_seg dksL_law_36 22 rfl rfl
theorem dksL_law_38 : cL_law.data.toList.drop 921 = dktL_law_38 := dk_seg dksL_law_37 22 rfl rfl
theorem dksL_law_39 : cL_law.data.toList.drop 945 = dktL_law_39 := dk_seg dksL_law_38 24 rfl rfl
theorem dksL_law_40 : cL_law.data.toList.drop 969 = dktL_law_40 := dk_seg dksL_law_39 24 rfl rfl
theorem dksL_law_41 : cL_law.data.toList.drop 993 = dktL_law_41 := dk_seg dksL_law_40 24 rfl rfl
theorem dL_law_0 : decode cL_law 0 = .ok (.new 8, 3) := dk_187 0 8 (dk_at dksL_law_0 0 rfl rfl)
theorem dL_law_3 : decode cL_law 3 = .ok (.dup, 1) := dk_89 (dk_at dksL_law_0 3 rfl rfl)
theorem dL_law_4 : decode cL_law 4 = .ok (.invokespecial 59, 3) := dk_183 0 59 (dk_at dksL_law_0 4 rfl rfl)
theorem dL_law_7 : decode cL_law 7 = .ok (.astore_n 1, 1) := dk_76 (dk_at dksL_law_0 7 rfl rfl)
theorem dL_law_8 : decode cL_law 8 = .ok (.new 60, 3) := dk_187 0 60 (dk_at dksL_law_0 8 rfl rfl)
theorem dL_law_11 : decode cL_law 11 = .ok (.dup, 1) := dk_89 (dk_at dksL_law_0 11 rfl rfl)
theorem dL_law_12 : decode cL_law 12 = .ok (.invokespecial 62, 3) := dk_183 0 62 (dk_at dksL_law_0 12 rfl rfl)
theorem dL_law_15 : decode cL_law 15 = .ok (.astore_n 2, 1) := dk_77 (dk_at dksL_law_0 15 rfl rfl)
theorem dL_law_16 : decode cL_law 16 = .ok (.iconst 1, 1) := dk_4 (dk_at dksL_law_0 16 rfl rfl)
theorem dL_law_17 : decode cL_law 17 = .ok (.newarray .long, 2) := dk_188_11 (dk_at dksL_law_0 17 rfl rfl)
theorem dL_law_19 : decode cL_law 19 = .ok (.astore_n 3, 1) := dk_78 (dk_at dksL_law_0 19 rfl rfl)
theorem dL_law_20 : decode cL_law 20 = .ok (.iconst 0, 1) := dk_3 (dk_at dksL_law_0 20 rfl rfl)
theorem dL_law_21 : decode cL_law 21 = .ok (.istore 4, 2) := dk_54 4 (dk_at dksL_law_0 21 rfl rfl)
theorem dL_law_23 : decode cL_law 23 = .ok (.iload 4, 2) := dk_21 4 (dk_at dksL_law_1 0 rfl rfl)
theorem dL_law_25 : decode cL_law 25 = .ok (.aload_n 0, 1) := dk_42 (dk_at dksL_law_1 2 rfl rfl)
theorem dL_law_26 : decode cL_law 26 = .ok (.arraylength, 1) := dk_190 (dk_at dksL_law_1 3 rfl rfl)
theorem dL_law_27 : decode cL_law 27 = .ok (.iconst 5, 1) := dk_8 (dk_at dksL_law_1 4 rfl rfl)
theorem dL_law_28 : decode cL_law 28 = .ok (.isub, 1) := dk_100 (dk_at dksL_law_1 5 rfl rfl)
theorem dL_law_29 : decode cL_law 29 = .ok (.if_icmp .gt 982, 3) := dk_163 3 214 (dk_at dksL_law_1 6 rfl rfl)
theorem dL_law_32 : decode cL_law 32 = .ok (.aload_n 0, 1) := dk_42 (dk_at dksL_law_1 9 rfl rfl)
theorem dL_law_33 : decode cL_law 33 = .ok (.iload 4, 2) := dk_21 4 (dk_at dksL_law_1 10 rfl rfl)
theorem dL_law_35 : decode cL_law 35 = .ok (.iaload, 1) := dk_46 (dk_at dksL_law_1 12 rfl rfl)
theorem dL_law_36 : decode cL_law 36 = .ok (.bipush 15, 2) := dk_16 15 (dk_at dksL_law_1 13 rfl rfl)
theorem dL_law_38 : decode cL_law 38 = .ok (.iand, 1) := dk_126 (dk_at dksL_law_1 15 rfl rfl)
theorem dL_law_39 : decode cL_law 39 = .ok (.tableswitch 966 0 13 #[69, 161, 217, 261, 317, 385, 465, 545, 625, 705, 761, 817, 885, 898], 69) := by decide +kernel
theorem dL_law_108 : decode cL_law 108 = .ok (.aload_n 1, 1) := dk_43 (dk_at dksL_law_3 0 rfl rfl)
theorem dL_law_109 : decode cL_law 109 = .ok (.aload_n 0, 1) := dk_42 (dk_at dksL_law_3 1 rfl rfl)
theorem dL_law_110 : decode cL_law 110 = .ok (.iload 4, 2) := dk_21 4 (dk_at dksL_law_3 2 rfl rfl)
theorem dL_law_112 : decode cL_law 112 = .ok (.iconst 1, 1) := dk_4 (dk_at dksL_law_3 4 rfl rfl)
theorem dL_law_113 : decode cL_law 113 = .ok (.iadd, 1) := dk_96 (dk_at dksL_law_3 5 rfl rfl)
theorem dL_law_114 : decode cL_law 114 = .ok (.iaload, 1) := dk_46 (dk_at dksL_law_3 6 rfl rfl)
theorem dL_law_115 : decode cL_law 115 = .ok (.aload_n 0, 1) := dk_42 (dk_at dksL_law_3 7 rfl rfl)
theorem dL_law_116 : decode cL_law 116 = .ok (.iload 4, 2) := dk_21 4 (dk_at dksL_law_3 8 rfl rfl)
theorem dL_law_118 : decode cL_law 118 = .ok (.iconst 2, 1) := dk_5 (dk_at dksL_law_3 10 rfl rfl)
theorem dL_law_119 : decode cL_law 119 = .ok (.iadd, 1) := dk_96 (dk_at dksL_law_3 11 rfl rfl)
theorem dL_law_120 : decode cL_law 120 = .ok (.iaload, 1) := dk_46 (dk_at dksL_law_3 12 rfl rfl)
theorem dL_law_121 : decode cL_law 121 = .ok (.aload_n 0, 1) := dk_42 (dk_at dksL_law_3 13 rfl rfl)
theorem dL_law_122 : decode cL_law 122 = .ok (.iload 4, 2) := dk_21 4 (dk_at dksL_law_3 14 rfl rfl)
theorem dL_law_124 : decode cL_law 124 = .ok (.iconst 3, 1) := dk_6 (dk_at dksL_law_3 16 rfl rfl)
theorem dL_law_125 : decode cL_law 125 = .ok (.iadd, 1) := dk_96 (dk_at dksL_law_3 17 rfl rfl)
theorem dL_law_126 : decode cL_law 126 = .ok (.iaload, 1) := dk_46 (dk_at dksL_law_3 18 rfl rfl)
theorem dL_law_127 : decode cL_law 127 = .ok (.aload_n 0, 1) := dk_42 (dk_at dksL_law_3 19 rfl rfl)
theorem dL_law_128 : decode cL_law 128 = .ok (.iload 4, 2) := dk_21 4 (dk_at dksL_law_3 20 rfl rfl)
theorem dL_law_130 : decode cL_law 130 = .ok (.iconst 4, 1) := dk_7 (dk_at dksL_law_3 22 rfl rfl)
theorem dL_law_131 : decode cL_law 131 = .ok (.iadd, 1) := dk_96 (dk_at dksL_law_3 23 rfl rfl)
theorem dL_law_132 : decode cL_law 132 = .ok (.iaload, 1) := dk_46 (dk_at dksL_law_4 0 rfl rfl)
theorem dL_law_133 : decode cL_law 133 = .ok (.aload_n 3, 1) := dk_45 (dk_at dksL_law_4 1 rfl rfl)
theorem dL_law_134 : decode cL_law 134 = .ok (.invokestatic 63, 3) := dk_184 0 63 (dk_at dksL_law_4 2 rfl rfl)
theorem dL_law_137 : decode cL_law 137 = .ok (.istore 5, 2) := dk_54 5 (dk_at dksL_law_4 5 rfl rfl)
theorem dL_law_139 : decode cL_law 139 = .ok (.aload_n 2, 1) := dk_44 (dk_at dksL_law_4 7 rfl rfl)
theorem dL_law_140 : decode cL_law 140 = .ok (.aload_n 0, 1) := dk_42 (dk_at dksL_law_4 8 rfl rfl)
theorem dL_law_141 : decode cL_law 141 = .ok (.iload 4, 2) := dk_21 4 (dk_at dksL_law_4 9 rfl rfl)
theorem dL_law_143 : decode cL_law 143 = .ok (.iconst 1, 1) := dk_4 (dk_at dksL_law_4 11 rfl rfl)
theorem dL_law_144 : decode cL_law 144 = .ok (.iadd, 1) := dk_96 (dk_at dksL_law_4 12 rfl rfl)
theorem dL_law_145 : decode cL_law 145 = .ok (.iaload, 1) := dk_46 (dk_at dksL_law_4 13 rfl rfl)
theorem dL_law_146 : decode cL_law 146 = .ok (.aload_n 0, 1) := dk_42 (dk_at dksL_law_4 14 rfl rfl)
theorem dL_law_147 : decode cL_law 147 = .ok (.iload 4, 2) := dk_21 4 (dk_at dksL_law_4 15 rfl rfl)
theorem dL_law_149 : decode cL_law 149 = .ok (.iconst 2, 1) := dk_5 (dk_at dksL_law_4 17 rfl rfl)
theorem dL_law_150 : decode cL_law 150 = .ok (.iadd, 1) := dk_96 (dk_at dksL_law_4 18 rfl rfl)
theorem dL_law_151 : decode cL_law 151 = .ok (.iaload, 1) := dk_46 (dk_at dksL_law_4 19 rfl rfl)
theorem dL_law_152 : decode cL_law 152 = .ok (.aload_n 0, 1) := dk_42 (dk_at dksL_law_4 20 rfl rfl)
theorem dL_law_153 : decode cL_law 153 = .ok (.iload 4, 2) := dk_21 4 (dk_at dksL_law_4 21 rfl rfl)
theorem dL_law_155 : decode cL_law 155 = .ok (.iconst 3, 1) := dk_6 (dk_at dksL_law_4 23 rfl rfl)
theorem dL_law_156 : decode cL_law 156 = .ok (.iadd, 1) := dk_96 (dk_at dksL_law_5 0 rfl rfl)
theorem dL_law_157 : decode cL_law 157 = .ok (.iaload, 1) := dk_46 (dk_at dksL_law_5 1 rfl rfl)
theorem dL_law_158 : decode cL_law 158 = .ok (.aload_n 0, 1) := dk_42 (dk_at dksL_law_5 2 rfl rfl)
theorem dL_law_159 : decode cL_law 159 = .ok (.iload 4, 2) := dk_21 4 (dk_at dksL_law_5 3 rfl rfl)
theorem dL_law_161 : decode cL_law 161 = .ok (.iconst 4, 1) := dk_7 (dk_at dksL_law_5 5 rfl rfl)
theorem dL_law_162 : decode cL_law 162 = .ok (.iadd, 1) := dk_96 (dk_at dksL_law_5 6 rfl rfl)
theorem dL_law_163 : decode cL_law 163 = .ok (.iaload, 1) := dk_46 (dk_at dksL_law_5 7 rfl rfl)
theorem dL_law_164 : decode cL_law 164 = .ok (.invokevirtual 68, 3) := dk_182 0 68 (dk_at dksL_law_5 8 rfl rfl)
theorem dL_law_167 : decode cL_law 167 = .ok (.istore 6, 2) := dk_54 6 (dk_at dksL_law_5 11 rfl rfl)
theorem dL_law_169 : decode cL_law 169 = .ok (.aload_n 2, 1) := dk_44 (dk_at dksL_law_5 13 rfl rfl)
theorem dL_law_170 : decode cL_law 170 = .ok (.invokevirtual 69, 3) := dk_182 0 69 (dk_at dksL_law_5 14 rfl rfl)
theorem dL_law_173 : decode cL_law 173 = .ok (.iload 5, 2) := dk_21 5 (dk_at dksL_law_5 17 rfl rfl)
theorem dL_law_175 : decode cL_law 175 = .ok (.if_icmp .eq 5, 3) := dk_159 0 5 (dk_at dksL_law_5 19 rfl rfl)
theorem dL_law_178 : decode cL_law 178 = .ok (.iconst 0, 1) := dk_3 (dk_at dksL_law_5 22 rfl rfl)
theorem dL_law_179 : decode cL_law 179 = .ok (.ireturn, 1) := dk_172 (dk_at dksL_law_5 23 rfl rfl)
theorem dL_law_180 : decode cL_law 180 = .ok (.iload 5, 2) := dk_21 5 (dk_at dksL_law_6 0 rfl rfl)
theorem dL_law_182 : decode cL_law 182 = .ok (.ifCond .ne 15, 3) := dk_154 0 15 (dk_at dksL_law_6 2 rfl rfl)
theorem dL_law_185 : decode cL_law 185 = .ok (.aload_n 3, 1) := dk_45 (dk_at dksL_law_6 5 rfl rfl)
theorem dL_law_186 : decode cL_law 186 = .ok (.iconst 0, 1) := dk_3 (dk_at dksL_law_6 6 rfl rfl)
theorem dL_law_187 : decode cL_law 187 = .ok (.laload, 1) := dk_47 (dk_at dksL_law_6 7 rfl rfl)
theorem dL_law_188 : decode cL_law 188 = .ok (.iload 6, 2) := dk_21 6 (dk_at dksL_law_6 8 rfl rfl)
theorem dL_law_190 : decode cL_law 190 = .ok (.i2l, 1) := dk_133 (dk_at dksL_law_6 10 rfl rfl)
theorem dL_law_191 : decode cL_law 191 = .ok (.lcmp, 1) := dk_148 (dk_at dksL_law_6 11 rfl rfl)
theorem dL_law_192 : decode cL_law 192 = .ok (.ifCond .eq 5, 3) := dk_153 0 5 (dk_at dksL_law_6 12 rfl rfl)
theorem dL_law_195 : decode cL_law 195 = .ok (.iconst 0, 1) := dk_3 (dk_at dksL_law_6 15 rfl rfl)
theorem dL_law_196 : decode cL_law 196 = .ok (.ireturn, 1) := dk_172 (dk_at dksL_law_6 16 rfl rfl)
theorem dL_law_197 : decode cL_law 197 = .ok (.goto 808, 3) := dk_167 3 40 (dk_at dksL_law_6 17 rfl rfl)
theorem dL_law_200 : decode cL_law 200 = .ok (.aload_n 1, 1) := dk_43 (dk_at dksL_law_6 20 rfl rfl)
theorem dL_law_201 : decode cL_law 201 = .ok (.aload_n 0, 1) := dk_42 (dk_at dksL_law_6 21 rfl rfl)
theorem dL_law_202 : decode cL_law 202 = .ok (.iload 4, 2) := dk_21 4 (dk_at dksL_law_6 22 rfl rfl)
theorem dL_law_204 : decode cL_law 204 = .ok (.iconst 1, 1) := dk_4 (dk_at dksL_law_7 0 rfl rfl)
theorem dL_law_205 : decode cL_law 205 = .ok (.iadd, 1) := dk_96 (dk_at dksL_law_7 1 rfl rfl)
theorem dL_law_206 : decode cL_law 206 = .ok (.iaload, 1) := dk_46 (dk_at dksL_law_7 2 rfl rfl)
theorem dL_law_207 : decode cL_law 207 = .ok (.aload_n 3, 1) := dk_45 (dk_at dksL_law_7 3 rfl rfl)
theorem dL_law_208 : decode cL_law 208 = .ok (.invokestatic 72, 3) := dk_184 0 72 (dk_at dksL_law_7 4 rfl rfl)
theorem dL_law_211 : decode cL_law 211 = .ok (.istore 5, 2) := dk_54 5 (dk_at dksL_law_7 7 rfl rfl)
theorem dL_law_213 : decode cL_law 213 = .ok (.aload_n 2, 1) := dk_44 (dk_at dksL_law_7 9 rfl rfl)
theorem dL_law_214 : decode cL_law 214 = .ok (.aload_n 0, 1) := dk_42 (dk_at dksL_law_7 10 rfl rfl)
theorem dL_law_215 : decode cL_law 215 = .ok (.iload 4, 2) := dk_21 4 (dk_at dksL_law_7 11 rfl rfl)
theorem dL_law_217 : decode cL_law 217 = .ok (.iconst 1, 1) := dk_4 (dk_at dksL_law_7 13 rfl rfl)
theorem dL_law_218 : decode cL_law 218 = .ok (.iadd, 1) := dk_96 (dk_at dksL_law_7 14 rfl rfl)
theorem dL_law_219 : decode cL_law 219 = .ok (.iaload, 1) := dk_46 (dk_at dksL_law_7 15 rfl rfl)
theorem dL_law_220 : decode cL_law 220 = .ok (.invokevirtual 75, 3) := dk_182 0 75 (dk_at dksL_law_7 16 rfl rfl)
theorem dL_law_223 : decode cL_law 223 = .ok (.istore 6, 2) := dk_54 6 (dk_at dksL_law_7 19 rfl rfl)
theorem dL_law_225 : decode cL_law 225 = .ok (.aload_n 2, 1) := dk_44 (dk_at dksL_law_7 21 rfl rfl)
theorem dL_law_226 : decode cL_law 226 = .ok (.invokevirtual 69, 3) := dk_182 0 69 (dk_at dksL_law_8 0 rfl rfl)
theorem dL_law_229 : decode cL_law 229 = .ok (.iload 5, 2) := dk_21 5 (dk_at dksL_law_8 3 rfl rfl)
theorem dL_law_231 : decode cL_law 231 = .ok (.if_icmp .eq 5, 3) := dk_159 0 5 (dk_at dksL_law_8 5 rfl rfl)
theorem dL_law_234 : decode cL_law 234 = .ok (.iconst 0, 1) := dk_3 (dk_at dksL_law_8 8 rfl rfl)
theorem dL_law_235 : decode cL_law 235 = .ok (.ireturn, 1) := dk_172 (dk_at dksL_law_8 9 rfl rfl)
theorem dL_law_236 : decode cL_law 236 = .ok (.iload 5, 2) := dk_21 5 (dk_at dksL_law_8 10 rfl rfl)
theorem dL_law_238 : decode cL_law 238 = .ok (.ifCond .ne 15, 3) := dk_154 0 15 (dk_at dksL_law_8 12 rfl rfl)
theorem dL_law_241 : decode cL_law 241 = .ok (.aload_n 3, 1) := dk_45 (dk_at dksL_law_8 15 rfl rfl)
theorem dL_law_242 : decode cL_law 242 = .ok (.iconst 0, 1) := dk_3 (dk_at dksL_law_8 16 rfl rfl)
theorem dL_law_243 : decode cL_law 243 = .ok (.laload, 1) := dk_47 (dk_at dksL_law_8 17 rfl rfl)
theorem dL_law_244 : decode cL_law 244 = .ok (.iload 6, 2) := dk_21 6 (dk_at dksL_law_8 18 rfl rfl)
theorem dL_law_246 : decode cL_law 246 = .ok (.i2l, 1) := dk_133 (dk_at dksL_law_8 20 rfl rfl)
theorem dL_law_247 : decode cL_law 247 = .ok (.lcmp, 1) := dk_148 (dk_at dksL_law_8 21 rfl rfl)
theorem dL_law_248 : decode cL_law 248 = .ok (.ifCond .eq 5, 3) := dk_153 0 5 (dk_at dksL_law_9 0 rfl rfl)
theorem dL_law_251 : decode cL_law 251 = .ok (.iconst 0, 1) := dk_3 (dk_at dksL_law_9 3 rfl rfl)
theorem dL_law_252 : decode cL_law 252 = .ok (.ireturn, 1) := dk_172 (dk_at dksL_law_9 4 rfl rfl)
theorem dL_law_253 : decode cL_law 253 = .ok (.goto 752, 3) := dk_167 2 240 (dk_at dksL_law_9 5 rfl rfl)
theorem dL_law_256 : decode cL_law 256 = .ok (.aload_n 1, 1) := dk_43 (dk_at dksL_law_9 8 rfl rfl)
theorem dL_law_257 : decode cL_law 257 = .ok (.aload_n 3, 1) := dk_45 (dk_at dksL_law_9 9 rfl rfl)
theorem dL_law_258 : decode cL_law 258 = .ok (.invokestatic 76, 3) := dk_184 0 76 (dk_at dksL_law_9 10 rfl rfl)
theorem dL_law_261 : decode cL_law 261 = .ok (.istore 5, 2) := dk_54 5 (dk_at dksL_law_9 13 rfl rfl)
theorem dL_law_263 : decode cL_law 263 = .ok (.aload_n 2, 1) := dk_44 (dk_at dksL_law_9 15 rfl rfl)
theorem dL_law_264 : decode cL_law 264 = .ok (.invokevirtual 79, 3) := dk_182 0 79 (dk_at dksL_law_9 16 rfl rfl)
theorem dL_law_267 : decode cL_law 267 = .ok (.istore 6, 2) := dk_54 6 (dk_at dksL_law_9 19 rfl rfl)
theorem dL_law_269 : decode cL_law 269 = .ok (.aload_n 2, 1) := dk_44 (dk_at dksL_law_9 21 rfl rfl)
theorem dL_law_270 : decode cL_law 270 = .ok (.invokevirtual 69, 3) := dk_182 0 69 (dk_at dksL_law_10 0 rfl rfl)
theorem dL_law_273 : decode cL_law 273 = .ok (.iload 5, 2) := dk_21 5 (dk_at dksL_law_10 3 rfl rfl)
theorem dL_law_275 : decode cL_law 275 = .ok (.if_icmp .eq 5, 3) := dk_159 0 5 (dk_at dksL_law_10 5 rfl rfl)
theorem dL_law_278 : decode cL_law 278 = .ok (.iconst 0, 1) := dk_3 (dk_at dksL_law_10 8 rfl rfl)
theorem dL_law_279 : decode cL_law 279 = .ok (.ireturn, 1) := dk_172 (dk_at dksL_law_10 9 rfl rfl)
theorem dL_law_280 : decode cL_law 280 = .ok (.iload 5, 2) := dk_21 5 (dk_at dksL_law_10 10 rfl rfl)
theorem dL_law_282 : decode cL_law 282 = .ok (.ifCond .ne 15, 3) := dk_154 0 15 (dk_at dksL_law_10 12 rfl rfl)
theorem dL_law_285 : decode cL_law 285 = .ok (.aload_n 3, 1) := dk_45 (dk_at dksL_law_10 15 rfl rfl)
theorem dL_law_286 : decode cL_law 286 = .ok (.iconst 0, 1) := dk_3 (dk_at dksL_law_10 16 rfl rfl)
theorem dL_law_287 : decode cL_law 287 = .ok (.laload, 1) := dk_47 (dk_at dksL_law_10 17 rfl rfl)
theorem dL_law_288 : decode cL_law 288 = .ok (.iload 6, 2) := dk_21 6 (dk_at dksL_law_10 18 rfl rfl)
theorem dL_law_290 : decode cL_law 290 = .ok (.i2l, 1) := dk_133 (dk_at dksL_law_10 20 rfl rfl)
theorem dL_law_291 : decode cL_law 291 = .ok (.lcmp, 1) := dk_148 (dk_at dksL_law_10 21 rfl rfl)
theorem dL_law_292 : decode cL_law 292 = .ok (.ifCond .eq 5, 3) := dk_153 0 5 (dk_at dksL_law_11 0 rfl rfl)
theorem dL_law_295 : decode cL_law 295 = .ok (.iconst 0, 1) := dk_3 (dk_at dksL_law_11 3 rfl rfl)
theorem dL_law_296 : decode cL_law 296 = .ok (.ireturn, 1) := dk_172 (dk_at dksL_law_11 4 rfl rfl)
theorem dL_law_297 : decode cL_law 297 = .ok (.goto 708, 3) := dk_167 2 196 (dk_at dksL_law_11 5 rfl rfl)
theorem dL_law_300 : decode cL_law 300 = .ok (.aload_n 1, 1) := dk_43 (dk_at dksL_law_11 8 rfl rfl)
theorem dL_law_301 : decode cL_law 301 = .ok (.aload_n 0, 1) := dk_42 (dk_at dksL_law_11 9 rfl rfl)
theorem dL_law_302 : decode cL_law 302 = .ok (.iload 4, 2) := dk_21 4 (dk_at dksL_law_11 10 rfl rfl)
theorem dL_law_304 : decode cL_law 304 = .ok (.iconst 1, 1) := dk_4 (dk_at dksL_law_11 12 rfl rfl)
theorem dL_law_305 : decode cL_law 305 = .ok (.iadd, 1) := dk_96 (dk_at dksL_law_11 13 rfl rfl)
theorem dL_law_306 : decode cL_law 306 = .ok (.iaload, 1) := dk_46 (dk_at dksL_law_11 14 rfl rfl)
theorem dL_law_307 : decode cL_law 307 = .ok (.aload_n 3, 1) := dk_45 (dk_at dksL_law_11 15 rfl rfl)
theorem dL_law_308 : decode cL_law 308 = .ok (.invokestatic 80, 3) := dk_184 0 80 (dk_at dksL_law_11 16 rfl rfl)
theorem dL_law_311 : decode cL_law 311 = .ok (.istore 5, 2) := dk_54 5 (dk_at dksL_law_11 19 rfl rfl)
theorem dL_law_313 : decode cL_law 313 = .ok (.aload_n 2, 1) := dk_44 (dk_at dksL_law_11 21 rfl rfl)
theorem dL_law_314 : decode cL_law 314 = .ok (.aload_n 0, 1) := dk_42 (dk_at dksL_law_11 22 rfl rfl)
theorem dL_law_315 : decode cL_law 315 = .ok (.iload 4, 2) := dk_21 4 (dk_at dksL_law_12 0 rfl rfl)
theorem dL_law_317 : decode cL_law 317 = .ok (.iconst 1, 1) := dk_4 (dk_at dksL_law_12 2 rfl rfl)
theorem dL_law_318 : decode cL_law 318 = .ok (.iadd, 1) := dk_96 (dk_at dksL_law_12 3 rfl rfl)
theorem dL_law_319 : decode cL_law 319 = .ok (.iaload, 1) := dk_46 (dk_at dksL_law_12 4 rfl rfl)
theorem dL_law_320 : decode cL_law 320 = .ok (.invokevirtual 82, 3) := dk_182 0 82 (dk_at dksL_law_12 5 rfl rfl)
theorem dL_law_323 : decode cL_law 323 = .ok (.istore 6, 2) := dk_54 6 (dk_at dksL_law_12 8 rfl rfl)
theorem dL_law_325 : decode cL_law 325 = .ok (.aload_n 2, 1) := dk_44 (dk_at dksL_law_12 10 rfl rfl)
theorem dL_law_326 : decode cL_law 326 = .ok (.invokevirtual 69, 3) := dk_182 0 69 (dk_at dksL_law_12 11 rfl rfl)
theorem dL_law_329 : decode cL_law 329 = .ok (.iload 5, 2) := dk_21 5 (dk_at dksL_law_12 14 rfl rfl)
theorem dL_law_331 : decode cL_law 331 = .ok (.if_icmp .eq 5, 3) := dk_159 0 5 (dk_at dksL_law_12 16 rfl rfl)
theorem dL_law_334 : decode cL_law 334 = .ok (.iconst 0, 1) := dk_3 (dk_at dksL_law_12 19 rfl rfl)
theorem dL_law_335 : decode cL_law 335 = .ok (.ireturn, 1) := dk_172 (dk_at dksL_law_12 20 rfl rfl)
theorem dL_law_336 : decode cL_law 336 = .ok (.iload 5, 2) := dk_21 5 (dk_at dksL_law_12 21 rfl rfl)
theorem dL_law_338 : decode cL_law 338 = .ok (.ifCond .ne 15, 3) := dk_154 0 15 (dk_at dksL_law_13 0 rfl rfl)
theorem dL_law_341 : decode cL_law 341 = .ok (.aload_n 3, 1) := dk_45 (dk_at dksL_law_13 3 rfl rfl)
theorem dL_law_342 : decode cL_law 342 = .ok (.iconst 0, 1) := dk_3 (dk_at dksL_law_13 4 rfl rfl)
theorem dL_law_343 : decode cL_law 343 = .ok (.laload, 1) := dk_47 (dk_at dksL_law_13 5 rfl rfl)
theorem dL_law_344 : decode cL_law 344 = .ok (.iload 6, 2) := dk_21 6 (dk_at dksL_law_13 6 rfl rfl)
theorem dL_law_346 : decode cL_law 346 = .ok (.i2l, 1) := dk_133 (dk_at dksL_law_13 8 rfl rfl)
theorem dL_law_347 : decode cL_law 347 = .ok (.lcmp, 1) := dk_148 (dk_at dksL_law_13 9 rfl rfl)
theorem dL_law_348 : decode cL_law 348 = .ok (.ifCond .eq 5, 3) := dk_153 0 5 (dk_at dksL_law_13 10 rfl rfl)
theorem dL_law_351 : decode cL_law 351 = .ok (.iconst 0, 1) := dk_3 (dk_at dksL_law_13 13 rfl rfl)
theorem dL_law_352 : decode cL_law 352 = .ok (.ireturn, 1) := dk_172 (dk_at dksL_law_13 14 rfl rfl)
theorem dL_law_353 : decode cL_law 353 = .ok (.goto 652, 3) := dk_167 2 140 (dk_at dksL_law_13 15 rfl rfl)
theorem dL_law_356 : decode cL_law 356 = .ok (.aload_n 1, 1) := dk_43 (dk_at dksL_law_13 18 rfl rfl)
theorem dL_law_357 : decode cL_law 357 = .ok (.aload_n 0, 1) := dk_42 (dk_at dksL_law_13 19 rfl rfl)
theorem dL_law_358 : decode cL_law 358 = .ok (.iload 4, 2) := dk_21 4 (dk_at dksL_law_13 20 rfl rfl)
theorem dL_law_360 : decode cL_law 360 = .ok (.iconst 1, 1) := dk_4 (dk_at dksL_law_13 22 rfl rfl)
theorem dL_law_361 : decode cL_law 361 = .ok (.iadd, 1) := dk_96 (dk_at dksL_law_13 23 rfl rfl)
theorem dL_law_362 : decode cL_law 362 = .ok (.iaload, 1) := dk_46 (dk_at dksL_law_14 0 rfl rfl)
theorem dL_law_363 : decode cL_law 363 = .ok (.aload_n 0, 1) := dk_42 (dk_at dksL_law_14 1 rfl rfl)
theorem dL_law_364 : decode cL_law 364 = .ok (.iload 4, 2) := dk_21 4 (dk_at dksL_law_14 2 rfl rfl)
theorem dL_law_366 : decode cL_law 366 = .ok (.iconst 2, 1) := dk_5 (dk_at dksL_law_14 4 rfl rfl)
theorem dL_law_367 : decode cL_law 367 = .ok (.iadd, 1) := dk_96 (dk_at dksL_law_14 5 rfl rfl)
theorem dL_law_368 : decode cL_law 368 = .ok (.iaload, 1) := dk_46 (dk_at dksL_law_14 6 rfl rfl)
theorem dL_law_369 : decode cL_law 369 = .ok (.aload_n 3, 1) := dk_45 (dk_at dksL_law_14 7 rfl rfl)
theorem dL_law_370 : decode cL_law 370 = .ok (.invokestatic 83, 3) := dk_184 0 83 (dk_at dksL_law_14 8 rfl rfl)
theorem dL_law_373 : decode cL_law 373 = .ok (.istore 5, 2) := dk_54 5 (dk_at dksL_law_14 11 rfl rfl)
theorem dL_law_375 : decode cL_law 375 = .ok (.aload_n 2, 1) := dk_44 (dk_at dksL_law_14 13 rfl rfl)
theorem dL_law_376 : decode cL_law 376 = .ok (.aload_n 0, 1) := dk_42 (dk_at dksL_law_14 14 rfl rfl)
theorem dL_law_377 : decode cL_law 377 = .ok (.iload 4, 2) := dk_21 4 (dk_at dksL_law_14 15 rfl rfl)
theorem dL_law_379 : decode cL_law 379 = .ok (.iconst 1, 1) := dk_4 (dk_at dksL_law_14 17 rfl rfl)
theorem dL_law_380 : decode cL_law 380 = .ok (.iadd, 1) := dk_96 (dk_at dksL_law_14 18 rfl rfl)
theorem dL_law_381 : decode cL_law 381 = .ok (.iaload, 1) := dk_46 (dk_at dksL_law_14 19 rfl rfl)
theorem dL_law_382 : decode cL_law 382 = .ok (.aload_n 0, 1) := dk_42 (dk_at dksL_law_14 20 rfl rfl)
theorem dL_law_383 : decode cL_law 383 = .ok (.iload 4, 2) := dk_21 4 (dk_at dksL_law_14 21 rfl rfl)
theorem dL_law_385 : decode cL_law 385 = .ok (.iconst 2, 1) := dk_5 (dk_at dksL_law_14 23 rfl rfl)
theorem dL_law_386 : decode cL_law 386 = .ok (.iadd, 1) := dk_96 (dk_at dksL_law_15 0 rfl rfl)
theorem dL_law_387 : decode cL_law 387 = .ok (.iaload, 1) := dk_46 (dk_at dksL_law_15 1 rfl rfl)
theorem dL_law_388 : decode cL_law 388 = .ok (.invokevirtual 86, 3) := dk_182 0 86 (dk_at dksL_law_15 2 rfl rfl)
theorem dL_law_391 : decode cL_law 391 = .ok (.istore 6, 2) := dk_54 6 (dk_at dksL_law_15 5 rfl rfl)
theorem dL_law_393 : decode cL_law 393 = .ok (.aload_n 2, 1) := dk_44 (dk_at dksL_law_15 7 rfl rfl)
theorem dL_law_394 : decode cL_law 394 = .ok (.invokevirtual 69, 3) := dk_182 0 69 (dk_at dksL_law_15 8 rfl rfl)
theorem dL_law_397 : decode cL_law 397 = .ok (.iload 5, 2) := dk_21 5 (dk_at dksL_law_15 11 rfl rfl)
theorem dL_law_399 : decode cL_law 399 = .ok (.if_icmp .eq 5, 3) := dk_159 0 5 (dk_at dksL_law_15 13 rfl rfl)
theorem dL_law_402 : decode cL_law 402 = .ok (.iconst 0, 1) := dk_3 (dk_at dksL_law_15 16 rfl rfl)
theorem dL_law_403 : decode cL_law 403 = .ok (.ireturn, 1) := dk_172 (dk_at dksL_law_15 17 rfl rfl)
theorem dL_law_404 : decode cL_law 404 = .ok (.iload 5, 2) := dk_21 5 (dk_at dksL_law_15 18 rfl rfl)
theorem dL_law_406 : decode cL_law 406 = .ok (.ifCond .ne 15, 3) := dk_154 0 15 (dk_at dksL_law_15 20 rfl rfl)
theorem dL_law_409 : decode cL_law 409 = .ok (.aload_n 3, 1) := dk_45 (dk_at dksL_law_15 23 rfl rfl)
theorem dL_law_410 : decode cL_law 410 = .ok (.iconst 0, 1) := dk_3 (dk_at dksL_law_16 0 rfl rfl)
theorem dL_law_411 : decode cL_law 411 = .ok (.laload, 1) := dk_47 (dk_at dksL_law_16 1 rfl rfl)
theorem dL_law_412 : decode cL_law 412 = .ok (.iload 6, 2) := dk_21 6 (dk_at dksL_law_16 2 rfl rfl)
theorem dL_law_414 : decode cL_law 414 = .ok (.i2l, 1) := dk_133 (dk_at dksL_law_16 4 rfl rfl)
theorem dL_law_415 : decode cL_law 415 = .ok (.lcmp, 1) := dk_148 (dk_at dksL_law_16 5 rfl rfl)
theorem dL_law_416 : decode cL_law 416 = .ok (.ifCond .eq 5, 3) := dk_153 0 5 (dk_at dksL_law_16 6 rfl rfl)
theorem dL_law_419 : decode cL_law 419 = .ok (.iconst 0, 1) := dk_3 (dk_at dksL_law_16 9 rfl rfl)
theorem dL_law_420 : decode cL_law 420 = .ok (.ireturn, 1) := dk_172 (dk_at dksL_law_16 10 rfl rfl)
theorem dL_law_421 : decode cL_law 421 = .ok (.goto 584, 3) := dk_167 2 72 (dk_at dksL_law_16 11 rfl rfl)
theorem dL_law_424 : decode cL_law 424 = .ok (.aload_n 1, 1) := dk_43 (dk_at dksL_law_16 14 rfl rfl)
theorem dL_law_425 : decode cL_law 425 = .ok (.aload_n 0, 1) := dk_42 (dk_at dksL_law_16 15 rfl rfl)
theorem dL_law_426 : decode cL_law 426 = .ok (.iload 4, 2) := dk_21 4 (dk_at dksL_law_16 16 rfl rfl)
theorem dL_law_428 : decode cL_law 428 = .ok (.iconst 1, 1) := dk_4 (dk_at dksL_law_16 18 rfl rfl)
theorem dL_law_429 : decode cL_law 429 = .ok (.iadd, 1) := dk_96 (dk_at dksL_law_16 19 rfl rfl)
theorem dL_law_430 : decode cL_law 430 = .ok (.iaload, 1) := dk_46 (dk_at dksL_law_16 20 rfl rfl)
theorem dL_law_431 : decode cL_law 431 = .ok (.aload_n 0, 1) := dk_42 (dk_at dksL_law_16 21 rfl rfl)
theorem dL_law_432 : decode cL_law 432 = .ok (.iload 4, 2) := dk_21 4 (dk_at dksL_law_16 22 rfl rfl)
theorem dL_law_434 : decode cL_law 434 = .ok (.iconst 2, 1) := dk_5 (dk_at dksL_law_17 0 rfl rfl)
theorem dL_law_435 : decode cL_law 435 = .ok (.iadd, 1) := dk_96 (dk_at dksL_law_17 1 rfl rfl)
theorem dL_law_436 : decode cL_law 436 = .ok (.iaload, 1) := dk_46 (dk_at dksL_law_17 2 rfl rfl)
theorem dL_law_437 : decode cL_law 437 = .ok (.aload_n 0, 1) := dk_42 (dk_at dksL_law_17 3 rfl rfl)
theorem dL_law_438 : decode cL_law 438 = .ok (.iload 4, 2) := dk_21 4 (dk_at dksL_law_17 4 rfl rfl)
theorem dL_law_440 : decode cL_law 440 = .ok (.iconst 3, 1) := dk_6 (dk_at dksL_law_17 6 rfl rfl)
theorem dL_law_441 : decode cL_law 441 = .ok (.iadd, 1) := dk_96 (dk_at dksL_law_17 7 rfl rfl)
theorem dL_law_442 : decode cL_law 442 = .ok (.iaload, 1) := dk_46 (dk_at dksL_law_17 8 rfl rfl)
theorem dL_law_443 : decode cL_law 443 = .ok (.aload_n 3, 1) := dk_45 (dk_at dksL_law_17 9 rfl rfl)
theorem dL_law_444 : decode cL_law 444 = .ok (.invokestatic 87, 3) := dk_184 0 87 (dk_at dksL_law_17 10 rfl rfl)
theorem dL_law_447 : decode cL_law 447 = .ok (.istore 5, 2) := dk_54 5 (dk_at dksL_law_17 13 rfl rfl)
theorem dL_law_449 : decode cL_law 449 = .ok (.aload_n 2, 1) := dk_44 (dk_at dksL_law_17 15 rfl rfl)
theorem dL_law_450 : decode cL_law 450 = .ok (.aload_n 0, 1) := dk_42 (dk_at dksL_law_17 16 rfl rfl)
theorem dL_law_451 : decode cL_law 451 = .ok (.iload 4, 2) := dk_21 4 (dk_at dksL_law_17 17 rfl rfl)
theorem dL_law_453 : decode cL_law 453 = .ok (.iconst 1, 1) := dk_4 (dk_at dksL_law_17 19 rfl rfl)
theorem dL_law_454 : decode cL_law 454 = .ok (.iadd, 1) := dk_96 (dk_at dksL_law_17 20 rfl rfl)
theorem dL_law_455 : decode cL_law 455 = .ok (.iaload, 1) := dk_46 (dk_at dksL_law_17 21 rfl rfl)
theorem dL_law_456 : decode cL_law 456 = .ok (.aload_n 0, 1) := dk_42 (dk_at dksL_law_17 22 rfl rfl)
theorem dL_law_457 : decode cL_law 457 = .ok (.iload 4, 2) := dk_21 4 (dk_at dksL_law_18 0 rfl rfl)
theorem dL_law_459 : decode cL_law 459 = .ok (.iconst 2, 1) := dk_5 (dk_at dksL_law_18 2 rfl rfl)
theorem dL_law_460 : decode cL_law 460 = .ok (.iadd, 1) := dk_96 (dk_at dksL_law_18 3 rfl rfl)
theorem dL_law_461 : decode cL_law 461 = .ok (.iaload, 1) := dk_46 (dk_at dksL_law_18 4 rfl rfl)
theorem dL_law_462 : decode cL_law 462 = .ok (.aload_n 0, 1) := dk_42 (dk_at dksL_law_18 5 rfl rfl)
theorem dL_law_463 : decode cL_law 463 = .ok (.iload 4, 2) := dk_21 4 (dk_at dksL_law_18 6 rfl rfl)
theorem dL_law_465 : decode cL_law 465 = .ok (.iconst 3, 1) := dk_6 (dk_at dksL_law_18 8 rfl rfl)
theorem dL_law_466 : decode cL_law 466 = .ok (.iadd, 1) := dk_96 (dk_at dksL_law_18 9 rfl rfl)
theorem dL_law_467 : decode cL_law 467 = .ok (.iaload, 1) := dk_46 (dk_at dksL_law_18 10 rfl rfl)
theorem dL_law_468 : decode cL_law 468 = .ok (.invokevirtual 90, 3) := dk_182 0 90 (dk_at dksL_law_18 11 rfl rfl)
theorem dL_law_471 : decode cL_law 471 = .ok (.istore 6, 2) := dk_54 6 (dk_at dksL_law_18 14 rfl rfl)
theorem dL_law_473 : decode cL_law 473 = .ok (.aload_n 2, 1) := dk_44 (dk_at dksL_law_18 16 rfl rfl)
theorem dL_law_474 : decode cL_law 474 = .ok (.invokevirtual 69, 3) := dk_182 0 69 (dk_at dksL_law_18 17 rfl rfl)
theorem dL_law_477 : decode cL_law 477 = .ok (.iload 5, 2) := dk_21 5 (dk_at dksL_law_18 20 rfl rfl)
theorem dL_law_479 : decode cL_law 479 = .ok (.if_icmp .eq 5, 3) := dk_159 0 5 (dk_at dksL_law_19 0 rfl rfl)
theorem dL_law_482 : decode cL_law 482 = .ok (.iconst 0, 1) := dk_3 (dk_at dksL_law_19 3 rfl rfl)
theorem dL_law_483 : decode cL_law 483 = .ok (.ireturn, 1) := dk_172 (dk_at dksL_law_19 4 rfl rfl)
theorem dL_law_484 : decode cL_law 484 = .ok (.iload 5, 2) := dk_21 5 (dk_at dksL_law_19 5 rfl rfl)
theorem dL_law_486 : decode cL_law 486 = .ok (.ifCond .ne 15, 3) := dk_154 0 15 (dk_at dksL_law_19 7 rfl rfl)
theorem dL_law_489 : decode cL_law 489 = .ok (.aload_n 3, 1) := dk_45 (dk_at dksL_law_19 10 rfl rfl)
theorem dL_law_490 : decode cL_law 490 = .ok (.iconst 0, 1) := dk_3 (dk_at dksL_law_19 11 rfl rfl)
theorem dL_law_491 : decode cL_law 491 = .ok (.laload, 1) := dk_47 (dk_at dksL_law_19 12 rfl rfl)
theorem dL_law_492 : decode cL_law 492 = .ok (.iload 6, 2) := dk_21 6 (dk_at dksL_law_19 13 rfl rfl)
theorem dL_law_494 : decode cL_law 494 = .ok (.i2l, 1) := dk_133 (dk_at dksL_law_19 15 rfl rfl)
theorem dL_law_495 : decode cL_law 495 = .ok (.lcmp, 1) := dk_148 (dk_at dksL_law_19 16 rfl rfl)
theorem dL_law_496 : decode cL_law 496 = .ok (.ifCond .eq 5, 3) := dk_153 0 5 (dk_at dksL_law_19 17 rfl rfl)
theorem dL_law_499 : decode cL_law 499 = .ok (.iconst 0, 1) := dk_3 (dk_at dksL_law_19 20 rfl rfl)
theorem dL_law_500 : decode cL_law 500 = .ok (.ireturn, 1) := dk_172 (dk_at dksL_law_19 21 rfl rfl)
theorem dL_law_501 : decode cL_law 501 = .ok (.goto 504, 3) := dk_167 1 248 (dk_at dksL_law_20 0 rfl rfl)
theorem dL_law_504 : decode cL_law 504 = .ok (.aload_n 1, 1) := dk_43 (dk_at dksL_law_20 3 rfl rfl)
theorem dL_law_505 : decode cL_law 505 = .ok (.aload_n 0, 1) := dk_42 (dk_at dksL_law_20 4 rfl rfl)
theorem dL_law_506 : decode cL_law 506 = .ok (.iload 4, 2) := dk_21 4 (dk_at dksL_law_20 5 rfl rfl)
theorem dL_law_508 : decode cL_law 508 = .ok (.iconst 1, 1) := dk_4 (dk_at dksL_law_20 7 rfl rfl)
theorem dL_law_509 : decode cL_law 509 = .ok (.iadd, 1) := dk_96 (dk_at dksL_law_20 8 rfl rfl)
theorem dL_law_510 : decode cL_law 510 = .ok (.iaload, 1) := dk_46 (dk_at dksL_law_20 9 rfl rfl)
theorem dL_law_511 : decode cL_law 511 = .ok (.aload_n 0, 1) := dk_42 (dk_at dksL_law_20 10 rfl rfl)
theorem dL_law_512 : decode cL_law 512 = .ok (.iload 4, 2) := dk_21 4 (dk_at dksL_law_20 11 rfl rfl)
theorem dL_law_514 : decode cL_law 514 = .ok (.iconst 2, 1) := dk_5 (dk_at dksL_law_20 13 rfl rfl)
theorem dL_law_515 : decode cL_law 515 = .ok (.iadd, 1) := dk_96 (dk_at dksL_law_20 14 rfl rfl)
theorem dL_law_516 : decode cL_law 516 = .ok (.iaload, 1) := dk_46 (dk_at dksL_law_20 15 rfl rfl)
theorem dL_law_517 : decode cL_law 517 = .ok (.aload_n 0, 1) := dk_42 (dk_at dksL_law_20 16 rfl rfl)
theorem dL_law_518 : decode cL_law 518 = .ok (.iload 4, 2) := dk_21 4 (dk_at dksL_law_20 17 rfl rfl)
theorem dL_law_520 : decode cL_law 520 = .ok (.iconst 3, 1) := dk_6 (dk_at dksL_law_20 19 rfl rfl)
theorem dL_law_521 : decode cL_law 521 = .ok (.iadd, 1) := dk_96 (dk_at dksL_law_20 20 rfl rfl)
theorem dL_law_522 : decode cL_law 522 = .ok (.iaload, 1) := dk_46 (dk_at dksL_law_20 21 rfl rfl)
theorem dL_law_523 : decode cL_law 523 = .ok (.aload_n 3, 1) := dk_45 (dk_at dksL_law_20 22 rfl rfl)
theorem dL_law_524 : decode cL_law 524 = .ok (.invokestatic 91, 3) := dk_184 0 91 (dk_at dksL_law_21 0 rfl rfl)
theorem dL_law_527 : decode cL_law 527 = .ok (.istore 5, 2) := dk_54 5 (dk_at dksL_law_21 3 rfl rfl)
theorem dL_law_529 : decode cL_law 529 = .ok (.aload_n 2, 1) := dk_44 (dk_at dksL_law_21 5 rfl rfl)
theorem dL_law_530 : decode cL_law 530 = .ok (.aload_n 0, 1) := dk_42 (dk_at dksL_law_21 6 rfl rfl)
theorem dL_law_531 : decode cL_law 531 = .ok (.iload 4, 2) := dk_21 4 (dk_at dksL_law_21 7 rfl rfl)
theorem dL_law_533 : decode cL_law 533 = .ok (.iconst 1, 1) := dk_4 (dk_at dksL_law_21 9 rfl rfl)
theorem dL_law_534 : decode cL_law 534 = .ok (.iadd, 1) := dk_96 (dk_at dksL_law_21 10 rfl rfl)
theorem dL_law_535 : decode cL_law 535 = .ok (.iaload, 1) := dk_46 (dk_at dksL_law_21 11 rfl rfl)
theorem dL_law_536 : decode cL_law 536 = .ok (.aload_n 0, 1) := dk_42 (dk_at dksL_law_21 12 rfl rfl)
theorem dL_law_537 : decode cL_law 537 = .ok (.iload 4, 2) := dk_21 4 (dk_at dksL_law_21 13 rfl rfl)
theorem dL_law_539 : decode cL_law 539 = .ok (.iconst 2, 1) := dk_5 (dk_at dksL_law_21 15 rfl rfl)
theorem dL_law_540 : decode cL_law 540 = .ok (.iadd, 1) := dk_96 (dk_at dksL_law_21 16 rfl rfl)
theorem dL_law_541 : decode cL_law 541 = .ok (.iaload, 1) := dk_46 (dk_at dksL_law_21 17 rfl rfl)
theorem dL_law_542 : decode cL_law 542 = .ok (.aload_n 0, 1) := dk_42 (dk_at dksL_law_21 18 rfl rfl)
theorem dL_law_543 : decode cL_law 543 = .ok (.iload 4, 2) := dk_21 4 (dk_at dksL_law_21 19 rfl rfl)
theorem dL_law_545 : decode cL_law 545 = .ok (.iconst 3, 1) := dk_6 (dk_at dksL_law_21 21 rfl rfl)
theorem dL_law_546 : decode cL_law 546 = .ok (.iadd, 1) := dk_96 (dk_at dksL_law_21 22 rfl rfl)
theorem dL_law_547 : decode cL_law 547 = .ok (.iaload, 1) := dk_46 (dk_at dksL_law_21 23 rfl rfl)
theorem dL_law_548 : decode cL_law 548 = .ok (.invokevirtual 93, 3) := dk_182 0 93 (dk_at dksL_law_22 0 rfl rfl)
theorem dL_law_551 : decode cL_law 551 = .ok (.istore 6, 2) := dk_54 6 (dk_at dksL_law_22 3 rfl rfl)
theorem dL_law_553 : decode cL_law 553 = .ok (.aload_n 2, 1) := dk_44 (dk_at dksL_law_22 5 rfl rfl)
theorem dL_law_554 : decode cL_law 554 = .ok (.invokevirtual 69, 3) := dk_182 0 69 (dk_at dksL_law_22 6 rfl rfl)
theorem dL_law_557 : decode cL_law 557 = .ok (.iload 5, 2) := dk_21 5 (dk_at dksL_law_22 9 rfl rfl)
theorem dL_law_559 : decode cL_law 559 = .ok (.if_icmp .eq 5, 3) := dk_159 0 5 (dk_at dksL_law_22 11 rfl rfl)
theorem dL_law_562 : decode cL_law 562 = .ok (.iconst 0, 1) := dk_3 (dk_at dksL_law_22 14 rfl rfl)
theorem dL_law_563 : decode cL_law 563 = .ok (.ireturn, 1) := dk_172 (dk_at dksL_law_22 15 rfl rfl)
theorem dL_law_564 : decode cL_law 564 = .ok (.iload 5, 2) := dk_21 5 (dk_at dksL_law_22 16 rfl rfl)
theorem dL_law_566 : decode cL_law 566 = .ok (.ifCond .ne 15, 3) := dk_154 0 15 (dk_at dksL_law_22 18 rfl rfl)
theorem dL_law_569 : decode cL_law 569 = .ok (.aload_n 3, 1) := dk_45 (dk_at dksL_law_22 21 rfl rfl)
theorem dL_law_570 : decode cL_law 570 = .ok (.iconst 0, 1) := dk_3 (dk_at dksL_law_22 22 rfl rfl)
theorem dL_law_571 : decode cL_law 571 = .ok (.laload, 1) := dk_47 (dk_at dksL_law_22 23 rfl rfl)
theorem dL_law_572 : decode cL_law 572 = .ok (.iload 6, 2) := dk_21 6 (dk_at dksL_law_23 0 rfl rfl)
theorem dL_law_574 : decode cL_law 574 = .ok (.i2l, 1) := dk_133 (dk_at dksL_law_23 2 rfl rfl)
theorem dL_law_575 : decode cL_law 575 = .ok (.lcmp, 1) := dk_148 (dk_at dksL_law_23 3 rfl rfl)
theorem dL_law_576 : decode cL_law 576 = .ok (.ifCond .eq 5, 3) := dk_153 0 5 (dk_at dksL_law_23 4 rfl rfl)
theorem dL_law_579 : decode cL_law 579 = .ok (.iconst 0, 1) := dk_3 (dk_at dksL_law_23 7 rfl rfl)
theorem dL_law_580 : decode cL_law 580 = .ok (.ireturn, 1) := dk_172 (dk_at dksL_law_23 8 rfl rfl)
theorem dL_law_581 : decode cL_law 581 = .ok (.goto 424, 3) := dk_167 1 168 (dk_at dksL_law_23 9 rfl rfl)
theorem dL_law_584 : decode cL_law 584 = .ok (.aload_n 1, 1) := dk_43 (dk_at dksL_law_23 12 rfl rfl)
theorem dL_law_585 : decode cL_law 585 = .ok (.aload_n 0, 1) := dk_42 (dk_at dksL_law_23 13 rfl rfl)
theorem dL_law_586 : decode cL_law 586 = .ok (.iload 4, 2) := dk_21 4 (dk_at dksL_law_23 14 rfl rfl)
theorem dL_law_588 : decode cL_law 588 = .ok (.iconst 1, 1) := dk_4 (dk_at dksL_law_23 16 rfl rfl)
theorem dL_law_589 : decode cL_law 589 = .ok (.iadd, 1) := dk_96 (dk_at dksL_law_23 17 rfl rfl)
theorem dL_law_590 : decode cL_law 590 = .ok (.iaload, 1) := dk_46 (dk_at dksL_law_23 18 rfl rfl)
theorem dL_law_591 : decode cL_law 591 = .ok (.aload_n 0, 1) := dk_42 (dk_at dksL_law_23 19 rfl rfl)
theorem dL_law_592 : decode cL_law 592 = .ok (.iload 4, 2) := dk_21 4 (dk_at dksL_law_23 20 rfl rfl)
theorem dL_law_594 : decode cL_law 594 = .ok (.iconst 2, 1) := dk_5 (dk_at dksL_law_23 22 rfl rfl)
theorem dL_law_595 : decode cL_law 595 = .ok (.iadd, 1) := dk_96 (dk_at dksL_law_23 23 rfl rfl)
theorem dL_law_596 : decode cL_law 596 = .ok (.iaload, 1) := dk_46 (dk_at dksL_law_24 0 rfl rfl)
theorem dL_law_597 : decode cL_law 597 = .ok (.aload_n 0, 1) := dk_42 (dk_at dksL_law_24 1 rfl rfl)
theorem dL_law_598 : decode cL_law 598 = .ok (.iload 4, 2) := dk_21 4 (dk_at dksL_law_24 2 rfl rfl)
theorem dL_law_600 : decode cL_law 600 = .ok (.iconst 3, 1) := dk_6 (dk_at dksL_law_24 4 rfl rfl)
theorem dL_law_601 : decode cL_law 601 = .ok (.iadd, 1) := dk_96 (dk_at dksL_law_24 5 rfl rfl)
theorem dL_law_602 : decode cL_law 602 = .ok (.iaload, 1) := dk_46 (dk_at dksL_law_24 6 rfl rfl)
theorem dL_law_603 : decode cL_law 603 = .ok (.aload_n 3, 1) := dk_45 (dk_at dksL_law_24 7 rfl rfl)
theorem dL_law_604 : decode cL_law 604 = .ok (.invokestatic 94, 3) := dk_184 0 94 (dk_at dksL_law_24 8 rfl rfl)
theorem dL_law_607 : decode cL_law 607 = .ok (.istore 5, 2) := dk_54 5 (dk_at dksL_law_24 11 rfl rfl)
theorem dL_law_609 : decode cL_law 609 = .ok (.aload_n 2, 1) := dk_44 (dk_at dksL_law_24 13 rfl rfl)
theorem dL_law_610 : decode cL_law 610 = .ok (.aload_n 0, 1) := dk_42 (dk_at dksL_law_24 14 rfl rfl)
theorem dL_law_611 : decode cL_law 611 = .ok (.iload 4, 2) := dk_21 4 (dk_at dksL_law_24 15 rfl rfl)
theorem dL_law_613 : decode cL_law 613 = .ok (.iconst 1, 1) := dk_4 (dk_at dksL_law_24 17 rfl rfl)
theorem dL_law_614 : decode cL_law 614 = .ok (.iadd, 1) := dk_96 (dk_at dksL_law_24 18 rfl rfl)
theorem dL_law_615 : decode cL_law 615 = .ok (.iaload, 1) := dk_46 (dk_at dksL_law_24 19 rfl rfl)
theorem dL_law_616 : decode cL_law 616 = .ok (.aload_n 0, 1) := dk_42 (dk_at dksL_law_24 20 rfl rfl)
theorem dL_law_617 : decode cL_law 617 = .ok (.iload 4, 2) := dk_21 4 (dk_at dksL_law_24 21 rfl rfl)
theorem dL_law_619 : decode cL_law 619 = .ok (.iconst 2, 1) := dk_5 (dk_at dksL_law_24 23 rfl rfl)
theorem dL_law_620 : decode cL_law 620 = .ok (.iadd, 1) := dk_96 (dk_at dksL_law_25 0 rfl rfl)
theorem dL_law_621 : decode cL_law 621 = .ok (.iaload, 1) := dk_46 (dk_at dksL_law_25 1 rfl rfl)
theorem dL_law_622 : decode cL_law 622 = .ok (.aload_n 0, 1) := dk_42 (dk_at dksL_law_25 2 rfl rfl)
theorem dL_law_623 : decode cL_law 623 = .ok (.iload 4, 2) := dk_21 4 (dk_at dksL_law_25 3 rfl rfl)
theorem dL_law_625 : decode cL_law 625 = .ok (.iconst 3, 1) := dk_6 (dk_at dksL_law_25 5 rfl rfl)
theorem dL_law_626 : decode cL_law 626 = .ok (.iadd, 1) := dk_96 (dk_at dksL_law_25 6 rfl rfl)
theorem dL_law_627 : decode cL_law 627 = .ok (.iaload, 1) := dk_46 (dk_at dksL_law_25 7 rfl rfl)
theorem dL_law_628 : decode cL_law 628 = .ok (.invokevirtual 96, 3) := dk_182 0 96 (dk_at dksL_law_25 8 rfl rfl)
theorem dL_law_631 : decode cL_law 631 = .ok (.istore 6, 2) := dk_54 6 (dk_at dksL_law_25 11 rfl rfl)
theorem dL_law_633 : decode cL_law 633 = .ok (.aload_n 2, 1) := dk_44 (dk_at dksL_law_25 13 rfl rfl)
theorem dL_law_634 : decode cL_law 634 = .ok (.invokevirtual 69, 3) := dk_182 0 69 (dk_at dksL_law_25 14 rfl rfl)
theorem dL_law_637 : decode cL_law 637 = .ok (.iload 5, 2) := dk_21 5 (dk_at dksL_law_25 17 rfl rfl)
theorem dL_law_639 : decode cL_law 639 = .ok (.if_icmp .eq 5, 3) := dk_159 0 5 (dk_at dksL_law_25 19 rfl rfl)
theorem dL_law_642 : decode cL_law 642 = .ok (.iconst 0, 1) := dk_3 (dk_at dksL_law_25 22 rfl rfl)
theorem dL_law_643 : decode cL_law 643 = .ok (.ireturn, 1) := dk_172 (dk_at dksL_law_25 23 rfl rfl)
theorem dL_law_644 : decode cL_law 644 = .ok (.iload 5, 2) := dk_21 5 (dk_at dksL_law_26 0 rfl rfl)
theorem dL_law_646 : decode cL_law 646 = .ok (.ifCond .ne 15, 3) := dk_154 0 15 (dk_at dksL_law_26 2 rfl rfl)
theorem dL_law_649 : decode cL_law 649 = .ok (.aload_n 3, 1) := dk_45 (dk_at dksL_law_26 5 rfl rfl)
theorem dL_law_650 : decode cL_law 650 = .ok (.iconst 0, 1) := dk_3 (dk_at dksL_law_26 6 rfl rfl)
theorem dL_law_651 : decode cL_law 651 = .ok (.laload, 1) := dk_47 (dk_at dksL_law_26 7 rfl rfl)
theorem dL_law_652 : decode cL_law 652 = .ok (.iload 6, 2) := dk_21 6 (dk_at dksL_law_26 8 rfl rfl)
theorem dL_law_654 : decode cL_law 654 = .ok (.i2l, 1) := dk_133 (dk_at dksL_law_26 10 rfl rfl)
theorem dL_law_655 : decode cL_law 655 = .ok (.lcmp, 1) := dk_148 (dk_at dksL_law_26 11 rfl rfl)
theorem dL_law_656 : decode cL_law 656 = .ok (.ifCond .eq 5, 3) := dk_153 0 5 (dk_at dksL_law_26 12 rfl rfl)
theorem dL_law_659 : decode cL_law 659 = .ok (.iconst 0, 1) := dk_3 (dk_at dksL_law_26 15 rfl rfl)
theorem dL_law_660 : decode cL_law 660 = .ok (.ireturn, 1) := dk_172 (dk_at dksL_law_26 16 rfl rfl)
theorem dL_law_661 : decode cL_law 661 = .ok (.goto 344, 3) := dk_167 1 88 (dk_at dksL_law_26 17 rfl rfl)
theorem dL_law_664 : decode cL_law 664 = .ok (.aload_n 1, 1) := dk_43 (dk_at dksL_law_26 20 rfl rfl)
theorem dL_law_665 : decode cL_law 665 = .ok (.aload_n 0, 1) := dk_42 (dk_at dksL_law_26 21 rfl rfl)
theorem dL_law_666 : decode cL_law 666 = .ok (.iload 4, 2) := dk_21 4 (dk_at dksL_law_26 22 rfl rfl)
theorem dL_law_668 : decode cL_law 668 = .ok (.iconst 1, 1) := dk_4 (dk_at dksL_law_27 0 rfl rfl)
theorem dL_law_669 : decode cL_law 669 = .ok (.iadd, 1) := dk_96 (dk_at dksL_law_27 1 rfl rfl)
theorem dL_law_670 : decode cL_law 670 = .ok (.iaload, 1) := dk_46 (dk_at dksL_law_27 2 rfl rfl)
theorem dL_law_671 : decode cL_law 671 = .ok (.aload_n 0, 1) := dk_42 (dk_at dksL_law_27 3 rfl rfl)
theorem dL_law_672 : decode cL_law 672 = .ok (.iload 4, 2) := dk_21 4 (dk_at dksL_law_27 4 rfl rfl)
theorem dL_law_674 : decode cL_law 674 = .ok (.iconst 2, 1) := dk_5 (dk_at dksL_law_27 6 rfl rfl)
theorem dL_law_675 : decode cL_law 675 = .ok (.iadd, 1) := dk_96 (dk_at dksL_law_27 7 rfl rfl)
theorem dL_law_676 : decode cL_law 676 = .ok (.iaload, 1) := dk_46 (dk_at dksL_law_27 8 rfl rfl)
theorem dL_law_677 : decode cL_law 677 = .ok (.aload_n 0, 1) := dk_42 (dk_at dksL_law_27 9 rfl rfl)
theorem dL_law_678 : decode cL_law 678 = .ok (.iload 4, 2) := dk_21 4 (dk_at dksL_law_27 10 rfl rfl)
theorem dL_law_680 : decode cL_law 680 = .ok (.iconst 3, 1) := dk_6 (dk_at dksL_law_27 12 rfl rfl)
theorem dL_law_681 : decode cL_law 681 = .ok (.iadd, 1) := dk_96 (dk_at dksL_law_27 13 rfl rfl)
theorem dL_law_682 : decode cL_law 682 = .ok (.iaload, 1) := dk_46 (dk_at dksL_law_27 14 rfl rfl)
theorem dL_law_683 : decode cL_law 683 = .ok (.aload_n 3, 1) := dk_45 (dk_at dksL_law_27 15 rfl rfl)
theorem dL_law_684 : decode cL_law 684 = .ok (.invokestatic 97, 3) := dk_184 0 97 (dk_at dksL_law_27 16 rfl rfl)
theorem dL_law_687 : decode cL_law 687 = .ok (.istore 5, 2) := dk_54 5 (dk_at dksL_law_27 19 rfl rfl)
theorem dL_law_689 : decode cL_law 689 = .ok (.aload_n 2, 1) := dk_44 (dk_at dksL_law_27 21 rfl rfl)
theorem dL_law_690 : decode cL_law 690 = .ok (.aload_n 0, 1) := dk_42 (dk_at dksL_law_27 22 rfl rfl)
theorem dL_law_691 : decode cL_law 691 = .ok (.iload 4, 2) := dk_21 4 (dk_at dksL_law_28 0 rfl rfl)
theorem dL_law_693 : decode cL_law 693 = .ok (.iconst 1, 1) := dk_4 (dk_at dksL_law_28 2 rfl rfl)
theorem dL_law_694 : decode cL_law 694 = .ok (.iadd, 1) := dk_96 (dk_at dksL_law_28 3 rfl rfl)
theorem dL_law_695 : decode cL_law 695 = .ok (.iaload, 1) := dk_46 (dk_at dksL_law_28 4 rfl rfl)
theorem dL_law_696 : decode cL_law 696 = .ok (.aload_n 0, 1) := dk_42 (dk_at dksL_law_28 5 rfl rfl)
theorem dL_law_697 : decode cL_law 697 = .ok (.iload 4, 2) := dk_21 4 (dk_at dksL_law_28 6 rfl rfl)
theorem dL_law_699 : decode cL_law 699 = .ok (.iconst 2, 1) := dk_5 (dk_at dksL_law_28 8 rfl rfl)
theorem dL_law_700 : decode cL_law 700 = .ok (.iadd, 1) := dk_96 (dk_at dksL_law_28 9 rfl rfl)
theorem dL_law_701 : decode cL_law 701 = .ok (.iaload, 1) := dk_46 (dk_at dksL_law_28 10 rfl rfl)
theorem dL_law_702 : decode cL_law 702 = .ok (.aload_n 0, 1) := dk_42 (dk_at dksL_law_28 11 rfl rfl)
theorem dL_law_703 : decode cL_law 703 = .ok (.iload 4, 2) := dk_21 4 (dk_at dksL_law_28 12 rfl rfl)
theorem dL_law_705 : decode cL_law 705 = .ok (.iconst 3, 1) := dk_6 (dk_at dksL_law_28 14 rfl rfl)
theorem dL_law_706 : decode cL_law 706 = .ok (.iadd, 1) := dk_96 (dk_at dksL_law_28 15 rfl rfl)
theorem dL_law_707 : decode cL_law 707 = .ok (.iaload, 1) := dk_46 (dk_at dksL_law_28 16 rfl rfl)
theorem dL_law_708 : decode cL_law 708 = .ok (.invokevirtual 99, 3) := dk_182 0 99 (dk_at dksL_law_28 17 rfl rfl)
theorem dL_law_711 : decode cL_law 711 = .ok (.istore 6, 2) := dk_54 6 (dk_at dksL_law_28 20 rfl rfl)
theorem dL_law_713 : decode cL_law 713 = .ok (.aload_n 2, 1) := dk_44 (dk_at dksL_law_28 22 rfl rfl)
theorem dL_law_714 : decode cL_law 714 = .ok (.invokevirtual 69, 3) := dk_182 0 69 (dk_at dksL_law_29 0 rfl rfl)
theorem dL_law_717 : decode cL_law 717 = .ok (.iload 5, 2) := dk_21 5 (dk_at dksL_law_29 3 rfl rfl)
theorem dL_law_719 : decode cL_law 719 = .ok (.if_icmp .eq 5, 3) := dk_159 0 5 (dk_at dksL_law_29 5 rfl rfl)
theorem dL_law_722 : decode cL_law 722 = .ok (.iconst 0, 1) := dk_3 (dk_at dksL_law_29 8 rfl rfl)
theorem dL_law_723 : decode cL_law 723 = .ok (.ireturn, 1) := dk_172 (dk_at dksL_law_29 9 rfl rfl)
theorem dL_law_724 : decode cL_law 724 = .ok (.iload 5, 2) := dk_21 5 (dk_at dksL_law_29 10 rfl rfl)
theorem dL_law_726 : decode cL_law 726 = .ok (.ifCond .ne 15, 3) := dk_154 0 15 (dk_at dksL_law_29 12 rfl rfl)
theorem dL_law_729 : decode cL_law 729 = .ok (.aload_n 3, 1) := dk_45 (dk_at dksL_law_29 15 rfl rfl)
theorem dL_law_730 : decode cL_law 730 = .ok (.iconst 0, 1) := dk_3 (dk_at dksL_law_29 16 rfl rfl)
theorem dL_law_731 : decode cL_law 731 = .ok (.laload, 1) := dk_47 (dk_at dksL_law_29 17 rfl rfl)
theorem dL_law_732 : decode cL_law 732 = .ok (.iload 6, 2) := dk_21 6 (dk_at dksL_law_29 18 rfl rfl)
theorem dL_law_734 : decode cL_law 734 = .ok (.i2l, 1) := dk_133 (dk_at dksL_law_29 20 rfl rfl)
theorem dL_law_735 : decode cL_law 735 = .ok (.lcmp, 1) := dk_148 (dk_at dksL_law_29 21 rfl rfl)
theorem dL_law_736 : decode cL_law 736 = .ok (.ifCond .eq 5, 3) := dk_153 0 5 (dk_at dksL_law_30 0 rfl rfl)
theorem dL_law_739 : decode cL_law 739 = .ok (.iconst 0, 1) := dk_3 (dk_at dksL_law_30 3 rfl rfl)
theorem dL_law_740 : decode cL_law 740 = .ok (.ireturn, 1) := dk_172 (dk_at dksL_law_30 4 rfl rfl)
theorem dL_law_741 : decode cL_law 741 = .ok (.goto 264, 3) := dk_167 1 8 (dk_at dksL_law_30 5 rfl rfl)
theorem dL_law_744 : decode cL_law 744 = .ok (.aload_n 1, 1) := dk_43 (dk_at dksL_law_30 8 rfl rfl)
theorem dL_law_745 : decode cL_law 745 = .ok (.aload_n 0, 1) := dk_42 (dk_at dksL_law_30 9 rfl rfl)
theorem dL_law_746 : decode cL_law 746 = .ok (.iload 4, 2) := dk_21 4 (dk_at dksL_law_30 10 rfl rfl)
theorem dL_law_748 : decode cL_law 748 = .ok (.iconst 1, 1) := dk_4 (dk_at dksL_law_30 12 rfl rfl)
theorem dL_law_749 : decode cL_law 749 = .ok (.iadd, 1) := dk_96 (dk_at dksL_law_30 13 rfl rfl)
theorem dL_law_750 : decode cL_law 750 = .ok (.iaload, 1) := dk_46 (dk_at dksL_law_30 14 rfl rfl)
theorem dL_law_751 : decode cL_law 751 = .ok (.aload_n 3, 1) := dk_45 (dk_at dksL_law_30 15 rfl rfl)
theorem dL_law_752 : decode cL_law 752 = .ok (.invokestatic 100, 3) := dk_184 0 100 (dk_at dksL_law_30 16 rfl rfl)
theorem dL_law_755 : decode cL_law 755 = .ok (.istore 5, 2) := dk_54 5 (dk_at dksL_law_30 19 rfl rfl)
theorem dL_law_757 : decode cL_law 757 = .ok (.aload_n 2, 1) := dk_44 (dk_at dksL_law_30 21 rfl rfl)
theorem dL_law_758 : decode cL_law 758 = .ok (.aload_n 0, 1) := dk_42 (dk_at dksL_law_30 22 rfl rfl)
theorem dL_law_759 : decode cL_law 759 = .ok (.iload 4, 2) := dk_21 4 (dk_at dksL_law_31 0 rfl rfl)
theorem dL_law_761 : decode cL_law 761 = .ok (.iconst 1, 1) := dk_4 (dk_at dksL_law_31 2 rfl rfl)
theorem dL_law_762 : decode cL_law 762 = .ok (.iadd, 1) := dk_96 (dk_at dksL_law_31 3 rfl rfl)
theorem dL_law_763 : decode cL_law 763 = .ok (.iaload, 1) := dk_46 (dk_at dksL_law_31 4 rfl rfl)
theorem dL_law_764 : decode cL_law 764 = .ok (.invokevirtual 102, 3) := dk_182 0 102 (dk_at dksL_law_31 5 rfl rfl)
theorem dL_law_767 : decode cL_law 767 = .ok (.istore 6, 2) := dk_54 6 (dk_at dksL_law_31 8 rfl rfl)
theorem dL_law_769 : decode cL_law 769 = .ok (.aload_n 2, 1) := dk_44 (dk_at dksL_law_31 10 rfl rfl)
theorem dL_law_770 : decode cL_law 770 = .ok (.invokevirtual 69, 3) := dk_182 0 69 (dk_at dksL_law_31 11 rfl rfl)
theorem dL_law_773 : decode cL_law 773 = .ok (.iload 5, 2) := dk_21 5 (dk_at dksL_law_31 14 rfl rfl)
theorem dL_law_775 : decode cL_law 775 = .ok (.if_icmp .eq 5, 3) := dk_159 0 5 (dk_at dksL_law_31 16 rfl rfl)
theorem dL_law_778 : decode cL_law 778 = .ok (.iconst 0, 1) := dk_3 (dk_at dksL_law_31 19 rfl rfl)
theorem dL_law_779 : decode cL_law 779 = .ok (.ireturn, 1) := dk_172 (dk_at dksL_law_31 20 rfl rfl)
theorem dL_law_780 : decode cL_law 780 = .ok (.iload 5, 2) := dk_21 5 (dk_at dksL_law_31 21 rfl rfl)
theorem dL_law_782 : decode cL_law 782 = .ok (.ifCond .ne 15, 3) := dk_154 0 15 (dk_at dksL_law_32 0 rfl rfl)
theorem dL_law_785 : decode cL_law 785 = .ok (.aload_n 3, 1) := dk_45 (dk_at dksL_law_32 3 rfl rfl)
theorem dL_law_786 : decode cL_law 786 = .ok (.iconst 0, 1) := dk_3 (dk_at dksL_law_32 4 rfl rfl)
theorem dL_law_787 : decode cL_law 787 = .ok (.laload, 1) := dk_47 (dk_at dksL_law_32 5 rfl rfl)
theorem dL_law_788 : decode cL_law 788 = .ok (.iload 6, 2) := dk_21 6 (dk_at dksL_law_32 6 rfl rfl)
theorem dL_law_790 : decode cL_law 790 = .ok (.i2l, 1) := dk_133 (dk_at dksL_law_32 8 rfl rfl)
theorem dL_law_791 : decode cL_law 791 = .ok (.lcmp, 1) := dk_148 (dk_at dksL_law_32 9 rfl rfl)
theorem dL_law_792 : decode cL_law 792 = .ok (.ifCond .eq 5, 3) := dk_153 0 5 (dk_at dksL_law_32 10 rfl rfl)
theorem dL_law_795 : decode cL_law 795 = .ok (.iconst 0, 1) := dk_3 (dk_at dksL_law_32 13 rfl rfl)
theorem dL_law_796 : decode cL_law 796 = .ok (.ireturn, 1) := dk_172 (dk_at dksL_law_32 14 rfl rfl)
theorem dL_law_797 : decode cL_law 797 = .ok (.goto 208, 3) := dk_167 0 208 (dk_at dksL_law_32 15 rfl rfl)
theorem dL_law_800 : decode cL_law 800 = .ok (.aload_n 1, 1) := dk_43 (dk_at dksL_law_32 18 rfl rfl)
theorem dL_law_801 : decode cL_law 801 = .ok (.aload_n 0, 1) := dk_42 (dk_at dksL_law_32 19 rfl rfl)
theorem dL_law_802 : decode cL_law 802 = .ok (.iload 4, 2) := dk_21 4 (dk_at dksL_law_32 20 rfl rfl)
theorem dL_law_804 : decode cL_law 804 = .ok (.iconst 1, 1) := dk_4 (dk_at dksL_law_32 22 rfl rfl)
theorem dL_law_805 : decode cL_law 805 = .ok (.iadd, 1) := dk_96 (dk_at dksL_law_32 23 rfl rfl)
theorem dL_law_806 : decode cL_law 806 = .ok (.iaload, 1) := dk_46 (dk_at dksL_law_33 0 rfl rfl)
theorem dL_law_807 : decode cL_law 807 = .ok (.aload_n 3, 1) := dk_45 (dk_at dksL_law_33 1 rfl rfl)
theorem dL_law_808 : decode cL_law 808 = .ok (.invokestatic 103, 3) := dk_184 0 103 (dk_at dksL_law_33 2 rfl rfl)
theorem dL_law_811 : decode cL_law 811 = .ok (.istore 5, 2) := dk_54 5 (dk_at dksL_law_33 5 rfl rfl)
theorem dL_law_813 : decode cL_law 813 = .ok (.aload_n 2, 1) := dk_44 (dk_at dksL_law_33 7 rfl rfl)
theorem dL_law_814 : decode cL_law 814 = .ok (.aload_n 0, 1) := dk_42 (dk_at dksL_law_33 8 rfl rfl)
theorem dL_law_815 : decode cL_law 815 = .ok (.iload 4, 2) := dk_21 4 (dk_at dksL_law_33 9 rfl rfl)
theorem dL_law_817 : decode cL_law 817 = .ok (.iconst 1, 1) := dk_4 (dk_at dksL_law_33 11 rfl rfl)
theorem dL_law_818 : decode cL_law 818 = .ok (.iadd, 1) := dk_96 (dk_at dksL_law_33 12 rfl rfl)
theorem dL_law_819 : decode cL_law 819 = .ok (.iaload, 1) := dk_46 (dk_at dksL_law_33 13 rfl rfl)
theorem dL_law_820 : decode cL_law 820 = .ok (.invokevirtual 105, 3) := dk_182 0 105 (dk_at dksL_law_33 14 rfl rfl)
theorem dL_law_823 : decode cL_law 823 = .ok (.istore 6, 2) := dk_54 6 (dk_at dksL_law_33 17 rfl rfl)
theorem dL_law_825 : decode cL_law 825 = .ok (.aload_n 2, 1) := dk_44 (dk_at dksL_law_33 19 rfl rfl)
theorem dL_law_826 : decode cL_law 826 = .ok (.invokevirtual 69, 3) := dk_182 0 69 (dk_at dksL_law_33 20 rfl rfl)
theorem dL_law_829 : decode cL_law 829 = .ok (.iload 5, 2) := dk_21 5 (dk_at dksL_law_34 0 rfl rfl)
theorem dL_law_831 : decode cL_law 831 = .ok (.if_icmp .eq 5, 3) := dk_159 0 5 (dk_at dksL_law_34 2 rfl rfl)
theorem dL_law_834 : decode cL_law 834 = .ok (.iconst 0, 1) := dk_3 (dk_at dksL_law_34 5 rfl rfl)
theorem dL_law_835 : decode cL_law 835 = .ok (.ireturn, 1) := dk_172 (dk_at dksL_law_34 6 rfl rfl)
theorem dL_law_836 : decode cL_law 836 = .ok (.iload 5, 2) := dk_21 5 (dk_at dksL_law_34 7 rfl rfl)
theorem dL_law_838 : decode cL_law 838 = .ok (.ifCond .ne 15, 3) := dk_154 0 15 (dk_at dksL_law_34 9 rfl rfl)
theorem dL_law_841 : decode cL_law 841 = .ok (.aload_n 3, 1) := dk_45 (dk_at dksL_law_34 12 rfl rfl)
theorem dL_law_842 : decode cL_law 842 = .ok (.iconst 0, 1) := dk_3 (dk_at dksL_law_34 13 rfl rfl)
theorem dL_law_843 : decode cL_law 843 = .ok (.laload, 1) := dk_47 (dk_at dksL_law_34 14 rfl rfl)
theorem dL_law_844 : decode cL_law 844 = .ok (.iload 6, 2) := dk_21 6 (dk_at dksL_law_34 15 rfl rfl)
theorem dL_law_846 : decode cL_law 846 = .ok (.i2l, 1) := dk_133 (dk_at dksL_law_34 17 rfl rfl)
theorem dL_law_847 : decode cL_law 847 = .ok (.lcmp, 1) := dk_148 (dk_at dksL_law_34 18 rfl rfl)
theorem dL_law_848 : decode cL_law 848 = .ok (.ifCond .eq 5, 3) := dk_153 0 5 (dk_at dksL_law_34 19 rfl rfl)
theorem dL_law_851 : decode cL_law 851 = .ok (.iconst 0, 1) := dk_3 (dk_at dksL_law_34 22 rfl rfl)
theorem dL_law_852 : decode cL_law 852 = .ok (.ireturn, 1) := dk_172 (dk_at dksL_law_34 23 rfl rfl)
theorem dL_law_853 : decode cL_law 853 = .ok (.goto 152, 3) := dk_167 0 152 (dk_at dksL_law_35 0 rfl rfl)
theorem dL_law_856 : decode cL_law 856 = .ok (.aload_n 1, 1) := dk_43 (dk_at dksL_law_35 3 rfl rfl)
theorem dL_law_857 : decode cL_law 857 = .ok (.aload_n 0, 1) := dk_42 (dk_at dksL_law_35 4 rfl rfl)
theorem dL_law_858 : decode cL_law 858 = .ok (.iload 4, 2) := dk_21 4 (dk_at dksL_law_35 5 rfl rfl)
theorem dL_law_860 : decode cL_law 860 = .ok (.iconst 1, 1) := dk_4 (dk_at dksL_law_35 7 rfl rfl)
theorem dL_law_861 : decode cL_law 861 = .ok (.iadd, 1) := dk_96 (dk_at dksL_law_35 8 rfl rfl)
theorem dL_law_862 : decode cL_law 862 = .ok (.iaload, 1) := dk_46 (dk_at dksL_law_35 9 rfl rfl)
theorem dL_law_863 : decode cL_law 863 = .ok (.aload_n 0, 1) := dk_42 (dk_at dksL_law_35 10 rfl rfl)
theorem dL_law_864 : decode cL_law 864 = .ok (.iload 4, 2) := dk_21 4 (dk_at dksL_law_35 11 rfl rfl)
theorem dL_law_866 : decode cL_law 866 = .ok (.iconst 2, 1) := dk_5 (dk_at dksL_law_35 13 rfl rfl)
theorem dL_law_867 : decode cL_law 867 = .ok (.iadd, 1) := dk_96 (dk_at dksL_law_35 14 rfl rfl)
theorem dL_law_868 : decode cL_law 868 = .ok (.iaload, 1) := dk_46 (dk_at dksL_law_35 15 rfl rfl)
theorem dL_law_869 : decode cL_law 869 = .ok (.aload_n 3, 1) := dk_45 (dk_at dksL_law_35 16 rfl rfl)
theorem dL_law_870 : decode cL_law 870 = .ok (.invokestatic 106, 3) := dk_184 0 106 (dk_at dksL_law_35 17 rfl rfl)
theorem dL_law_873 : decode cL_law 873 = .ok (.istore 5, 2) := dk_54 5 (dk_at dksL_law_35 20 rfl rfl)
theorem dL_law_875 : decode cL_law 875 = .ok (.aload_n 2, 1) := dk_44 (dk_at dksL_law_35 22 rfl rfl)
theorem dL_law_876 : decode cL_law 876 = .ok (.aload_n 0, 1) := dk_42 (dk_at dksL_law_35 23 rfl rfl)
theorem dL_law_877 : decode cL_law 877 = .ok (.iload 4, 2) := dk_21 4 (dk_at dksL_law_36 0 rfl rfl)
theorem dL_law_879 : decode cL_law 879 = .ok (.iconst 1, 1) := dk_4 (dk_at dksL_law_36 2 rfl rfl)
theorem dL_law_880 : decode cL_law 880 = .ok (.iadd, 1) := dk_96 (dk_at dksL_law_36 3 rfl rfl)
theorem dL_law_881 : decode cL_law 881 = .ok (.iaload, 1) := dk_46 (dk_at dksL_law_36 4 rfl rfl)
theorem dL_law_882 : decode cL_law 882 = .ok (.aload_n 0, 1) := dk_42 (dk_at dksL_law_36 5 rfl rfl)
theorem dL_law_883 : decode cL_law 883 = .ok (.iload 4, 2) := dk_21 4 (dk_at dksL_law_36 6 rfl rfl)
theorem dL_law_885 : decode cL_law 885 = .ok (.iconst 2, 1) := dk_5 (dk_at dksL_law_36 8 rfl rfl)
theorem dL_law_886 : decode cL_law 886 = .ok (.iadd, 1) := dk_96 (dk_at dksL_law_36 9 rfl rfl)
theorem dL_law_887 : decode cL_law 887 = .ok (.iaload, 1) := dk_46 (dk_at dksL_law_36 10 rfl rfl)
theorem dL_law_888 : decode cL_law 888 = .ok (.invokevirtual 108, 3) := dk_182 0 108 (dk_at dksL_law_36 11 rfl rfl)
theorem dL_law_891 : decode cL_law 891 = .ok (.istore 6, 2) := dk_54 6 (dk_at dksL_law_36 14 rfl rfl)
theorem dL_law_893 : decode cL_law 893 = .ok (.aload_n 2, 1) := dk_44 (dk_at dksL_law_36 16 rfl rfl)
theorem dL_law_894 : decode cL_law 894 = .ok (.invokevirtual 69, 3) := dk_182 0 69 (dk_at dksL_law_36 17 rfl rfl)
theorem dL_law_897 : decode cL_law 897 = .ok (.iload 5, 2) := dk_21 5 (dk_at dksL_law_36 20 rfl rfl)
theorem dL_law_899 : decode cL_law 899 = .ok (.if_icmp .eq 5, 3) := dk_159 0 5 (dk_at dksL_law_37 0 rfl rfl)
theorem dL_law_902 : decode cL_law 902 = .ok (.iconst 0, 1) := dk_3 (dk_at dksL_law_37 3 rfl rfl)
theorem dL_law_903 : decode cL_law 903 = .ok (.ireturn, 1) := dk_172 (dk_at dksL_law_37 4 rfl rfl)
theorem dL_law_904 : decode cL_law 904 = .ok (.iload 5, 2) := dk_21 5 (dk_at dksL_law_37 5 rfl rfl)
theorem dL_law_906 : decode cL_law 906 = .ok (.ifCond .ne 15, 3) := dk_154 0 15 (dk_at dksL_law_37 7 rfl rfl)
theorem dL_law_909 : decode cL_law 909 = .ok (.aload_n 3, 1) := dk_45 (dk_at dksL_law_37 10 rfl rfl)
theorem dL_law_910 : decode cL_law 910 = .ok (.iconst 0, 1) := dk_3 (dk_at dksL_law_37 11 rfl rfl)
theorem dL_law_911 : decode cL_law 911 = .ok (.laload, 1) := dk_47 (dk_at dksL_law_37 12 rfl rfl)
theorem dL_law_912 : decode cL_law 912 = .ok (.iload 6, 2) := dk_21 6 (dk_at dksL_law_37 13 rfl rfl)
theorem dL_law_914 : decode cL_law 914 = .ok (.i2l, 1) := dk_133 (dk_at dksL_law_37 15 rfl rfl)
theorem dL_law_915 : decode cL_law 915 = .ok (.lcmp, 1) := dk_148 (dk_at dksL_law_37 16 rfl rfl)
theorem dL_law_916 : decode cL_law 916 = .ok (.ifCond .eq 5, 3) := dk_153 0 5 (dk_at dksL_law_37 17 rfl rfl)
theorem dL_law_919 : decode cL_law 919 = .ok (.iconst 0, 1) := dk_3 (dk_at dksL_law_37 20 rfl rfl)
theorem dL_law_920 : decode cL_law 920 = .ok (.ireturn, 1) := dk_172 (dk_at dksL_law_37 21 rfl rfl)
theorem dL_law_921 : decode cL_law 921 = .ok (.goto 84, 3) := dk_167 0 84 (dk_at dksL_law_38 0 rfl rfl)
theorem dL_law_924 : decode cL_law 924 = .ok (.aload_n 1, 1) := dk_43 (dk_at dksL_law_38 3 rfl rfl)
theorem dL_law_925 : decode cL_law 925 = .ok (.invokevirtual 109, 3) := dk_182 0 109 (dk_at dksL_law_38 4 rfl rfl)
theorem dL_law_928 : decode cL_law 928 = .ok (.aload_n 2, 1) := dk_44 (dk_at dksL_law_38 7 rfl rfl)
theorem dL_law_929 : decode cL_law 929 = .ok (.invokevirtual 112, 3) := dk_182 0 112 (dk_at dksL_law_38 8 rfl rfl)
theorem dL_law_932 : decode cL_law 932 = .ok (.if_icmp .eq 73, 3) := dk_159 0 73 (dk_at dksL_law_38 11 rfl rfl)
theorem dL_law_935 : decode cL_law 935 = .ok (.iconst 0, 1) := dk_3 (dk_at dksL_law_38 14 rfl rfl)
theorem dL_law_936 : decode cL_law 936 = .ok (.ireturn, 1) := dk_172 (dk_at dksL_law_38 15 rfl rfl)
theorem dL_law_937 : decode cL_law 937 = .ok (.aload_n 1, 1) := dk_43 (dk_at dksL_law_38 16 rfl rfl)
theorem dL_law_938 : decode cL_law 938 = .ok (.aload_n 0, 1) := dk_42 (dk_at dksL_law_38 17 rfl rfl)
theorem dL_law_939 : decode cL_law 939 = .ok (.iload 4, 2) := dk_21 4 (dk_at dksL_law_38 18 rfl rfl)
theorem dL_law_941 : decode cL_law 941 = .ok (.iconst 1, 1) := dk_4 (dk_at dksL_law_38 20 rfl rfl)
theorem dL_law_942 : decode cL_law 942 = .ok (.iadd, 1) := dk_96 (dk_at dksL_law_38 21 rfl rfl)
theorem dL_law_943 : decode cL_law 943 = .ok (.iaload, 1) := dk_46 (dk_at dksL_law_38 22 rfl rfl)
theorem dL_law_944 : decode cL_law 944 = .ok (.aload_n 0, 1) := dk_42 (dk_at dksL_law_38 23 rfl rfl)
theorem dL_law_945 : decode cL_law 945 = .ok (.iload 4, 2) := dk_21 4 (dk_at dksL_law_39 0 rfl rfl)
theorem dL_law_947 : decode cL_law 947 = .ok (.iconst 2, 1) := dk_5 (dk_at dksL_law_39 2 rfl rfl)
theorem dL_law_948 : decode cL_law 948 = .ok (.iadd, 1) := dk_96 (dk_at dksL_law_39 3 rfl rfl)
theorem dL_law_949 : decode cL_law 949 = .ok (.iaload, 1) := dk_46 (dk_at dksL_law_39 4 rfl rfl)
theorem dL_law_950 : decode cL_law 950 = .ok (.aload_n 3, 1) := dk_45 (dk_at dksL_law_39 5 rfl rfl)
theorem dL_law_951 : decode cL_law 951 = .ok (.invokestatic 113, 3) := dk_184 0 113 (dk_at dksL_law_39 6 rfl rfl)
theorem dL_law_954 : decode cL_law 954 = .ok (.istore 5, 2) := dk_54 5 (dk_at dksL_law_39 9 rfl rfl)
theorem dL_law_956 : decode cL_law 956 = .ok (.aload_n 2, 1) := dk_44 (dk_at dksL_law_39 11 rfl rfl)
theorem dL_law_957 : decode cL_law 957 = .ok (.aload_n 0, 1) := dk_42 (dk_at dksL_law_39 12 rfl rfl)
theorem dL_law_958 : decode cL_law 958 = .ok (.iload 4, 2) := dk_21 4 (dk_at dksL_law_39 13 rfl rfl)
theorem dL_law_960 : decode cL_law 960 = .ok (.iconst 1, 1) := dk_4 (dk_at dksL_law_39 15 rfl rfl)
theorem dL_law_961 : decode cL_law 961 = .ok (.iadd, 1) := dk_96 (dk_at dksL_law_39 16 rfl rfl)
theorem dL_law_962 : decode cL_law 962 = .ok (.iaload, 1) := dk_46 (dk_at dksL_law_39 17 rfl rfl)
theorem dL_law_963 : decode cL_law 963 = .ok (.aload_n 0, 1) := dk_42 (dk_at dksL_law_39 18 rfl rfl)
theorem dL_law_964 : decode cL_law 964 = .ok (.iload 4, 2) := dk_21 4 (dk_at dksL_law_39 19 rfl rfl)
theorem dL_law_966 : decode cL_law 966 = .ok (.iconst 2, 1) := dk_5 (dk_at dksL_law_39 21 rfl rfl)
theorem dL_law_967 : decode cL_law 967 = .ok (.iadd, 1) := dk_96 (dk_at dksL_law_39 22 rfl rfl)
theorem dL_law_968 : decode cL_law 968 = .ok (.iaload, 1) := dk_46 (dk_at dksL_law_39 23 rfl rfl)
theorem dL_law_969 : decode cL_law 969 = .ok (.invokevirtual 115, 3) := dk_182 0 115 (dk_at dksL_law_40 0 rfl rfl)
theorem dL_law_972 : decode cL_law 972 = .ok (.istore 6, 2) := dk_54 6 (dk_at dksL_law_40 3 rfl rfl)
theorem dL_law_974 : decode cL_law 974 = .ok (.aload_n 2, 1) := dk_44 (dk_at dksL_law_40 5 rfl rfl)
theorem dL_law_975 : decode cL_law 975 = .ok (.invokevirtual 69, 3) := dk_182 0 69 (dk_at dksL_law_40 6 rfl rfl)
theorem dL_law_978 : decode cL_law 978 = .ok (.iload 5, 2) := dk_21 5 (dk_at dksL_law_40 9 rfl rfl)
theorem dL_law_980 : decode cL_law 980 = .ok (.if_icmp .eq 5, 3) := dk_159 0 5 (dk_at dksL_law_40 11 rfl rfl)
theorem dL_law_983 : decode cL_law 983 = .ok (.iconst 0, 1) := dk_3 (dk_at dksL_law_40 14 rfl rfl)
theorem dL_law_984 : decode cL_law 984 = .ok (.ireturn, 1) := dk_172 (dk_at dksL_law_40 15 rfl rfl)
theorem dL_law_985 : decode cL_law 985 = .ok (.iload 5, 2) := dk_21 5 (dk_at dksL_law_40 16 rfl rfl)
theorem dL_law_987 : decode cL_law 987 = .ok (.ifCond .ne 15, 3) := dk_154 0 15 (dk_at dksL_law_40 18 rfl rfl)
theorem dL_law_990 : decode cL_law 990 = .ok (.aload_n 3, 1) := dk_45 (dk_at dksL_law_40 21 rfl rfl)
theorem dL_law_991 : decode cL_law 991 = .ok (.iconst 0, 1) := dk_3 (dk_at dksL_law_40 22 rfl rfl)
theorem dL_law_992 : decode cL_law 992 = .ok (.laload, 1) := dk_47 (dk_at dksL_law_40 23 rfl rfl)
theorem dL_law_993 : decode cL_law 993 = .ok (.iload 6, 2) := dk_21 6 (dk_at dksL_law_41 0 rfl rfl)
theorem dL_law_995 : decode cL_law 995 = .ok (.i2l, 1) := dk_133 (dk_at dksL_law_41 2 rfl rfl)
theorem dL_law_996 : decode cL_law 996 = .ok (.lcmp, 1) := dk_148 (dk_at dksL_law_41 3 rfl rfl)
theorem dL_law_997 : decode cL_law 997 = .ok (.ifCond .eq 5, 3) := dk_153 0 5 (dk_at dksL_law_41 4 rfl rfl)
theorem dL_law_1000 : decode cL_law 1000 = .ok (.iconst 0, 1) := dk_3 (dk_at dksL_law_41 7 rfl rfl)
theorem dL_law_1001 : decode cL_law 1001 = .ok (.ireturn, 1) := dk_172 (dk_at dksL_law_41 8 rfl rfl)
theorem dL_law_1002 : decode cL_law 1002 = .ok (.goto 3, 3) := dk_167 0 3 (dk_at dksL_law_41 9 rfl rfl)
theorem dL_law_1005 : decode cL_law 1005 = .ok (.iinc 4 5, 3) := dk_132 4 5 (dk_at dksL_law_41 12 rfl rfl)
theorem dL_law_1008 : decode cL_law 1008 = .ok (.goto (-985), 3) := dk_167 252 39 (dk_at dksL_law_41 15 rfl rfl)
theorem dL_law_1011 : decode cL_law 1011 = .ok (.iconst 1, 1) := dk_4 (dk_at dksL_law_41 18 rfl rfl)
theorem dL_law_1012 : decode cL_law 1012 = .ok (.ireturn, 1) := dk_172 (dk_at dksL_law_41 19 rfl rfl)
