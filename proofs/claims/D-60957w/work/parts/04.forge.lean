/-! ObjectForge -/
set_option maxRecDepth 100000
def RX1 : String := "ObjectForge"
def TX1 : u_T := fun k => match k with
  | 0 => ("ObjectForge", "text", "[B", true)
  | 1 => ("ObjectForge", "size", "I", false)
  | 2 => ("ObjectForge", "at", "I", false)
  | 3 => ("ObjectForge", "lineNumber", "I", false)
  | 4 => ("ObjectForge", "code", "I", false)
  | 5 => ("ObjectForge", "units", "[LObjectForge$Unit;", true)
  | 6 => ("ObjectForge", "many", "I", false)
  | 7 => ("ObjectForge", "unit", "LObjectForge$Unit;", false)
  | 8 => ("ObjectForge", "section", "I", false)
  | 9 => ("ObjectForge", "from", "I", false)
  | 10 => ("ObjectForge", "length", "I", false)
  | 11 => ("ObjectForge", "named", "I", false)
  | 12 => ("ObjectForge", "number", "J", false)
  | 13 => ("ObjectForge", "fault", "I", false)
  | 14 => ("ObjectForge", "faultLine", "I", false)
  | 15 => ("ObjectForge", "linkFault", "I", false)
  | 16 => ("ObjectForge", "linkObject", "I", false)
  | 17 => ("ObjectForge", "linkThing", "I", false)
  | 18 => ("ObjectForge", "image", "[B", true)
  | 19 => ("ObjectForge", "imageSize", "I", false)
  | 20 => ("ObjectForge", "base", "I", false)
  | 21 => ("ObjectForge", "linked", "I", false)
  | 22 => ("ObjectForge", "span", "I", false)
  | 23 => ("ObjectForge", "waiting", "I", false)
  | _ => ("ObjectForge", "ownSymbol", "I", false)
def tyX1 : Nat → FieldType := fun k => match k with
  | 0 => .array .byte
  | 1 => .int
  | 2 => .int
  | 3 => .int
  | 4 => .int
  | 5 => .array (.object "ObjectForge$Unit")
  | 6 => .int
  | 7 => .object "ObjectForge$Unit"
  | 8 => .int
  | 9 => .int
  | 10 => .int
  | 11 => .int
  | 12 => .long
  | 13 => .int
  | 14 => .int
  | 15 => .int
  | 16 => .int
  | 17 => .int
  | 18 => .array .byte
  | 19 => .int
  | 20 => .int
  | 21 => .int
  | 22 => .int
  | 23 => .int
  | _ => .int
abbrev wsX10 : List Cond := u_ws RX1 TX1 25
set_option maxRecDepth 100000 in
theorem nmX1 : ∀ a, a < 25 → ∀ b, b < 25 → a ≠ b → (TX1 a).2.1 ≠ (TX1 b).2.1 := by decide +kernel
set_option maxRecDepth 100000 in
theorem tyX1_ok : ∀ k, k < 25 → parseFieldDescriptor (TX1 k).2.2.1 = some (tyX1 k) := by decide +kernel
abbrev cX1_init : ByteArray := prog_1_method_1_code
def yX1_init : MethodName := ⟨RX1, "<init>", "()V"⟩
def dkwX1_init_1 : List UInt8 := [181, 0, 19, 42, 2, 181, 0, 23, 42, 18, 26, 188, 8, 181, 0, 27, 42, 2, 181, 0, 30, 177]
abbrev dktX1_init_1 : List UInt8 := dkwX1_init_1 ++ []
def dkwX1_init_0 : List UInt8 := [42, 183, 0, 1, 42, 17, 32, 0, 188, 8, 181, 0, 9, 42, 16, 8, 189, 0, 13, 181, 0, 15, 42, 2]
abbrev dktX1_init_0 : List UInt8 := dkwX1_init_0 ++ dktX1_init_1
theorem dksX1_init_0 : cX1_init.data.toList.drop 0 = dktX1_init_0 := by decide +kernel
theorem dksX1_init_1 : cX1_init.data.toList.drop 24 = dktX1_init_1 := dk_seg dksX1_init_0 24 rfl rfl
theorem dX1_init_0 : decode cX1_init 0 = .ok (.aload_n 0, 1) := dk_42 (dk_at dksX1_init_0 0 rfl rfl)
theorem dX1_init_1 : decode cX1_init 1 = .ok (.invokespecial 1, 3) := dk_183 0 1 (dk_at dksX1_init_0 1 rfl rfl)
theorem dX1_init_4 : decode cX1_init 4 = .ok (.aload_n 0, 1) := dk_42 (dk_at dksX1_init_0 4 rfl rfl)
theorem dX1_init_5 : decode cX1_init 5 = .ok (.sipush 8192, 3) := dk_17 32 0 (dk_at dksX1_init_0 5 rfl rfl)
theorem dX1_init_8 : decode cX1_init 8 = .ok (.newarray .byte, 2) := dk_188_8 (dk_at dksX1_init_0 8 rfl rfl)
theorem dX1_init_10 : decode cX1_init 10 = .ok (.putfield 9, 3) := dk_181 0 9 (dk_at dksX1_init_0 10 rfl rfl)
theorem dX1_init_13 : decode cX1_init 13 = .ok (.aload_n 0, 1) := dk_42 (dk_at dksX1_init_0 13 rfl rfl)
theorem dX1_init_14 : decode cX1_init 14 = .ok (.bipush 8, 2) := dk_16 8 (dk_at dksX1_init_0 14 rfl rfl)
theorem dX1_init_16 : decode cX1_init 16 = .ok (.anewarray 13, 3) := dk_189 0 13 (dk_at dksX1_init_0 16 rfl rfl)
theorem dX1_init_19 : decode cX1_init 19 = .ok (.putfield 15, 3) := dk_181 0 15 (dk_at dksX1_init_0 19 rfl rfl)
theorem dX1_init_22 : decode cX1_init 22 = .ok (.aload_n 0, 1) := dk_42 (dk_at dksX1_init_0 22 rfl rfl)
theorem dX1_init_23 : decode cX1_init 23 = .ok (.iconst (-1), 1) := dk_2 (dk_at dksX1_init_0 23 rfl rfl)
theorem dX1_init_24 : decode cX1_init 24 = .ok (.putfield 19, 3) := dk_181 0 19 (dk_at dksX1_init_1 0 rfl rfl)
theorem dX1_init_27 : decode cX1_init 27 = .ok (.aload_n 0, 1) := dk_42 (dk_at dksX1_init_1 3 rfl rfl)
theorem dX1_init_28 : decode cX1_init 28 = .ok (.iconst (-1), 1) := dk_2 (dk_at dksX1_init_1 4 rfl rfl)
theorem dX1_init_29 : decode cX1_init 29 = .ok (.putfield 23, 3) := dk_181 0 23 (dk_at dksX1_init_1 5 rfl rfl)
theorem dX1_init_32 : decode cX1_init 32 = .ok (.aload_n 0, 1) := dk_42 (dk_at dksX1_init_1 8 rfl rfl)
theorem dX1_init_33 : decode cX1_init 33 = .ok (.ldc 26, 2) := dk_18 26 (dk_at dksX1_init_1 9 rfl rfl)
theorem dX1_init_35 : decode cX1_init 35 = .ok (.newarray .byte, 2) := dk_188_8 (dk_at dksX1_init_1 11 rfl rfl)
theorem dX1_init_37 : decode cX1_init 37 = .ok (.putfield 27, 3) := dk_181 0 27 (dk_at dksX1_init_1 13 rfl rfl)
theorem dX1_init_40 : decode cX1_init 40 = .ok (.aload_n 0, 1) := dk_42 (dk_at dksX1_init_1 16 rfl rfl)
theorem dX1_init_41 : decode cX1_init 41 = .ok (.iconst (-1), 1) := dk_2 (dk_at dksX1_init_1 17 rfl rfl)
theorem dX1_init_42 : decode cX1_init 42 = .ok (.putfield 30, 3) := dk_181 0 30 (dk_at dksX1_init_1 18 rfl rfl)
theorem dX1_init_45 : decode cX1_init 45 = .ok (.return_, 1) := dk_177 (dk_at dksX1_init_1 21 rfl rfl)
abbrev cX1_clear : ByteArray := prog_1_method_79_code
def yX1_clear : MethodName := ⟨RX1, "clear", "()I"⟩
def dkwX1_clear_0 : List UInt8 := [42, 180, 1, 173, 60, 42, 3, 181, 1, 173, 42, 2, 181, 0, 30, 27, 172]
abbrev dktX1_clear_0 : List UInt8 := dkwX1_clear_0 ++ []
theorem dksX1_clear_0 : cX1_clear.data.toList.drop 0 = dktX1_clear_0 := by decide +kernel
theorem dX1_clear_0 : decode cX1_clear 0 = .ok (.aload_n 0, 1) := dk_42 (dk_at dksX1_clear_0 0 rfl rfl)
theorem dX1_clear_1 : decode cX1_clear 1 = .ok (.getfield 429, 3) := dk_180 1 173 (dk_at dksX1_clear_0 1 rfl rfl)
theorem dX1_clear_4 : decode cX1_clear 4 = .ok (.istore_n 1, 1) := dk_60 (dk_at dksX1_clear_0 4 rfl rfl)
theorem dX1_clear_5 : decode cX1_clear 5 = .ok (.aload_n 0, 1) := dk_42 (dk_at dksX1_clear_0 5 rfl rfl)
theorem dX1_clear_6 : decode cX1_clear 6 = .ok (.iconst 0, 1) := dk_3 (dk_at dksX1_clear_0 6 rfl rfl)
theorem dX1_clear_7 : decode cX1_clear 7 = .ok (.putfield 429, 3) := dk_181 1 173 (dk_at dksX1_clear_0 7 rfl rfl)
theorem dX1_clear_10 : decode cX1_clear 10 = .ok (.aload_n 0, 1) := dk_42 (dk_at dksX1_clear_0 10 rfl rfl)
theorem dX1_clear_11 : decode cX1_clear 11 = .ok (.iconst (-1), 1) := dk_2 (dk_at dksX1_clear_0 11 rfl rfl)
theorem dX1_clear_12 : decode cX1_clear 12 = .ok (.putfield 30, 3) := dk_181 0 30 (dk_at dksX1_clear_0 12 rfl rfl)
theorem dX1_clear_15 : decode cX1_clear 15 = .ok (.iload_n 1, 1) := dk_27 (dk_at dksX1_clear_0 15 rfl rfl)
theorem dX1_clear_16 : decode cX1_clear 16 = .ok (.ireturn, 1) := dk_172 (dk_at dksX1_clear_0 16 rfl rfl)
abbrev cX1_feed : ByteArray := prog_1_method_3_code
def yX1_feed : MethodName := ⟨RX1, "feed", "(IIII)I"⟩
def dkwX1_feed_4 : List UInt8 := [96, 181, 0, 36, 132, 5, 1, 167, 255, 177, 42, 180, 0, 36, 172]
abbrev dktX1_feed_4 : List UInt8 := dkwX1_feed_4 ++ []
def dkwX1_feed_3 : List UInt8 := [180, 0, 36, 21, 6, 16, 24, 16, 8, 21, 5, 6, 126, 104, 100, 122, 145, 84, 42, 89, 180, 0, 36, 4]
abbrev dktX1_feed_3 : List UInt8 := dkwX1_feed_3 ++ dktX1_feed_4
def dkwX1_feed_2 : List UInt8 := [28, 167, 0, 16, 21, 5, 16, 12, 162, 0, 7, 29, 167, 0, 5, 21, 4, 54, 6, 42, 180, 0, 9, 42]
abbrev dktX1_feed_2 : List UInt8 := dkwX1_feed_2 ++ dktX1_feed_3
def dkwX1_feed_1 : List UInt8 := [21, 5, 16, 16, 162, 0, 78, 21, 5, 7, 162, 0, 7, 27, 167, 0, 27, 21, 5, 16, 8, 162, 0, 7]
abbrev dktX1_feed_1 : List UInt8 := dkwX1_feed_1 ++ dktX1_feed_2
def dkwX1_feed_0 : List UInt8 := [42, 180, 0, 36, 16, 16, 96, 17, 32, 0, 164, 0, 11, 187, 0, 39, 89, 183, 0, 41, 191, 3, 54, 5]
abbrev dktX1_feed_0 : List UInt8 := dkwX1_feed_0 ++ dktX1_feed_1
theorem dksX1_feed_0 : cX1_feed.data.toList.drop 0 = dktX1_feed_0 := by decide +kernel
theorem dksX1_feed_1 : cX1_feed.data.toList.drop 24 = dktX1_feed_1 := dk_seg dksX1_feed_0 24 rfl rfl
theorem dksX1_feed_2 : cX1_feed.data.toList.drop 48 = dktX1_feed_2 := dk_seg dksX1_feed_1 24 rfl rfl
theorem dksX1_feed_3 : cX1_feed.data.toList.drop 72 = dktX1_feed_3 := dk_seg dksX1_feed_2 24 rfl rfl
theorem dksX1_feed_4 : cX1_feed.data.toList.drop 96 = dktX1_feed_4 := dk_seg dksX1_feed_3 24 rfl rfl
theorem dX1_feed_0 : decode cX1_feed 0 = .ok (.aload_n 0, 1) := dk_42 (dk_at dksX1_feed_0 0 rfl rfl)
theorem dX1_feed_1 : decode cX1_feed 1 = .ok (.getfield 36, 3) := dk_180 0 36 (dk_at dksX1_feed_0 1 rfl rfl)
theorem dX1_feed_4 : decode cX1_feed 4 = .ok (.bipush 16, 2) := dk_16 16 (dk_at dksX1_feed_0 4 rfl rfl)
theorem dX1_feed_6 : decode cX1_feed 6 = .ok (.iadd, 1) := dk_96 (dk_at dksX1_feed_0 6 rfl rfl)
theorem dX1_feed_7 : decode cX1_feed 7 = .ok (.sipush 8192, 3) := dk_17 32 0 (dk_at dksX1_feed_0 7 rfl rfl)
theorem dX1_feed_10 : decode cX1_feed 10 = .ok (.if_icmp .le 11, 3) := dk_164 0 11 (dk_at dksX1_feed_0 10 rfl rfl)
theorem dX1_feed_13 : decode cX1_feed 13 = .ok (.new 39, 3) := dk_187 0 39 (dk_at dksX1_feed_0 13 rfl rfl)
theorem dX1_feed_16 : decode cX1_feed 16 = .ok (.dup, 1) := dk_89 (dk_at dksX1_feed_0 16 rfl rfl)
theorem dX1_feed_17 : decode cX1_feed 17 = .ok (.invokespecial 41, 3) := dk_183 0 41 (dk_at dksX1_feed_0 17 rfl rfl)
theorem dX1_feed_20 : decode cX1_feed 20 = .ok (.athrow, 1) := dk_191 (dk_at dksX1_feed_0 20 rfl rfl)
theorem dX1_feed_21 : decode cX1_feed 21 = .ok (.iconst 0, 1) := dk_3 (dk_at dksX1_feed_0 21 rfl rfl)
theorem dX1_feed_22 : decode cX1_feed 22 = .ok (.istore 5, 2) := dk_54 5 (dk_at dksX1_feed_0 22 rfl rfl)
theorem dX1_feed_24 : decode cX1_feed 24 = .ok (.iload 5, 2) := dk_21 5 (dk_at dksX1_feed_1 0 rfl rfl)
theorem dX1_feed_26 : decode cX1_feed 26 = .ok (.bipush 16, 2) := dk_16 16 (dk_at dksX1_feed_1 2 rfl rfl)
theorem dX1_feed_28 : decode cX1_feed 28 = .ok (.if_icmp .ge 78, 3) := dk_162 0 78 (dk_at dksX1_feed_1 4 rfl rfl)
theorem dX1_feed_31 : decode cX1_feed 31 = .ok (.iload 5, 2) := dk_21 5 (dk_at dksX1_feed_1 7 rfl rfl)
theorem dX1_feed_33 : decode cX1_feed 33 = .ok (.iconst 4, 1) := dk_7 (dk_at dksX1_feed_1 9 rfl rfl)
theorem dX1_feed_34 : decode cX1_feed 34 = .ok (.if_icmp .ge 7, 3) := dk_162 0 7 (dk_at dksX1_feed_1 10 rfl rfl)
theorem dX1_feed_37 : decode cX1_feed 37 = .ok (.iload_n 1, 1) := dk_27 (dk_at dksX1_feed_1 13 rfl rfl)
theorem dX1_feed_38 : decode cX1_feed 38 = .ok (.goto 27, 3) := dk_167 0 27 (dk_at dksX1_feed_1 14 rfl rfl)
theorem dX1_feed_41 : decode cX1_feed 41 = .ok (.iload 5, 2) := dk_21 5 (dk_at dksX1_feed_1 17 rfl rfl)
theorem dX1_feed_43 : decode cX1_feed 43 = .ok (.bipush 8, 2) := dk_16 8 (dk_at dksX1_feed_1 19 rfl rfl)
theorem dX1_feed_45 : decode cX1_feed 45 = .ok (.if_icmp .ge 7, 3) := dk_162 0 7 (dk_at dksX1_feed_1 21 rfl rfl)
theorem dX1_feed_48 : decode cX1_feed 48 = .ok (.iload_n 2, 1) := dk_28 (dk_at dksX1_feed_2 0 rfl rfl)
theorem dX1_feed_49 : decode cX1_feed 49 = .ok (.goto 16, 3) := dk_167 0 16 (dk_at dksX1_feed_2 1 rfl rfl)
theorem dX1_feed_52 : decode cX1_feed 52 = .ok (.iload 5, 2) := dk_21 5 (dk_at dksX1_feed_2 4 rfl rfl)
theorem dX1_feed_54 : decode cX1_feed 54 = .ok (.bipush 12, 2) := dk_16 12 (dk_at dksX1_feed_2 6 rfl rfl)
theorem dX1_feed_56 : decode cX1_feed 56 = .ok (.if_icmp .ge 7, 3) := dk_162 0 7 (dk_at dksX1_feed_2 8 rfl rfl)
theorem dX1_feed_59 : decode cX1_feed 59 = .ok (.iload_n 3, 1) := dk_29 (dk_at dksX1_feed_2 11 rfl rfl)
theorem dX1_feed_60 : decode cX1_feed 60 = .ok (.goto 5, 3) := dk_167 0 5 (dk_at dksX1_feed_2 12 rfl rfl)
theorem dX1_feed_63 : decode cX1_feed 63 = .ok (.iload 4, 2) := dk_21 4 (dk_at dksX1_feed_2 15 rfl rfl)
theorem dX1_feed_65 : decode cX1_feed 65 = .ok (.istore 6, 2) := dk_54 6 (dk_at dksX1_feed_2 17 rfl rfl)
theorem dX1_feed_67 : decode cX1_feed 67 = .ok (.aload_n 0, 1) := dk_42 (dk_at dksX1_feed_2 19 rfl rfl)
theorem dX1_feed_68 : decode cX1_feed 68 = .ok (.getfield 9, 3) := dk_180 0 9 (dk_at dksX1_feed_2 20 rfl rfl)
theorem dX1_feed_71 : decode cX1_feed 71 = .ok (.aload_n 0, 1) := dk_42 (dk_at dksX1_feed_2 23 rfl rfl)
theorem dX1_feed_72 : decode cX1_feed 72 = .ok (.getfield 36, 3) := dk_180 0 36 (dk_at dksX1_feed_3 0 rfl rfl)
theorem dX1_feed_75 : decode cX1_feed 75 = .ok (.iload 6, 2) := dk_21 6 (dk_at dksX1_feed_3 3 rfl rfl)
theorem dX1_feed_77 : decode cX1_feed 77 = .ok (.bipush 24, 2) := dk_16 24 (dk_at dksX1_feed_3 5 rfl rfl)
theorem dX1_feed_79 : decode cX1_feed 79 = .ok (.bipush 8, 2) := dk_16 8 (dk_at dksX1_feed_3 7 rfl rfl)
theorem dX1_feed_81 : decode cX1_feed 81 = .ok (.iload 5, 2) := dk_21 5 (dk_at dksX1_feed_3 9 rfl rfl)
theorem dX1_feed_83 : decode cX1_feed 83 = .ok (.iconst 3, 1) := dk_6 (dk_at dksX1_feed_3 11 rfl rfl)
theorem dX1_feed_84 : decode cX1_feed 84 = .ok (.iand, 1) := dk_126 (dk_at dksX1_feed_3 12 rfl rfl)
theorem dX1_feed_85 : decode cX1_feed 85 = .ok (.imul, 1) := dk_104 (dk_at dksX1_feed_3 13 rfl rfl)
theorem dX1_feed_86 : decode cX1_feed 86 = .ok (.isub, 1) := dk_100 (dk_at dksX1_feed_3 14 rfl rfl)
theorem dX1_feed_87 : decode cX1_feed 87 = .ok (.ishr, 1) := dk_122 (dk_at dksX1_feed_3 15 rfl rfl)
theorem dX1_feed_88 : decode cX1_feed 88 = .ok (.i2b, 1) := dk_145 (dk_at dksX1_feed_3 16 rfl rfl)
theorem dX1_feed_89 : decode cX1_feed 89 = .ok (.bastore, 1) := dk_84 (dk_at dksX1_feed_3 17 rfl rfl)
theorem dX1_feed_90 : decode cX1_feed 90 = .ok (.aload_n 0, 1) := dk_42 (dk_at dksX1_feed_3 18 rfl rfl)
theorem dX1_feed_91 : decode cX1_feed 91 = .ok (.dup, 1) := dk_89 (dk_at dksX1_feed_3 19 rfl rfl)
theorem dX1_feed_92 : decode cX1_feed 92 = .ok (.getfield 36, 3) := dk_180 0 36 (dk_at dksX1_feed_3 20 rfl rfl)
theorem dX1_feed_95 : decode cX1_feed 95 = .ok (.iconst 1, 1) := dk_4 (dk_at dksX1_feed_3 23 rfl rfl)
theorem dX1_feed_96 : decode cX1_feed 96 = .ok (.iadd, 1) := dk_96 (dk_at dksX1_feed_4 0 rfl rfl)
theorem dX1_feed_97 : decode cX1_feed 97 = .ok (.putfield 36, 3) := dk_181 0 36 (dk_at dksX1_feed_4 1 rfl rfl)
theorem dX1_feed_100 : decode cX1_feed 100 = .ok (.iinc 5 1, 3) := dk_132 5 1 (dk_at dksX1_feed_4 4 rfl rfl)
theorem dX1_feed_103 : decode cX1_feed 103 = .ok (.goto (-79), 3) := dk_167 255 177 (dk_at dksX1_feed_4 7 rfl rfl)
theorem dX1_feed_106 : decode cX1_feed 106 = .ok (.aload_n 0, 1) := dk_42 (dk_at dksX1_feed_4 10 rfl rfl)
theorem dX1_feed_107 : decode cX1_feed 107 = .ok (.getfield 36, 3) := dk_180 0 36 (dk_at dksX1_feed_4 11 rfl rfl)
theorem dX1_feed_110 : decode cX1_feed 110 = .ok (.ireturn, 1) := dk_172 (dk_at dksX1_feed_4 14 rfl rfl)
abbrev cX1_end : ByteArray := prog_1_method_4_code
def yX1_end : MethodName := ⟨RX1, "end", "(I)I"⟩
def dkwX1_end_1 : List UInt8 := [183, 0, 44, 191, 42, 89, 180, 0, 36, 27, 100, 181, 0, 36, 42, 180, 0, 36, 172]
abbrev dktX1_end_1 : List UInt8 := dkwX1_end_1 ++ []
def dkwX1_end_0 : List UInt8 := [27, 155, 0, 17, 27, 16, 15, 163, 0, 11, 27, 42, 180, 0, 36, 164, 0, 11, 187, 0, 42, 89]
abbrev dktX1_end_0 : List UInt8 := dkwX1_end_0 ++ dktX1_end_1
theorem dksX1_end_0 : cX1_end.data.toList.drop 0 = dktX1_end_0 := by decide +kernel
theorem dksX1_end_1 : cX1_end.data.toList.drop 22 = dktX1_end_1 := dk_seg dksX1_end_0 22 rfl rfl
theorem dX1_end_0 : decode cX1_end 0 = .ok (.iload_n 1, 1) := dk_27 (dk_at dksX1_end_0 0 rfl rfl)
theorem dX1_end_1 : decode cX1_end 1 = .ok (.ifCond .lt 17, 3) := dk_155 0 17 (dk_at dksX1_end_0 1 rfl rfl)
theorem dX1_end_4 : decode cX1_end 4 = .ok (.iload_n 1, 1) := dk_27 (dk_at dksX1_end_0 4 rfl rfl)
theorem dX1_end_5 : decode cX1_end 5 = .ok (.bipush 15, 2) := dk_16 15 (dk_at dksX1_end_0 5 rfl rfl)
theorem dX1_end_7 : decode cX1_end 7 = .ok (.if_icmp .gt 11, 3) := dk_163 0 11 (dk_at dksX1_end_0 7 rfl rfl)
theorem dX1_end_10 : decode cX1_end 10 = .ok (.iload_n 1, 1) := dk_27 (dk_at dksX1_end_0 10 rfl rfl)
theorem dX1_end_11 : decode cX1_end 11 = .ok (.aload_n 0, 1) := dk_42 (dk_at dksX1_end_0 11 rfl rfl)
theorem dX1_end_12 : decode cX1_end 12 = .ok (.getfield 36, 3) := dk_180 0 36 (dk_at dksX1_end_0 12 rfl rfl)
theorem dX1_end_15 : decode cX1_end 15 = .ok (.if_icmp .le 11, 3) := dk_164 0 11 (dk_at dksX1_end_0 15 rfl rfl)
theorem dX1_end_18 : decode cX1_end 18 = .ok (.new 42, 3) := dk_187 0 42 (dk_at dksX1_end_0 18 rfl rfl)
theorem dX1_end_21 : decode cX1_end 21 = .ok (.dup, 1) := dk_89 (dk_at dksX1_end_0 21 rfl rfl)
theorem dX1_end_22 : decode cX1_end 22 = .ok (.invokespecial 44, 3) := dk_183 0 44 (dk_at dksX1_end_1 0 rfl rfl)
theorem dX1_end_25 : decode cX1_end 25 = .ok (.athrow, 1) := dk_191 (dk_at dksX1_end_1 3 rfl rfl)
theorem dX1_end_26 : decode cX1_end 26 = .ok (.aload_n 0, 1) := dk_42 (dk_at dksX1_end_1 4 rfl rfl)
theorem dX1_end_27 : decode cX1_end 27 = .ok (.dup, 1) := dk_89 (dk_at dksX1_end_1 5 rfl rfl)
theorem dX1_end_28 : decode cX1_end 28 = .ok (.getfield 36, 3) := dk_180 0 36 (dk_at dksX1_end_1 6 rfl rfl)
theorem dX1_end_31 : decode cX1_end 31 = .ok (.iload_n 1, 1) := dk_27 (dk_at dksX1_end_1 9 rfl rfl)
theorem dX1_end_32 : decode cX1_end 32 = .ok (.isub, 1) := dk_100 (dk_at dksX1_end_1 10 rfl rfl)
theorem dX1_end_33 : decode cX1_end 33 = .ok (.putfield 36, 3) := dk_181 0 36 (dk_at dksX1_end_1 11 rfl rfl)
theorem dX1_end_36 : decode cX1_end 36 = .ok (.aload_n 0, 1) := dk_42 (dk_at dksX1_end_1 14 rfl rfl)
theorem dX1_end_37 : decode cX1_end 37 = .ok (.getfield 36, 3) := dk_180 0 36 (dk_at dksX1_end_1 15 rfl rfl)
theorem dX1_end_40 : decode cX1_end 40 = .ok (.ireturn, 1) := dk_172 (dk_at dksX1_end_1 18 rfl rfl)
abbrev cX1_assemble : ByteArray := prog_1_method_61_code
def yX1_assemble : MethodName := ⟨RX1, "assemble", "()I"⟩
def dkwX1_assemble_6 : List UInt8 := [154, 0, 12, 42, 180, 1, 173, 4, 100, 167, 0, 4, 2, 172]
abbrev dktX1_assemble_6 : List UInt8 := dkwX1_assemble_6 ++ []
def dkwX1_assemble_5 : List UInt8 := [180, 0, 45, 181, 1, 180, 42, 42, 180, 0, 235, 181, 1, 183, 42, 3, 181, 0, 36, 42, 180, 1, 180]
abbrev dktX1_assemble_5 : List UInt8 := dkwX1_assemble_5 ++ dktX1_assemble_6
def dkwX1_assemble_4 : List UInt8 := [181, 1, 183, 42, 182, 1, 186, 42, 89, 180, 1, 173, 4, 96, 181, 1, 173, 167, 0, 20, 76, 42, 42]
abbrev dktX1_assemble_4 : List UInt8 := dkwX1_assemble_4 ++ dktX1_assemble_5
def dkwX1_assemble_3 : List UInt8 := [42, 3, 181, 0, 48, 42, 3, 181, 0, 204, 42, 4, 181, 0, 235, 42, 3, 181, 1, 180, 42, 3]
abbrev dktX1_assemble_3 : List UInt8 := dkwX1_assemble_3 ++ dktX1_assemble_4
def dkwX1_assemble_2 : List UInt8 := [183, 1, 176, 83, 42, 42, 180, 0, 15, 42, 180, 1, 173, 50, 181, 0, 150, 42, 180, 0, 150, 182, 1, 177]
abbrev dktX1_assemble_2 : List UInt8 := dkwX1_assemble_2 ++ dktX1_assemble_3
def dkwX1_assemble_1 : List UInt8 := [180, 0, 15, 42, 180, 1, 173, 50, 199, 0, 19, 42, 180, 0, 15, 42, 180, 1, 173, 187, 0, 13, 89]
abbrev dktX1_assemble_1 : List UInt8 := dkwX1_assemble_1 ++ dktX1_assemble_2
def dkwX1_assemble_0 : List UInt8 := [42, 180, 1, 173, 16, 8, 160, 0, 16, 42, 3, 181, 0, 36, 187, 0, 39, 89, 183, 0, 41, 191, 42]
abbrev dktX1_assemble_0 : List UInt8 := dkwX1_assemble_0 ++ dktX1_assemble_1
theorem dksX1_assemble_0 : cX1_assemble.data.toList.drop 0 = dktX1_assemble_0 := by decide +kernel
theorem dksX1_assemble_1 : cX1_assemble.data.toList.drop 23 = dktX1_assemble_1 := dk_seg dksX1_assemble_0 23 rfl rfl
theorem dksX1_assemble_2 : cX1_assemble.data.toList.drop 46 = dktX1_assemble_2 := dk_seg dksX1_assemble_1 23 rfl rfl
theorem dksX1_assemble_3 : cX1_assemble.data.toList.drop 70 = dktX1_assemble_3 := dk_seg dksX1_assemble_2 24 rfl rfl
theorem dksX1_assemble_4 : cX1_assemble.data.toList.drop 92 = dktX1_assemble_4 := dk_seg dksX1_assemble_3 22 rfl rfl
theorem dksX1_assemble_5 : cX1_assemble.data.toList.drop 115 = dktX1_assemble_5 := dk_seg dksX1_assemble_4 23 rfl rfl
theorem dksX1_assemble_6 : cX1_assemble.data.toList.drop 138 = dktX1_assemble_6 := dk_seg dksX1_assemble_5 23 rfl rfl
theorem dX1_assemble_0 : decode cX1_assemble 0 = .ok (.aload_n 0, 1) := dk_42 (dk_at dksX1_assemble_0 0 rfl rfl)
theorem dX1_assemble_1 : decode cX1_assemble 1 = .ok (.getfield 429, 3) := dk_180 1 173 (dk_at dksX1_assemble_0 1 rfl rfl)
theorem dX1_assemble_4 : decode cX1_assemble 4 = .ok (.bipush 8, 2) := dk_16 8 (dk_at dksX1_assemble_0 4 rfl rfl)
theorem dX1_assemble_6 : decode cX1_assemble 6 = .ok (.if_icmp .ne 16, 3) := dk_160 0 16 (dk_at dksX1_assemble_0 6 rfl rfl)
theorem dX1_assemble_9 : decode cX1_assemble 9 = .ok (.aload_n 0, 1) := dk_42 (dk_at dksX1_assemble_0 9 rfl rfl)
theorem dX1_assemble_10 : decode cX1_assemble 10 = .ok (.iconst 0, 1) := dk_3 (dk_at dksX1_assemble_0 10 rfl rfl)
theorem dX1_assemble_11 : decode cX1_assemble 11 = .ok (.putfield 36, 3) := dk_181 0 36 (dk_at dksX1_assemble_0 11 rfl rfl)
theorem dX1_assemble_14 : decode cX1_assemble 14 = .ok (.new 39, 3) := dk_187 0 39 (dk_at dksX1_assemble_0 14 rfl rfl)
theorem dX1_assemble_17 : decode cX1_assemble 17 = .ok (.dup, 1) := dk_89 (dk_at dksX1_assemble_0 17 rfl rfl)
theorem dX1_assemble_18 : decode cX1_assemble 18 = .ok (.invokespecial 41, 3) := dk_183 0 41 (dk_at dksX1_assemble_0 18 rfl rfl)
theorem dX1_assemble_21 : decode cX1_assemble 21 = .ok (.athrow, 1) := dk_191 (dk_at dksX1_assemble_0 21 rfl rfl)
theorem dX1_assemble_22 : decode cX1_assemble 22 = .ok (.aload_n 0, 1) := dk_42 (dk_at dksX1_assemble_0 22 rfl rfl)
theorem dX1_assemble_23 : decode cX1_assemble 23 = .ok (.getfield 15, 3) := dk_180 0 15 (dk_at dksX1_assemble_1 0 rfl rfl)
theorem dX1_assemble_26 : decode cX1_assemble 26 = .ok (.aload_n 0, 1) := dk_42 (dk_at dksX1_assemble_1 3 rfl rfl)
theorem dX1_assemble_27 : decode cX1_assemble 27 = .ok (.getfield 429, 3) := dk_180 1 173 (dk_at dksX1_assemble_1 4 rfl rfl)
theorem dX1_assemble_30 : decode cX1_assemble 30 = .ok (.aaload, 1) := dk_50 (dk_at dksX1_assemble_1 7 rfl rfl)
theorem dX1_assemble_31 : decode cX1_assemble 31 = .ok (.ifnonnull 19, 3) := dk_199 0 19 (dk_at dksX1_assemble_1 8 rfl rfl)
theorem dX1_assemble_34 : decode cX1_assemble 34 = .ok (.aload_n 0, 1) := dk_42 (dk_at dksX1_assemble_1 11 rfl rfl)
theorem dX1_assemble_35 : decode cX1_assemble 35 = .ok (.getfield 15, 3) := dk_180 0 15 (dk_at dksX1_assemble_1 12 rfl rfl)
theorem dX1_assemble_38 : decode cX1_assemble 38 = .ok (.aload_n 0, 1) := dk_42 (dk_at dksX1_assemble_1 15 rfl rfl)
theorem dX1_assemble_39 : decode cX1_assemble 39 = .ok (.getfield 429, 3) := dk_180 1 173 (dk_at dksX1_assemble_1 16 rfl rfl)
theorem dX1_assemble_42 : decode cX1_assemble 42 = .ok (.new 13, 3) := dk_187 0 13 (dk_at dksX1_assemble_1 19 rfl rfl)
theorem dX1_assemble_45 : decode cX1_assemble 45 = .ok (.dup, 1) := dk_89 (dk_at dksX1_assemble_1 22 rfl rfl)
theorem dX1_assemble_46 : decode cX1_assemble 46 = .ok (.invokespecial 432, 3) := dk_183 1 176 (dk_at dksX1_assemble_2 0 rfl rfl)
theorem dX1_assemble_49 : decode cX1_assemble 49 = .ok (.aastore, 1) := dk_83 (dk_at dksX1_assemble_2 3 rfl rfl)
theorem dX1_assemble_50 : decode cX1_assemble 50 = .ok (.aload_n 0, 1) := dk_42 (dk_at dksX1_assemble_2 4 rfl rfl)
theorem dX1_assemble_51 : decode cX1_assemble 51 = .ok (.aload_n 0, 1) := dk_42 (dk_at dksX1_assemble_2 5 rfl rfl)
theorem dX1_assemble_52 : decode cX1_assemble 52 = .ok (.getfield 15, 3) := dk_180 0 15 (dk_at dksX1_assemble_2 6 rfl rfl)
theorem dX1_assemble_55 : decode cX1_assemble 55 = .ok (.aload_n 0, 1) := dk_42 (dk_at dksX1_assemble_2 9 rfl rfl)
theorem dX1_assemble_56 : decode cX1_assemble 56 = .ok (.getfield 429, 3) := dk_180 1 173 (dk_at dksX1_assemble_2 10 rfl rfl)
theorem dX1_assemble_59 : decode cX1_assemble 59 = .ok (.aaload, 1) := dk_50 (dk_at dksX1_assemble_2 13 rfl rfl)
theorem dX1_assemble_60 : decode cX1_assemble 60 = .ok (.putfield 150, 3) := dk_181 0 150 (dk_at dksX1_assemble_2 14 rfl rfl)
theorem dX1_assemble_63 : decode cX1_assemble 63 = .ok (.aload_n 0, 1) := dk_42 (dk_at dksX1_assemble_2 17 rfl rfl)
theorem dX1_assemble_64 : decode cX1_assemble 64 = .ok (.getfield 150, 3) := dk_180 0 150 (dk_at dksX1_assemble_2 18 rfl rfl)
theorem dX1_assemble_67 : decode cX1_assemble 67 = .ok (.invokevirtual 433, 3) := dk_182 1 177 (dk_at dksX1_assemble_2 21 rfl rfl)
theorem dX1_assemble_70 : decode cX1_assemble 70 = .ok (.aload_n 0, 1) := dk_42 (dk_at dksX1_assemble_3 0 rfl rfl)
theorem dX1_assemble_71 : decode cX1_assemble 71 = .ok (.iconst 0, 1) := dk_3 (dk_at dksX1_assemble_3 1 rfl rfl)
theorem dX1_assemble_72 : decode cX1_assemble 72 = .ok (.putfield 48, 3) := dk_181 0 48 (dk_at dksX1_assemble_3 2 rfl rfl)
theorem dX1_assemble_75 : decode cX1_assemble 75 = .ok (.aload_n 0, 1) := dk_42 (dk_at dksX1_assemble_3 5 rfl rfl)
theorem dX1_assemble_76 : decode cX1_assemble 76 = .ok (.iconst 0, 1) := dk_3 (dk_at dksX1_assemble_3 6 rfl rfl)
theorem dX1_assemble_77 : decode cX1_assemble 77 = .ok (.putfield 204, 3) := dk_181 0 204 (dk_at dksX1_assemble_3 7 rfl rfl)
theorem dX1_assemble_80 : decode cX1_assemble 80 = .ok (.aload_n 0, 1) := dk_42 (dk_at dksX1_assemble_3 10 rfl rfl)
theorem dX1_assemble_81 : decode cX1_assemble 81 = .ok (.iconst 1, 1) := dk_4 (dk_at dksX1_assemble_3 11 rfl rfl)
theorem dX1_assemble_82 : decode cX1_assemble 82 = .ok (.putfield 235, 3) := dk_181 0 235 (dk_at dksX1_assemble_3 12 rfl rfl)
theorem dX1_assemble_85 : decode cX1_assemble 85 = .ok (.aload_n 0, 1) := dk_42 (dk_at dksX1_assemble_3 15 rfl rfl)
theorem dX1_assemble_86 : decode cX1_assemble 86 = .ok (.iconst 0, 1) := dk_3 (dk_at dksX1_assemble_3 16 rfl rfl)
theorem dX1_assemble_87 : decode cX1_assemble 87 = .ok (.putfield 436, 3) := dk_181 1 180 (dk_at dksX1_assemble_3 17 rfl rfl)
theorem dX1_assemble_90 : decode cX1_assemble 90 = .ok (.aload_n 0, 1) := dk_42 (dk_at dksX1_assemble_3 20 rfl rfl)
theorem dX1_assemble_91 : decode cX1_assemble 91 = .ok (.iconst 0, 1) := dk_3 (dk_at dksX1_assemble_3 21 rfl rfl)
theorem dX1_assemble_92 : decode cX1_assemble 92 = .ok (.putfield 439, 3) := dk_181 1 183 (dk_at dksX1_assemble_4 0 rfl rfl)
theorem dX1_assemble_95 : decode cX1_assemble 95 = .ok (.aload_n 0, 1) := dk_42 (dk_at dksX1_assemble_4 3 rfl rfl)
theorem dX1_assemble_96 : decode cX1_assemble 96 = .ok (.invokevirtual 442, 3) := dk_182 1 186 (dk_at dksX1_assemble_4 4 rfl rfl)
theorem dX1_assemble_99 : decode cX1_assemble 99 = .ok (.aload_n 0, 1) := dk_42 (dk_at dksX1_assemble_4 7 rfl rfl)
theorem dX1_assemble_100 : decode cX1_assemble 100 = .ok (.dup, 1) := dk_89 (dk_at dksX1_assemble_4 8 rfl rfl)
theorem dX1_assemble_101 : decode cX1_assemble 101 = .ok (.getfield 429, 3) := dk_180 1 173 (dk_at dksX1_assemble_4 9 rfl rfl)
theorem dX1_assemble_104 : decode cX1_assemble 104 = .ok (.iconst 1, 1) := dk_4 (dk_at dksX1_assemble_4 12 rfl rfl)
theorem dX1_assemble_105 : decode cX1_assemble 105 = .ok (.iadd, 1) := dk_96 (dk_at dksX1_assemble_4 13 rfl rfl)
theorem dX1_assemble_106 : decode cX1_assemble 106 = .ok (.putfield 429, 3) := dk_181 1 173 (dk_at dksX1_assemble_4 14 rfl rfl)
theorem dX1_assemble_109 : decode cX1_assemble 109 = .ok (.goto 20, 3) := dk_167 0 20 (dk_at dksX1_assemble_4 17 rfl rfl)
theorem dX1_assemble_112 : decode cX1_assemble 112 = .ok (.astore_n 1, 1) := dk_76 (dk_at dksX1_assemble_4 20 rfl rfl)
theorem dX1_assemble_113 : decode cX1_assemble 113 = .ok (.aload_n 0, 1) := dk_42 (dk_at dksX1_assemble_4 21 rfl rfl)
theorem dX1_assemble_114 : decode cX1_assemble 114 = .ok (.aload_n 0, 1) := dk_42 (dk_at dksX1_assemble_4 22 rfl rfl)
theorem dX1_assemble_115 : decode cX1_assemble 115 = .ok (.getfield 45, 3) := dk_180 0 45 (dk_at dksX1_assemble_5 0 rfl rfl)
theorem dX1_assemble_118 : decode cX1_assemble 118 = .ok (.putfield 436, 3) := dk_181 1 180 (dk_at dksX1_assemble_5 3 rfl rfl)
theorem dX1_assemble_121 : decode cX1_assemble 121 = .ok (.aload_n 0, 1) := dk_42 (dk_at dksX1_assemble_5 6 rfl rfl)
theorem dX1_assemble_122 : decode cX1_assemble 122 = .ok (.aload_n 0, 1) := dk_42 (dk_at dksX1_assemble_5 7 rfl rfl)
theorem dX1_assemble_123 : decode cX1_assemble 123 = .ok (.getfield 235, 3) := dk_180 0 235 (dk_at dksX1_assemble_5 8 rfl rfl)
theorem dX1_assemble_126 : decode cX1_assemble 126 = .ok (.putfield 439, 3) := dk_181 1 183 (dk_at dksX1_assemble_5 11 rfl rfl)
theorem dX1_assemble_129 : decode cX1_assemble 129 = .ok (.aload_n 0, 1) := dk_42 (dk_at dksX1_assemble_5 14 rfl rfl)
theorem dX1_assemble_130 : decode cX1_assemble 130 = .ok (.iconst 0, 1) := dk_3 (dk_at dksX1_assemble_5 15 rfl rfl)
theorem dX1_assemble_131 : decode cX1_assemble 131 = .ok (.putfield 36, 3) := dk_181 0 36 (dk_at dksX1_assemble_5 16 rfl rfl)
theorem dX1_assemble_134 : decode cX1_assemble 134 = .ok (.aload_n 0, 1) := dk_42 (dk_at dksX1_assemble_5 19 rfl rfl)
theorem dX1_assemble_135 : decode cX1_assemble 135 = .ok (.getfield 436, 3) := dk_180 1 180 (dk_at dksX1_assemble_5 20 rfl rfl)
theorem dX1_assemble_138 : decode cX1_assemble 138 = .ok (.ifCond .ne 12, 3) := dk_154 0 12 (dk_at dksX1_assemble_6 0 rfl rfl)
theorem dX1_assemble_141 : decode cX1_assemble 141 = .ok (.aload_n 0, 1) := dk_42 (dk_at dksX1_assemble_6 3 rfl rfl)
theorem dX1_assemble_142 : decode cX1_assemble 142 = .ok (.getfield 429, 3) := dk_180 1 173 (dk_at dksX1_assemble_6 4 rfl rfl)
theorem dX1_assemble_145 : decode cX1_assemble 145 = .ok (.iconst 1, 1) := dk_4 (dk_at dksX1_assemble_6 7 rfl rfl)
theorem dX1_assemble_146 : decode cX1_assemble 146 = .ok (.isub, 1) := dk_100 (dk_at dksX1_assemble_6 8 rfl rfl)
theorem dX1_assemble_147 : decode cX1_assemble 147 = .ok (.goto 4, 3) := dk_167 0 4 (dk_at dksX1_assemble_6 9 rfl rfl)
theorem dX1_assemble_150 : decode cX1_assemble 150 = .ok (.iconst (-1), 1) := dk_2 (dk_at dksX1_assemble_6 12 rfl rfl)
theorem dX1_assemble_151 : decode cX1_assemble 151 = .ok (.ireturn, 1) := dk_172 (dk_at dksX1_assemble_6 13 rfl rfl)
abbrev cX1_lines : ByteArray := prog_1_method_60_code
def yX1_lines : MethodName := ⟨RX1, "lines", "()V"⟩
def dkwX1_lines_11 : List UInt8 := [167, 255, 67, 132, 1, 1, 167, 255, 61, 177]
abbrev dktX1_lines_11 : List UInt8 := dkwX1_lines_11 ++ []
def dkwX1_lines_10 : List UInt8 := [182, 1, 163, 32, 5, 123, 136, 18, 194, 126, 128, 182, 1, 166, 42, 180, 0, 150, 27, 182, 1, 170]
abbrev dktX1_lines_10 : List UInt8 := dkwX1_lines_10 ++ dktX1_lines_11
def dkwX1_lines_9 : List UInt8 := [180, 0, 150, 180, 0, 220, 27, 46, 42, 180, 0, 150, 3, 42, 180, 0, 150, 180, 0, 220, 27, 46]
abbrev dktX1_lines_9 : List UInt8 := dkwX1_lines_9 ++ dktX1_lines_10
def dkwX1_lines_8 : List UInt8 := [20, 1, 161, 148, 156, 0, 7, 4, 167, 0, 4, 3, 7, 182, 0, 69, 42, 180, 0, 150, 3, 42]
abbrev dktX1_lines_8 : List UInt8 := dkwX1_lines_8 ++ dktX1_lines_9
def dkwX1_lines_7 : List UInt8 := [101, 65, 42, 32, 20, 1, 137, 127, 9, 148, 154, 0, 23, 32, 20, 1, 159, 148, 155, 0, 15, 32]
abbrev dktX1_lines_7 : List UInt8 := dkwX1_lines_7 ++ dktX1_lines_8
def dkwX1_lines_6 : List UInt8 := [180, 0, 150, 180, 0, 229, 27, 46, 133, 97, 42, 180, 0, 150, 180, 0, 220, 27, 46, 133, 101, 20, 1, 157]
abbrev dktX1_lines_6 : List UInt8 := dkwX1_lines_6 ++ dktX1_lines_7
def dkwX1_lines_5 : List UInt8 := [27, 46, 181, 0, 235, 42, 180, 0, 150, 180, 0, 167, 42, 180, 0, 150, 180, 0, 226, 27, 46, 46, 133, 42]
abbrev dktX1_lines_5 : List UInt8 := dkwX1_lines_5 ++ dktX1_lines_6
def dkwX1_lines_4 : List UInt8 := [180, 0, 164, 42, 180, 0, 150, 180, 0, 226, 27, 46, 46, 154, 0, 150, 42, 42, 180, 0, 150, 180, 0, 232]
abbrev dktX1_lines_4 : List UInt8 := dkwX1_lines_4 ++ dktX1_lines_5
def dkwX1_lines_3 : List UInt8 := [180, 0, 214, 162, 0, 190, 42, 180, 0, 150, 180, 0, 223, 27, 46, 16, 10, 160, 0, 170, 42, 180, 0, 150]
abbrev dktX1_lines_3 : List UInt8 := dkwX1_lines_3 ++ dktX1_lines_4
def dkwX1_lines_2 : List UInt8 := [181, 0, 48, 42, 89, 180, 0, 235, 4, 96, 181, 0, 235, 167, 255, 198, 3, 60, 27, 42, 180, 0, 150]
abbrev dktX1_lines_2 : List UInt8 := dkwX1_lines_2 ++ dktX1_lines_3
def dkwX1_lines_1 : List UInt8 := [159, 0, 16, 42, 89, 180, 0, 48, 4, 96, 181, 0, 48, 167, 255, 236, 42, 89, 180, 0, 48, 4, 96]
abbrev dktX1_lines_1 : List UInt8 := dkwX1_lines_1 ++ dktX1_lines_2
def dkwX1_lines_0 : List UInt8 := [42, 180, 0, 48, 42, 180, 0, 36, 162, 0, 53, 42, 182, 1, 155, 42, 3, 182, 0, 51, 16, 10]
abbrev dktX1_lines_0 : List UInt8 := dkwX1_lines_0 ++ dktX1_lines_1
theorem dksX1_lines_0 : cX1_lines.data.toList.drop 0 = dktX1_lines_0 := by decide +kernel
theorem dksX1_lines_1 : cX1_lines.data.toList.drop 22 = dktX1_lines_1 := dk_seg dksX1_lines_0 22 rfl rfl
theorem dksX1_lines_2 : cX1_lines.data.toList.drop 45 = dktX1_lines_2 := dk_seg dksX1_lines_1 23 rfl rfl
theorem dksX1_lines_3 : cX1_lines.data.toList.drop 68 = dktX1_lines_3 := dk_seg dksX1_lines_2 23 rfl rfl
theorem dksX1_lines_4 : cX1_lines.data.toList.drop 92 = dktX1_lines_4 := dk_seg dksX1_lines_3 24 rfl rfl
theorem dksX1_lines_5 : cX1_lines.data.toList.drop 116 = dktX1_lines_5 := dk_seg dksX1_lines_4 24 rfl rfl
theorem dksX1_lines_6 : cX1_lines.data.toList.drop 140 = dktX1_lines_6 := dk_seg dksX1_lines_5 24 rfl rfl
theorem dksX1_lines_7 : cX1_lines.data.toList.drop 164 = dktX1_lines_7 := dk_seg dksX1_lines_6 24 rfl rfl
theorem dksX1_lines_8 : cX1_lines.data.toList.drop 186 = dktX1_lines_8 := dk_seg dksX1_lines_7 22 rfl rfl
theorem dksX1_lines_9 : cX1_lines.data.toList.drop 208 = dktX1_lines_9 := dk_seg dksX1_lines_8 22 rfl rfl
theorem dksX1_lines_10 : cX1_lines.data.toList.drop 230 = dktX1_lines_10 := dk_seg dksX1_lines_9 22 rfl rfl
theorem dksX1_lines_11 : cX1_lines.data.toList.drop 252 = dktX1_lines_11 := dk_seg dksX1_lines_10 22 rfl rfl
theorem dX1_lines_0 : decode cX1_lines 0 = .ok (.aload_n 0, 1) := dk_42 (dk_at dksX1_lines_0 0 rfl rfl)
theorem dX1_lines_1 : decode cX1_lines 1 = .ok (.getfield 48, 3) := dk_180 0 48 (dk_at dksX1_lines_0 1 rfl rfl)
theorem dX1_lines_4 : decode cX1_lines 4 = .ok (.aload_n 0, 1) := dk_42 (dk_at dksX1_lines_0 4 rfl rfl)
theorem dX1_lines_5 : decode cX1_lines 5 = .ok (.getfield 36, 3) := dk_180 0 36 (dk_at dksX1_lines_0 5 rfl rfl)
theorem dX1_lines_8 : decode cX1_lines 8 = .ok (.if_icmp .ge 53, 3) := dk_162 0 53 (dk_at dksX1_lines_0 8 rfl rfl)
theorem dX1_lines_11 : decode cX1_lines 11 = .ok (.aload_n 0, 1) := dk_42 (dk_at dksX1_lines_0 11 rfl rfl)
theorem dX1_lines_12 : decode cX1_lines 12 = .ok (.invokevirtual 411, 3) := dk_182 1 155 (dk_at dksX1_lines_0 12 rfl rfl)
theorem dX1_lines_15 : decode cX1_lines 15 = .ok (.aload_n 0, 1) := dk_42 (dk_at dksX1_lines_0 15 rfl rfl)
theorem dX1_lines_16 : decode cX1_lines 16 = .ok (.iconst 0, 1) := dk_3 (dk_at dksX1_lines_0 16 rfl rfl)
theorem dX1_lines_17 : decode cX1_lines 17 = .ok (.invokevirtual 51, 3) := dk_182 0 51 (dk_at dksX1_lines_0 17 rfl rfl)
theorem dX1_lines_20 : decode cX1_lines 20 = .ok (.bipush 10, 2) := dk_16 10 (dk_at dksX1_lines_0 20 rfl rfl)
theorem dX1_lines_22 : decode cX1_lines 22 = .ok (.if_icmp .eq 16, 3) := dk_159 0 16 (dk_at dksX1_lines_1 0 rfl rfl)
theorem dX1_lines_25 : decode cX1_lines 25 = .ok (.aload_n 0, 1) := dk_42 (dk_at dksX1_lines_1 3 rfl rfl)
theorem dX1_lines_26 : decode cX1_lines 26 = .ok (.dup, 1) := dk_89 (dk_at dksX1_lines_1 4 rfl rfl)
theorem dX1_lines_27 : decode cX1_lines 27 = .ok (.getfield 48, 3) := dk_180 0 48 (dk_at dksX1_lines_1 5 rfl rfl)
theorem dX1_lines_30 : decode cX1_lines 30 = .ok (.iconst 1, 1) := dk_4 (dk_at dksX1_lines_1 8 rfl rfl)
theorem dX1_lines_31 : decode cX1_lines 31 = .ok (.iadd, 1) := dk_96 (dk_at dksX1_lines_1 9 rfl rfl)
theorem dX1_lines_32 : decode cX1_lines 32 = .ok (.putfield 48, 3) := dk_181 0 48 (dk_at dksX1_lines_1 10 rfl rfl)
theorem dX1_lines_35 : decode cX1_lines 35 = .ok (.goto (-20), 3) := dk_167 255 236 (dk_at dksX1_lines_1 13 rfl rfl)
theorem dX1_lines_38 : decode cX1_lines 38 = .ok (.aload_n 0, 1) := dk_42 (dk_at dksX1_lines_1 16 rfl rfl)
theorem dX1_lines_39 : decode cX1_lines 39 = .ok (.dup, 1) := dk_89 (dk_at dksX1_lines_1 17 rfl rfl)
theorem dX1_lines_40 : decode cX1_lines 40 = .ok (.getfield 48, 3) := dk_180 0 48 (dk_at dksX1_lines_1 18 rfl rfl)
theorem dX1_lines_43 : decode cX1_lines 43 = .ok (.iconst 1, 1) := dk_4 (dk_at dksX1_lines_1 21 rfl rfl)
theorem dX1_lines_44 : decode cX1_lines 44 = .ok (.iadd, 1) := dk_96 (dk_at dksX1_lines_1 22 rfl rfl)
theorem dX1_lines_45 : decode cX1_lines 45 = .ok (.putfield 48, 3) := dk_181 0 48 (dk_at dksX1_lines_2 0 rfl rfl)
theorem dX1_lines_48 : decode cX1_lines 48 = .ok (.aload_n 0, 1) := dk_42 (dk_at dksX1_lines_2 3 rfl rfl)
theorem dX1_lines_49 : decode cX1_lines 49 = .ok (.dup, 1) := dk_89 (dk_at dksX1_lines_2 4 rfl rfl)
theorem dX1_lines_50 : decode cX1_lines 50 = .ok (.getfield 235, 3) := dk_180 0 235 (dk_at dksX1_lines_2 5 rfl rfl)
theorem dX1_lines_53 : decode cX1_lines 53 = .ok (.iconst 1, 1) := dk_4 (dk_at dksX1_lines_2 8 rfl rfl)
theorem dX1_lines_54 : decode cX1_lines 54 = .ok (.iadd, 1) := dk_96 (dk_at dksX1_lines_2 9 rfl rfl)
theorem dX1_lines_55 : decode cX1_lines 55 = .ok (.putfield 235, 3) := dk_181 0 235 (dk_at dksX1_lines_2 10 rfl rfl)
theorem dX1_lines_58 : decode cX1_lines 58 = .ok (.goto (-58), 3) := dk_167 255 198 (dk_at dksX1_lines_2 13 rfl rfl)
theorem dX1_lines_61 : decode cX1_lines 61 = .ok (.iconst 0, 1) := dk_3 (dk_at dksX1_lines_2 16 rfl rfl)
theorem dX1_lines_62 : decode cX1_lines 62 = .ok (.istore_n 1, 1) := dk_60 (dk_at dksX1_lines_2 17 rfl rfl)
theorem dX1_lines_63 : decode cX1_lines 63 = .ok (.iload_n 1, 1) := dk_27 (dk_at dksX1_lines_2 18 rfl rfl)
theorem dX1_lines_64 : decode cX1_lines 64 = .ok (.aload_n 0, 1) := dk_42 (dk_at dksX1_lines_2 19 rfl rfl)
theorem dX1_lines_65 : decode cX1_lines 65 = .ok (.getfield 150, 3) := dk_180 0 150 (dk_at dksX1_lines_2 20 rfl rfl)
theorem dX1_lines_68 : decode cX1_lines 68 = .ok (.getfield 214, 3) := dk_180 0 214 (dk_at dksX1_lines_3 0 rfl rfl)
theorem dX1_lines_71 : decode cX1_lines 71 = .ok (.if_icmp .ge 190, 3) := dk_162 0 190 (dk_at dksX1_lines_3 3 rfl rfl)
theorem dX1_lines_74 : decode cX1_lines 74 = .ok (.aload_n 0, 1) := dk_42 (dk_at dksX1_lines_3 6 rfl rfl)
theorem dX1_lines_75 : decode cX1_lines 75 = .ok (.getfield 150, 3) := dk_180 0 150 (dk_at dksX1_lines_3 7 rfl rfl)
theorem dX1_lines_78 : decode cX1_lines 78 = .ok (.getfield 223, 3) := dk_180 0 223 (dk_at dksX1_lines_3 10 rfl rfl)
theorem dX1_lines_81 : decode cX1_lines 81 = .ok (.iload_n 1, 1) := dk_27 (dk_at dksX1_lines_3 13 rfl rfl)
theorem dX1_lines_82 : decode cX1_lines 82 = .ok (.iaload, 1) := dk_46 (dk_at dksX1_lines_3 14 rfl rfl)
theorem dX1_lines_83 : decode cX1_lines 83 = .ok (.bipush 10, 2) := dk_16 10 (dk_at dksX1_lines_3 15 rfl rfl)
theorem dX1_lines_85 : decode cX1_lines 85 = .ok (.if_icmp .ne 170, 3) := dk_160 0 170 (dk_at dksX1_lines_3 17 rfl rfl)
theorem dX1_lines_88 : decode cX1_lines 88 = .ok (.aload_n 0, 1) := dk_42 (dk_at dksX1_lines_3 20 rfl rfl)
theorem dX1_lines_89 : decode cX1_lines 89 = .ok (.getfield 150, 3) := dk_180 0 150 (dk_at dksX1_lines_3 21 rfl rfl)
theorem dX1_lines_92 : decode cX1_lines 92 = .ok (.getfield 164, 3) := dk_180 0 164 (dk_at dksX1_lines_4 0 rfl rfl)
theorem dX1_lines_95 : decode cX1_lines 95 = .ok (.aload_n 0, 1) := dk_42 (dk_at dksX1_lines_4 3 rfl rfl)
theorem dX1_lines_96 : decode cX1_lines 96 = .ok (.getfield 150, 3) := dk_180 0 150 (dk_at dksX1_lines_4 4 rfl rfl)
theorem dX1_lines_99 : decode cX1_lines 99 = .ok (.getfield 226, 3) := dk_180 0 226 (dk_at dksX1_lines_4 7 rfl rfl)
theorem dX1_lines_102 : decode cX1_lines 102 = .ok (.iload_n 1, 1) := dk_27 (dk_at dksX1_lines_4 10 rfl rfl)
theorem dX1_lines_103 : decode cX1_lines 103 = .ok (.iaload, 1) := dk_46 (dk_at dksX1_lines_4 11 rfl rfl)
theorem dX1_lines_104 : decode cX1_lines 104 = .ok (.iaload, 1) := dk_46 (dk_at dksX1_lines_4 12 rfl rfl)
theorem dX1_lines_105 : decode cX1_lines 105 = .ok (.ifCond .ne 150, 3) := dk_154 0 150 (dk_at dksX1_lines_4 13 rfl rfl)
theorem dX1_lines_108 : decode cX1_lines 108 = .ok (.aload_n 0, 1) := dk_42 (dk_at dksX1_lines_4 16 rfl rfl)
theorem dX1_lines_109 : decode cX1_lines 109 = .ok (.aload_n 0, 1) := dk_42 (dk_at dksX1_lines_4 17 rfl rfl)
theorem dX1_lines_110 : decode cX1_lines 110 = .ok (.getfield 150, 3) := dk_180 0 150 (dk_at dksX1_lines_4 18 rfl rfl)
theorem dX1_lines_113 : decode cX1_lines 113 = .ok (.getfield 232, 3) := dk_180 0 232 (dk_at dksX1_lines_4 21 rfl rfl)
theorem dX1_lines_116 : decode cX1_lines 116 = .ok (.iload_n 1, 1) := dk_27 (dk_at dksX1_lines_5 0 rfl rfl)
theorem dX1_lines_117 : decode cX1_lines 117 = .ok (.iaload, 1) := dk_46 (dk_at dksX1_lines_5 1 rfl rfl)
theorem dX1_lines_118 : decode cX1_lines 118 = .ok (.putfield 235, 3) := dk_181 0 235 (dk_at dksX1_lines_5 2 rfl rfl)
theorem dX1_lines_121 : decode cX1_lines 121 = .ok (.aload_n 0, 1) := dk_42 (dk_at dksX1_lines_5 5 rfl rfl)
theorem dX1_lines_122 : decode cX1_lines 122 = .ok (.getfield 150, 3) := dk_180 0 150 (dk_at dksX1_lines_5 6 rfl rfl)
theorem dX1_lines_125 : decode cX1_lines 125 = .ok (.getfield 167, 3) := dk_180 0 167 (dk_at dksX1_lines_5 9 rfl rfl)
theorem dX1_lines_128 : decode cX1_lines 128 = .ok (.aload_n 0, 1) := dk_42 (dk_at dksX1_lines_5 12 rfl rfl)
theorem dX1_lines_129 : decode cX1_lines 129 = .ok (.getfield 150, 3) := dk_180 0 150 (dk_at dksX1_lines_5 13 rfl rfl)
theorem dX1_lines_132 : decode cX1_lines 132 = .ok (.getfield 226, 3) := dk_180 0 226 (dk_at dksX1_lines_5 16 rfl rfl)
theorem dX1_lines_135 : decode cX1_lines 135 = .ok (.iload_n 1, 1) := dk_27 (dk_at dksX1_lines_5 19 rfl rfl)
theorem dX1_lines_136 : decode cX1_lines 136 = .ok (.iaload, 1) := dk_46 (dk_at dksX1_lines_5 20 rfl rfl)
theorem dX1_lines_137 : decode cX1_lines 137 = .ok (.iaload, 1) := dk_46 (dk_at dksX1_lines_5 21 rfl rfl)
theorem dX1_lines_138 : decode cX1_lines 138 = .ok (.i2l, 1) := dk_133 (dk_at dksX1_lines_5 22 rfl rfl)
theorem dX1_lines_139 : decode cX1_lines 139 = .ok (.aload_n 0, 1) := dk_42 (dk_at dksX1_lines_5 23 rfl rfl)
theorem dX1_lines_140 : decode cX1_lines 140 = .ok (.getfield 150, 3) := dk_180 0 150 (dk_at dksX1_lines_6 0 rfl rfl)
theorem dX1_lines_143 : decode cX1_lines 143 = .ok (.getfield 229, 3) := dk_180 0 229 (dk_at dksX1_lines_6 3 rfl rfl)
theorem dX1_lines_146 : decode cX1_lines 146 = .ok (.iload_n 1, 1) := dk_27 (dk_at dksX1_lines_6 6 rfl rfl)
theorem dX1_lines_147 : decode cX1_lines 147 = .ok (.iaload, 1) := dk_46 (dk_at dksX1_lines_6 7 rfl rfl)
theorem dX1_lines_148 : decode cX1_lines 148 = .ok (.i2l, 1) := dk_133 (dk_at dksX1_lines_6 8 rfl rfl)
theorem dX1_lines_149 : decode cX1_lines 149 = .ok (.ladd, 1) := dk_97 (dk_at dksX1_lines_6 9 rfl rfl)
theorem dX1_lines_150 : decode cX1_lines 150 = .ok (.aload_n 0, 1) := dk_42 (dk_at dksX1_lines_6 10 rfl rfl)
theorem dX1_lines_151 : decode cX1_lines 151 = .ok (.getfield 150, 3) := dk_180 0 150 (dk_at dksX1_lines_6 11 rfl rfl)
theorem dX1_lines_154 : decode cX1_lines 154 = .ok (.getfield 220, 3) := dk_180 0 220 (dk_at dksX1_lines_6 14 rfl rfl)
theorem dX1_lines_157 : decode cX1_lines 157 = .ok (.iload_n 1, 1) := dk_27 (dk_at dksX1_lines_6 17 rfl rfl)
theorem dX1_lines_158 : decode cX1_lines 158 = .ok (.iaload, 1) := dk_46 (dk_at dksX1_lines_6 18 rfl rfl)
theorem dX1_lines_159 : decode cX1_lines 159 = .ok (.i2l, 1) := dk_133 (dk_at dksX1_lines_6 19 rfl rfl)
theorem dX1_lines_160 : decode cX1_lines 160 = .ok (.lsub, 1) := dk_101 (dk_at dksX1_lines_6 20 rfl rfl)
theorem dX1_lines_161 : decode cX1_lines 161 = .ok (.ldc2_w 413, 3) := dk_20 1 157 (dk_at dksX1_lines_6 21 rfl rfl)
theorem dX1_lines_164 : decode cX1_lines 164 = .ok (.lsub, 1) := dk_101 (dk_at dksX1_lines_7 0 rfl rfl)
theorem dX1_lines_165 : decode cX1_lines 165 = .ok (.lstore_n 2, 1) := dk_65 (dk_at dksX1_lines_7 1 rfl rfl)
theorem dX1_lines_166 : decode cX1_lines 166 = .ok (.aload_n 0, 1) := dk_42 (dk_at dksX1_lines_7 2 rfl rfl)
theorem dX1_lines_167 : decode cX1_lines 167 = .ok (.lload_n 2, 1) := dk_32 (dk_at dksX1_lines_7 3 rfl rfl)
theorem dX1_lines_168 : decode cX1_lines 168 = .ok (.ldc2_w 393, 3) := dk_20 1 137 (dk_at dksX1_lines_7 4 rfl rfl)
theorem dX1_lines_171 : decode cX1_lines 171 = .ok (.land, 1) := dk_127 (dk_at dksX1_lines_7 7 rfl rfl)
theorem dX1_lines_172 : decode cX1_lines 172 = .ok (.lconst 0, 1) := dk_9 (dk_at dksX1_lines_7 8 rfl rfl)
theorem dX1_lines_173 : decode cX1_lines 173 = .ok (.lcmp, 1) := dk_148 (dk_at dksX1_lines_7 9 rfl rfl)
theorem dX1_lines_174 : decode cX1_lines 174 = .ok (.ifCond .ne 23, 3) := dk_154 0 23 (dk_at dksX1_lines_7 10 rfl rfl)
theorem dX1_lines_177 : decode cX1_lines 177 = .ok (.lload_n 2, 1) := dk_32 (dk_at dksX1_lines_7 13 rfl rfl)
theorem dX1_lines_178 : decode cX1_lines 178 = .ok (.ldc2_w 415, 3) := dk_20 1 159 (dk_at dksX1_lines_7 14 rfl rfl)
theorem dX1_lines_181 : decode cX1_lines 181 = .ok (.lcmp, 1) := dk_148 (dk_at dksX1_lines_7 17 rfl rfl)
theorem dX1_lines_182 : decode cX1_lines 182 = .ok (.ifCond .lt 15, 3) := dk_155 0 15 (dk_at dksX1_lines_7 18 rfl rfl)
theorem dX1_lines_185 : decode cX1_lines 185 = .ok (.lload_n 2, 1) := dk_32 (dk_at dksX1_lines_7 21 rfl rfl)
theorem dX1_lines_186 : decode cX1_lines 186 = .ok (.ldc2_w 417, 3) := dk_20 1 161 (dk_at dksX1_lines_8 0 rfl rfl)
theorem dX1_lines_189 : decode cX1_lines 189 = .ok (.lcmp, 1) := dk_148 (dk_at dksX1_lines_8 3 rfl rfl)
theorem dX1_lines_190 : decode cX1_lines 190 = .ok (.ifCond .ge 7, 3) := dk_156 0 7 (dk_at dksX1_lines_8 4 rfl rfl)
theorem dX1_lines_193 : decode cX1_lines 193 = .ok (.iconst 1, 1) := dk_4 (dk_at dksX1_lines_8 7 rfl rfl)
theorem dX1_lines_194 : decode cX1_lines 194 = .ok (.goto 4, 3) := dk_167 0 4 (dk_at dksX1_lines_8 8 rfl rfl)
theorem dX1_lines_197 : decode cX1_lines 197 = .ok (.iconst 0, 1) := dk_3 (dk_at dksX1_lines_8 11 rfl rfl)
theorem dX1_lines_198 : decode cX1_lines 198 = .ok (.iconst 4, 1) := dk_7 (dk_at dksX1_lines_8 12 rfl rfl)
theorem dX1_lines_199 : decode cX1_lines 199 = .ok (.invokevirtual 69, 3) := dk_182 0 69 (dk_at dksX1_lines_8 13 rfl rfl)
theorem dX1_lines_202 : decode cX1_lines 202 = .ok (.aload_n 0, 1) := dk_42 (dk_at dksX1_lines_8 16 rfl rfl)
theorem dX1_lines_203 : decode cX1_lines 203 = .ok (.getfield 150, 3) := dk_180 0 150 (dk_at dksX1_lines_8 17 rfl rfl)
theorem dX1_lines_206 : decode cX1_lines 206 = .ok (.iconst 0, 1) := dk_3 (dk_at dksX1_lines_8 20 rfl rfl)
theorem dX1_lines_207 : decode cX1_lines 207 = .ok (.aload_n 0, 1) := dk_42 (dk_at dksX1_lines_8 21 rfl rfl)
theorem dX1_lines_208 : decode cX1_lines 208 = .ok (.getfield 150, 3) := dk_180 0 150 (dk_at dksX1_lines_9 0 rfl rfl)
theorem dX1_lines_211 : decode cX1_lines 211 = .ok (.getfield 220, 3) := dk_180 0 220 (dk_at dksX1_lines_9 3 rfl rfl)
theorem dX1_lines_214 : decode cX1_lines 214 = .ok (.iload_n 1, 1) := dk_27 (dk_at dksX1_lines_9 6 rfl rfl)
theorem dX1_lines_215 : decode cX1_lines 215 = .ok (.iaload, 1) := dk_46 (dk_at dksX1_lines_9 7 rfl rfl)
theorem dX1_lines_216 : decode cX1_lines 216 = .ok (.aload_n 0, 1) := dk_42 (dk_at dksX1_lines_9 8 rfl rfl)
theorem dX1_lines_217 : decode cX1_lines 217 = .ok (.getfield 150, 3) := dk_180 0 150 (dk_at dksX1_lines_9 9 rfl rfl)
theorem dX1_lines_220 : decode cX1_lines 220 = .ok (.iconst 0, 1) := dk_3 (dk_at dksX1_lines_9 12 rfl rfl)
theorem dX1_lines_221 : decode cX1_lines 221 = .ok (.aload_n 0, 1) := dk_42 (dk_at dksX1_lines_9 13 rfl rfl)
theorem dX1_lines_222 : decode cX1_lines 222 = .ok (.getfield 150, 3) := dk_180 0 150 (dk_at dksX1_lines_9 14 rfl rfl)
theorem dX1_lines_225 : decode cX1_lines 225 = .ok (.getfield 220, 3) := dk_180 0 220 (dk_at dksX1_lines_9 17 rfl rfl)
theorem dX1_lines_228 : decode cX1_lines 228 = .ok (.iload_n 1, 1) := dk_27 (dk_at dksX1_lines_9 20 rfl rfl)
theorem dX1_lines_229 : decode cX1_lines 229 = .ok (.iaload, 1) := dk_46 (dk_at dksX1_lines_9 21 rfl rfl)
theorem dX1_lines_230 : decode cX1_lines 230 = .ok (.invokevirtual 419, 3) := dk_182 1 163 (dk_at dksX1_lines_10 0 rfl rfl)
theorem dX1_lines_233 : decode cX1_lines 233 = .ok (.lload_n 2, 1) := dk_32 (dk_at dksX1_lines_10 3 rfl rfl)
theorem dX1_lines_234 : decode cX1_lines 234 = .ok (.iconst 2, 1) := dk_5 (dk_at dksX1_lines_10 4 rfl rfl)
theorem dX1_lines_235 : decode cX1_lines 235 = .ok (.lshr, 1) := dk_123 (dk_at dksX1_lines_10 5 rfl rfl)
theorem dX1_lines_236 : decode cX1_lines 236 = .ok (.l2i, 1) := dk_136 (dk_at dksX1_lines_10 6 rfl rfl)
theorem dX1_lines_237 : decode cX1_lines 237 = .ok (.ldc 194, 2) := dk_18 194 (dk_at dksX1_lines_10 7 rfl rfl)
theorem dX1_lines_239 : decode cX1_lines 239 = .ok (.iand, 1) := dk_126 (dk_at dksX1_lines_10 9 rfl rfl)
theorem dX1_lines_240 : decode cX1_lines 240 = .ok (.ior, 1) := dk_128 (dk_at dksX1_lines_10 10 rfl rfl)
theorem dX1_lines_241 : decode cX1_lines 241 = .ok (.invokevirtual 422, 3) := dk_182 1 166 (dk_at dksX1_lines_10 11 rfl rfl)
theorem dX1_lines_244 : decode cX1_lines 244 = .ok (.aload_n 0, 1) := dk_42 (dk_at dksX1_lines_10 14 rfl rfl)
theorem dX1_lines_245 : decode cX1_lines 245 = .ok (.getfield 150, 3) := dk_180 0 150 (dk_at dksX1_lines_10 15 rfl rfl)
theorem dX1_lines_248 : decode cX1_lines 248 = .ok (.iload_n 1, 1) := dk_27 (dk_at dksX1_lines_10 18 rfl rfl)
theorem dX1_lines_249 : decode cX1_lines 249 = .ok (.invokevirtual 426, 3) := dk_182 1 170 (dk_at dksX1_lines_10 19 rfl rfl)
theorem dX1_lines_252 : decode cX1_lines 252 = .ok (.goto (-189), 3) := dk_167 255 67 (dk_at dksX1_lines_11 0 rfl rfl)
theorem dX1_lines_255 : decode cX1_lines 255 = .ok (.iinc 1 1, 3) := dk_132 1 1 (dk_at dksX1_lines_11 3 rfl rfl)
theorem dX1_lines_258 : decode cX1_lines 258 = .ok (.goto (-195), 3) := dk_167 255 61 (dk_at dksX1_lines_11 6 rfl rfl)
theorem dX1_lines_261 : decode cX1_lines 261 = .ok (.return_, 1) := dk_177 (dk_at dksX1_lines_11 9 rfl rfl)
abbrev cX1_line : ByteArray := prog_1_method_59_code
def yX1_line : MethodName := ⟨RX1, "line", "()V"⟩
def dkwX1_line_4 : List UInt8 := [180, 0, 204, 46, 79, 167, 255, 163, 42, 42, 182, 0, 76, 42, 182, 0, 65, 182, 0, 69, 177]
abbrev dktX1_line_4 : List UInt8 := dkwX1_line_4 ++ []
def dkwX1_line_3 : List UInt8 := [27, 42, 180, 0, 204, 79, 42, 180, 0, 150, 180, 0, 167, 27, 42, 180, 0, 150, 180, 0, 201, 42]
abbrev dktX1_line_3 : List UInt8 := dkwX1_line_3 ++ dktX1_line_4
def dkwX1_line_2 : List UInt8 := [182, 0, 177, 60, 42, 42, 180, 0, 150, 27, 182, 1, 152, 8, 182, 0, 69, 42, 180, 0, 150, 180, 0, 164]
abbrev dktX1_line_2 : List UInt8 := dkwX1_line_2 ++ dktX1_line_3
def dkwX1_line_1 : List UInt8 := [182, 0, 62, 154, 0, 20, 42, 182, 1, 149, 42, 42, 182, 0, 76, 42, 182, 0, 65, 182, 0, 69, 177, 42]
abbrev dktX1_line_1 : List UInt8 := dkwX1_line_1 ++ dktX1_line_2
def dkwX1_line_0 : List UInt8 := [42, 182, 0, 59, 42, 3, 182, 0, 51, 184, 0, 73, 153, 0, 88, 42, 182, 0, 174, 42, 16, 58]
abbrev dktX1_line_0 : List UInt8 := dkwX1_line_0 ++ dktX1_line_1
theorem dksX1_line_0 : cX1_line.data.toList.drop 0 = dktX1_line_0 := by decide +kernel
theorem dksX1_line_1 : cX1_line.data.toList.drop 22 = dktX1_line_1 := dk_seg dksX1_line_0 22 rfl rfl
theorem dksX1_line_2 : cX1_line.data.toList.drop 46 = dktX1_line_2 := dk_seg dksX1_line_1 24 rfl rfl
theorem dksX1_line_3 : cX1_line.data.toList.drop 70 = dktX1_line_3 := dk_seg dksX1_line_2 24 rfl rfl
theorem dksX1_line_4 : cX1_line.data.toList.drop 92 = dktX1_line_4 := dk_seg dksX1_line_3 22 rfl rfl
theorem dX1_line_0 : decode cX1_line 0 = .ok (.aload_n 0, 1) := dk_42 (dk_at dksX1_line_0 0 rfl rfl)
theorem dX1_line_1 : decode cX1_line 1 = .ok (.invokevirtual 59, 3) := dk_182 0 59 (dk_at dksX1_line_0 1 rfl rfl)
theorem dX1_line_4 : decode cX1_line 4 = .ok (.aload_n 0, 1) := dk_42 (dk_at dksX1_line_0 4 rfl rfl)
theorem dX1_line_5 : decode cX1_line 5 = .ok (.iconst 0, 1) := dk_3 (dk_at dksX1_line_0 5 rfl rfl)
theorem dX1_line_6 : decode cX1_line 6 = .ok (.invokevirtual 51, 3) := dk_182 0 51 (dk_at dksX1_line_0 6 rfl rfl)
theorem dX1_line_9 : decode cX1_line 9 = .ok (.invokestatic 73, 3) := dk_184 0 73 (dk_at dksX1_line_0 9 rfl rfl)
theorem dX1_line_12 : decode cX1_line 12 = .ok (.ifCond .eq 88, 3) := dk_153 0 88 (dk_at dksX1_line_0 12 rfl rfl)
theorem dX1_line_15 : decode cX1_line 15 = .ok (.aload_n 0, 1) := dk_42 (dk_at dksX1_line_0 15 rfl rfl)
theorem dX1_line_16 : decode cX1_line 16 = .ok (.invokevirtual 174, 3) := dk_182 0 174 (dk_at dksX1_line_0 16 rfl rfl)
theorem dX1_line_19 : decode cX1_line 19 = .ok (.aload_n 0, 1) := dk_42 (dk_at dksX1_line_0 19 rfl rfl)
theorem dX1_line_20 : decode cX1_line 20 = .ok (.bipush 58, 2) := dk_16 58 (dk_at dksX1_line_0 20 rfl rfl)
theorem dX1_line_22 : decode cX1_line 22 = .ok (.invokevirtual 62, 3) := dk_182 0 62 (dk_at dksX1_line_1 0 rfl rfl)
theorem dX1_line_25 : decode cX1_line 25 = .ok (.ifCond .ne 20, 3) := dk_154 0 20 (dk_at dksX1_line_1 3 rfl rfl)
theorem dX1_line_28 : decode cX1_line 28 = .ok (.aload_n 0, 1) := dk_42 (dk_at dksX1_line_1 6 rfl rfl)
theorem dX1_line_29 : decode cX1_line 29 = .ok (.invokevirtual 405, 3) := dk_182 1 149 (dk_at dksX1_line_1 7 rfl rfl)
theorem dX1_line_32 : decode cX1_line 32 = .ok (.aload_n 0, 1) := dk_42 (dk_at dksX1_line_1 10 rfl rfl)
theorem dX1_line_33 : decode cX1_line 33 = .ok (.aload_n 0, 1) := dk_42 (dk_at dksX1_line_1 11 rfl rfl)
theorem dX1_line_34 : decode cX1_line 34 = .ok (.invokevirtual 76, 3) := dk_182 0 76 (dk_at dksX1_line_1 12 rfl rfl)
theorem dX1_line_37 : decode cX1_line 37 = .ok (.aload_n 0, 1) := dk_42 (dk_at dksX1_line_1 15 rfl rfl)
theorem dX1_line_38 : decode cX1_line 38 = .ok (.invokevirtual 65, 3) := dk_182 0 65 (dk_at dksX1_line_1 16 rfl rfl)
theorem dX1_line_41 : decode cX1_line 41 = .ok (.invokevirtual 69, 3) := dk_182 0 69 (dk_at dksX1_line_1 19 rfl rfl)
theorem dX1_line_44 : decode cX1_line 44 = .ok (.return_, 1) := dk_177 (dk_at dksX1_line_1 22 rfl rfl)
theorem dX1_line_45 : decode cX1_line 45 = .ok (.aload_n 0, 1) := dk_42 (dk_at dksX1_line_1 23 rfl rfl)
theorem dX1_line_46 : decode cX1_line 46 = .ok (.invokevirtual 177, 3) := dk_182 0 177 (dk_at dksX1_line_2 0 rfl rfl)
theorem dX1_line_49 : decode cX1_line 49 = .ok (.istore_n 1, 1) := dk_60 (dk_at dksX1_line_2 3 rfl rfl)
theorem dX1_line_50 : decode cX1_line 50 = .ok (.aload_n 0, 1) := dk_42 (dk_at dksX1_line_2 4 rfl rfl)
theorem dX1_line_51 : decode cX1_line 51 = .ok (.aload_n 0, 1) := dk_42 (dk_at dksX1_line_2 5 rfl rfl)
theorem dX1_line_52 : decode cX1_line 52 = .ok (.getfield 150, 3) := dk_180 0 150 (dk_at dksX1_line_2 6 rfl rfl)
theorem dX1_line_55 : decode cX1_line 55 = .ok (.iload_n 1, 1) := dk_27 (dk_at dksX1_line_2 9 rfl rfl)
theorem dX1_line_56 : decode cX1_line 56 = .ok (.invokevirtual 408, 3) := dk_182 1 152 (dk_at dksX1_line_2 10 rfl rfl)
theorem dX1_line_59 : decode cX1_line 59 = .ok (.iconst 5, 1) := dk_8 (dk_at dksX1_line_2 13 rfl rfl)
theorem dX1_line_60 : decode cX1_line 60 = .ok (.invokevirtual 69, 3) := dk_182 0 69 (dk_at dksX1_line_2 14 rfl rfl)
theorem dX1_line_63 : decode cX1_line 63 = .ok (.aload_n 0, 1) := dk_42 (dk_at dksX1_line_2 17 rfl rfl)
theorem dX1_line_64 : decode cX1_line 64 = .ok (.getfield 150, 3) := dk_180 0 150 (dk_at dksX1_line_2 18 rfl rfl)
theorem dX1_line_67 : decode cX1_line 67 = .ok (.getfield 164, 3) := dk_180 0 164 (dk_at dksX1_line_2 21 rfl rfl)
theorem dX1_line_70 : decode cX1_line 70 = .ok (.iload_n 1, 1) := dk_27 (dk_at dksX1_line_3 0 rfl rfl)
theorem dX1_line_71 : decode cX1_line 71 = .ok (.aload_n 0, 1) := dk_42 (dk_at dksX1_line_3 1 rfl rfl)
theorem dX1_line_72 : decode cX1_line 72 = .ok (.getfield 204, 3) := dk_180 0 204 (dk_at dksX1_line_3 2 rfl rfl)
theorem dX1_line_75 : decode cX1_line 75 = .ok (.iastore, 1) := dk_79 (dk_at dksX1_line_3 5 rfl rfl)
theorem dX1_line_76 : decode cX1_line 76 = .ok (.aload_n 0, 1) := dk_42 (dk_at dksX1_line_3 6 rfl rfl)
theorem dX1_line_77 : decode cX1_line 77 = .ok (.getfield 150, 3) := dk_180 0 150 (dk_at dksX1_line_3 7 rfl rfl)
theorem dX1_line_80 : decode cX1_line 80 = .ok (.getfield 167, 3) := dk_180 0 167 (dk_at dksX1_line_3 10 rfl rfl)
theorem dX1_line_83 : decode cX1_line 83 = .ok (.iload_n 1, 1) := dk_27 (dk_at dksX1_line_3 13 rfl rfl)
theorem dX1_line_84 : decode cX1_line 84 = .ok (.aload_n 0, 1) := dk_42 (dk_at dksX1_line_3 14 rfl rfl)
theorem dX1_line_85 : decode cX1_line 85 = .ok (.getfield 150, 3) := dk_180 0 150 (dk_at dksX1_line_3 15 rfl rfl)
theorem dX1_line_88 : decode cX1_line 88 = .ok (.getfield 201, 3) := dk_180 0 201 (dk_at dksX1_line_3 18 rfl rfl)
theorem dX1_line_91 : decode cX1_line 91 = .ok (.aload_n 0, 1) := dk_42 (dk_at dksX1_line_3 21 rfl rfl)
theorem dX1_line_92 : decode cX1_line 92 = .ok (.getfield 204, 3) := dk_180 0 204 (dk_at dksX1_line_4 0 rfl rfl)
theorem dX1_line_95 : decode cX1_line 95 = .ok (.iaload, 1) := dk_46 (dk_at dksX1_line_4 3 rfl rfl)
theorem dX1_line_96 : decode cX1_line 96 = .ok (.iastore, 1) := dk_79 (dk_at dksX1_line_4 4 rfl rfl)
theorem dX1_line_97 : decode cX1_line 97 = .ok (.goto (-93), 3) := dk_167 255 163 (dk_at dksX1_line_4 5 rfl rfl)
theorem dX1_line_100 : decode cX1_line 100 = .ok (.aload_n 0, 1) := dk_42 (dk_at dksX1_line_4 8 rfl rfl)
theorem dX1_line_101 : decode cX1_line 101 = .ok (.aload_n 0, 1) := dk_42 (dk_at dksX1_line_4 9 rfl rfl)
theorem dX1_line_102 : decode cX1_line 102 = .ok (.invokevirtual 76, 3) := dk_182 0 76 (dk_at dksX1_line_4 10 rfl rfl)
theorem dX1_line_105 : decode cX1_line 105 = .ok (.aload_n 0, 1) := dk_42 (dk_at dksX1_line_4 13 rfl rfl)
theorem dX1_line_106 : decode cX1_line 106 = .ok (.invokevirtual 65, 3) := dk_182 0 65 (dk_at dksX1_line_4 14 rfl rfl)
theorem dX1_line_109 : decode cX1_line 109 = .ok (.invokevirtual 69, 3) := dk_182 0 69 (dk_at dksX1_line_4 17 rfl rfl)
theorem dX1_line_112 : decode cX1_line 112 = .ok (.return_, 1) := dk_177 (dk_at dksX1_line_4 20 rfl rfl)
abbrev cX1_blanks : ByteArray := prog_1_method_7_code
def yX1_blanks : MethodName := ⟨RX1, "blanks", "()V"⟩
def dkwX1_blanks_1 : List UInt8 := [180, 0, 48, 4, 96, 181, 0, 48, 167, 255, 226, 177]
abbrev dktX1_blanks_1 : List UInt8 := dkwX1_blanks_1 ++ []
def dkwX1_blanks_0 : List UInt8 := [42, 3, 182, 0, 51, 16, 32, 159, 0, 13, 42, 3, 182, 0, 51, 16, 9, 160, 0, 16, 42, 89]
abbrev dktX1_blanks_0 : List UInt8 := dkwX1_blanks_0 ++ dktX1_blanks_1
theorem dksX1_blanks_0 : cX1_blanks.data.toList.drop 0 = dktX1_blanks_0 := by decide +kernel
theorem dksX1_blanks_1 : cX1_blanks.data.toList.drop 22 = dktX1_blanks_1 := dk_seg dksX1_blanks_0 22 rfl rfl
theorem dX1_blanks_0 : decode cX1_blanks 0 = .ok (.aload_n 0, 1) := dk_42 (dk_at dksX1_blanks_0 0 rfl rfl)
theorem dX1_blanks_1 : decode cX1_blanks 1 = .ok (.iconst 0, 1) := dk_3 (dk_at dksX1_blanks_0 1 rfl rfl)
theorem dX1_blanks_2 : decode cX1_blanks 2 = .ok (.invokevirtual 51, 3) := dk_182 0 51 (dk_at dksX1_blanks_0 2 rfl rfl)
theorem dX1_blanks_5 : decode cX1_blanks 5 = .ok (.bipush 32, 2) := dk_16 32 (dk_at dksX1_blanks_0 5 rfl rfl)
theorem dX1_blanks_7 : decode cX1_blanks 7 = .ok (.if_icmp .eq 13, 3) := dk_159 0 13 (dk_at dksX1_blanks_0 7 rfl rfl)
theorem dX1_blanks_10 : decode cX1_blanks 10 = .ok (.aload_n 0, 1) := dk_42 (dk_at dksX1_blanks_0 10 rfl rfl)
theorem dX1_blanks_11 : decode cX1_blanks 11 = .ok (.iconst 0, 1) := dk_3 (dk_at dksX1_blanks_0 11 rfl rfl)
theorem dX1_blanks_12 : decode cX1_blanks 12 = .ok (.invokevirtual 51, 3) := dk_182 0 51 (dk_at dksX1_blanks_0 12 rfl rfl)
theorem dX1_blanks_15 : decode cX1_blanks 15 = .ok (.bipush 9, 2) := dk_16 9 (dk_at dksX1_blanks_0 15 rfl rfl)
theorem dX1_blanks_17 : decode cX1_blanks 17 = .ok (.if_icmp .ne 16, 3) := dk_160 0 16 (dk_at dksX1_blanks_0 17 rfl rfl)
theorem dX1_blanks_20 : decode cX1_blanks 20 = .ok (.aload_n 0, 1) := dk_42 (dk_at dksX1_blanks_0 20 rfl rfl)
theorem dX1_blanks_21 : decode cX1_blanks 21 = .ok (.dup, 1) := dk_89 (dk_at dksX1_blanks_0 21 rfl rfl)
theorem dX1_blanks_22 : decode cX1_blanks 22 = .ok (.getfield 48, 3) := dk_180 0 48 (dk_at dksX1_blanks_1 0 rfl rfl)
theorem dX1_blanks_25 : decode cX1_blanks 25 = .ok (.iconst 1, 1) := dk_4 (dk_at dksX1_blanks_1 3 rfl rfl)
theorem dX1_blanks_26 : decode cX1_blanks 26 = .ok (.iadd, 1) := dk_96 (dk_at dksX1_blanks_1 4 rfl rfl)
theorem dX1_blanks_27 : decode cX1_blanks 27 = .ok (.putfield 48, 3) := dk_181 0 48 (dk_at dksX1_blanks_1 5 rfl rfl)
theorem dX1_blanks_30 : decode cX1_blanks 30 = .ok (.goto (-30), 3) := dk_167 255 226 (dk_at dksX1_blanks_1 8 rfl rfl)
theorem dX1_blanks_33 : decode cX1_blanks 33 = .ok (.return_, 1) := dk_177 (dk_at dksX1_blanks_1 11 rfl rfl)
abbrev cX1_look : ByteArray := prog_1_method_6_code
def yX1_look : MethodName := ⟨RX1, "look", "(I)I"⟩
def dkwX1_look_1 : List UInt8 := [17, 0, 255, 126, 167, 0, 5, 16, 10, 172]
abbrev dktX1_look_1 : List UInt8 := dkwX1_look_1 ++ []
def dkwX1_look_0 : List UInt8 := [42, 180, 0, 48, 27, 96, 42, 180, 0, 36, 162, 0, 21, 42, 180, 0, 9, 42, 180, 0, 48, 27, 96, 51]
abbrev dktX1_look_0 : List UInt8 := dkwX1_look_0 ++ dktX1_look_1
theorem dksX1_look_0 : cX1_look.data.toList.drop 0 = dktX1_look_0 := by decide +kernel
theorem dksX1_look_1 : cX1_look.data.toList.drop 24 = dktX1_look_1 := dk_seg dksX1_look_0 24 rfl rfl
theorem dX1_look_0 : decode cX1_look 0 = .ok (.aload_n 0, 1) := dk_42 (dk_at dksX1_look_0 0 rfl rfl)
theorem dX1_look_1 : decode cX1_look 1 = .ok (.getfield 48, 3) := dk_180 0 48 (dk_at dksX1_look_0 1 rfl rfl)
theorem dX1_look_4 : decode cX1_look 4 = .ok (.iload_n 1, 1) := dk_27 (dk_at dksX1_look_0 4 rfl rfl)
theorem dX1_look_5 : decode cX1_look 5 = .ok (.iadd, 1) := dk_96 (dk_at dksX1_look_0 5 rfl rfl)
theorem dX1_look_6 : decode cX1_look 6 = .ok (.aload_n 0, 1) := dk_42 (dk_at dksX1_look_0 6 rfl rfl)
theorem dX1_look_7 : decode cX1_look 7 = .ok (.getfield 36, 3) := dk_180 0 36 (dk_at dksX1_look_0 7 rfl rfl)
theorem dX1_look_10 : decode cX1_look 10 = .ok (.if_icmp .ge 21, 3) := dk_162 0 21 (dk_at dksX1_look_0 10 rfl rfl)
theorem dX1_look_13 : decode cX1_look 13 = .ok (.aload_n 0, 1) := dk_42 (dk_at dksX1_look_0 13 rfl rfl)
theorem dX1_look_14 : decode cX1_look 14 = .ok (.getfield 9, 3) := dk_180 0 9 (dk_at dksX1_look_0 14 rfl rfl)
theorem dX1_look_17 : decode cX1_look 17 = .ok (.aload_n 0, 1) := dk_42 (dk_at dksX1_look_0 17 rfl rfl)
theorem dX1_look_18 : decode cX1_look 18 = .ok (.getfield 48, 3) := dk_180 0 48 (dk_at dksX1_look_0 18 rfl rfl)
theorem dX1_look_21 : decode cX1_look 21 = .ok (.iload_n 1, 1) := dk_27 (dk_at dksX1_look_0 21 rfl rfl)
theorem dX1_look_22 : decode cX1_look 22 = .ok (.iadd, 1) := dk_96 (dk_at dksX1_look_0 22 rfl rfl)
theorem dX1_look_23 : decode cX1_look 23 = .ok (.baload, 1) := dk_51 (dk_at dksX1_look_0 23 rfl rfl)
theorem dX1_look_24 : decode cX1_look 24 = .ok (.sipush 255, 3) := dk_17 0 255 (dk_at dksX1_look_1 0 rfl rfl)
theorem dX1_look_27 : decode cX1_look 27 = .ok (.iand, 1) := dk_126 (dk_at dksX1_look_1 3 rfl rfl)
theorem dX1_look_28 : decode cX1_look 28 = .ok (.goto 5, 3) := dk_167 0 5 (dk_at dksX1_look_1 4 rfl rfl)
theorem dX1_look_31 : decode cX1_look 31 = .ok (.bipush 10, 2) := dk_16 10 (dk_at dksX1_look_1 7 rfl rfl)
theorem dX1_look_33 : decode cX1_look 33 = .ok (.ireturn, 1) := dk_172 (dk_at dksX1_look_1 9 rfl rfl)
abbrev cX1_isLetter : ByteArray := prog_1_method_9_code
def yX1_isLetter : MethodName := ⟨RX1, "isLetter", "(I)Z"⟩
def dkwX1_isLetter_1 : List UInt8 := [26, 16, 95, 159, 0, 9, 26, 16, 46, 160, 0, 7, 4, 167, 0, 4, 3, 172]
abbrev dktX1_isLetter_1 : List UInt8 := dkwX1_isLetter_1 ++ []
def dkwX1_isLetter_0 : List UInt8 := [26, 16, 97, 161, 0, 9, 26, 16, 122, 164, 0, 27, 26, 16, 65, 161, 0, 9, 26, 16, 90, 164, 0, 15]
abbrev dktX1_isLetter_0 : List UInt8 := dkwX1_isLetter_0 ++ dktX1_isLetter_1
theorem dksX1_isLetter_0 : cX1_isLetter.data.toList.drop 0 = dktX1_isLetter_0 := by decide +kernel
theorem dksX1_isLetter_1 : cX1_isLetter.data.toList.drop 24 = dktX1_isLetter_1 := dk_seg dksX1_isLetter_0 24 rfl rfl
theorem dX1_isLetter_0 : decode cX1_isLetter 0 = .ok (.iload_n 0, 1) := dk_26 (dk_at dksX1_isLetter_0 0 rfl rfl)
theorem dX1_isLetter_1 : decode cX1_isLetter 1 = .ok (.bipush 97, 2) := dk_16 97 (dk_at dksX1_isLetter_0 1 rfl rfl)
theorem dX1_isLetter_3 : decode cX1_isLetter 3 = .ok (.if_icmp .lt 9, 3) := dk_161 0 9 (dk_at dksX1_isLetter_0 3 rfl rfl)
theorem dX1_isLetter_6 : decode cX1_isLetter 6 = .ok (.iload_n 0, 1) := dk_26 (dk_at dksX1_isLetter_0 6 rfl rfl)
theorem dX1_isLetter_7 : decode cX1_isLetter 7 = .ok (.bipush 122, 2) := dk_16 122 (dk_at dksX1_isLetter_0 7 rfl rfl)
theorem dX1_isLetter_9 : decode cX1_isLetter 9 = .ok (.if_icmp .le 27, 3) := dk_164 0 27 (dk_at dksX1_isLetter_0 9 rfl rfl)
theorem dX1_isLetter_12 : decode cX1_isLetter 12 = .ok (.iload_n 0, 1) := dk_26 (dk_at dksX1_isLetter_0 12 rfl rfl)
theorem dX1_isLetter_13 : decode cX1_isLetter 13 = .ok (.bipush 65, 2) := dk_16 65 (dk_at dksX1_isLetter_0 13 rfl rfl)
theorem dX1_isLetter_15 : decode cX1_isLetter 15 = .ok (.if_icmp .lt 9, 3) := dk_161 0 9 (dk_at dksX1_isLetter_0 15 rfl rfl)
theorem dX1_isLetter_18 : decode cX1_isLetter 18 = .ok (.iload_n 0, 1) := dk_26 (dk_at dksX1_isLetter_0 18 rfl rfl)
theorem dX1_isLetter_19 : decode cX1_isLetter 19 = .ok (.bipush 90, 2) := dk_16 90 (dk_at dksX1_isLetter_0 19 rfl rfl)
theorem dX1_isLetter_21 : decode cX1_isLetter 21 = .ok (.if_icmp .le 15, 3) := dk_164 0 15 (dk_at dksX1_isLetter_0 21 rfl rfl)
theorem dX1_isLetter_24 : decode cX1_isLetter 24 = .ok (.iload_n 0, 1) := dk_26 (dk_at dksX1_isLetter_1 0 rfl rfl)
theorem dX1_isLetter_25 : decode cX1_isLetter 25 = .ok (.bipush 95, 2) := dk_16 95 (dk_at dksX1_isLetter_1 1 rfl rfl)
theorem dX1_isLetter_27 : decode cX1_isLetter 27 = .ok (.if_icmp .eq 9, 3) := dk_159 0 9 (dk_at dksX1_isLetter_1 3 rfl rfl)
theorem dX1_isLetter_30 : decode cX1_isLetter 30 = .ok (.iload_n 0, 1) := dk_26 (dk_at dksX1_isLetter_1 6 rfl rfl)
theorem dX1_isLetter_31 : decode cX1_isLetter 31 = .ok (.bipush 46, 2) := dk_16 46 (dk_at dksX1_isLetter_1 7 rfl rfl)
theorem dX1_isLetter_33 : decode cX1_isLetter 33 = .ok (.if_icmp .ne 7, 3) := dk_160 0 7 (dk_at dksX1_isLetter_1 9 rfl rfl)
theorem dX1_isLetter_36 : decode cX1_isLetter 36 = .ok (.iconst 1, 1) := dk_4 (dk_at dksX1_isLetter_1 12 rfl rfl)
theorem dX1_isLetter_37 : decode cX1_isLetter 37 = .ok (.goto 4, 3) := dk_167 0 4 (dk_at dksX1_isLetter_1 13 rfl rfl)
theorem dX1_isLetter_40 : decode cX1_isLetter 40 = .ok (.iconst 0, 1) := dk_3 (dk_at dksX1_isLetter_1 16 rfl rfl)
theorem dX1_isLetter_41 : decode cX1_isLetter 41 = .ok (.ireturn, 1) := dk_172 (dk_at dksX1_isLetter_1 17 rfl rfl)
abbrev cX1_name : ByteArray := prog_1_method_21_code
def yX1_name : MethodName := ⟨RX1, "name", "()V"⟩
def dkwX1_name_3 : List UInt8 := [180, 0, 48, 42, 180, 0, 121, 100, 181, 0, 124, 42, 182, 0, 59, 177]
abbrev dktX1_name_3 : List UInt8 := dkwX1_name_3 ++ []
def dkwX1_name_2 : List UInt8 := [167, 0, 4, 3, 4, 182, 0, 69, 42, 89, 180, 0, 48, 4, 96, 181, 0, 48, 167, 255, 200, 42, 42]
abbrev dktX1_name_2 : List UInt8 := dkwX1_name_2 ++ dktX1_name_3
def dkwX1_name_1 : List UInt8 := [184, 0, 55, 153, 0, 40, 42, 42, 180, 0, 48, 42, 180, 0, 121, 16, 24, 96, 162, 0, 7, 4]
abbrev dktX1_name_1 : List UInt8 := dkwX1_name_1 ++ dktX1_name_2
def dkwX1_name_0 : List UInt8 := [42, 42, 180, 0, 48, 181, 0, 121, 42, 3, 182, 0, 51, 184, 0, 73, 154, 0, 14, 42, 3, 182, 0, 51]
abbrev dktX1_name_0 : List UInt8 := dkwX1_name_0 ++ dktX1_name_1
theorem dksX1_name_0 : cX1_name.data.toList.drop 0 = dktX1_name_0 := by decide +kernel
theorem dksX1_name_1 : cX1_name.data.toList.drop 24 = dktX1_name_1 := dk_seg dksX1_name_0 24 rfl rfl
theorem dksX1_name_2 : cX1_name.data.toList.drop 46 = dktX1_name_2 := dk_seg dksX1_name_1 22 rfl rfl
theorem dksX1_name_3 : cX1_name.data.toList.drop 69 = dktX1_name_3 := dk_seg dksX1_name_2 23 rfl rfl
theorem dX1_name_0 : decode cX1_name 0 = .ok (.aload_n 0, 1) := dk_42 (dk_at dksX1_name_0 0 rfl rfl)
theorem dX1_name_1 : decode cX1_name 1 = .ok (.aload_n 0, 1) := dk_42 (dk_at dksX1_name_0 1 rfl rfl)
theorem dX1_name_2 : decode cX1_name 2 = .ok (.getfield 48, 3) := dk_180 0 48 (dk_at dksX1_name_0 2 rfl rfl)
theorem dX1_name_5 : decode cX1_name 5 = .ok (.putfield 121, 3) := dk_181 0 121 (dk_at dksX1_name_0 5 rfl rfl)
theorem dX1_name_8 : decode cX1_name 8 = .ok (.aload_n 0, 1) := dk_42 (dk_at dksX1_name_0 8 rfl rfl)
theorem dX1_name_9 : decode cX1_name 9 = .ok (.iconst 0, 1) := dk_3 (dk_at dksX1_name_0 9 rfl rfl)
theorem dX1_name_10 : decode cX1_name 10 = .ok (.invokevirtual 51, 3) := dk_182 0 51 (dk_at dksX1_name_0 10 rfl rfl)
theorem dX1_name_13 : decode cX1_name 13 = .ok (.invokestatic 73, 3) := dk_184 0 73 (dk_at dksX1_name_0 13 rfl rfl)
theorem dX1_name_16 : decode cX1_name 16 = .ok (.ifCond .ne 14, 3) := dk_154 0 14 (dk_at dksX1_name_0 16 rfl rfl)
theorem dX1_name_19 : decode cX1_name 19 = .ok (.aload_n 0, 1) := dk_42 (dk_at dksX1_name_0 19 rfl rfl)
theorem dX1_name_20 : decode cX1_name 20 = .ok (.iconst 0, 1) := dk_3 (dk_at dksX1_name_0 20 rfl rfl)
theorem dX1_name_21 : decode cX1_name 21 = .ok (.invokevirtual 51, 3) := dk_182 0 51 (dk_at dksX1_name_0 21 rfl rfl)
theorem dX1_name_24 : decode cX1_name 24 = .ok (.invokestatic 55, 3) := dk_184 0 55 (dk_at dksX1_name_1 0 rfl rfl)
theorem dX1_name_27 : decode cX1_name 27 = .ok (.ifCond .eq 40, 3) := dk_153 0 40 (dk_at dksX1_name_1 3 rfl rfl)
theorem dX1_name_30 : decode cX1_name 30 = .ok (.aload_n 0, 1) := dk_42 (dk_at dksX1_name_1 6 rfl rfl)
theorem dX1_name_31 : decode cX1_name 31 = .ok (.aload_n 0, 1) := dk_42 (dk_at dksX1_name_1 7 rfl rfl)
theorem dX1_name_32 : decode cX1_name 32 = .ok (.getfield 48, 3) := dk_180 0 48 (dk_at dksX1_name_1 8 rfl rfl)
theorem dX1_name_35 : decode cX1_name 35 = .ok (.aload_n 0, 1) := dk_42 (dk_at dksX1_name_1 11 rfl rfl)
theorem dX1_name_36 : decode cX1_name 36 = .ok (.getfield 121, 3) := dk_180 0 121 (dk_at dksX1_name_1 12 rfl rfl)
theorem dX1_name_39 : decode cX1_name 39 = .ok (.bipush 24, 2) := dk_16 24 (dk_at dksX1_name_1 15 rfl rfl)
theorem dX1_name_41 : decode cX1_name 41 = .ok (.iadd, 1) := dk_96 (dk_at dksX1_name_1 17 rfl rfl)
theorem dX1_name_42 : decode cX1_name 42 = .ok (.if_icmp .ge 7, 3) := dk_162 0 7 (dk_at dksX1_name_1 18 rfl rfl)
theorem dX1_name_45 : decode cX1_name 45 = .ok (.iconst 1, 1) := dk_4 (dk_at dksX1_name_1 21 rfl rfl)
theorem dX1_name_46 : decode cX1_name 46 = .ok (.goto 4, 3) := dk_167 0 4 (dk_at dksX1_name_2 0 rfl rfl)
theorem dX1_name_49 : decode cX1_name 49 = .ok (.iconst 0, 1) := dk_3 (dk_at dksX1_name_2 3 rfl rfl)
theorem dX1_name_50 : decode cX1_name 50 = .ok (.iconst 1, 1) := dk_4 (dk_at dksX1_name_2 4 rfl rfl)
theorem dX1_name_51 : decode cX1_name 51 = .ok (.invokevirtual 69, 3) := dk_182 0 69 (dk_at dksX1_name_2 5 rfl rfl)
theorem dX1_name_54 : decode cX1_name 54 = .ok (.aload_n 0, 1) := dk_42 (dk_at dksX1_name_2 8 rfl rfl)
theorem dX1_name_55 : decode cX1_name 55 = .ok (.dup, 1) := dk_89 (dk_at dksX1_name_2 9 rfl rfl)
theorem dX1_name_56 : decode cX1_name 56 = .ok (.getfield 48, 3) := dk_180 0 48 (dk_at dksX1_name_2 10 rfl rfl)
theorem dX1_name_59 : decode cX1_name 59 = .ok (.iconst 1, 1) := dk_4 (dk_at dksX1_name_2 13 rfl rfl)
theorem dX1_name_60 : decode cX1_name 60 = .ok (.iadd, 1) := dk_96 (dk_at dksX1_name_2 14 rfl rfl)
theorem dX1_name_61 : decode cX1_name 61 = .ok (.putfield 48, 3) := dk_181 0 48 (dk_at dksX1_name_2 15 rfl rfl)
theorem dX1_name_64 : decode cX1_name 64 = .ok (.goto (-56), 3) := dk_167 255 200 (dk_at dksX1_name_2 18 rfl rfl)
theorem dX1_name_67 : decode cX1_name 67 = .ok (.aload_n 0, 1) := dk_42 (dk_at dksX1_name_2 21 rfl rfl)
theorem dX1_name_68 : decode cX1_name 68 = .ok (.aload_n 0, 1) := dk_42 (dk_at dksX1_name_2 22 rfl rfl)
theorem dX1_name_69 : decode cX1_name 69 = .ok (.getfield 48, 3) := dk_180 0 48 (dk_at dksX1_name_3 0 rfl rfl)
theorem dX1_name_72 : decode cX1_name 72 = .ok (.aload_n 0, 1) := dk_42 (dk_at dksX1_name_3 3 rfl rfl)
theorem dX1_name_73 : decode cX1_name 73 = .ok (.getfield 121, 3) := dk_180 0 121 (dk_at dksX1_name_3 4 rfl rfl)
theorem dX1_name_76 : decode cX1_name 76 = .ok (.isub, 1) := dk_100 (dk_at dksX1_name_3 7 rfl rfl)
theorem dX1_name_77 : decode cX1_name 77 = .ok (.putfield 124, 3) := dk_181 0 124 (dk_at dksX1_name_3 8 rfl rfl)
theorem dX1_name_80 : decode cX1_name 80 = .ok (.aload_n 0, 1) := dk_42 (dk_at dksX1_name_3 11 rfl rfl)
theorem dX1_name_81 : decode cX1_name 81 = .ok (.invokevirtual 59, 3) := dk_182 0 59 (dk_at dksX1_name_3 12 rfl rfl)
theorem dX1_name_84 : decode cX1_name 84 = .ok (.return_, 1) := dk_177 (dk_at dksX1_name_3 15 rfl rfl)
abbrev cX1_isDigit : ByteArray := prog_1_method_10_code
def yX1_isDigit : MethodName := ⟨RX1, "isDigit", "(I)Z"⟩
def dkwX1_isDigit_0 : List UInt8 := [26, 16, 48, 161, 0, 13, 26, 16, 57, 163, 0, 7, 4, 167, 0, 4, 3, 172]
abbrev dktX1_isDigit_0 : List UInt8 := dkwX1_isDigit_0 ++ []
theorem dksX1_isDigit_0 : cX1_isDigit.data.toList.drop 0 = dktX1_isDigit_0 := by decide +kernel
theorem dX1_isDigit_0 : decode cX1_isDigit 0 = .ok (.iload_n 0, 1) := dk_26 (dk_at dksX1_isDigit_0 0 rfl rfl)
theorem dX1_isDigit_1 : decode cX1_isDigit 1 = .ok (.bipush 48, 2) := dk_16 48 (dk_at dksX1_isDigit_0 1 rfl rfl)
theorem dX1_isDigit_3 : decode cX1_isDigit 3 = .ok (.if_icmp .lt 13, 3) := dk_161 0 13 (dk_at dksX1_isDigit_0 3 rfl rfl)
theorem dX1_isDigit_6 : decode cX1_isDigit 6 = .ok (.iload_n 0, 1) := dk_26 (dk_at dksX1_isDigit_0 6 rfl rfl)
theorem dX1_isDigit_7 : decode cX1_isDigit 7 = .ok (.bipush 57, 2) := dk_16 57 (dk_at dksX1_isDigit_0 7 rfl rfl)
theorem dX1_isDigit_9 : decode cX1_isDigit 9 = .ok (.if_icmp .gt 7, 3) := dk_163 0 7 (dk_at dksX1_isDigit_0 9 rfl rfl)
theorem dX1_isDigit_12 : decode cX1_isDigit 12 = .ok (.iconst 1, 1) := dk_4 (dk_at dksX1_isDigit_0 12 rfl rfl)
theorem dX1_isDigit_13 : decode cX1_isDigit 13 = .ok (.goto 4, 3) := dk_167 0 4 (dk_at dksX1_isDigit_0 13 rfl rfl)
theorem dX1_isDigit_16 : decode cX1_isDigit 16 = .ok (.iconst 0, 1) := dk_3 (dk_at dksX1_isDigit_0 16 rfl rfl)
theorem dX1_isDigit_17 : decode cX1_isDigit 17 = .ok (.ireturn, 1) := dk_172 (dk_at dksX1_isDigit_0 17 rfl rfl)
abbrev cX1_must : ByteArray := prog_1_method_5_code
def yX1_must : MethodName := ⟨RX1, "must", "(ZI)V"⟩
def dkwX1_must_0 : List UInt8 := [27, 154, 0, 16, 42, 28, 181, 0, 45, 187, 0, 42, 89, 183, 0, 44, 191, 177]
abbrev dktX1_must_0 : List UInt8 := dkwX1_must_0 ++ []
theorem dksX1_must_0 : cX1_must.data.toList.drop 0 = dktX1_must_0 := by decide +kernel
theorem dX1_must_0 : decode cX1_must 0 = .ok (.iload_n 1, 1) := dk_27 (dk_at dksX1_must_0 0 rfl rfl)
theorem dX1_must_1 : decode cX1_must 1 = .ok (.ifCond .ne 16, 3) := dk_154 0 16 (dk_at dksX1_must_0 1 rfl rfl)
theorem dX1_must_4 : decode cX1_must 4 = .ok (.aload_n 0, 1) := dk_42 (dk_at dksX1_must_0 4 rfl rfl)
theorem dX1_must_5 : decode cX1_must 5 = .ok (.iload_n 2, 1) := dk_28 (dk_at dksX1_must_0 5 rfl rfl)
theorem dX1_must_6 : decode cX1_must 6 = .ok (.putfield 45, 3) := dk_181 0 45 (dk_at dksX1_must_0 6 rfl rfl)
theorem dX1_must_9 : decode cX1_must 9 = .ok (.new 42, 3) := dk_187 0 42 (dk_at dksX1_must_0 9 rfl rfl)
theorem dX1_must_12 : decode cX1_must 12 = .ok (.dup, 1) := dk_89 (dk_at dksX1_must_0 12 rfl rfl)
theorem dX1_must_13 : decode cX1_must 13 = .ok (.invokespecial 44, 3) := dk_183 0 44 (dk_at dksX1_must_0 13 rfl rfl)
theorem dX1_must_16 : decode cX1_must 16 = .ok (.athrow, 1) := dk_191 (dk_at dksX1_must_0 16 rfl rfl)
theorem dX1_must_17 : decode cX1_must 17 = .ok (.return_, 1) := dk_177 (dk_at dksX1_must_0 17 rfl rfl)
abbrev cX1_sign : ByteArray := prog_1_method_12_code
def yX1_sign : MethodName := ⟨RX1, "sign", "(I)Z"⟩
def dkwX1_sign_1 : List UInt8 := [182, 0, 59, 4, 172]
abbrev dktX1_sign_1 : List UInt8 := dkwX1_sign_1 ++ []
def dkwX1_sign_0 : List UInt8 := [42, 3, 182, 0, 51, 27, 159, 0, 5, 3, 172, 42, 89, 180, 0, 48, 4, 96, 181, 0, 48, 42]
abbrev dktX1_sign_0 : List UInt8 := dkwX1_sign_0 ++ dktX1_sign_1
theorem dksX1_sign_0 : cX1_sign.data.toList.drop 0 = dktX1_sign_0 := by decide +kernel
theorem dksX1_sign_1 : cX1_sign.data.toList.drop 22 = dktX1_sign_1 := dk_seg dksX1_sign_0 22 rfl rfl
theorem dX1_sign_0 : decode cX1_sign 0 = .ok (.aload_n 0, 1) := dk_42 (dk_at dksX1_sign_0 0 rfl rfl)
theorem dX1_sign_1 : decode cX1_sign 1 = .ok (.iconst 0, 1) := dk_3 (dk_at dksX1_sign_0 1 rfl rfl)
theorem dX1_sign_2 : decode cX1_sign 2 = .ok (.invokevirtual 51, 3) := dk_182 0 51 (dk_at dksX1_sign_0 2 rfl rfl)
theorem dX1_sign_5 : decode cX1_sign 5 = .ok (.iload_n 1, 1) := dk_27 (dk_at dksX1_sign_0 5 rfl rfl)
theorem dX1_sign_6 : decode cX1_sign 6 = .ok (.if_icmp .eq 5, 3) := dk_159 0 5 (dk_at dksX1_sign_0 6 rfl rfl)
theorem dX1_sign_9 : decode cX1_sign 9 = .ok (.iconst 0, 1) := dk_3 (dk_at dksX1_sign_0 9 rfl rfl)
theorem dX1_sign_10 : decode cX1_sign 10 = .ok (.ireturn, 1) := dk_172 (dk_at dksX1_sign_0 10 rfl rfl)
theorem dX1_sign_11 : decode cX1_sign 11 = .ok (.aload_n 0, 1) := dk_42 (dk_at dksX1_sign_0 11 rfl rfl)
theorem dX1_sign_12 : decode cX1_sign 12 = .ok (.dup, 1) := dk_89 (dk_at dksX1_sign_0 12 rfl rfl)
theorem dX1_sign_13 : decode cX1_sign 13 = .ok (.getfield 48, 3) := dk_180 0 48 (dk_at dksX1_sign_0 13 rfl rfl)
theorem dX1_sign_16 : decode cX1_sign 16 = .ok (.iconst 1, 1) := dk_4 (dk_at dksX1_sign_0 16 rfl rfl)
theorem dX1_sign_17 : decode cX1_sign 17 = .ok (.iadd, 1) := dk_96 (dk_at dksX1_sign_0 17 rfl rfl)
theorem dX1_sign_18 : decode cX1_sign 18 = .ok (.putfield 48, 3) := dk_181 0 48 (dk_at dksX1_sign_0 18 rfl rfl)
theorem dX1_sign_21 : decode cX1_sign 21 = .ok (.aload_n 0, 1) := dk_42 (dk_at dksX1_sign_0 21 rfl rfl)
theorem dX1_sign_22 : decode cX1_sign 22 = .ok (.invokevirtual 59, 3) := dk_182 0 59 (dk_at dksX1_sign_1 0 rfl rfl)
theorem dX1_sign_25 : decode cX1_sign 25 = .ok (.iconst 1, 1) := dk_4 (dk_at dksX1_sign_1 3 rfl rfl)
theorem dX1_sign_26 : decode cX1_sign 26 = .ok (.ireturn, 1) := dk_172 (dk_at dksX1_sign_1 4 rfl rfl)
abbrev cX1_operation : ByteArray := prog_1_method_42_code
def yX1_operation : MethodName := ⟨RX1, "operation", "()V"⟩
def dkwX1_operation_4 : List UInt8 := [29, 182, 1, 11, 154, 0, 9, 42, 28, 29, 182, 1, 14, 177]
abbrev dktX1_operation_4 : List UInt8 := dkwX1_operation_4 ++ []
def dkwX1_operation_3 : List UInt8 := [3, 181, 0, 187, 42, 28, 29, 182, 1, 5, 154, 0, 27, 42, 28, 29, 182, 1, 8, 154, 0, 18, 42, 28]
abbrev dktX1_operation_3 : List UInt8 := dkwX1_operation_3 ++ dktX1_operation_4
def dkwX1_operation_2 : List UInt8 := [180, 0, 150, 180, 0, 201, 3, 46, 6, 126, 154, 0, 7, 4, 167, 0, 4, 3, 16, 6, 182, 0, 69, 42]
abbrev dktX1_operation_2 : List UInt8 := dkwX1_operation_2 ++ dktX1_operation_3
def dkwX1_operation_1 : List UInt8 := [180, 0, 124, 62, 42, 42, 28, 29, 182, 1, 1, 5, 182, 0, 69, 42, 42, 180, 0, 204, 154, 0, 21, 42]
abbrev dktX1_operation_1 : List UInt8 := dkwX1_operation_1 ++ dktX1_operation_2
def dkwX1_operation_0 : List UInt8 := [42, 18, 248, 182, 0, 250, 60, 27, 155, 0, 9, 42, 27, 182, 0, 254, 177, 42, 180, 0, 121, 61, 42]
abbrev dktX1_operation_0 : List UInt8 := dkwX1_operation_0 ++ dktX1_operation_1
theorem dksX1_operation_0 : cX1_operation.data.toList.drop 0 = dktX1_operation_0 := by decide +kernel
theorem dksX1_operation_1 : cX1_operation.data.toList.drop 23 = dktX1_operation_1 := dk_seg dksX1_operation_0 23 rfl rfl
theorem dksX1_operation_2 : cX1_operation.data.toList.drop 47 = dktX1_operation_2 := dk_seg dksX1_operation_1 24 rfl rfl
theorem dksX1_operation_3 : cX1_operation.data.toList.drop 71 = dktX1_operation_3 := dk_seg dksX1_operation_2 24 rfl rfl
theorem dksX1_operation_4 : cX1_operation.data.toList.drop 95 = dktX1_operation_4 := dk_seg dksX1_operation_3 24 rfl rfl
theorem dX1_operation_0 : decode cX1_operation 0 = .ok (.aload_n 0, 1) := dk_42 (dk_at dksX1_operation_0 0 rfl rfl)
theorem dX1_operation_1 : decode cX1_operation 1 = .ok (.ldc 248, 2) := dk_18 248 (dk_at dksX1_operation_0 1 rfl rfl)
theorem dX1_operation_3 : decode cX1_operation 3 = .ok (.invokevirtual 250, 3) := dk_182 0 250 (dk_at dksX1_operation_0 3 rfl rfl)
theorem dX1_operation_6 : decode cX1_operation 6 = .ok (.istore_n 1, 1) := dk_60 (dk_at dksX1_operation_0 6 rfl rfl)
theorem dX1_operation_7 : decode cX1_operation 7 = .ok (.iload_n 1, 1) := dk_27 (dk_at dksX1_operation_0 7 rfl rfl)
theorem dX1_operation_8 : decode cX1_operation 8 = .ok (.ifCond .lt 9, 3) := dk_155 0 9 (dk_at dksX1_operation_0 8 rfl rfl)
theorem dX1_operation_11 : decode cX1_operation 11 = .ok (.aload_n 0, 1) := dk_42 (dk_at dksX1_operation_0 11 rfl rfl)
theorem dX1_operation_12 : decode cX1_operation 12 = .ok (.iload_n 1, 1) := dk_27 (dk_at dksX1_operation_0 12 rfl rfl)
theorem dX1_operation_13 : decode cX1_operation 13 = .ok (.invokevirtual 254, 3) := dk_182 0 254 (dk_at dksX1_operation_0 13 rfl rfl)
theorem dX1_operation_16 : decode cX1_operation 16 = .ok (.return_, 1) := dk_177 (dk_at dksX1_operation_0 16 rfl rfl)
theorem dX1_operation_17 : decode cX1_operation 17 = .ok (.aload_n 0, 1) := dk_42 (dk_at dksX1_operation_0 17 rfl rfl)
theorem dX1_operation_18 : decode cX1_operation 18 = .ok (.getfield 121, 3) := dk_180 0 121 (dk_at dksX1_operation_0 18 rfl rfl)
theorem dX1_operation_21 : decode cX1_operation 21 = .ok (.istore_n 2, 1) := dk_61 (dk_at dksX1_operation_0 21 rfl rfl)
theorem dX1_operation_22 : decode cX1_operation 22 = .ok (.aload_n 0, 1) := dk_42 (dk_at dksX1_operation_0 22 rfl rfl)
theorem dX1_operation_23 : decode cX1_operation 23 = .ok (.getfield 124, 3) := dk_180 0 124 (dk_at dksX1_operation_1 0 rfl rfl)
theorem dX1_operation_26 : decode cX1_operation 26 = .ok (.istore_n 3, 1) := dk_62 (dk_at dksX1_operation_1 3 rfl rfl)
theorem dX1_operation_27 : decode cX1_operation 27 = .ok (.aload_n 0, 1) := dk_42 (dk_at dksX1_operation_1 4 rfl rfl)
theorem dX1_operation_28 : decode cX1_operation 28 = .ok (.aload_n 0, 1) := dk_42 (dk_at dksX1_operation_1 5 rfl rfl)
theorem dX1_operation_29 : decode cX1_operation 29 = .ok (.iload_n 2, 1) := dk_28 (dk_at dksX1_operation_1 6 rfl rfl)
theorem dX1_operation_30 : decode cX1_operation 30 = .ok (.iload_n 3, 1) := dk_29 (dk_at dksX1_operation_1 7 rfl rfl)
theorem dX1_operation_31 : decode cX1_operation 31 = .ok (.invokevirtual 257, 3) := dk_182 1 1 (dk_at dksX1_operation_1 8 rfl rfl)
theorem dX1_operation_34 : decode cX1_operation 34 = .ok (.iconst 2, 1) := dk_5 (dk_at dksX1_operation_1 11 rfl rfl)
theorem dX1_operation_35 : decode cX1_operation 35 = .ok (.invokevirtual 69, 3) := dk_182 0 69 (dk_at dksX1_operation_1 12 rfl rfl)
theorem dX1_operation_38 : decode cX1_operation 38 = .ok (.aload_n 0, 1) := dk_42 (dk_at dksX1_operation_1 15 rfl rfl)
theorem dX1_operation_39 : decode cX1_operation 39 = .ok (.aload_n 0, 1) := dk_42 (dk_at dksX1_operation_1 16 rfl rfl)
theorem dX1_operation_40 : decode cX1_operation 40 = .ok (.getfield 204, 3) := dk_180 0 204 (dk_at dksX1_operation_1 17 rfl rfl)
theorem dX1_operation_43 : decode cX1_operation 43 = .ok (.ifCond .ne 21, 3) := dk_154 0 21 (dk_at dksX1_operation_1 20 rfl rfl)
theorem dX1_operation_46 : decode cX1_operation 46 = .ok (.aload_n 0, 1) := dk_42 (dk_at dksX1_operation_1 23 rfl rfl)
theorem dX1_operation_47 : decode cX1_operation 47 = .ok (.getfield 150, 3) := dk_180 0 150 (dk_at dksX1_operation_2 0 rfl rfl)
theorem dX1_operation_50 : decode cX1_operation 50 = .ok (.getfield 201, 3) := dk_180 0 201 (dk_at dksX1_operation_2 3 rfl rfl)
theorem dX1_operation_53 : decode cX1_operation 53 = .ok (.iconst 0, 1) := dk_3 (dk_at dksX1_operation_2 6 rfl rfl)
theorem dX1_operation_54 : decode cX1_operation 54 = .ok (.iaload, 1) := dk_46 (dk_at dksX1_operation_2 7 rfl rfl)
theorem dX1_operation_55 : decode cX1_operation 55 = .ok (.iconst 3, 1) := dk_6 (dk_at dksX1_operation_2 8 rfl rfl)
theorem dX1_operation_56 : decode cX1_operation 56 = .ok (.iand, 1) := dk_126 (dk_at dksX1_operation_2 9 rfl rfl)
theorem dX1_operation_57 : decode cX1_operation 57 = .ok (.ifCond .ne 7, 3) := dk_154 0 7 (dk_at dksX1_operation_2 10 rfl rfl)
theorem dX1_operation_60 : decode cX1_operation 60 = .ok (.iconst 1, 1) := dk_4 (dk_at dksX1_operation_2 13 rfl rfl)
theorem dX1_operation_61 : decode cX1_operation 61 = .ok (.goto 4, 3) := dk_167 0 4 (dk_at dksX1_operation_2 14 rfl rfl)
theorem dX1_operation_64 : decode cX1_operation 64 = .ok (.iconst 0, 1) := dk_3 (dk_at dksX1_operation_2 17 rfl rfl)
theorem dX1_operation_65 : decode cX1_operation 65 = .ok (.bipush 6, 2) := dk_16 6 (dk_at dksX1_operation_2 18 rfl rfl)
theorem dX1_operation_67 : decode cX1_operation 67 = .ok (.invokevirtual 69, 3) := dk_182 0 69 (dk_at dksX1_operation_2 20 rfl rfl)
theorem dX1_operation_70 : decode cX1_operation 70 = .ok (.aload_n 0, 1) := dk_42 (dk_at dksX1_operation_2 23 rfl rfl)
theorem dX1_operation_71 : decode cX1_operation 71 = .ok (.iconst 0, 1) := dk_3 (dk_at dksX1_operation_3 0 rfl rfl)
theorem dX1_operation_72 : decode cX1_operation 72 = .ok (.putfield 187, 3) := dk_181 0 187 (dk_at dksX1_operation_3 1 rfl rfl)
theorem dX1_operation_75 : decode cX1_operation 75 = .ok (.aload_n 0, 1) := dk_42 (dk_at dksX1_operation_3 4 rfl rfl)
theorem dX1_operation_76 : decode cX1_operation 76 = .ok (.iload_n 2, 1) := dk_28 (dk_at dksX1_operation_3 5 rfl rfl)
theorem dX1_operation_77 : decode cX1_operation 77 = .ok (.iload_n 3, 1) := dk_29 (dk_at dksX1_operation_3 6 rfl rfl)
theorem dX1_operation_78 : decode cX1_operation 78 = .ok (.invokevirtual 261, 3) := dk_182 1 5 (dk_at dksX1_operation_3 7 rfl rfl)
theorem dX1_operation_81 : decode cX1_operation 81 = .ok (.ifCond .ne 27, 3) := dk_154 0 27 (dk_at dksX1_operation_3 10 rfl rfl)
theorem dX1_operation_84 : decode cX1_operation 84 = .ok (.aload_n 0, 1) := dk_42 (dk_at dksX1_operation_3 13 rfl rfl)
theorem dX1_operation_85 : decode cX1_operation 85 = .ok (.iload_n 2, 1) := dk_28 (dk_at dksX1_operation_3 14 rfl rfl)
theorem dX1_operation_86 : decode cX1_operation 86 = .ok (.iload_n 3, 1) := dk_29 (dk_at dksX1_operation_3 15 rfl rfl)
theorem dX1_operation_87 : decode cX1_operation 87 = .ok (.invokevirtual 264, 3) := dk_182 1 8 (dk_at dksX1_operation_3 16 rfl rfl)
theorem dX1_operation_90 : decode cX1_operation 90 = .ok (.ifCond .ne 18, 3) := dk_154 0 18 (dk_at dksX1_operation_3 19 rfl rfl)
theorem dX1_operation_93 : decode cX1_operation 93 = .ok (.aload_n 0, 1) := dk_42 (dk_at dksX1_operation_3 22 rfl rfl)
theorem dX1_operation_94 : decode cX1_operation 94 = .ok (.iload_n 2, 1) := dk_28 (dk_at dksX1_operation_3 23 rfl rfl)
theorem dX1_operation_95 : decode cX1_operation 95 = .ok (.iload_n 3, 1) := dk_29 (dk_at dksX1_operation_4 0 rfl rfl)
theorem dX1_operation_96 : decode cX1_operation 96 = .ok (.invokevirtual 267, 3) := dk_182 1 11 (dk_at dksX1_operation_4 1 rfl rfl)
theorem dX1_operation_99 : decode cX1_operation 99 = .ok (.ifCond .ne 9, 3) := dk_154 0 9 (dk_at dksX1_operation_4 4 rfl rfl)
theorem dX1_operation_102 : decode cX1_operation 102 = .ok (.aload_n 0, 1) := dk_42 (dk_at dksX1_operation_4 7 rfl rfl)
theorem dX1_operation_103 : decode cX1_operation 103 = .ok (.iload_n 2, 1) := dk_28 (dk_at dksX1_operation_4 8 rfl rfl)
theorem dX1_operation_104 : decode cX1_operation 104 = .ok (.iload_n 3, 1) := dk_29 (dk_at dksX1_operation_4 9 rfl rfl)
theorem dX1_operation_105 : decode cX1_operation 105 = .ok (.invokevirtual 270, 3) := dk_182 1 14 (dk_at dksX1_operation_4 10 rfl rfl)
theorem dX1_operation_108 : decode cX1_operation 108 = .ok (.return_, 1) := dk_177 (dk_at dksX1_operation_4 13 rfl rfl)
abbrev cX1_findHere : ByteArray := prog_1_method_23_code
def yX1_findHere : MethodName := ⟨RX1, "findHere", "(Ljava/lang/String;)I"⟩
def dkwX1_findHere_0 : List UInt8 := [42, 43, 42, 180, 0, 121, 42, 180, 0, 124, 182, 0, 117, 172]
abbrev dktX1_findHere_0 : List UInt8 := dkwX1_findHere_0 ++ []
theorem dksX1_findHere_0 : cX1_findHere.data.toList.drop 0 = dktX1_findHere_0 := by decide +kernel
theorem dX1_findHere_0 : decode cX1_findHere 0 = .ok (.aload_n 0, 1) := dk_42 (dk_at dksX1_findHere_0 0 rfl rfl)
theorem dX1_findHere_1 : decode cX1_findHere 1 = .ok (.aload_n 1, 1) := dk_43 (dk_at dksX1_findHere_0 1 rfl rfl)
theorem dX1_findHere_2 : decode cX1_findHere 2 = .ok (.aload_n 0, 1) := dk_42 (dk_at dksX1_findHere_0 2 rfl rfl)
theorem dX1_findHere_3 : decode cX1_findHere 3 = .ok (.getfield 121, 3) := dk_180 0 121 (dk_at dksX1_findHere_0 3 rfl rfl)
theorem dX1_findHere_6 : decode cX1_findHere 6 = .ok (.aload_n 0, 1) := dk_42 (dk_at dksX1_findHere_0 6 rfl rfl)
theorem dX1_findHere_7 : decode cX1_findHere 7 = .ok (.getfield 124, 3) := dk_180 0 124 (dk_at dksX1_findHere_0 7 rfl rfl)
theorem dX1_findHere_10 : decode cX1_findHere 10 = .ok (.invokevirtual 117, 3) := dk_182 0 117 (dk_at dksX1_findHere_0 10 rfl rfl)
theorem dX1_findHere_13 : decode cX1_findHere 13 = .ok (.ireturn, 1) := dk_172 (dk_at dksX1_findHere_0 13 rfl rfl)
abbrev cX1_find : ByteArray := prog_1_method_22_code
def yX1_find : MethodName := ⟨RX1, "find", "(Ljava/lang/String;II)I"⟩
def dkwX1_find_8 : List UInt8 := [2, 172]
abbrev dktX1_find_8 : List UInt8 := dkwX1_find_8 ++ []
def dkwX1_find_7 : List UInt8 := [182, 0, 131, 96, 16, 48, 100, 54, 7, 132, 8, 1, 167, 255, 225, 21, 7, 172, 132, 5, 1, 167, 255, 82]
abbrev dktX1_find_7 : List UInt8 := dkwX1_find_7 ++ dktX1_find_8
def dkwX1_find_6 : List UInt8 := [96, 54, 8, 43, 21, 8, 182, 0, 131, 16, 32, 159, 0, 26, 16, 10, 21, 7, 104, 43, 21, 8]
abbrev dktX1_find_6 : List UInt8 := dkwX1_find_6 ++ dktX1_find_7
def dkwX1_find_5 : List UInt8 := [54, 6, 132, 7, 1, 167, 255, 208, 21, 6, 154, 0, 6, 167, 0, 51, 3, 54, 7, 21, 5, 29, 96, 5]
abbrev dktX1_find_5 : List UInt8 := dkwX1_find_5 ++ dktX1_find_6
def dkwX1_find_4 : List UInt8 := [182, 0, 131, 42, 180, 0, 9, 28, 21, 7, 96, 51, 17, 0, 255, 126, 160, 0, 7, 4, 167, 0, 4, 3]
abbrev dktX1_find_4 : List UInt8 := dkwX1_find_4 ++ dktX1_find_5
def dkwX1_find_3 : List UInt8 := [3, 54, 7, 21, 7, 29, 162, 0, 48, 21, 6, 153, 0, 43, 43, 21, 5, 4, 96, 21, 7, 96]
abbrev dktX1_find_3 : List UInt8 := dkwX1_find_3 ++ dktX1_find_4
def dkwX1_find_2 : List UInt8 := [167, 0, 134, 43, 21, 5, 4, 96, 182, 0, 131, 184, 0, 55, 154, 0, 7, 4, 167, 0, 4, 3, 54, 6]
abbrev dktX1_find_2 : List UInt8 := dkwX1_find_2 ++ dktX1_find_3
def dkwX1_find_1 : List UInt8 := [182, 0, 131, 16, 32, 160, 0, 152, 43, 21, 5, 29, 96, 4, 96, 182, 0, 131, 16, 32, 159, 0, 6]
abbrev dktX1_find_1 : List UInt8 := dkwX1_find_1 ++ dktX1_find_2
def dkwX1_find_0 : List UInt8 := [43, 182, 0, 127, 54, 4, 3, 54, 5, 21, 5, 29, 96, 4, 96, 21, 4, 162, 0, 169, 43, 21, 5]
abbrev dktX1_find_0 : List UInt8 := dkwX1_find_0 ++ dktX1_find_1
theorem dksX1_find_0 : cX1_find.data.toList.drop 0 = dktX1_find_0 := by decide +kernel
theorem dksX1_find_1 : cX1_find.data.toList.drop 23 = dktX1_find_1 := dk_seg dksX1_find_0 23 rfl rfl
theorem dksX1_find_2 : cX1_find.data.toList.drop 46 = dktX1_find_2 := dk_seg dksX1_find_1 23 rfl rfl
theorem dksX1_find_3 : cX1_find.data.toList.drop 70 = dktX1_find_3 := dk_seg dksX1_find_2 24 rfl rfl
theorem dksX1_find_4 : cX1_find.data.toList.drop 92 = dktX1_find_4 := dk_seg dksX1_find_3 22 rfl rfl
theorem dksX1_find_5 : cX1_find.data.toList.drop 116 = dktX1_find_5 := dk_seg dksX1_find_4 24 rfl rfl
theorem dksX1_find_6 : cX1_find.data.toList.drop 140 = dktX1_find_6 := dk_seg dksX1_find_5 24 rfl rfl
theorem dksX1_find_7 : cX1_find.data.toList.drop 162 = dktX1_find_7 := dk_seg dksX1_find_6 22 rfl rfl
theorem dksX1_find_8 : cX1_find.data.toList.drop 186 = dktX1_find_8 := dk_seg dksX1_find_7 24 rfl rfl
theorem dX1_find_0 : decode cX1_find 0 = .ok (.aload_n 1, 1) := dk_43 (dk_at dksX1_find_0 0 rfl rfl)
theorem dX1_find_1 : decode cX1_find 1 = .ok (.invokevirtual 127, 3) := dk_182 0 127 (dk_at dksX1_find_0 1 rfl rfl)
theorem dX1_find_4 : decode cX1_find 4 = .ok (.istore 4, 2) := dk_54 4 (dk_at dksX1_find_0 4 rfl rfl)
theorem dX1_find_6 : decode cX1_find 6 = .ok (.iconst 0, 1) := dk_3 (dk_at dksX1_find_0 6 rfl rfl)
theorem dX1_find_7 : decode cX1_find 7 = .ok (.istore 5, 2) := dk_54 5 (dk_at dksX1_find_0 7 rfl rfl)
theorem dX1_find_9 : decode cX1_find 9 = .ok (.iload 5, 2) := dk_21 5 (dk_at dksX1_find_0 9 rfl rfl)
theorem dX1_find_11 : decode cX1_find 11 = .ok (.iload_n 3, 1) := dk_29 (dk_at dksX1_find_0 11 rfl rfl)
theorem dX1_find_12 : decode cX1_find 12 = .ok (.iadd, 1) := dk_96 (dk_at dksX1_find_0 12 rfl rfl)
theorem dX1_find_13 : decode cX1_find 13 = .ok (.iconst 1, 1) := dk_4 (dk_at dksX1_find_0 13 rfl rfl)
theorem dX1_find_14 : decode cX1_find 14 = .ok (.iadd, 1) := dk_96 (dk_at dksX1_find_0 14 rfl rfl)
theorem dX1_find_15 : decode cX1_find 15 = .ok (.iload 4, 2) := dk_21 4 (dk_at dksX1_find_0 15 rfl rfl)
theorem dX1_find_17 : decode cX1_find 17 = .ok (.if_icmp .ge 169, 3) := dk_162 0 169 (dk_at dksX1_find_0 17 rfl rfl)
theorem dX1_find_20 : decode cX1_find 20 = .ok (.aload_n 1, 1) := dk_43 (dk_at dksX1_find_0 20 rfl rfl)
theorem dX1_find_21 : decode cX1_find 21 = .ok (.iload 5, 2) := dk_21 5 (dk_at dksX1_find_0 21 rfl rfl)
theorem dX1_find_23 : decode cX1_find 23 = .ok (.invokevirtual 131, 3) := dk_182 0 131 (dk_at dksX1_find_1 0 rfl rfl)
theorem dX1_find_26 : decode cX1_find 26 = .ok (.bipush 32, 2) := dk_16 32 (dk_at dksX1_find_1 3 rfl rfl)
theorem dX1_find_28 : decode cX1_find 28 = .ok (.if_icmp .ne 152, 3) := dk_160 0 152 (dk_at dksX1_find_1 5 rfl rfl)
theorem dX1_find_31 : decode cX1_find 31 = .ok (.aload_n 1, 1) := dk_43 (dk_at dksX1_find_1 8 rfl rfl)
theorem dX1_find_32 : decode cX1_find 32 = .ok (.iload 5, 2) := dk_21 5 (dk_at dksX1_find_1 9 rfl rfl)
theorem dX1_find_34 : decode cX1_find 34 = .ok (.iload_n 3, 1) := dk_29 (dk_at dksX1_find_1 11 rfl rfl)
theorem dX1_find_35 : decode cX1_find 35 = .ok (.iadd, 1) := dk_96 (dk_at dksX1_find_1 12 rfl rfl)
theorem dX1_find_36 : decode cX1_find 36 = .ok (.iconst 1, 1) := dk_4 (dk_at dksX1_find_1 13 rfl rfl)
theorem dX1_find_37 : decode cX1_find 37 = .ok (.iadd, 1) := dk_96 (dk_at dksX1_find_1 14 rfl rfl)
theorem dX1_find_38 : decode cX1_find 38 = .ok (.invokevirtual 131, 3) := dk_182 0 131 (dk_at dksX1_find_1 15 rfl rfl)
theorem dX1_find_41 : decode cX1_find 41 = .ok (.bipush 32, 2) := dk_16 32 (dk_at dksX1_find_1 18 rfl rfl)
theorem dX1_find_43 : decode cX1_find 43 = .ok (.if_icmp .eq 6, 3) := dk_159 0 6 (dk_at dksX1_find_1 20 rfl rfl)
theorem dX1_find_46 : decode cX1_find 46 = .ok (.goto 134, 3) := dk_167 0 134 (dk_at dksX1_find_2 0 rfl rfl)
theorem dX1_find_49 : decode cX1_find 49 = .ok (.aload_n 1, 1) := dk_43 (dk_at dksX1_find_2 3 rfl rfl)
theorem dX1_find_50 : decode cX1_find 50 = .ok (.iload 5, 2) := dk_21 5 (dk_at dksX1_find_2 4 rfl rfl)
theorem dX1_find_52 : decode cX1_find 52 = .ok (.iconst 1, 1) := dk_4 (dk_at dksX1_find_2 6 rfl rfl)
theorem dX1_find_53 : decode cX1_find 53 = .ok (.iadd, 1) := dk_96 (dk_at dksX1_find_2 7 rfl rfl)
theorem dX1_find_54 : decode cX1_find 54 = .ok (.invokevirtual 131, 3) := dk_182 0 131 (dk_at dksX1_find_2 8 rfl rfl)
theorem dX1_find_57 : decode cX1_find 57 = .ok (.invokestatic 55, 3) := dk_184 0 55 (dk_at dksX1_find_2 11 rfl rfl)
theorem dX1_find_60 : decode cX1_find 60 = .ok (.ifCond .ne 7, 3) := dk_154 0 7 (dk_at dksX1_find_2 14 rfl rfl)
theorem dX1_find_63 : decode cX1_find 63 = .ok (.iconst 1, 1) := dk_4 (dk_at dksX1_find_2 17 rfl rfl)
theorem dX1_find_64 : decode cX1_find 64 = .ok (.goto 4, 3) := dk_167 0 4 (dk_at dksX1_find_2 18 rfl rfl)
theorem dX1_find_67 : decode cX1_find 67 = .ok (.iconst 0, 1) := dk_3 (dk_at dksX1_find_2 21 rfl rfl)
theorem dX1_find_68 : decode cX1_find 68 = .ok (.istore 6, 2) := dk_54 6 (dk_at dksX1_find_2 22 rfl rfl)
theorem dX1_find_70 : decode cX1_find 70 = .ok (.iconst 0, 1) := dk_3 (dk_at dksX1_find_3 0 rfl rfl)
theorem dX1_find_71 : decode cX1_find 71 = .ok (.istore 7, 2) := dk_54 7 (dk_at dksX1_find_3 1 rfl rfl)
theorem dX1_find_73 : decode cX1_find 73 = .ok (.iload 7, 2) := dk_21 7 (dk_at dksX1_find_3 3 rfl rfl)
theorem dX1_find_75 : decode cX1_find 75 = .ok (.iload_n 3, 1) := dk_29 (dk_at dksX1_find_3 5 rfl rfl)
theorem dX1_find_76 : decode cX1_find 76 = .ok (.if_icmp .ge 48, 3) := dk_162 0 48 (dk_at dksX1_find_3 6 rfl rfl)
theorem dX1_find_79 : decode cX1_find 79 = .ok (.iload 6, 2) := dk_21 6 (dk_at dksX1_find_3 9 rfl rfl)
theorem dX1_find_81 : decode cX1_find 81 = .ok (.ifCond .eq 43, 3) := dk_153 0 43 (dk_at dksX1_find_3 11 rfl rfl)
theorem dX1_find_84 : decode cX1_find 84 = .ok (.aload_n 1, 1) := dk_43 (dk_at dksX1_find_3 14 rfl rfl)
theorem dX1_find_85 : decode cX1_find 85 = .ok (.iload 5, 2) := dk_21 5 (dk_at dksX1_find_3 15 rfl rfl)
theorem dX1_find_87 : decode cX1_find 87 = .ok (.iconst 1, 1) := dk_4 (dk_at dksX1_find_3 17 rfl rfl)
theorem dX1_find_88 : decode cX1_find 88 = .ok (.iadd, 1) := dk_96 (dk_at dksX1_find_3 18 rfl rfl)
theorem dX1_find_89 : decode cX1_find 89 = .ok (.iload 7, 2) := dk_21 7 (dk_at dksX1_find_3 19 rfl rfl)
theorem dX1_find_91 : decode cX1_find 91 = .ok (.iadd, 1) := dk_96 (dk_at dksX1_find_3 21 rfl rfl)
theorem dX1_find_92 : decode cX1_find 92 = .ok (.invokevirtual 131, 3) := dk_182 0 131 (dk_at dksX1_find_4 0 rfl rfl)
theorem dX1_find_95 : decode cX1_find 95 = .ok (.aload_n 0, 1) := dk_42 (dk_at dksX1_find_4 3 rfl rfl)
theorem dX1_find_96 : decode cX1_find 96 = .ok (.getfield 9, 3) := dk_180 0 9 (dk_at dksX1_find_4 4 rfl rfl)
theorem dX1_find_99 : decode cX1_find 99 = .ok (.iload_n 2, 1) := dk_28 (dk_at dksX1_find_4 7 rfl rfl)
theorem dX1_find_100 : decode cX1_find 100 = .ok (.iload 7, 2) := dk_21 7 (dk_at dksX1_find_4 8 rfl rfl)
theorem dX1_find_102 : decode cX1_find 102 = .ok (.iadd, 1) := dk_96 (dk_at dksX1_find_4 10 rfl rfl)
theorem dX1_find_103 : decode cX1_find 103 = .ok (.baload, 1) := dk_51 (dk_at dksX1_find_4 11 rfl rfl)
theorem dX1_find_104 : decode cX1_find 104 = .ok (.sipush 255, 3) := dk_17 0 255 (dk_at dksX1_find_4 12 rfl rfl)
theorem dX1_find_107 : decode cX1_find 107 = .ok (.iand, 1) := dk_126 (dk_at dksX1_find_4 15 rfl rfl)
theorem dX1_find_108 : decode cX1_find 108 = .ok (.if_icmp .ne 7, 3) := dk_160 0 7 (dk_at dksX1_find_4 16 rfl rfl)
theorem dX1_find_111 : decode cX1_find 111 = .ok (.iconst 1, 1) := dk_4 (dk_at dksX1_find_4 19 rfl rfl)
theorem dX1_find_112 : decode cX1_find 112 = .ok (.goto 4, 3) := dk_167 0 4 (dk_at dksX1_find_4 20 rfl rfl)
theorem dX1_find_115 : decode cX1_find 115 = .ok (.iconst 0, 1) := dk_3 (dk_at dksX1_find_4 23 rfl rfl)
theorem dX1_find_116 : decode cX1_find 116 = .ok (.istore 6, 2) := dk_54 6 (dk_at dksX1_find_5 0 rfl rfl)
theorem dX1_find_118 : decode cX1_find 118 = .ok (.iinc 7 1, 3) := dk_132 7 1 (dk_at dksX1_find_5 2 rfl rfl)
theorem dX1_find_121 : decode cX1_find 121 = .ok (.goto (-48), 3) := dk_167 255 208 (dk_at dksX1_find_5 5 rfl rfl)
theorem dX1_find_124 : decode cX1_find 124 = .ok (.iload 6, 2) := dk_21 6 (dk_at dksX1_find_5 8 rfl rfl)
theorem dX1_find_126 : decode cX1_find 126 = .ok (.ifCond .ne 6, 3) := dk_154 0 6 (dk_at dksX1_find_5 10 rfl rfl)
theorem dX1_find_129 : decode cX1_find 129 = .ok (.goto 51, 3) := dk_167 0 51 (dk_at dksX1_find_5 13 rfl rfl)
theorem dX1_find_132 : decode cX1_find 132 = .ok (.iconst 0, 1) := dk_3 (dk_at dksX1_find_5 16 rfl rfl)
theorem dX1_find_133 : decode cX1_find 133 = .ok (.istore 7, 2) := dk_54 7 (dk_at dksX1_find_5 17 rfl rfl)
theorem dX1_find_135 : decode cX1_find 135 = .ok (.iload 5, 2) := dk_21 5 (dk_at dksX1_find_5 19 rfl rfl)
theorem dX1_find_137 : decode cX1_find 137 = .ok (.iload_n 3, 1) := dk_29 (dk_at dksX1_find_5 21 rfl rfl)
theorem dX1_find_138 : decode cX1_find 138 = .ok (.iadd, 1) := dk_96 (dk_at dksX1_find_5 22 rfl rfl)
theorem dX1_find_139 : decode cX1_find 139 = .ok (.iconst 2, 1) := dk_5 (dk_at dksX1_find_5 23 rfl rfl)
theorem dX1_find_140 : decode cX1_find 140 = .ok (.iadd, 1) := dk_96 (dk_at dksX1_find_6 0 rfl rfl)
theorem dX1_find_141 : decode cX1_find 141 = .ok (.istore 8, 2) := dk_54 8 (dk_at dksX1_find_6 1 rfl rfl)
theorem dX1_find_143 : decode cX1_find 143 = .ok (.aload_n 1, 1) := dk_43 (dk_at dksX1_find_6 3 rfl rfl)
theorem dX1_find_144 : decode cX1_find 144 = .ok (.iload 8, 2) := dk_21 8 (dk_at dksX1_find_6 4 rfl rfl)
theorem dX1_find_146 : decode cX1_find 146 = .ok (.invokevirtual 131, 3) := dk_182 0 131 (dk_at dksX1_find_6 6 rfl rfl)
theorem dX1_find_149 : decode cX1_find 149 = .ok (.bipush 32, 2) := dk_16 32 (dk_at dksX1_find_6 9 rfl rfl)
theorem dX1_find_151 : decode cX1_find 151 = .ok (.if_icmp .eq 26, 3) := dk_159 0 26 (dk_at dksX1_find_6 11 rfl rfl)
theorem dX1_find_154 : decode cX1_find 154 = .ok (.bipush 10, 2) := dk_16 10 (dk_at dksX1_find_6 14 rfl rfl)
theorem dX1_find_156 : decode cX1_find 156 = .ok (.iload 7, 2) := dk_21 7 (dk_at dksX1_find_6 16 rfl rfl)
theorem dX1_find_158 : decode cX1_find 158 = .ok (.imul, 1) := dk_104 (dk_at dksX1_find_6 18 rfl rfl)
theorem dX1_find_159 : decode cX1_find 159 = .ok (.aload_n 1, 1) := dk_43 (dk_at dksX1_find_6 19 rfl rfl)
theorem dX1_find_160 : decode cX1_find 160 = .ok (.iload 8, 2) := dk_21 8 (dk_at dksX1_find_6 20 rfl rfl)
theorem dX1_find_162 : decode cX1_find 162 = .ok (.invokevirtual 131, 3) := dk_182 0 131 (dk_at dksX1_find_7 0 rfl rfl)
theorem dX1_find_165 : decode cX1_find 165 = .ok (.iadd, 1) := dk_96 (dk_at dksX1_find_7 3 rfl rfl)
theorem dX1_find_166 : decode cX1_find 166 = .ok (.bipush 48, 2) := dk_16 48 (dk_at dksX1_find_7 4 rfl rfl)
theorem dX1_find_168 : decode cX1_find 168 = .ok (.isub, 1) := dk_100 (dk_at dksX1_find_7 6 rfl rfl)
theorem dX1_find_169 : decode cX1_find 169 = .ok (.istore 7, 2) := dk_54 7 (dk_at dksX1_find_7 7 rfl rfl)
theorem dX1_find_171 : decode cX1_find 171 = .ok (.iinc 8 1, 3) := dk_132 8 1 (dk_at dksX1_find_7 9 rfl rfl)
theorem dX1_find_174 : decode cX1_find 174 = .ok (.goto (-31), 3) := dk_167 255 225 (dk_at dksX1_find_7 12 rfl rfl)
theorem dX1_find_177 : decode cX1_find 177 = .ok (.iload 7, 2) := dk_21 7 (dk_at dksX1_find_7 15 rfl rfl)
theorem dX1_find_179 : decode cX1_find 179 = .ok (.ireturn, 1) := dk_172 (dk_at dksX1_find_7 17 rfl rfl)
theorem dX1_find_180 : decode cX1_find 180 = .ok (.iinc 5 1, 3) := dk_132 5 1 (dk_at dksX1_find_7 18 rfl rfl)
theorem dX1_find_183 : decode cX1_find 183 = .ok (.goto (-174), 3) := dk_167 255 82 (dk_at dksX1_find_7 21 rfl rfl)
theorem dX1_find_186 : decode cX1_find 186 = .ok (.iconst (-1), 1) := dk_2 (dk_at dksX1_find_8 0 rfl rfl)
theorem dX1_find_187 : decode cX1_find 187 = .ok (.ireturn, 1) := dk_172 (dk_at dksX1_find_8 1 rfl rfl)
abbrev cX1_directive : ByteArray := prog_1_method_56_code
def yX1_directive : MethodName := ⟨RX1, "directive", "(I)V"⟩
def dkwX1_directive_11 : List UInt8 := [177]
abbrev dktX1_directive_11 : List UInt8 := dkwX1_directive_11 ++ []
def dkwX1_directive_10 : List UInt8 := [167, 0, 4, 3, 182, 1, 139, 167, 0, 8, 42, 27, 182, 1, 142, 42, 16, 44, 182, 0, 62, 154, 255, 221]
abbrev dktX1_directive_10 : List UInt8 := dkwX1_directive_10 ++ dktX1_directive_11
def dkwX1_directive_9 : List UInt8 := [182, 0, 241, 132, 5, 1, 167, 255, 241, 177, 27, 16, 8, 164, 0, 21, 42, 27, 16, 10, 160, 0, 7, 4]
abbrev dktX1_directive_9 : List UInt8 := dkwX1_directive_9 ++ dktX1_directive_10
def dkwX1_directive_8 : List UInt8 := [120, 4, 100, 126, 54, 4, 42, 21, 4, 182, 0, 207, 3, 54, 5, 21, 5, 21, 4, 162, 0, 14, 42, 3]
abbrev dktX1_directive_8 : List UInt8 := dkwX1_directive_8 ++ dktX1_directive_9
def dkwX1_directive_7 : List UInt8 := [54, 4, 27, 16, 8, 160, 0, 25, 42, 180, 0, 150, 180, 0, 201, 42, 180, 0, 204, 46, 116, 4, 21, 4]
abbrev dktX1_directive_7 : List UInt8 := dkwX1_directive_7 ++ dktX1_directive_8
def dkwX1_directive_6 : List UInt8 := [153, 0, 82, 42, 9, 27, 16, 7, 160, 0, 9, 20, 1, 135, 167, 0, 6, 20, 1, 137, 182, 0, 190, 136]
abbrev dktX1_directive_6 : List UInt8 := dkwX1_directive_6 ++ dktX1_directive_7
def dkwX1_directive_5 : List UInt8 := [180, 0, 201, 42, 180, 0, 204, 46, 28, 112, 154, 0, 7, 4, 167, 0, 4, 3, 16, 6, 182, 0, 69, 29]
abbrev dktX1_directive_5 : List UInt8 := dkwX1_directive_5 ++ dktX1_directive_6
def dkwX1_directive_4 : List UInt8 := [167, 0, 4, 3, 62, 42, 29, 154, 0, 28, 42, 180, 0, 204, 5, 162, 0, 24, 42, 180, 0, 150]
abbrev dktX1_directive_4 : List UInt8 := dkwX1_directive_4 ++ dktX1_directive_5
def dkwX1_directive_3 : List UInt8 := [27, 8, 160, 0, 7, 5, 167, 0, 4, 4, 61, 27, 16, 7, 159, 0, 9, 27, 16, 8, 160, 0, 7, 4]
abbrev dktX1_directive_3 : List UInt8 := dkwX1_directive_3 ++ dktX1_directive_4
def dkwX1_directive_2 : List UInt8 := [182, 0, 177, 4, 84, 42, 16, 44, 182, 0, 62, 154, 255, 217, 177, 27, 7, 160, 0, 7, 7, 167, 0, 13]
abbrev dktX1_directive_2 : List UInt8 := dkwX1_directive_2 ++ dktX1_directive_3
def dkwX1_directive_1 : List UInt8 := [184, 0, 73, 42, 182, 0, 65, 182, 0, 69, 42, 182, 0, 174, 42, 180, 0, 150, 180, 0, 170, 42]
abbrev dktX1_directive_1 : List UInt8 := dkwX1_directive_1 ++ dktX1_directive_2
def dkwX1_directive_0 : List UInt8 := [27, 6, 162, 0, 9, 42, 27, 181, 0, 204, 177, 27, 6, 160, 0, 46, 42, 42, 3, 182, 0, 51]
abbrev dktX1_directive_0 : List UInt8 := dkwX1_directive_0 ++ dktX1_directive_1
theorem dksX1_directive_0 : cX1_directive.data.toList.drop 0 = dktX1_directive_0 := by decide +kernel
theorem dksX1_directive_1 : cX1_directive.data.toList.drop 22 = dktX1_directive_1 := dk_seg dksX1_directive_0 22 rfl rfl
theorem dksX1_directive_2 : cX1_directive.data.toList.drop 44 = dktX1_directive_2 := dk_seg dksX1_directive_1 22 rfl rfl
theorem dksX1_directive_3 : cX1_directive.data.toList.drop 68 = dktX1_directive_3 := dk_seg dksX1_directive_2 24 rfl rfl
theorem dksX1_directive_4 : cX1_directive.data.toList.drop 92 = dktX1_directive_4 := dk_seg dksX1_directive_3 24 rfl rfl
theorem dksX1_directive_5 : cX1_directive.data.toList.drop 114 = dktX1_directive_5 := dk_seg dksX1_directive_4 22 rfl rfl
theorem dksX1_directive_6 : cX1_directive.data.toList.drop 138 = dktX1_directive_6 := dk_seg dksX1_directive_5 24 rfl rfl
theorem dksX1_directive_7 : cX1_directive.data.toList.drop 162 = dktX1_directive_7 := dk_seg dksX1_directive_6 24 rfl rfl
theorem dksX1_directive_8 : cX1_directive.data.toList.drop 186 = dktX1_directive_8 := dk_seg dksX1_directive_7 24 rfl rfl
theorem dksX1_directive_9 : cX1_directive.data.toList.drop 210 = dktX1_directive_9 := dk_seg dksX1_directive_8 24 rfl rfl
theorem dksX1_directive_10 : cX1_directive.data.toList.drop 234 = dktX1_directive_10 := dk_seg dksX1_directive_9 24 rfl rfl
theorem dksX1_directive_11 : cX1_directive.data.toList.drop 258 = dktX1_directive_11 := dk_seg dksX1_directive_10 24 rfl rfl
theorem dX1_directive_0 : decode cX1_directive 0 = .ok (.iload_n 1, 1) := dk_27 (dk_at dksX1_directive_0 0 rfl rfl)
theorem dX1_directive_1 : decode cX1_directive 1 = .ok (.iconst 3, 1) := dk_6 (dk_at dksX1_directive_0 1 rfl rfl)
theorem dX1_directive_2 : decode cX1_directive 2 = .ok (.if_icmp .ge 9, 3) := dk_162 0 9 (dk_at dksX1_directive_0 2 rfl rfl)
theorem dX1_directive_5 : decode cX1_directive 5 = .ok (.aload_n 0, 1) := dk_42 (dk_at dksX1_directive_0 5 rfl rfl)
theorem dX1_directive_6 : decode cX1_directive 6 = .ok (.iload_n 1, 1) := dk_27 (dk_at dksX1_directive_0 6 rfl rfl)
theorem dX1_directive_7 : decode cX1_directive 7 = .ok (.putfield 204, 3) := dk_181 0 204 (dk_at dksX1_directive_0 7 rfl rfl)
theorem dX1_directive_10 : decode cX1_directive 10 = .ok (.return_, 1) := dk_177 (dk_at dksX1_directive_0 10 rfl rfl)
theorem dX1_directive_11 : decode cX1_directive 11 = .ok (.iload_n 1, 1) := dk_27 (dk_at dksX1_directive_0 11 rfl rfl)
theorem dX1_directive_12 : decode cX1_directive 12 = .ok (.iconst 3, 1) := dk_6 (dk_at dksX1_directive_0 12 rfl rfl)
theorem dX1_directive_13 : decode cX1_directive 13 = .ok (.if_icmp .ne 46, 3) := dk_160 0 46 (dk_at dksX1_directive_0 13 rfl rfl)
theorem dX1_directive_16 : decode cX1_directive 16 = .ok (.aload_n 0, 1) := dk_42 (dk_at dksX1_directive_0 16 rfl rfl)
theorem dX1_directive_17 : decode cX1_directive 17 = .ok (.aload_n 0, 1) := dk_42 (dk_at dksX1_directive_0 17 rfl rfl)
theorem dX1_directive_18 : decode cX1_directive 18 = .ok (.iconst 0, 1) := dk_3 (dk_at dksX1_directive_0 18 rfl rfl)
theorem dX1_directive_19 : decode cX1_directive 19 = .ok (.invokevirtual 51, 3) := dk_182 0 51 (dk_at dksX1_directive_0 19 rfl rfl)
theorem dX1_directive_22 : decode cX1_directive 22 = .ok (.invokestatic 73, 3) := dk_184 0 73 (dk_at dksX1_directive_1 0 rfl rfl)
theorem dX1_directive_25 : decode cX1_directive 25 = .ok (.aload_n 0, 1) := dk_42 (dk_at dksX1_directive_1 3 rfl rfl)
theorem dX1_directive_26 : decode cX1_directive 26 = .ok (.invokevirtual 65, 3) := dk_182 0 65 (dk_at dksX1_directive_1 4 rfl rfl)
theorem dX1_directive_29 : decode cX1_directive 29 = .ok (.invokevirtual 69, 3) := dk_182 0 69 (dk_at dksX1_directive_1 7 rfl rfl)
theorem dX1_directive_32 : decode cX1_directive 32 = .ok (.aload_n 0, 1) := dk_42 (dk_at dksX1_directive_1 10 rfl rfl)
theorem dX1_directive_33 : decode cX1_directive 33 = .ok (.invokevirtual 174, 3) := dk_182 0 174 (dk_at dksX1_directive_1 11 rfl rfl)
theorem dX1_directive_36 : decode cX1_directive 36 = .ok (.aload_n 0, 1) := dk_42 (dk_at dksX1_directive_1 14 rfl rfl)
theorem dX1_directive_37 : decode cX1_directive 37 = .ok (.getfield 150, 3) := dk_180 0 150 (dk_at dksX1_directive_1 15 rfl rfl)
theorem dX1_directive_40 : decode cX1_directive 40 = .ok (.getfield 170, 3) := dk_180 0 170 (dk_at dksX1_directive_1 18 rfl rfl)
theorem dX1_directive_43 : decode cX1_directive 43 = .ok (.aload_n 0, 1) := dk_42 (dk_at dksX1_directive_1 21 rfl rfl)
theorem dX1_directive_44 : decode cX1_directive 44 = .ok (.invokevirtual 177, 3) := dk_182 0 177 (dk_at dksX1_directive_2 0 rfl rfl)
theorem dX1_directive_47 : decode cX1_directive 47 = .ok (.iconst 1, 1) := dk_4 (dk_at dksX1_directive_2 3 rfl rfl)
theorem dX1_directive_48 : decode cX1_directive 48 = .ok (.bastore, 1) := dk_84 (dk_at dksX1_directive_2 4 rfl rfl)
theorem dX1_directive_49 : decode cX1_directive 49 = .ok (.aload_n 0, 1) := dk_42 (dk_at dksX1_directive_2 5 rfl rfl)
theorem dX1_directive_50 : decode cX1_directive 50 = .ok (.bipush 44, 2) := dk_16 44 (dk_at dksX1_directive_2 6 rfl rfl)
theorem dX1_directive_52 : decode cX1_directive 52 = .ok (.invokevirtual 62, 3) := dk_182 0 62 (dk_at dksX1_directive_2 8 rfl rfl)
theorem dX1_directive_55 : decode cX1_directive 55 = .ok (.ifCond .ne (-39), 3) := dk_154 255 217 (dk_at dksX1_directive_2 11 rfl rfl)
theorem dX1_directive_58 : decode cX1_directive 58 = .ok (.return_, 1) := dk_177 (dk_at dksX1_directive_2 14 rfl rfl)
theorem dX1_directive_59 : decode cX1_directive 59 = .ok (.iload_n 1, 1) := dk_27 (dk_at dksX1_directive_2 15 rfl rfl)
theorem dX1_directive_60 : decode cX1_directive 60 = .ok (.iconst 4, 1) := dk_7 (dk_at dksX1_directive_2 16 rfl rfl)
theorem dX1_directive_61 : decode cX1_directive 61 = .ok (.if_icmp .ne 7, 3) := dk_160 0 7 (dk_at dksX1_directive_2 17 rfl rfl)
theorem dX1_directive_64 : decode cX1_directive 64 = .ok (.iconst 4, 1) := dk_7 (dk_at dksX1_directive_2 20 rfl rfl)
theorem dX1_directive_65 : decode cX1_directive 65 = .ok (.goto 13, 3) := dk_167 0 13 (dk_at dksX1_directive_2 21 rfl rfl)
theorem dX1_directive_68 : decode cX1_directive 68 = .ok (.iload_n 1, 1) := dk_27 (dk_at dksX1_directive_3 0 rfl rfl)
theorem dX1_directive_69 : decode cX1_directive 69 = .ok (.iconst 5, 1) := dk_8 (dk_at dksX1_directive_3 1 rfl rfl)
theorem dX1_directive_70 : decode cX1_directive 70 = .ok (.if_icmp .ne 7, 3) := dk_160 0 7 (dk_at dksX1_directive_3 2 rfl rfl)
theorem dX1_directive_73 : decode cX1_directive 73 = .ok (.iconst 2, 1) := dk_5 (dk_at dksX1_directive_3 5 rfl rfl)
theorem dX1_directive_74 : decode cX1_directive 74 = .ok (.goto 4, 3) := dk_167 0 4 (dk_at dksX1_directive_3 6 rfl rfl)
theorem dX1_directive_77 : decode cX1_directive 77 = .ok (.iconst 1, 1) := dk_4 (dk_at dksX1_directive_3 9 rfl rfl)
theorem dX1_directive_78 : decode cX1_directive 78 = .ok (.istore_n 2, 1) := dk_61 (dk_at dksX1_directive_3 10 rfl rfl)
theorem dX1_directive_79 : decode cX1_directive 79 = .ok (.iload_n 1, 1) := dk_27 (dk_at dksX1_directive_3 11 rfl rfl)
theorem dX1_directive_80 : decode cX1_directive 80 = .ok (.bipush 7, 2) := dk_16 7 (dk_at dksX1_directive_3 12 rfl rfl)
theorem dX1_directive_82 : decode cX1_directive 82 = .ok (.if_icmp .eq 9, 3) := dk_159 0 9 (dk_at dksX1_directive_3 14 rfl rfl)
theorem dX1_directive_85 : decode cX1_directive 85 = .ok (.iload_n 1, 1) := dk_27 (dk_at dksX1_directive_3 17 rfl rfl)
theorem dX1_directive_86 : decode cX1_directive 86 = .ok (.bipush 8, 2) := dk_16 8 (dk_at dksX1_directive_3 18 rfl rfl)
theorem dX1_directive_88 : decode cX1_directive 88 = .ok (.if_icmp .ne 7, 3) := dk_160 0 7 (dk_at dksX1_directive_3 20 rfl rfl)
theorem dX1_directive_91 : decode cX1_directive 91 = .ok (.iconst 1, 1) := dk_4 (dk_at dksX1_directive_3 23 rfl rfl)
theorem dX1_directive_92 : decode cX1_directive 92 = .ok (.goto 4, 3) := dk_167 0 4 (dk_at dksX1_directive_4 0 rfl rfl)
theorem dX1_directive_95 : decode cX1_directive 95 = .ok (.iconst 0, 1) := dk_3 (dk_at dksX1_directive_4 3 rfl rfl)
theorem dX1_directive_96 : decode cX1_directive 96 = .ok (.istore_n 3, 1) := dk_62 (dk_at dksX1_directive_4 4 rfl rfl)
theorem dX1_directive_97 : decode cX1_directive 97 = .ok (.aload_n 0, 1) := dk_42 (dk_at dksX1_directive_4 5 rfl rfl)
theorem dX1_directive_98 : decode cX1_directive 98 = .ok (.iload_n 3, 1) := dk_29 (dk_at dksX1_directive_4 6 rfl rfl)
theorem dX1_directive_99 : decode cX1_directive 99 = .ok (.ifCond .ne 28, 3) := dk_154 0 28 (dk_at dksX1_directive_4 7 rfl rfl)
theorem dX1_directive_102 : decode cX1_directive 102 = .ok (.aload_n 0, 1) := dk_42 (dk_at dksX1_directive_4 10 rfl rfl)
theorem dX1_directive_103 : decode cX1_directive 103 = .ok (.getfield 204, 3) := dk_180 0 204 (dk_at dksX1_directive_4 11 rfl rfl)
theorem dX1_directive_106 : decode cX1_directive 106 = .ok (.iconst 2, 1) := dk_5 (dk_at dksX1_directive_4 14 rfl rfl)
theorem dX1_directive_107 : decode cX1_directive 107 = .ok (.if_icmp .ge 24, 3) := dk_162 0 24 (dk_at dksX1_directive_4 15 rfl rfl)
theorem dX1_directive_110 : decode cX1_directive 110 = .ok (.aload_n 0, 1) := dk_42 (dk_at dksX1_directive_4 18 rfl rfl)
theorem dX1_directive_111 : decode cX1_directive 111 = .ok (.getfield 150, 3) := dk_180 0 150 (dk_at dksX1_directive_4 19 rfl rfl)
theorem dX1_directive_114 : decode cX1_directive 114 = .ok (.getfield 201, 3) := dk_180 0 201 (dk_at dksX1_directive_5 0 rfl rfl)
theorem dX1_directive_117 : decode cX1_directive 117 = .ok (.aload_n 0, 1) := dk_42 (dk_at dksX1_directive_5 3 rfl rfl)
theorem dX1_directive_118 : decode cX1_directive 118 = .ok (.getfield 204, 3) := dk_180 0 204 (dk_at dksX1_directive_5 4 rfl rfl)
theorem dX1_directive_121 : decode cX1_directive 121 = .ok (.iaload, 1) := dk_46 (dk_at dksX1_directive_5 7 rfl rfl)
theorem dX1_directive_122 : decode cX1_directive 122 = .ok (.iload_n 2, 1) := dk_28 (dk_at dksX1_directive_5 8 rfl rfl)
theorem dX1_directive_123 : decode cX1_directive 123 = .ok (.irem, 1) := dk_112 (dk_at dksX1_directive_5 9 rfl rfl)
theorem dX1_directive_124 : decode cX1_directive 124 = .ok (.ifCond .ne 7, 3) := dk_154 0 7 (dk_at dksX1_directive_5 10 rfl rfl)
theorem dX1_directive_127 : decode cX1_directive 127 = .ok (.iconst 1, 1) := dk_4 (dk_at dksX1_directive_5 13 rfl rfl)
theorem dX1_directive_128 : decode cX1_directive 128 = .ok (.goto 4, 3) := dk_167 0 4 (dk_at dksX1_directive_5 14 rfl rfl)
theorem dX1_directive_131 : decode cX1_directive 131 = .ok (.iconst 0, 1) := dk_3 (dk_at dksX1_directive_5 17 rfl rfl)
theorem dX1_directive_132 : decode cX1_directive 132 = .ok (.bipush 6, 2) := dk_16 6 (dk_at dksX1_directive_5 18 rfl rfl)
theorem dX1_directive_134 : decode cX1_directive 134 = .ok (.invokevirtual 69, 3) := dk_182 0 69 (dk_at dksX1_directive_5 20 rfl rfl)
theorem dX1_directive_137 : decode cX1_directive 137 = .ok (.iload_n 3, 1) := dk_29 (dk_at dksX1_directive_5 23 rfl rfl)
theorem dX1_directive_138 : decode cX1_directive 138 = .ok (.ifCond .eq 82, 3) := dk_153 0 82 (dk_at dksX1_directive_6 0 rfl rfl)
theorem dX1_directive_141 : decode cX1_directive 141 = .ok (.aload_n 0, 1) := dk_42 (dk_at dksX1_directive_6 3 rfl rfl)
theorem dX1_directive_142 : decode cX1_directive 142 = .ok (.lconst 0, 1) := dk_9 (dk_at dksX1_directive_6 4 rfl rfl)
theorem dX1_directive_143 : decode cX1_directive 143 = .ok (.iload_n 1, 1) := dk_27 (dk_at dksX1_directive_6 5 rfl rfl)
theorem dX1_directive_144 : decode cX1_directive 144 = .ok (.bipush 7, 2) := dk_16 7 (dk_at dksX1_directive_6 6 rfl rfl)
theorem dX1_directive_146 : decode cX1_directive 146 = .ok (.if_icmp .ne 9, 3) := dk_160 0 9 (dk_at dksX1_directive_6 8 rfl rfl)
theorem dX1_directive_149 : decode cX1_directive 149 = .ok (.ldc2_w 391, 3) := dk_20 1 135 (dk_at dksX1_directive_6 11 rfl rfl)
theorem dX1_directive_152 : decode cX1_directive 152 = .ok (.goto 6, 3) := dk_167 0 6 (dk_at dksX1_directive_6 14 rfl rfl)
theorem dX1_directive_155 : decode cX1_directive 155 = .ok (.ldc2_w 393, 3) := dk_20 1 137 (dk_at dksX1_directive_6 17 rfl rfl)
theorem dX1_directive_158 : decode cX1_directive 158 = .ok (.invokevirtual 190, 3) := dk_182 0 190 (dk_at dksX1_directive_6 20 rfl rfl)
theorem dX1_directive_161 : decode cX1_directive 161 = .ok (.l2i, 1) := dk_136 (dk_at dksX1_directive_6 23 rfl rfl)
theorem dX1_directive_162 : decode cX1_directive 162 = .ok (.istore 4, 2) := dk_54 4 (dk_at dksX1_directive_7 0 rfl rfl)
theorem dX1_directive_164 : decode cX1_directive 164 = .ok (.iload_n 1, 1) := dk_27 (dk_at dksX1_directive_7 2 rfl rfl)
theorem dX1_directive_165 : decode cX1_directive 165 = .ok (.bipush 8, 2) := dk_16 8 (dk_at dksX1_directive_7 3 rfl rfl)
theorem dX1_directive_167 : decode cX1_directive 167 = .ok (.if_icmp .ne 25, 3) := dk_160 0 25 (dk_at dksX1_directive_7 5 rfl rfl)
theorem dX1_directive_170 : decode cX1_directive 170 = .ok (.aload_n 0, 1) := dk_42 (dk_at dksX1_directive_7 8 rfl rfl)
theorem dX1_directive_171 : decode cX1_directive 171 = .ok (.getfield 150, 3) := dk_180 0 150 (dk_at dksX1_directive_7 9 rfl rfl)
theorem dX1_directive_174 : decode cX1_directive 174 = .ok (.getfield 201, 3) := dk_180 0 201 (dk_at dksX1_directive_7 12 rfl rfl)
theorem dX1_directive_177 : decode cX1_directive 177 = .ok (.aload_n 0, 1) := dk_42 (dk_at dksX1_directive_7 15 rfl rfl)
theorem dX1_directive_178 : decode cX1_directive 178 = .ok (.getfield 204, 3) := dk_180 0 204 (dk_at dksX1_directive_7 16 rfl rfl)
theorem dX1_directive_181 : decode cX1_directive 181 = .ok (.iaload, 1) := dk_46 (dk_at dksX1_directive_7 19 rfl rfl)
theorem dX1_directive_182 : decode cX1_directive 182 = .ok (.ineg, 1) := dk_116 (dk_at dksX1_directive_7 20 rfl rfl)
theorem dX1_directive_183 : decode cX1_directive 183 = .ok (.iconst 1, 1) := dk_4 (dk_at dksX1_directive_7 21 rfl rfl)
theorem dX1_directive_184 : decode cX1_directive 184 = .ok (.iload 4, 2) := dk_21 4 (dk_at dksX1_directive_7 22 rfl rfl)
theorem dX1_directive_186 : decode cX1_directive 186 = .ok (.ishl, 1) := dk_120 (dk_at dksX1_directive_8 0 rfl rfl)
theorem dX1_directive_187 : decode cX1_directive 187 = .ok (.iconst 1, 1) := dk_4 (dk_at dksX1_directive_8 1 rfl rfl)
theorem dX1_directive_188 : decode cX1_directive 188 = .ok (.isub, 1) := dk_100 (dk_at dksX1_directive_8 2 rfl rfl)
theorem dX1_directive_189 : decode cX1_directive 189 = .ok (.iand, 1) := dk_126 (dk_at dksX1_directive_8 3 rfl rfl)
theorem dX1_directive_190 : decode cX1_directive 190 = .ok (.istore 4, 2) := dk_54 4 (dk_at dksX1_directive_8 4 rfl rfl)
theorem dX1_directive_192 : decode cX1_directive 192 = .ok (.aload_n 0, 1) := dk_42 (dk_at dksX1_directive_8 6 rfl rfl)
theorem dX1_directive_193 : decode cX1_directive 193 = .ok (.iload 4, 2) := dk_21 4 (dk_at dksX1_directive_8 7 rfl rfl)
theorem dX1_directive_195 : decode cX1_directive 195 = .ok (.invokevirtual 207, 3) := dk_182 0 207 (dk_at dksX1_directive_8 9 rfl rfl)
theorem dX1_directive_198 : decode cX1_directive 198 = .ok (.iconst 0, 1) := dk_3 (dk_at dksX1_directive_8 12 rfl rfl)
theorem dX1_directive_199 : decode cX1_directive 199 = .ok (.istore 5, 2) := dk_54 5 (dk_at dksX1_directive_8 13 rfl rfl)
theorem dX1_directive_201 : decode cX1_directive 201 = .ok (.iload 5, 2) := dk_21 5 (dk_at dksX1_directive_8 15 rfl rfl)
theorem dX1_directive_203 : decode cX1_directive 203 = .ok (.iload 4, 2) := dk_21 4 (dk_at dksX1_directive_8 17 rfl rfl)
theorem dX1_directive_205 : decode cX1_directive 205 = .ok (.if_icmp .ge 14, 3) := dk_162 0 14 (dk_at dksX1_directive_8 19 rfl rfl)
theorem dX1_directive_208 : decode cX1_directive 208 = .ok (.aload_n 0, 1) := dk_42 (dk_at dksX1_directive_8 22 rfl rfl)
theorem dX1_directive_209 : decode cX1_directive 209 = .ok (.iconst 0, 1) := dk_3 (dk_at dksX1_directive_8 23 rfl rfl)
theorem dX1_directive_210 : decode cX1_directive 210 = .ok (.invokevirtual 241, 3) := dk_182 0 241 (dk_at dksX1_directive_9 0 rfl rfl)
theorem dX1_directive_213 : decode cX1_directive 213 = .ok (.iinc 5 1, 3) := dk_132 5 1 (dk_at dksX1_directive_9 3 rfl rfl)
theorem dX1_directive_216 : decode cX1_directive 216 = .ok (.goto (-15), 3) := dk_167 255 241 (dk_at dksX1_directive_9 6 rfl rfl)
theorem dX1_directive_219 : decode cX1_directive 219 = .ok (.return_, 1) := dk_177 (dk_at dksX1_directive_9 9 rfl rfl)
theorem dX1_directive_220 : decode cX1_directive 220 = .ok (.iload_n 1, 1) := dk_27 (dk_at dksX1_directive_9 10 rfl rfl)
theorem dX1_directive_221 : decode cX1_directive 221 = .ok (.bipush 8, 2) := dk_16 8 (dk_at dksX1_directive_9 11 rfl rfl)
theorem dX1_directive_223 : decode cX1_directive 223 = .ok (.if_icmp .le 21, 3) := dk_164 0 21 (dk_at dksX1_directive_9 13 rfl rfl)
theorem dX1_directive_226 : decode cX1_directive 226 = .ok (.aload_n 0, 1) := dk_42 (dk_at dksX1_directive_9 16 rfl rfl)
theorem dX1_directive_227 : decode cX1_directive 227 = .ok (.iload_n 1, 1) := dk_27 (dk_at dksX1_directive_9 17 rfl rfl)
theorem dX1_directive_228 : decode cX1_directive 228 = .ok (.bipush 10, 2) := dk_16 10 (dk_at dksX1_directive_9 18 rfl rfl)
theorem dX1_directive_230 : decode cX1_directive 230 = .ok (.if_icmp .ne 7, 3) := dk_160 0 7 (dk_at dksX1_directive_9 20 rfl rfl)
theorem dX1_directive_233 : decode cX1_directive 233 = .ok (.iconst 1, 1) := dk_4 (dk_at dksX1_directive_9 23 rfl rfl)
theorem dX1_directive_234 : decode cX1_directive 234 = .ok (.goto 4, 3) := dk_167 0 4 (dk_at dksX1_directive_10 0 rfl rfl)
theorem dX1_directive_237 : decode cX1_directive 237 = .ok (.iconst 0, 1) := dk_3 (dk_at dksX1_directive_10 3 rfl rfl)
theorem dX1_directive_238 : decode cX1_directive 238 = .ok (.invokevirtual 395, 3) := dk_182 1 139 (dk_at dksX1_directive_10 4 rfl rfl)
theorem dX1_directive_241 : decode cX1_directive 241 = .ok (.goto 8, 3) := dk_167 0 8 (dk_at dksX1_directive_10 7 rfl rfl)
theorem dX1_directive_244 : decode cX1_directive 244 = .ok (.aload_n 0, 1) := dk_42 (dk_at dksX1_directive_10 10 rfl rfl)
theorem dX1_directive_245 : decode cX1_directive 245 = .ok (.iload_n 1, 1) := dk_27 (dk_at dksX1_directive_10 11 rfl rfl)
theorem dX1_directive_246 : decode cX1_directive 246 = .ok (.invokevirtual 398, 3) := dk_182 1 142 (dk_at dksX1_directive_10 12 rfl rfl)
theorem dX1_directive_249 : decode cX1_directive 249 = .ok (.aload_n 0, 1) := dk_42 (dk_at dksX1_directive_10 15 rfl rfl)
theorem dX1_directive_250 : decode cX1_directive 250 = .ok (.bipush 44, 2) := dk_16 44 (dk_at dksX1_directive_10 16 rfl rfl)
theorem dX1_directive_252 : decode cX1_directive 252 = .ok (.invokevirtual 62, 3) := dk_182 0 62 (dk_at dksX1_directive_10 18 rfl rfl)
theorem dX1_directive_255 : decode cX1_directive 255 = .ok (.ifCond .ne (-35), 3) := dk_154 255 221 (dk_at dksX1_directive_10 21 rfl rfl)
theorem dX1_directive_258 : decode cX1_directive 258 = .ok (.return_, 1) := dk_177 (dk_at dksX1_directive_11 0 rfl rfl)
abbrev cX1_blame : ByteArray := prog_1_method_15_code
def yX1_blame : MethodName := ⟨RX1, "blame", "()I"⟩
def dkwX1_blame_7 : List UInt8 := [153, 0, 7, 6, 167, 0, 4, 4, 172]
abbrev dktX1_blame_7 : List UInt8 := dkwX1_blame_7 ++ []
def dkwX1_blame_6 : List UInt8 := [154, 0, 16, 27, 16, 36, 160, 0, 14, 42, 182, 0, 93, 155, 0, 7, 4, 167, 0, 4, 3, 61, 28]
abbrev dktX1_blame_6 : List UInt8 := dkwX1_blame_6 ++ dktX1_blame_7
def dkwX1_blame_5 : List UInt8 := [16, 39, 160, 0, 10, 42, 182, 0, 87, 156, 0, 29, 27, 16, 34, 160, 0, 10, 42, 182, 0, 90]
abbrev dktX1_blame_5 : List UInt8 := dkwX1_blame_5 ++ dktX1_blame_6
def dkwX1_blame_4 : List UInt8 := [3, 61, 28, 154, 0, 58, 27, 184, 0, 55, 153, 0, 12, 42, 182, 0, 83, 9, 148, 156, 0, 42, 27]
abbrev dktX1_blame_4 : List UInt8 := dkwX1_blame_4 ++ dktX1_blame_5
def dkwX1_blame_3 : List UInt8 := [42, 29, 182, 0, 80, 153, 0, 9, 132, 3, 1, 167, 255, 245, 29, 16, 24, 163, 0, 7, 4, 167, 0, 4]
abbrev dktX1_blame_3 : List UInt8 := dkwX1_blame_3 ++ dktX1_blame_4
def dkwX1_blame_2 : List UInt8 := [159, 0, 9, 27, 16, 37, 160, 0, 7, 4, 167, 0, 4, 3, 61, 27, 184, 0, 73, 153, 0, 31, 3, 62]
abbrev dktX1_blame_2 : List UInt8 := dkwX1_blame_2 ++ dktX1_blame_3
def dkwX1_blame_1 : List UInt8 := [159, 0, 33, 27, 16, 40, 159, 0, 27, 27, 16, 41, 159, 0, 21, 27, 16, 43, 159, 0, 15, 27, 16, 45]
abbrev dktX1_blame_1 : List UInt8 := dkwX1_blame_1 ++ dktX1_blame_2
def dkwX1_blame_0 : List UInt8 := [42, 3, 182, 0, 51, 60, 42, 182, 0, 76, 154, 0, 45, 27, 16, 44, 159, 0, 39, 27, 16, 58]
abbrev dktX1_blame_0 : List UInt8 := dkwX1_blame_0 ++ dktX1_blame_1
theorem dksX1_blame_0 : cX1_blame.data.toList.drop 0 = dktX1_blame_0 := by decide +kernel
theorem dksX1_blame_1 : cX1_blame.data.toList.drop 22 = dktX1_blame_1 := dk_seg dksX1_blame_0 22 rfl rfl
theorem dksX1_blame_2 : cX1_blame.data.toList.drop 46 = dktX1_blame_2 := dk_seg dksX1_blame_1 24 rfl rfl
theorem dksX1_blame_3 : cX1_blame.data.toList.drop 70 = dktX1_blame_3 := dk_seg dksX1_blame_2 24 rfl rfl
theorem dksX1_blame_4 : cX1_blame.data.toList.drop 94 = dktX1_blame_4 := dk_seg dksX1_blame_3 24 rfl rfl
theorem dksX1_blame_5 : cX1_blame.data.toList.drop 117 = dktX1_blame_5 := dk_seg dksX1_blame_4 23 rfl rfl
theorem dksX1_blame_6 : cX1_blame.data.toList.drop 139 = dktX1_blame_6 := dk_seg dksX1_blame_5 22 rfl rfl
theorem dksX1_blame_7 : cX1_blame.data.toList.drop 162 = dktX1_blame_7 := dk_seg dksX1_blame_6 23 rfl rfl
theorem dX1_blame_0 : decode cX1_blame 0 = .ok (.aload_n 0, 1) := dk_42 (dk_at dksX1_blame_0 0 rfl rfl)
theorem dX1_blame_1 : decode cX1_blame 1 = .ok (.iconst 0, 1) := dk_3 (dk_at dksX1_blame_0 1 rfl rfl)
theorem dX1_blame_2 : decode cX1_blame 2 = .ok (.invokevirtual 51, 3) := dk_182 0 51 (dk_at dksX1_blame_0 2 rfl rfl)
theorem dX1_blame_5 : decode cX1_blame 5 = .ok (.istore_n 1, 1) := dk_60 (dk_at dksX1_blame_0 5 rfl rfl)
theorem dX1_blame_6 : decode cX1_blame 6 = .ok (.aload_n 0, 1) := dk_42 (dk_at dksX1_blame_0 6 rfl rfl)
theorem dX1_blame_7 : decode cX1_blame 7 = .ok (.invokevirtual 76, 3) := dk_182 0 76 (dk_at dksX1_blame_0 7 rfl rfl)
theorem dX1_blame_10 : decode cX1_blame 10 = .ok (.ifCond .ne 45, 3) := dk_154 0 45 (dk_at dksX1_blame_0 10 rfl rfl)
theorem dX1_blame_13 : decode cX1_blame 13 = .ok (.iload_n 1, 1) := dk_27 (dk_at dksX1_blame_0 13 rfl rfl)
theorem dX1_blame_14 : decode cX1_blame 14 = .ok (.bipush 44, 2) := dk_16 44 (dk_at dksX1_blame_0 14 rfl rfl)
theorem dX1_blame_16 : decode cX1_blame 16 = .ok (.if_icmp .eq 39, 3) := dk_159 0 39 (dk_at dksX1_blame_0 16 rfl rfl)
theorem dX1_blame_19 : decode cX1_blame 19 = .ok (.iload_n 1, 1) := dk_27 (dk_at dksX1_blame_0 19 rfl rfl)
theorem dX1_blame_20 : decode cX1_blame 20 = .ok (.bipush 58, 2) := dk_16 58 (dk_at dksX1_blame_0 20 rfl rfl)
theorem dX1_blame_22 : decode cX1_blame 22 = .ok (.if_icmp .eq 33, 3) := dk_159 0 33 (dk_at dksX1_blame_1 0 rfl rfl)
theorem dX1_blame_25 : decode cX1_blame 25 = .ok (.iload_n 1, 1) := dk_27 (dk_at dksX1_blame_1 3 rfl rfl)
theorem dX1_blame_26 : decode cX1_blame 26 = .ok (.bipush 40, 2) := dk_16 40 (dk_at dksX1_blame_1 4 rfl rfl)
theorem dX1_blame_28 : decode cX1_blame 28 = .ok (.if_icmp .eq 27, 3) := dk_159 0 27 (dk_at dksX1_blame_1 6 rfl rfl)
theorem dX1_blame_31 : decode cX1_blame 31 = .ok (.iload_n 1, 1) := dk_27 (dk_at dksX1_blame_1 9 rfl rfl)
theorem dX1_blame_32 : decode cX1_blame 32 = .ok (.bipush 41, 2) := dk_16 41 (dk_at dksX1_blame_1 10 rfl rfl)
theorem dX1_blame_34 : decode cX1_blame 34 = .ok (.if_icmp .eq 21, 3) := dk_159 0 21 (dk_at dksX1_blame_1 12 rfl rfl)
theorem dX1_blame_37 : decode cX1_blame 37 = .ok (.iload_n 1, 1) := dk_27 (dk_at dksX1_blame_1 15 rfl rfl)
theorem dX1_blame_38 : decode cX1_blame 38 = .ok (.bipush 43, 2) := dk_16 43 (dk_at dksX1_blame_1 16 rfl rfl)
theorem dX1_blame_40 : decode cX1_blame 40 = .ok (.if_icmp .eq 15, 3) := dk_159 0 15 (dk_at dksX1_blame_1 18 rfl rfl)
theorem dX1_blame_43 : decode cX1_blame 43 = .ok (.iload_n 1, 1) := dk_27 (dk_at dksX1_blame_1 21 rfl rfl)
theorem dX1_blame_44 : decode cX1_blame 44 = .ok (.bipush 45, 2) := dk_16 45 (dk_at dksX1_blame_1 22 rfl rfl)
theorem dX1_blame_46 : decode cX1_blame 46 = .ok (.if_icmp .eq 9, 3) := dk_159 0 9 (dk_at dksX1_blame_2 0 rfl rfl)
theorem dX1_blame_49 : decode cX1_blame 49 = .ok (.iload_n 1, 1) := dk_27 (dk_at dksX1_blame_2 3 rfl rfl)
theorem dX1_blame_50 : decode cX1_blame 50 = .ok (.bipush 37, 2) := dk_16 37 (dk_at dksX1_blame_2 4 rfl rfl)
theorem dX1_blame_52 : decode cX1_blame 52 = .ok (.if_icmp .ne 7, 3) := dk_160 0 7 (dk_at dksX1_blame_2 6 rfl rfl)
theorem dX1_blame_55 : decode cX1_blame 55 = .ok (.iconst 1, 1) := dk_4 (dk_at dksX1_blame_2 9 rfl rfl)
theorem dX1_blame_56 : decode cX1_blame 56 = .ok (.goto 4, 3) := dk_167 0 4 (dk_at dksX1_blame_2 10 rfl rfl)
theorem dX1_blame_59 : decode cX1_blame 59 = .ok (.iconst 0, 1) := dk_3 (dk_at dksX1_blame_2 13 rfl rfl)
theorem dX1_blame_60 : decode cX1_blame 60 = .ok (.istore_n 2, 1) := dk_61 (dk_at dksX1_blame_2 14 rfl rfl)
theorem dX1_blame_61 : decode cX1_blame 61 = .ok (.iload_n 1, 1) := dk_27 (dk_at dksX1_blame_2 15 rfl rfl)
theorem dX1_blame_62 : decode cX1_blame 62 = .ok (.invokestatic 73, 3) := dk_184 0 73 (dk_at dksX1_blame_2 16 rfl rfl)
theorem dX1_blame_65 : decode cX1_blame 65 = .ok (.ifCond .eq 31, 3) := dk_153 0 31 (dk_at dksX1_blame_2 19 rfl rfl)
theorem dX1_blame_68 : decode cX1_blame 68 = .ok (.iconst 0, 1) := dk_3 (dk_at dksX1_blame_2 22 rfl rfl)
theorem dX1_blame_69 : decode cX1_blame 69 = .ok (.istore_n 3, 1) := dk_62 (dk_at dksX1_blame_2 23 rfl rfl)
theorem dX1_blame_70 : decode cX1_blame 70 = .ok (.aload_n 0, 1) := dk_42 (dk_at dksX1_blame_3 0 rfl rfl)
theorem dX1_blame_71 : decode cX1_blame 71 = .ok (.iload_n 3, 1) := dk_29 (dk_at dksX1_blame_3 1 rfl rfl)
theorem dX1_blame_72 : decode cX1_blame 72 = .ok (.invokevirtual 80, 3) := dk_182 0 80 (dk_at dksX1_blame_3 2 rfl rfl)
theorem dX1_blame_75 : decode cX1_blame 75 = .ok (.ifCond .eq 9, 3) := dk_153 0 9 (dk_at dksX1_blame_3 5 rfl rfl)
theorem dX1_blame_78 : decode cX1_blame 78 = .ok (.iinc 3 1, 3) := dk_132 3 1 (dk_at dksX1_blame_3 8 rfl rfl)
theorem dX1_blame_81 : decode cX1_blame 81 = .ok (.goto (-11), 3) := dk_167 255 245 (dk_at dksX1_blame_3 11 rfl rfl)
theorem dX1_blame_84 : decode cX1_blame 84 = .ok (.iload_n 3, 1) := dk_29 (dk_at dksX1_blame_3 14 rfl rfl)
theorem dX1_blame_85 : decode cX1_blame 85 = .ok (.bipush 24, 2) := dk_16 24 (dk_at dksX1_blame_3 15 rfl rfl)
theorem dX1_blame_87 : decode cX1_blame 87 = .ok (.if_icmp .gt 7, 3) := dk_163 0 7 (dk_at dksX1_blame_3 17 rfl rfl)
theorem dX1_blame_90 : decode cX1_blame 90 = .ok (.iconst 1, 1) := dk_4 (dk_at dksX1_blame_3 20 rfl rfl)
theorem dX1_blame_91 : decode cX1_blame 91 = .ok (.goto 4, 3) := dk_167 0 4 (dk_at dksX1_blame_3 21 rfl rfl)
theorem dX1_blame_94 : decode cX1_blame 94 = .ok (.iconst 0, 1) := dk_3 (dk_at dksX1_blame_4 0 rfl rfl)
theorem dX1_blame_95 : decode cX1_blame 95 = .ok (.istore_n 2, 1) := dk_61 (dk_at dksX1_blame_4 1 rfl rfl)
theorem dX1_blame_96 : decode cX1_blame 96 = .ok (.iload_n 2, 1) := dk_28 (dk_at dksX1_blame_4 2 rfl rfl)
theorem dX1_blame_97 : decode cX1_blame 97 = .ok (.ifCond .ne 58, 3) := dk_154 0 58 (dk_at dksX1_blame_4 3 rfl rfl)
theorem dX1_blame_100 : decode cX1_blame 100 = .ok (.iload_n 1, 1) := dk_27 (dk_at dksX1_blame_4 6 rfl rfl)
theorem dX1_blame_101 : decode cX1_blame 101 = .ok (.invokestatic 55, 3) := dk_184 0 55 (dk_at dksX1_blame_4 7 rfl rfl)
theorem dX1_blame_104 : decode cX1_blame 104 = .ok (.ifCond .eq 12, 3) := dk_153 0 12 (dk_at dksX1_blame_4 10 rfl rfl)
theorem dX1_blame_107 : decode cX1_blame 107 = .ok (.aload_n 0, 1) := dk_42 (dk_at dksX1_blame_4 13 rfl rfl)
theorem dX1_blame_108 : decode cX1_blame 108 = .ok (.invokevirtual 83, 3) := dk_182 0 83 (dk_at dksX1_blame_4 14 rfl rfl)
theorem dX1_blame_111 : decode cX1_blame 111 = .ok (.lconst 0, 1) := dk_9 (dk_at dksX1_blame_4 17 rfl rfl)
theorem dX1_blame_112 : decode cX1_blame 112 = .ok (.lcmp, 1) := dk_148 (dk_at dksX1_blame_4 18 rfl rfl)
theorem dX1_blame_113 : decode cX1_blame 113 = .ok (.ifCond .ge 42, 3) := dk_156 0 42 (dk_at dksX1_blame_4 19 rfl rfl)
theorem dX1_blame_116 : decode cX1_blame 116 = .ok (.iload_n 1, 1) := dk_27 (dk_at dksX1_blame_4 22 rfl rfl)
theorem dX1_blame_117 : decode cX1_blame 117 = .ok (.bipush 39, 2) := dk_16 39 (dk_at dksX1_blame_5 0 rfl rfl)
theorem dX1_blame_119 : decode cX1_blame 119 = .ok (.if_icmp .ne 10, 3) := dk_160 0 10 (dk_at dksX1_blame_5 2 rfl rfl)
theorem dX1_blame_122 : decode cX1_blame 122 = .ok (.aload_n 0, 1) := dk_42 (dk_at dksX1_blame_5 5 rfl rfl)
theorem dX1_blame_123 : decode cX1_blame 123 = .ok (.invokevirtual 87, 3) := dk_182 0 87 (dk_at dksX1_blame_5 6 rfl rfl)
theorem dX1_blame_126 : decode cX1_blame 126 = .ok (.ifCond .ge 29, 3) := dk_156 0 29 (dk_at dksX1_blame_5 9 rfl rfl)
theorem dX1_blame_129 : decode cX1_blame 129 = .ok (.iload_n 1, 1) := dk_27 (dk_at dksX1_blame_5 12 rfl rfl)
theorem dX1_blame_130 : decode cX1_blame 130 = .ok (.bipush 34, 2) := dk_16 34 (dk_at dksX1_blame_5 13 rfl rfl)
theorem dX1_blame_132 : decode cX1_blame 132 = .ok (.if_icmp .ne 10, 3) := dk_160 0 10 (dk_at dksX1_blame_5 15 rfl rfl)
theorem dX1_blame_135 : decode cX1_blame 135 = .ok (.aload_n 0, 1) := dk_42 (dk_at dksX1_blame_5 18 rfl rfl)
theorem dX1_blame_136 : decode cX1_blame 136 = .ok (.invokevirtual 90, 3) := dk_182 0 90 (dk_at dksX1_blame_5 19 rfl rfl)
theorem dX1_blame_139 : decode cX1_blame 139 = .ok (.ifCond .ne 16, 3) := dk_154 0 16 (dk_at dksX1_blame_6 0 rfl rfl)
theorem dX1_blame_142 : decode cX1_blame 142 = .ok (.iload_n 1, 1) := dk_27 (dk_at dksX1_blame_6 3 rfl rfl)
theorem dX1_blame_143 : decode cX1_blame 143 = .ok (.bipush 36, 2) := dk_16 36 (dk_at dksX1_blame_6 4 rfl rfl)
theorem dX1_blame_145 : decode cX1_blame 145 = .ok (.if_icmp .ne 14, 3) := dk_160 0 14 (dk_at dksX1_blame_6 6 rfl rfl)
theorem dX1_blame_148 : decode cX1_blame 148 = .ok (.aload_n 0, 1) := dk_42 (dk_at dksX1_blame_6 9 rfl rfl)
theorem dX1_blame_149 : decode cX1_blame 149 = .ok (.invokevirtual 93, 3) := dk_182 0 93 (dk_at dksX1_blame_6 10 rfl rfl)
theorem dX1_blame_152 : decode cX1_blame 152 = .ok (.ifCond .lt 7, 3) := dk_155 0 7 (dk_at dksX1_blame_6 13 rfl rfl)
theorem dX1_blame_155 : decode cX1_blame 155 = .ok (.iconst 1, 1) := dk_4 (dk_at dksX1_blame_6 16 rfl rfl)
theorem dX1_blame_156 : decode cX1_blame 156 = .ok (.goto 4, 3) := dk_167 0 4 (dk_at dksX1_blame_6 17 rfl rfl)
theorem dX1_blame_159 : decode cX1_blame 159 = .ok (.iconst 0, 1) := dk_3 (dk_at dksX1_blame_6 20 rfl rfl)
theorem dX1_blame_160 : decode cX1_blame 160 = .ok (.istore_n 2, 1) := dk_61 (dk_at dksX1_blame_6 21 rfl rfl)
theorem dX1_blame_161 : decode cX1_blame 161 = .ok (.iload_n 2, 1) := dk_28 (dk_at dksX1_blame_6 22 rfl rfl)
theorem dX1_blame_162 : decode cX1_blame 162 = .ok (.ifCond .eq 7, 3) := dk_153 0 7 (dk_at dksX1_blame_7 0 rfl rfl)
theorem dX1_blame_165 : decode cX1_blame 165 = .ok (.iconst 3, 1) := dk_6 (dk_at dksX1_blame_7 3 rfl rfl)
theorem dX1_blame_166 : decode cX1_blame 166 = .ok (.goto 4, 3) := dk_167 0 4 (dk_at dksX1_blame_7 4 rfl rfl)
theorem dX1_blame_169 : decode cX1_blame 169 = .ok (.iconst 1, 1) := dk_4 (dk_at dksX1_blame_7 7 rfl rfl)
theorem dX1_blame_170 : decode cX1_blame 170 = .ok (.ireturn, 1) := dk_172 (dk_at dksX1_blame_7 8 rfl rfl)
abbrev cX1_isEnd : ByteArray := prog_1_method_8_code
def yX1_isEnd : MethodName := ⟨RX1, "isEnd", "()Z"⟩
def dkwX1_isEnd_1 : List UInt8 := [3, 172]
abbrev dktX1_isEnd_1 : List UInt8 := dkwX1_isEnd_1 ++ []
def dkwX1_isEnd_0 : List UInt8 := [42, 3, 182, 0, 51, 16, 10, 159, 0, 13, 42, 3, 182, 0, 51, 16, 35, 160, 0, 7, 4, 167, 0, 4]
abbrev dktX1_isEnd_0 : List UInt8 := dkwX1_isEnd_0 ++ dktX1_isEnd_1
theorem dksX1_isEnd_0 : cX1_isEnd.data.toList.drop 0 = dktX1_isEnd_0 := by decide +kernel
theorem dksX1_isEnd_1 : cX1_isEnd.data.toList.drop 24 = dktX1_isEnd_1 := dk_seg dksX1_isEnd_0 24 rfl rfl
theorem dX1_isEnd_0 : decode cX1_isEnd 0 = .ok (.aload_n 0, 1) := dk_42 (dk_at dksX1_isEnd_0 0 rfl rfl)
theorem dX1_isEnd_1 : decode cX1_isEnd 1 = .ok (.iconst 0, 1) := dk_3 (dk_at dksX1_isEnd_0 1 rfl rfl)
theorem dX1_isEnd_2 : decode cX1_isEnd 2 = .ok (.invokevirtual 51, 3) := dk_182 0 51 (dk_at dksX1_isEnd_0 2 rfl rfl)
theorem dX1_isEnd_5 : decode cX1_isEnd 5 = .ok (.bipush 10, 2) := dk_16 10 (dk_at dksX1_isEnd_0 5 rfl rfl)
theorem dX1_isEnd_7 : decode cX1_isEnd 7 = .ok (.if_icmp .eq 13, 3) := dk_159 0 13 (dk_at dksX1_isEnd_0 7 rfl rfl)
theorem dX1_isEnd_10 : decode cX1_isEnd 10 = .ok (.aload_n 0, 1) := dk_42 (dk_at dksX1_isEnd_0 10 rfl rfl)
theorem dX1_isEnd_11 : decode cX1_isEnd 11 = .ok (.iconst 0, 1) := dk_3 (dk_at dksX1_isEnd_0 11 rfl rfl)
theorem dX1_isEnd_12 : decode cX1_isEnd 12 = .ok (.invokevirtual 51, 3) := dk_182 0 51 (dk_at dksX1_isEnd_0 12 rfl rfl)
theorem dX1_isEnd_15 : decode cX1_isEnd 15 = .ok (.bipush 35, 2) := dk_16 35 (dk_at dksX1_isEnd_0 15 rfl rfl)
theorem dX1_isEnd_17 : decode cX1_isEnd 17 = .ok (.if_icmp .ne 7, 3) := dk_160 0 7 (dk_at dksX1_isEnd_0 17 rfl rfl)
theorem dX1_isEnd_20 : decode cX1_isEnd 20 = .ok (.iconst 1, 1) := dk_4 (dk_at dksX1_isEnd_0 20 rfl rfl)
theorem dX1_isEnd_21 : decode cX1_isEnd 21 = .ok (.goto 4, 3) := dk_167 0 4 (dk_at dksX1_isEnd_0 21 rfl rfl)
theorem dX1_isEnd_24 : decode cX1_isEnd 24 = .ok (.iconst 0, 1) := dk_3 (dk_at dksX1_isEnd_1 0 rfl rfl)
theorem dX1_isEnd_25 : decode cX1_isEnd 25 = .ok (.ireturn, 1) := dk_172 (dk_at dksX1_isEnd_1 1 rfl rfl)
abbrev cX1_isInName : ByteArray := prog_1_method_14_code
def yX1_isInName : MethodName := ⟨RX1, "isInName", "(I)Z"⟩
def dkwX1_isInName_1 : List UInt8 := [167, 0, 4, 3, 172]
abbrev dktX1_isInName_1 : List UInt8 := dkwX1_isInName_1 ++ []
def dkwX1_isInName_0 : List UInt8 := [42, 27, 182, 0, 51, 184, 0, 73, 154, 0, 14, 42, 27, 182, 0, 51, 184, 0, 55, 153, 0, 7, 4]
abbrev dktX1_isInName_0 : List UInt8 := dkwX1_isInName_0 ++ dktX1_isInName_1
theorem dksX1_isInName_0 : cX1_isInName.data.toList.drop 0 = dktX1_isInName_0 := by decide +kernel
theorem dksX1_isInName_1 : cX1_isInName.data.toList.drop 23 = dktX1_isInName_1 := dk_seg dksX1_isInName_0 23 rfl rfl
theorem dX1_isInName_0 : decode cX1_isInName 0 = .ok (.aload_n 0, 1) := dk_42 (dk_at dksX1_isInName_0 0 rfl rfl)
theorem dX1_isInName_1 : decode cX1_isInName 1 = .ok (.iload_n 1, 1) := dk_27 (dk_at dksX1_isInName_0 1 rfl rfl)
theorem dX1_isInName_2 : decode cX1_isInName 2 = .ok (.invokevirtual 51, 3) := dk_182 0 51 (dk_at dksX1_isInName_0 2 rfl rfl)
theorem dX1_isInName_5 : decode cX1_isInName 5 = .ok (.invokestatic 73, 3) := dk_184 0 73 (dk_at dksX1_isInName_0 5 rfl rfl)
theorem dX1_isInName_8 : decode cX1_isInName 8 = .ok (.ifCond .ne 14, 3) := dk_154 0 14 (dk_at dksX1_isInName_0 8 rfl rfl)
theorem dX1_isInName_11 : decode cX1_isInName 11 = .ok (.aload_n 0, 1) := dk_42 (dk_at dksX1_isInName_0 11 rfl rfl)
theorem dX1_isInName_12 : decode cX1_isInName 12 = .ok (.iload_n 1, 1) := dk_27 (dk_at dksX1_isInName_0 12 rfl rfl)
theorem dX1_isInName_13 : decode cX1_isInName 13 = .ok (.invokevirtual 51, 3) := dk_182 0 51 (dk_at dksX1_isInName_0 13 rfl rfl)
theorem dX1_isInName_16 : decode cX1_isInName 16 = .ok (.invokestatic 55, 3) := dk_184 0 55 (dk_at dksX1_isInName_0 16 rfl rfl)
theorem dX1_isInName_19 : decode cX1_isInName 19 = .ok (.ifCond .eq 7, 3) := dk_153 0 7 (dk_at dksX1_isInName_0 19 rfl rfl)
theorem dX1_isInName_22 : decode cX1_isInName 22 = .ok (.iconst 1, 1) := dk_4 (dk_at dksX1_isInName_0 22 rfl rfl)
theorem dX1_isInName_23 : decode cX1_isInName 23 = .ok (.goto 4, 3) := dk_167 0 4 (dk_at dksX1_isInName_1 0 rfl rfl)
theorem dX1_isInName_26 : decode cX1_isInName 26 = .ok (.iconst 0, 1) := dk_3 (dk_at dksX1_isInName_1 3 rfl rfl)
theorem dX1_isInName_27 : decode cX1_isInName 27 = .ok (.ireturn, 1) := dk_172 (dk_at dksX1_isInName_1 4 rfl rfl)
abbrev cX1_numeral : ByteArray := prog_1_method_16_code
def yX1_numeral : MethodName := ⟨RX1, "numeral", "()J"⟩
def dkwX1_numeral_6 : List UInt8 := [132, 2, 1, 167, 255, 159, 42, 28, 181, 0, 103, 29, 153, 0, 8, 22, 4, 167, 0, 6, 20, 0, 106, 173]
abbrev dktX1_numeral_6 : List UInt8 := dkwX1_numeral_6 ++ []
def dkwX1_numeral_5 : List UInt8 := [55, 4, 29, 153, 0, 17, 22, 4, 16, 32, 123, 9, 148, 154, 0, 7, 4, 167, 0, 4, 3, 62]
abbrev dktX1_numeral_5 : List UInt8 := dkwX1_numeral_5 ++ dktX1_numeral_6
def dkwX1_numeral_4 : List UInt8 := [153, 0, 9, 20, 0, 99, 167, 0, 6, 20, 0, 101, 22, 4, 105, 21, 6, 133, 97, 167, 0, 4, 9]
abbrev dktX1_numeral_4 : List UInt8 := dkwX1_numeral_4 ++ dktX1_numeral_5
def dkwX1_numeral_3 : List UInt8 := [153, 0, 8, 16, 16, 167, 0, 5, 16, 10, 162, 0, 7, 4, 167, 0, 4, 3, 62, 29, 153, 0, 26, 27]
abbrev dktX1_numeral_3 : List UInt8 := dkwX1_numeral_3 ++ dktX1_numeral_4
def dkwX1_numeral_2 : List UInt8 := [182, 0, 80, 153, 0, 95, 42, 28, 182, 0, 51, 184, 0, 96, 54, 6, 29, 153, 0, 23, 21, 6, 27]
abbrev dktX1_numeral_2 : List UInt8 := dkwX1_numeral_2 ++ dktX1_numeral_3
def dkwX1_numeral_1 : List UInt8 := [3, 60, 27, 153, 0, 7, 5, 167, 0, 4, 3, 61, 42, 28, 182, 0, 80, 62, 9, 55, 4, 42, 28]
abbrev dktX1_numeral_1 : List UInt8 := dkwX1_numeral_1 ++ dktX1_numeral_2
def dkwX1_numeral_0 : List UInt8 := [42, 3, 182, 0, 51, 16, 48, 160, 0, 17, 42, 4, 182, 0, 51, 16, 120, 160, 0, 7, 4, 167, 0, 4]
abbrev dktX1_numeral_0 : List UInt8 := dkwX1_numeral_0 ++ dktX1_numeral_1
theorem dksX1_numeral_0 : cX1_numeral.data.toList.drop 0 = dktX1_numeral_0 := by decide +kernel
theorem dksX1_numeral_1 : cX1_numeral.data.toList.drop 24 = dktX1_numeral_1 := dk_seg dksX1_numeral_0 24 rfl rfl
theorem dksX1_numeral_2 : cX1_numeral.data.toList.drop 47 = dktX1_numeral_2 := dk_seg dksX1_numeral_1 23 rfl rfl
theorem dksX1_numeral_3 : cX1_numeral.data.toList.drop 70 = dktX1_numeral_3 := dk_seg dksX1_numeral_2 23 rfl rfl
theorem dksX1_numeral_4 : cX1_numeral.data.toList.drop 94 = dktX1_numeral_4 := dk_seg dksX1_numeral_3 24 rfl rfl
theorem dksX1_numeral_5 : cX1_numeral.data.toList.drop 117 = dktX1_numeral_5 := dk_seg dksX1_numeral_4 23 rfl rfl
theorem dksX1_numeral_6 : cX1_numeral.data.toList.drop 139 = dktX1_numeral_6 := dk_seg dksX1_numeral_5 22 rfl rfl
theorem dX1_numeral_0 : decode cX1_numeral 0 = .ok (.aload_n 0, 1) := dk_42 (dk_at dksX1_numeral_0 0 rfl rfl)
theorem dX1_numeral_1 : decode cX1_numeral 1 = .ok (.iconst 0, 1) := dk_3 (dk_at dksX1_numeral_0 1 rfl rfl)
theorem dX1_numeral_2 : decode cX1_numeral 2 = .ok (.invokevirtual 51, 3) := dk_182 0 51 (dk_at dksX1_numeral_0 2 rfl rfl)
theorem dX1_numeral_5 : decode cX1_numeral 5 = .ok (.bipush 48, 2) := dk_16 48 (dk_at dksX1_numeral_0 5 rfl rfl)
theorem dX1_numeral_7 : decode cX1_numeral 7 = .ok (.if_icmp .ne 17, 3) := dk_160 0 17 (dk_at dksX1_numeral_0 7 rfl rfl)
theorem dX1_numeral_10 : decode cX1_numeral 10 = .ok (.aload_n 0, 1) := dk_42 (dk_at dksX1_numeral_0 10 rfl rfl)
theorem dX1_numeral_11 : decode cX1_numeral 11 = .ok (.iconst 1, 1) := dk_4 (dk_at dksX1_numeral_0 11 rfl rfl)
theorem dX1_numeral_12 : decode cX1_numeral 12 = .ok (.invokevirtual 51, 3) := dk_182 0 51 (dk_at dksX1_numeral_0 12 rfl rfl)
theorem dX1_numeral_15 : decode cX1_numeral 15 = .ok (.bipush 120, 2) := dk_16 120 (dk_at dksX1_numeral_0 15 rfl rfl)
theorem dX1_numeral_17 : decode cX1_numeral 17 = .ok (.if_icmp .ne 7, 3) := dk_160 0 7 (dk_at dksX1_numeral_0 17 rfl rfl)
theorem dX1_numeral_20 : decode cX1_numeral 20 = .ok (.iconst 1, 1) := dk_4 (dk_at dksX1_numeral_0 20 rfl rfl)
theorem dX1_numeral_21 : decode cX1_numeral 21 = .ok (.goto 4, 3) := dk_167 0 4 (dk_at dksX1_numeral_0 21 rfl rfl)
theorem dX1_numeral_24 : decode cX1_numeral 24 = .ok (.iconst 0, 1) := dk_3 (dk_at dksX1_numeral_1 0 rfl rfl)
theorem dX1_numeral_25 : decode cX1_numeral 25 = .ok (.istore_n 1, 1) := dk_60 (dk_at dksX1_numeral_1 1 rfl rfl)
theorem dX1_numeral_26 : decode cX1_numeral 26 = .ok (.iload_n 1, 1) := dk_27 (dk_at dksX1_numeral_1 2 rfl rfl)
theorem dX1_numeral_27 : decode cX1_numeral 27 = .ok (.ifCond .eq 7, 3) := dk_153 0 7 (dk_at dksX1_numeral_1 3 rfl rfl)
theorem dX1_numeral_30 : decode cX1_numeral 30 = .ok (.iconst 2, 1) := dk_5 (dk_at dksX1_numeral_1 6 rfl rfl)
theorem dX1_numeral_31 : decode cX1_numeral 31 = .ok (.goto 4, 3) := dk_167 0 4 (dk_at dksX1_numeral_1 7 rfl rfl)
theorem dX1_numeral_34 : decode cX1_numeral 34 = .ok (.iconst 0, 1) := dk_3 (dk_at dksX1_numeral_1 10 rfl rfl)
theorem dX1_numeral_35 : decode cX1_numeral 35 = .ok (.istore_n 2, 1) := dk_61 (dk_at dksX1_numeral_1 11 rfl rfl)
theorem dX1_numeral_36 : decode cX1_numeral 36 = .ok (.aload_n 0, 1) := dk_42 (dk_at dksX1_numeral_1 12 rfl rfl)
theorem dX1_numeral_37 : decode cX1_numeral 37 = .ok (.iload_n 2, 1) := dk_28 (dk_at dksX1_numeral_1 13 rfl rfl)
theorem dX1_numeral_38 : decode cX1_numeral 38 = .ok (.invokevirtual 80, 3) := dk_182 0 80 (dk_at dksX1_numeral_1 14 rfl rfl)
theorem dX1_numeral_41 : decode cX1_numeral 41 = .ok (.istore_n 3, 1) := dk_62 (dk_at dksX1_numeral_1 17 rfl rfl)
theorem dX1_numeral_42 : decode cX1_numeral 42 = .ok (.lconst 0, 1) := dk_9 (dk_at dksX1_numeral_1 18 rfl rfl)
theorem dX1_numeral_43 : decode cX1_numeral 43 = .ok (.lstore 4, 2) := dk_55 4 (dk_at dksX1_numeral_1 19 rfl rfl)
theorem dX1_numeral_45 : decode cX1_numeral 45 = .ok (.aload_n 0, 1) := dk_42 (dk_at dksX1_numeral_1 21 rfl rfl)
theorem dX1_numeral_46 : decode cX1_numeral 46 = .ok (.iload_n 2, 1) := dk_28 (dk_at dksX1_numeral_1 22 rfl rfl)
theorem dX1_numeral_47 : decode cX1_numeral 47 = .ok (.invokevirtual 80, 3) := dk_182 0 80 (dk_at dksX1_numeral_2 0 rfl rfl)
theorem dX1_numeral_50 : decode cX1_numeral 50 = .ok (.ifCond .eq 95, 3) := dk_153 0 95 (dk_at dksX1_numeral_2 3 rfl rfl)
theorem dX1_numeral_53 : decode cX1_numeral 53 = .ok (.aload_n 0, 1) := dk_42 (dk_at dksX1_numeral_2 6 rfl rfl)
theorem dX1_numeral_54 : decode cX1_numeral 54 = .ok (.iload_n 2, 1) := dk_28 (dk_at dksX1_numeral_2 7 rfl rfl)
theorem dX1_numeral_55 : decode cX1_numeral 55 = .ok (.invokevirtual 51, 3) := dk_182 0 51 (dk_at dksX1_numeral_2 8 rfl rfl)
theorem dX1_numeral_58 : decode cX1_numeral 58 = .ok (.invokestatic 96, 3) := dk_184 0 96 (dk_at dksX1_numeral_2 11 rfl rfl)
theorem dX1_numeral_61 : decode cX1_numeral 61 = .ok (.istore 6, 2) := dk_54 6 (dk_at dksX1_numeral_2 14 rfl rfl)
theorem dX1_numeral_63 : decode cX1_numeral 63 = .ok (.iload_n 3, 1) := dk_29 (dk_at dksX1_numeral_2 16 rfl rfl)
theorem dX1_numeral_64 : decode cX1_numeral 64 = .ok (.ifCond .eq 23, 3) := dk_153 0 23 (dk_at dksX1_numeral_2 17 rfl rfl)
theorem dX1_numeral_67 : decode cX1_numeral 67 = .ok (.iload 6, 2) := dk_21 6 (dk_at dksX1_numeral_2 20 rfl rfl)
theorem dX1_numeral_69 : decode cX1_numeral 69 = .ok (.iload_n 1, 1) := dk_27 (dk_at dksX1_numeral_2 22 rfl rfl)
theorem dX1_numeral_70 : decode cX1_numeral 70 = .ok (.ifCond .eq 8, 3) := dk_153 0 8 (dk_at dksX1_numeral_3 0 rfl rfl)
theorem dX1_numeral_73 : decode cX1_numeral 73 = .ok (.bipush 16, 2) := dk_16 16 (dk_at dksX1_numeral_3 3 rfl rfl)
theorem dX1_numeral_75 : decode cX1_numeral 75 = .ok (.goto 5, 3) := dk_167 0 5 (dk_at dksX1_numeral_3 5 rfl rfl)
theorem dX1_numeral_78 : decode cX1_numeral 78 = .ok (.bipush 10, 2) := dk_16 10 (dk_at dksX1_numeral_3 8 rfl rfl)
theorem dX1_numeral_80 : decode cX1_numeral 80 = .ok (.if_icmp .ge 7, 3) := dk_162 0 7 (dk_at dksX1_numeral_3 10 rfl rfl)
theorem dX1_numeral_83 : decode cX1_numeral 83 = .ok (.iconst 1, 1) := dk_4 (dk_at dksX1_numeral_3 13 rfl rfl)
theorem dX1_numeral_84 : decode cX1_numeral 84 = .ok (.goto 4, 3) := dk_167 0 4 (dk_at dksX1_numeral_3 14 rfl rfl)
theorem dX1_numeral_87 : decode cX1_numeral 87 = .ok (.iconst 0, 1) := dk_3 (dk_at dksX1_numeral_3 17 rfl rfl)
theorem dX1_numeral_88 : decode cX1_numeral 88 = .ok (.istore_n 3, 1) := dk_62 (dk_at dksX1_numeral_3 18 rfl rfl)
theorem dX1_numeral_89 : decode cX1_numeral 89 = .ok (.iload_n 3, 1) := dk_29 (dk_at dksX1_numeral_3 19 rfl rfl)
theorem dX1_numeral_90 : decode cX1_numeral 90 = .ok (.ifCond .eq 26, 3) := dk_153 0 26 (dk_at dksX1_numeral_3 20 rfl rfl)
theorem dX1_numeral_93 : decode cX1_numeral 93 = .ok (.iload_n 1, 1) := dk_27 (dk_at dksX1_numeral_3 23 rfl rfl)
theorem dX1_numeral_94 : decode cX1_numeral 94 = .ok (.ifCond .eq 9, 3) := dk_153 0 9 (dk_at dksX1_numeral_4 0 rfl rfl)
theorem dX1_numeral_97 : decode cX1_numeral 97 = .ok (.ldc2_w 99, 3) := dk_20 0 99 (dk_at dksX1_numeral_4 3 rfl rfl)
theorem dX1_numeral_100 : decode cX1_numeral 100 = .ok (.goto 6, 3) := dk_167 0 6 (dk_at dksX1_numeral_4 6 rfl rfl)
theorem dX1_numeral_103 : decode cX1_numeral 103 = .ok (.ldc2_w 101, 3) := dk_20 0 101 (dk_at dksX1_numeral_4 9 rfl rfl)
theorem dX1_numeral_106 : decode cX1_numeral 106 = .ok (.lload 4, 2) := dk_22 4 (dk_at dksX1_numeral_4 12 rfl rfl)
theorem dX1_numeral_108 : decode cX1_numeral 108 = .ok (.lmul, 1) := dk_105 (dk_at dksX1_numeral_4 14 rfl rfl)
theorem dX1_numeral_109 : decode cX1_numeral 109 = .ok (.iload 6, 2) := dk_21 6 (dk_at dksX1_numeral_4 15 rfl rfl)
theorem dX1_numeral_111 : decode cX1_numeral 111 = .ok (.i2l, 1) := dk_133 (dk_at dksX1_numeral_4 17 rfl rfl)
theorem dX1_numeral_112 : decode cX1_numeral 112 = .ok (.ladd, 1) := dk_97 (dk_at dksX1_numeral_4 18 rfl rfl)
theorem dX1_numeral_113 : decode cX1_numeral 113 = .ok (.goto 4, 3) := dk_167 0 4 (dk_at dksX1_numeral_4 19 rfl rfl)
theorem dX1_numeral_116 : decode cX1_numeral 116 = .ok (.lconst 0, 1) := dk_9 (dk_at dksX1_numeral_4 22 rfl rfl)
theorem dX1_numeral_117 : decode cX1_numeral 117 = .ok (.lstore 4, 2) := dk_55 4 (dk_at dksX1_numeral_5 0 rfl rfl)
theorem dX1_numeral_119 : decode cX1_numeral 119 = .ok (.iload_n 3, 1) := dk_29 (dk_at dksX1_numeral_5 2 rfl rfl)
theorem dX1_numeral_120 : decode cX1_numeral 120 = .ok (.ifCond .eq 17, 3) := dk_153 0 17 (dk_at dksX1_numeral_5 3 rfl rfl)
theorem dX1_numeral_123 : decode cX1_numeral 123 = .ok (.lload 4, 2) := dk_22 4 (dk_at dksX1_numeral_5 6 rfl rfl)
theorem dX1_numeral_125 : decode cX1_numeral 125 = .ok (.bipush 32, 2) := dk_16 32 (dk_at dksX1_numeral_5 8 rfl rfl)
theorem dX1_numeral_127 : decode cX1_numeral 127 = .ok (.lshr, 1) := dk_123 (dk_at dksX1_numeral_5 10 rfl rfl)
theorem dX1_numeral_128 : decode cX1_numeral 128 = .ok (.lconst 0, 1) := dk_9 (dk_at dksX1_numeral_5 11 rfl rfl)
theorem dX1_numeral_129 : decode cX1_numeral 129 = .ok (.lcmp, 1) := dk_148 (dk_at dksX1_numeral_5 12 rfl rfl)
theorem dX1_numeral_130 : decode cX1_numeral 130 = .ok (.ifCond .ne 7, 3) := dk_154 0 7 (dk_at dksX1_numeral_5 13 rfl rfl)
theorem dX1_numeral_133 : decode cX1_numeral 133 = .ok (.iconst 1, 1) := dk_4 (dk_at dksX1_numeral_5 16 rfl rfl)
theorem dX1_numeral_134 : decode cX1_numeral 134 = .ok (.goto 4, 3) := dk_167 0 4 (dk_at dksX1_numeral_5 17 rfl rfl)
theorem dX1_numeral_137 : decode cX1_numeral 137 = .ok (.iconst 0, 1) := dk_3 (dk_at dksX1_numeral_5 20 rfl rfl)
theorem dX1_numeral_138 : decode cX1_numeral 138 = .ok (.istore_n 3, 1) := dk_62 (dk_at dksX1_numeral_5 21 rfl rfl)
theorem dX1_numeral_139 : decode cX1_numeral 139 = .ok (.iinc 2 1, 3) := dk_132 2 1 (dk_at dksX1_numeral_6 0 rfl rfl)
theorem dX1_numeral_142 : decode cX1_numeral 142 = .ok (.goto (-97), 3) := dk_167 255 159 (dk_at dksX1_numeral_6 3 rfl rfl)
theorem dX1_numeral_145 : decode cX1_numeral 145 = .ok (.aload_n 0, 1) := dk_42 (dk_at dksX1_numeral_6 6 rfl rfl)
theorem dX1_numeral_146 : decode cX1_numeral 146 = .ok (.iload_n 2, 1) := dk_28 (dk_at dksX1_numeral_6 7 rfl rfl)
theorem dX1_numeral_147 : decode cX1_numeral 147 = .ok (.putfield 103, 3) := dk_181 0 103 (dk_at dksX1_numeral_6 8 rfl rfl)
theorem dX1_numeral_150 : decode cX1_numeral 150 = .ok (.iload_n 3, 1) := dk_29 (dk_at dksX1_numeral_6 11 rfl rfl)
theorem dX1_numeral_151 : decode cX1_numeral 151 = .ok (.ifCond .eq 8, 3) := dk_153 0 8 (dk_at dksX1_numeral_6 12 rfl rfl)
theorem dX1_numeral_154 : decode cX1_numeral 154 = .ok (.lload 4, 2) := dk_22 4 (dk_at dksX1_numeral_6 15 rfl rfl)
theorem dX1_numeral_156 : decode cX1_numeral 156 = .ok (.goto 6, 3) := dk_167 0 6 (dk_at dksX1_numeral_6 17 rfl rfl)
theorem dX1_numeral_159 : decode cX1_numeral 159 = .ok (.ldc2_w 106, 3) := dk_20 0 106 (dk_at dksX1_numeral_6 20 rfl rfl)
theorem dX1_numeral_162 : decode cX1_numeral 162 = .ok (.lreturn, 1) := dk_173 (dk_at dksX1_numeral_6 23 rfl rfl)
abbrev cX1_digit : ByteArray := prog_1_method_11_code
def yX1_digit : MethodName := ⟨RX1, "digit", "(I)I"⟩
def dkwX1_digit_2 : List UInt8 := [163, 0, 13, 26, 16, 65, 100, 16, 10, 96, 167, 0, 5, 16, 99, 172]
abbrev dktX1_digit_2 : List UInt8 := dkwX1_digit_2 ++ []
def dkwX1_digit_1 : List UInt8 := [163, 0, 13, 26, 16, 97, 100, 16, 10, 96, 167, 0, 27, 26, 16, 65, 161, 0, 19, 26, 16, 70]
abbrev dktX1_digit_1 : List UInt8 := dkwX1_digit_1 ++ dktX1_digit_2
def dkwX1_digit_0 : List UInt8 := [26, 184, 0, 55, 153, 0, 10, 26, 16, 48, 100, 167, 0, 49, 26, 16, 97, 161, 0, 19, 26, 16, 102]
abbrev dktX1_digit_0 : List UInt8 := dkwX1_digit_0 ++ dktX1_digit_1
theorem dksX1_digit_0 : cX1_digit.data.toList.drop 0 = dktX1_digit_0 := by decide +kernel
theorem dksX1_digit_1 : cX1_digit.data.toList.drop 23 = dktX1_digit_1 := dk_seg dksX1_digit_0 23 rfl rfl
theorem dksX1_digit_2 : cX1_digit.data.toList.drop 45 = dktX1_digit_2 := dk_seg dksX1_digit_1 22 rfl rfl
theorem dX1_digit_0 : decode cX1_digit 0 = .ok (.iload_n 0, 1) := dk_26 (dk_at dksX1_digit_0 0 rfl rfl)
theorem dX1_digit_1 : decode cX1_digit 1 = .ok (.invokestatic 55, 3) := dk_184 0 55 (dk_at dksX1_digit_0 1 rfl rfl)
theorem dX1_digit_4 : decode cX1_digit 4 = .ok (.ifCond .eq 10, 3) := dk_153 0 10 (dk_at dksX1_digit_0 4 rfl rfl)
theorem dX1_digit_7 : decode cX1_digit 7 = .ok (.iload_n 0, 1) := dk_26 (dk_at dksX1_digit_0 7 rfl rfl)
theorem dX1_digit_8 : decode cX1_digit 8 = .ok (.bipush 48, 2) := dk_16 48 (dk_at dksX1_digit_0 8 rfl rfl)
theorem dX1_digit_10 : decode cX1_digit 10 = .ok (.isub, 1) := dk_100 (dk_at dksX1_digit_0 10 rfl rfl)
theorem dX1_digit_11 : decode cX1_digit 11 = .ok (.goto 49, 3) := dk_167 0 49 (dk_at dksX1_digit_0 11 rfl rfl)
theorem dX1_digit_14 : decode cX1_digit 14 = .ok (.iload_n 0, 1) := dk_26 (dk_at dksX1_digit_0 14 rfl rfl)
theorem dX1_digit_15 : decode cX1_digit 15 = .ok (.bipush 97, 2) := dk_16 97 (dk_at dksX1_digit_0 15 rfl rfl)
theorem dX1_digit_17 : decode cX1_digit 17 = .ok (.if_icmp .lt 19, 3) := dk_161 0 19 (dk_at dksX1_digit_0 17 rfl rfl)
theorem dX1_digit_20 : decode cX1_digit 20 = .ok (.iload_n 0, 1) := dk_26 (dk_at dksX1_digit_0 20 rfl rfl)
theorem dX1_digit_21 : decode cX1_digit 21 = .ok (.bipush 102, 2) := dk_16 102 (dk_at dksX1_digit_0 21 rfl rfl)
theorem dX1_digit_23 : decode cX1_digit 23 = .ok (.if_icmp .gt 13, 3) := dk_163 0 13 (dk_at dksX1_digit_1 0 rfl rfl)
theorem dX1_digit_26 : decode cX1_digit 26 = .ok (.iload_n 0, 1) := dk_26 (dk_at dksX1_digit_1 3 rfl rfl)
theorem dX1_digit_27 : decode cX1_digit 27 = .ok (.bipush 97, 2) := dk_16 97 (dk_at dksX1_digit_1 4 rfl rfl)
theorem dX1_digit_29 : decode cX1_digit 29 = .ok (.isub, 1) := dk_100 (dk_at dksX1_digit_1 6 rfl rfl)
theorem dX1_digit_30 : decode cX1_digit 30 = .ok (.bipush 10, 2) := dk_16 10 (dk_at dksX1_digit_1 7 rfl rfl)
theorem dX1_digit_32 : decode cX1_digit 32 = .ok (.iadd, 1) := dk_96 (dk_at dksX1_digit_1 9 rfl rfl)
theorem dX1_digit_33 : decode cX1_digit 33 = .ok (.goto 27, 3) := dk_167 0 27 (dk_at dksX1_digit_1 10 rfl rfl)
theorem dX1_digit_36 : decode cX1_digit 36 = .ok (.iload_n 0, 1) := dk_26 (dk_at dksX1_digit_1 13 rfl rfl)
theorem dX1_digit_37 : decode cX1_digit 37 = .ok (.bipush 65, 2) := dk_16 65 (dk_at dksX1_digit_1 14 rfl rfl)
theorem dX1_digit_39 : decode cX1_digit 39 = .ok (.if_icmp .lt 19, 3) := dk_161 0 19 (dk_at dksX1_digit_1 16 rfl rfl)
theorem dX1_digit_42 : decode cX1_digit 42 = .ok (.iload_n 0, 1) := dk_26 (dk_at dksX1_digit_1 19 rfl rfl)
theorem dX1_digit_43 : decode cX1_digit 43 = .ok (.bipush 70, 2) := dk_16 70 (dk_at dksX1_digit_1 20 rfl rfl)
theorem dX1_digit_45 : decode cX1_digit 45 = .ok (.if_icmp .gt 13, 3) := dk_163 0 13 (dk_at dksX1_digit_2 0 rfl rfl)
theorem dX1_digit_48 : decode cX1_digit 48 = .ok (.iload_n 0, 1) := dk_26 (dk_at dksX1_digit_2 3 rfl rfl)
theorem dX1_digit_49 : decode cX1_digit 49 = .ok (.bipush 65, 2) := dk_16 65 (dk_at dksX1_digit_2 4 rfl rfl)
theorem dX1_digit_51 : decode cX1_digit 51 = .ok (.isub, 1) := dk_100 (dk_at dksX1_digit_2 6 rfl rfl)
theorem dX1_digit_52 : decode cX1_digit 52 = .ok (.bipush 10, 2) := dk_16 10 (dk_at dksX1_digit_2 7 rfl rfl)
theorem dX1_digit_54 : decode cX1_digit 54 = .ok (.iadd, 1) := dk_96 (dk_at dksX1_digit_2 9 rfl rfl)
theorem dX1_digit_55 : decode cX1_digit 55 = .ok (.goto 5, 3) := dk_167 0 5 (dk_at dksX1_digit_2 10 rfl rfl)
theorem dX1_digit_58 : decode cX1_digit 58 = .ok (.bipush 99, 2) := dk_16 99 (dk_at dksX1_digit_2 13 rfl rfl)
theorem dX1_digit_60 : decode cX1_digit 60 = .ok (.ireturn, 1) := dk_172 (dk_at dksX1_digit_2 15 rfl rfl)
abbrev cX1_character : ByteArray := prog_1_method_17_code
def yX1_character : MethodName := ⟨RX1, "character", "()I"⟩
def dkwX1_character_4 : List UInt8 := [172]
abbrev dktX1_character_4 : List UInt8 := dkwX1_character_4 ++ []
def dkwX1_character_3 : List UInt8 := [6, 181, 0, 103, 42, 42, 180, 0, 103, 4, 100, 182, 0, 51, 16, 39, 160, 0, 7, 28, 167, 0, 4, 2]
abbrev dktX1_character_3 : List UInt8 := dkwX1_character_3 ++ dktX1_character_4
def dkwX1_character_2 : List UInt8 := [16, 10, 160, 0, 7, 2, 167, 0, 8, 42, 4, 182, 0, 51, 61, 42, 27, 153, 0, 7, 7, 167, 0, 4]
abbrev dktX1_character_2 : List UInt8 := dkwX1_character_2 ++ dktX1_character_3
def dkwX1_character_1 : List UInt8 := [182, 0, 51, 184, 0, 108, 167, 0, 32, 42, 4, 182, 0, 51, 16, 39, 159, 0, 13, 42, 4, 182, 0, 51]
abbrev dktX1_character_1 : List UInt8 := dkwX1_character_1 ++ dktX1_character_2
def dkwX1_character_0 : List UInt8 := [42, 4, 182, 0, 51, 16, 92, 160, 0, 7, 4, 167, 0, 4, 3, 60, 27, 153, 0, 14, 42, 5]
abbrev dktX1_character_0 : List UInt8 := dkwX1_character_0 ++ dktX1_character_1
theorem dksX1_character_0 : cX1_character.data.toList.drop 0 = dktX1_character_0 := by decide +kernel
theorem dksX1_character_1 : cX1_character.data.toList.drop 22 = dktX1_character_1 := dk_seg dksX1_character_0 22 rfl rfl
theorem dksX1_character_2 : cX1_character.data.toList.drop 46 = dktX1_character_2 := dk_seg dksX1_character_1 24 rfl rfl
theorem dksX1_character_3 : cX1_character.data.toList.drop 70 = dktX1_character_3 := dk_seg dksX1_character_2 24 rfl rfl
theorem dksX1_character_4 : cX1_character.data.toList.drop 94 = dktX1_character_4 := dk_seg dksX1_character_3 24 rfl rfl
theorem dX1_character_0 : decode cX1_character 0 = .ok (.aload_n 0, 1) := dk_42 (dk_at dksX1_character_0 0 rfl rfl)
theorem dX1_character_1 : decode cX1_character 1 = .ok (.iconst 1, 1) := dk_4 (dk_at dksX1_character_0 1 rfl rfl)
theorem dX1_character_2 : decode cX1_character 2 = .ok (.invokevirtual 51, 3) := dk_182 0 51 (dk_at dksX1_character_0 2 rfl rfl)
theorem dX1_character_5 : decode cX1_character 5 = .ok (.bipush 92, 2) := dk_16 92 (dk_at dksX1_character_0 5 rfl rfl)
theorem dX1_character_7 : decode cX1_character 7 = .ok (.if_icmp .ne 7, 3) := dk_160 0 7 (dk_at dksX1_character_0 7 rfl rfl)
theorem dX1_character_10 : decode cX1_character 10 = .ok (.iconst 1, 1) := dk_4 (dk_at dksX1_character_0 10 rfl rfl)
theorem dX1_character_11 : decode cX1_character 11 = .ok (.goto 4, 3) := dk_167 0 4 (dk_at dksX1_character_0 11 rfl rfl)
theorem dX1_character_14 : decode cX1_character 14 = .ok (.iconst 0, 1) := dk_3 (dk_at dksX1_character_0 14 rfl rfl)
theorem dX1_character_15 : decode cX1_character 15 = .ok (.istore_n 1, 1) := dk_60 (dk_at dksX1_character_0 15 rfl rfl)
theorem dX1_character_16 : decode cX1_character 16 = .ok (.iload_n 1, 1) := dk_27 (dk_at dksX1_character_0 16 rfl rfl)
theorem dX1_character_17 : decode cX1_character 17 = .ok (.ifCond .eq 14, 3) := dk_153 0 14 (dk_at dksX1_character_0 17 rfl rfl)
theorem dX1_character_20 : decode cX1_character 20 = .ok (.aload_n 0, 1) := dk_42 (dk_at dksX1_character_0 20 rfl rfl)
theorem dX1_character_21 : decode cX1_character 21 = .ok (.iconst 2, 1) := dk_5 (dk_at dksX1_character_0 21 rfl rfl)
theorem dX1_character_22 : decode cX1_character 22 = .ok (.invokevirtual 51, 3) := dk_182 0 51 (dk_at dksX1_character_1 0 rfl rfl)
theorem dX1_character_25 : decode cX1_character 25 = .ok (.invokestatic 108, 3) := dk_184 0 108 (dk_at dksX1_character_1 3 rfl rfl)
theorem dX1_character_28 : decode cX1_character 28 = .ok (.goto 32, 3) := dk_167 0 32 (dk_at dksX1_character_1 6 rfl rfl)
theorem dX1_character_31 : decode cX1_character 31 = .ok (.aload_n 0, 1) := dk_42 (dk_at dksX1_character_1 9 rfl rfl)
theorem dX1_character_32 : decode cX1_character 32 = .ok (.iconst 1, 1) := dk_4 (dk_at dksX1_character_1 10 rfl rfl)
theorem dX1_character_33 : decode cX1_character 33 = .ok (.invokevirtual 51, 3) := dk_182 0 51 (dk_at dksX1_character_1 11 rfl rfl)
theorem dX1_character_36 : decode cX1_character 36 = .ok (.bipush 39, 2) := dk_16 39 (dk_at dksX1_character_1 14 rfl rfl)
theorem dX1_character_38 : decode cX1_character 38 = .ok (.if_icmp .eq 13, 3) := dk_159 0 13 (dk_at dksX1_character_1 16 rfl rfl)
theorem dX1_character_41 : decode cX1_character 41 = .ok (.aload_n 0, 1) := dk_42 (dk_at dksX1_character_1 19 rfl rfl)
theorem dX1_character_42 : decode cX1_character 42 = .ok (.iconst 1, 1) := dk_4 (dk_at dksX1_character_1 20 rfl rfl)
theorem dX1_character_43 : decode cX1_character 43 = .ok (.invokevirtual 51, 3) := dk_182 0 51 (dk_at dksX1_character_1 21 rfl rfl)
theorem dX1_character_46 : decode cX1_character 46 = .ok (.bipush 10, 2) := dk_16 10 (dk_at dksX1_character_2 0 rfl rfl)
theorem dX1_character_48 : decode cX1_character 48 = .ok (.if_icmp .ne 7, 3) := dk_160 0 7 (dk_at dksX1_character_2 2 rfl rfl)
theorem dX1_character_51 : decode cX1_character 51 = .ok (.iconst (-1), 1) := dk_2 (dk_at dksX1_character_2 5 rfl rfl)
theorem dX1_character_52 : decode cX1_character 52 = .ok (.goto 8, 3) := dk_167 0 8 (dk_at dksX1_character_2 6 rfl rfl)
theorem dX1_character_55 : decode cX1_character 55 = .ok (.aload_n 0, 1) := dk_42 (dk_at dksX1_character_2 9 rfl rfl)
theorem dX1_character_56 : decode cX1_character 56 = .ok (.iconst 1, 1) := dk_4 (dk_at dksX1_character_2 10 rfl rfl)
theorem dX1_character_57 : decode cX1_character 57 = .ok (.invokevirtual 51, 3) := dk_182 0 51 (dk_at dksX1_character_2 11 rfl rfl)
theorem dX1_character_60 : decode cX1_character 60 = .ok (.istore_n 2, 1) := dk_61 (dk_at dksX1_character_2 14 rfl rfl)
theorem dX1_character_61 : decode cX1_character 61 = .ok (.aload_n 0, 1) := dk_42 (dk_at dksX1_character_2 15 rfl rfl)
theorem dX1_character_62 : decode cX1_character 62 = .ok (.iload_n 1, 1) := dk_27 (dk_at dksX1_character_2 16 rfl rfl)
theorem dX1_character_63 : decode cX1_character 63 = .ok (.ifCond .eq 7, 3) := dk_153 0 7 (dk_at dksX1_character_2 17 rfl rfl)
theorem dX1_character_66 : decode cX1_character 66 = .ok (.iconst 4, 1) := dk_7 (dk_at dksX1_character_2 20 rfl rfl)
theorem dX1_character_67 : decode cX1_character 67 = .ok (.goto 4, 3) := dk_167 0 4 (dk_at dksX1_character_2 21 rfl rfl)
theorem dX1_character_70 : decode cX1_character 70 = .ok (.iconst 3, 1) := dk_6 (dk_at dksX1_character_3 0 rfl rfl)
theorem dX1_character_71 : decode cX1_character 71 = .ok (.putfield 103, 3) := dk_181 0 103 (dk_at dksX1_character_3 1 rfl rfl)
theorem dX1_character_74 : decode cX1_character 74 = .ok (.aload_n 0, 1) := dk_42 (dk_at dksX1_character_3 4 rfl rfl)
theorem dX1_character_75 : decode cX1_character 75 = .ok (.aload_n 0, 1) := dk_42 (dk_at dksX1_character_3 5 rfl rfl)
theorem dX1_character_76 : decode cX1_character 76 = .ok (.getfield 103, 3) := dk_180 0 103 (dk_at dksX1_character_3 6 rfl rfl)
theorem dX1_character_79 : decode cX1_character 79 = .ok (.iconst 1, 1) := dk_4 (dk_at dksX1_character_3 9 rfl rfl)
theorem dX1_character_80 : decode cX1_character 80 = .ok (.isub, 1) := dk_100 (dk_at dksX1_character_3 10 rfl rfl)
theorem dX1_character_81 : decode cX1_character 81 = .ok (.invokevirtual 51, 3) := dk_182 0 51 (dk_at dksX1_character_3 11 rfl rfl)
theorem dX1_character_84 : decode cX1_character 84 = .ok (.bipush 39, 2) := dk_16 39 (dk_at dksX1_character_3 14 rfl rfl)
theorem dX1_character_86 : decode cX1_character 86 = .ok (.if_icmp .ne 7, 3) := dk_160 0 7 (dk_at dksX1_character_3 16 rfl rfl)
theorem dX1_character_89 : decode cX1_character 89 = .ok (.iload_n 2, 1) := dk_28 (dk_at dksX1_character_3 19 rfl rfl)
theorem dX1_character_90 : decode cX1_character 90 = .ok (.goto 4, 3) := dk_167 0 4 (dk_at dksX1_character_3 20 rfl rfl)
theorem dX1_character_93 : decode cX1_character 93 = .ok (.iconst (-1), 1) := dk_2 (dk_at dksX1_character_3 23 rfl rfl)
theorem dX1_character_94 : decode cX1_character 94 = .ok (.ireturn, 1) := dk_172 (dk_at dksX1_character_4 0 rfl rfl)
abbrev cX1_escaped : ByteArray := prog_1_method_28_code
def yX1_escaped : MethodName := ⟨RX1, "escaped", "(I)I"⟩
def dkwX1_escaped_2 : List UInt8 := [160, 0, 7, 26, 167, 0, 4, 2, 172]
abbrev dktX1_escaped_2 : List UInt8 := dkwX1_escaped_2 ++ []
def dkwX1_escaped_1 : List UInt8 := [16, 48, 160, 0, 7, 3, 167, 0, 26, 26, 16, 92, 159, 0, 15, 26, 16, 39, 159, 0, 9, 26, 16, 34]
abbrev dktX1_escaped_1 : List UInt8 := dkwX1_escaped_1 ++ dktX1_escaped_2
def dkwX1_escaped_0 : List UInt8 := [26, 16, 110, 160, 0, 8, 16, 10, 167, 0, 47, 26, 16, 116, 160, 0, 8, 16, 9, 167, 0, 36, 26]
abbrev dktX1_escaped_0 : List UInt8 := dkwX1_escaped_0 ++ dktX1_escaped_1
theorem dksX1_escaped_0 : cX1_escaped.data.toList.drop 0 = dktX1_escaped_0 := by decide +kernel
theorem dksX1_escaped_1 : cX1_escaped.data.toList.drop 23 = dktX1_escaped_1 := dk_seg dksX1_escaped_0 23 rfl rfl
theorem dksX1_escaped_2 : cX1_escaped.data.toList.drop 47 = dktX1_escaped_2 := dk_seg dksX1_escaped_1 24 rfl rfl
theorem dX1_escaped_0 : decode cX1_escaped 0 = .ok (.iload_n 0, 1) := dk_26 (dk_at dksX1_escaped_0 0 rfl rfl)
theorem dX1_escaped_1 : decode cX1_escaped 1 = .ok (.bipush 110, 2) := dk_16 110 (dk_at dksX1_escaped_0 1 rfl rfl)
theorem dX1_escaped_3 : decode cX1_escaped 3 = .ok (.if_icmp .ne 8, 3) := dk_160 0 8 (dk_at dksX1_escaped_0 3 rfl rfl)
theorem dX1_escaped_6 : decode cX1_escaped 6 = .ok (.bipush 10, 2) := dk_16 10 (dk_at dksX1_escaped_0 6 rfl rfl)
theorem dX1_escaped_8 : decode cX1_escaped 8 = .ok (.goto 47, 3) := dk_167 0 47 (dk_at dksX1_escaped_0 8 rfl rfl)
theorem dX1_escaped_11 : decode cX1_escaped 11 = .ok (.iload_n 0, 1) := dk_26 (dk_at dksX1_escaped_0 11 rfl rfl)
theorem dX1_escaped_12 : decode cX1_escaped 12 = .ok (.bipush 116, 2) := dk_16 116 (dk_at dksX1_escaped_0 12 rfl rfl)
theorem dX1_escaped_14 : decode cX1_escaped 14 = .ok (.if_icmp .ne 8, 3) := dk_160 0 8 (dk_at dksX1_escaped_0 14 rfl rfl)
theorem dX1_escaped_17 : decode cX1_escaped 17 = .ok (.bipush 9, 2) := dk_16 9 (dk_at dksX1_escaped_0 17 rfl rfl)
theorem dX1_escaped_19 : decode cX1_escaped 19 = .ok (.goto 36, 3) := dk_167 0 36 (dk_at dksX1_escaped_0 19 rfl rfl)
theorem dX1_escaped_22 : decode cX1_escaped 22 = .ok (.iload_n 0, 1) := dk_26 (dk_at dksX1_escaped_0 22 rfl rfl)
theorem dX1_escaped_23 : decode cX1_escaped 23 = .ok (.bipush 48, 2) := dk_16 48 (dk_at dksX1_escaped_1 0 rfl rfl)
theorem dX1_escaped_25 : decode cX1_escaped 25 = .ok (.if_icmp .ne 7, 3) := dk_160 0 7 (dk_at dksX1_escaped_1 2 rfl rfl)
theorem dX1_escaped_28 : decode cX1_escaped 28 = .ok (.iconst 0, 1) := dk_3 (dk_at dksX1_escaped_1 5 rfl rfl)
theorem dX1_escaped_29 : decode cX1_escaped 29 = .ok (.goto 26, 3) := dk_167 0 26 (dk_at dksX1_escaped_1 6 rfl rfl)
theorem dX1_escaped_32 : decode cX1_escaped 32 = .ok (.iload_n 0, 1) := dk_26 (dk_at dksX1_escaped_1 9 rfl rfl)
theorem dX1_escaped_33 : decode cX1_escaped 33 = .ok (.bipush 92, 2) := dk_16 92 (dk_at dksX1_escaped_1 10 rfl rfl)
theorem dX1_escaped_35 : decode cX1_escaped 35 = .ok (.if_icmp .eq 15, 3) := dk_159 0 15 (dk_at dksX1_escaped_1 12 rfl rfl)
theorem dX1_escaped_38 : decode cX1_escaped 38 = .ok (.iload_n 0, 1) := dk_26 (dk_at dksX1_escaped_1 15 rfl rfl)
theorem dX1_escaped_39 : decode cX1_escaped 39 = .ok (.bipush 39, 2) := dk_16 39 (dk_at dksX1_escaped_1 16 rfl rfl)
theorem dX1_escaped_41 : decode cX1_escaped 41 = .ok (.if_icmp .eq 9, 3) := dk_159 0 9 (dk_at dksX1_escaped_1 18 rfl rfl)
theorem dX1_escaped_44 : decode cX1_escaped 44 = .ok (.iload_n 0, 1) := dk_26 (dk_at dksX1_escaped_1 21 rfl rfl)
theorem dX1_escaped_45 : decode cX1_escaped 45 = .ok (.bipush 34, 2) := dk_16 34 (dk_at dksX1_escaped_1 22 rfl rfl)
theorem dX1_escaped_47 : decode cX1_escaped 47 = .ok (.if_icmp .ne 7, 3) := dk_160 0 7 (dk_at dksX1_escaped_2 0 rfl rfl)
theorem dX1_escaped_50 : decode cX1_escaped 50 = .ok (.iload_n 0, 1) := dk_26 (dk_at dksX1_escaped_2 3 rfl rfl)
theorem dX1_escaped_51 : decode cX1_escaped 51 = .ok (.goto 4, 3) := dk_167 0 4 (dk_at dksX1_escaped_2 4 rfl rfl)
theorem dX1_escaped_54 : decode cX1_escaped 54 = .ok (.iconst (-1), 1) := dk_2 (dk_at dksX1_escaped_2 7 rfl rfl)
theorem dX1_escaped_55 : decode cX1_escaped 55 = .ok (.ireturn, 1) := dk_172 (dk_at dksX1_escaped_2 8 rfl rfl)
abbrev cX1_isString : ByteArray := prog_1_method_18_code
def yX1_isString : MethodName := ⟨RX1, "isString", "()Z"⟩
def dkwX1_isString_3 : List UInt8 := [167, 0, 4, 4, 96, 60, 167, 255, 185, 28, 172]
abbrev dktX1_isString_3 : List UInt8 := dkwX1_isString_3 ++ []
def dkwX1_isString_2 : List UInt8 := [184, 0, 108, 155, 0, 7, 4, 167, 0, 4, 3, 61, 27, 42, 27, 182, 0, 51, 16, 92, 160, 0, 7, 5]
abbrev dktX1_isString_2 : List UInt8 := dkwX1_isString_2 ++ dktX1_isString_3
def dkwX1_isString_1 : List UInt8 := [16, 10, 159, 0, 30, 42, 27, 182, 0, 51, 16, 92, 160, 0, 16, 42, 27, 4, 96, 182, 0, 51]
abbrev dktX1_isString_1 : List UInt8 := dkwX1_isString_1 ++ dktX1_isString_2
def dkwX1_isString_0 : List UInt8 := [4, 60, 4, 61, 28, 153, 0, 73, 42, 27, 182, 0, 51, 16, 34, 159, 0, 63, 42, 27, 182, 0, 51]
abbrev dktX1_isString_0 : List UInt8 := dkwX1_isString_0 ++ dktX1_isString_1
theorem dksX1_isString_0 : cX1_isString.data.toList.drop 0 = dktX1_isString_0 := by decide +kernel
theorem dksX1_isString_1 : cX1_isString.data.toList.drop 23 = dktX1_isString_1 := dk_seg dksX1_isString_0 23 rfl rfl
theorem dksX1_isString_2 : cX1_isString.data.toList.drop 45 = dktX1_isString_2 := dk_seg dksX1_isString_1 22 rfl rfl
theorem dksX1_isString_3 : cX1_isString.data.toList.drop 69 = dktX1_isString_3 := dk_seg dksX1_isString_2 24 rfl rfl
theorem dX1_isString_0 : decode cX1_isString 0 = .ok (.iconst 1, 1) := dk_4 (dk_at dksX1_isString_0 0 rfl rfl)
theorem dX1_isString_1 : decode cX1_isString 1 = .ok (.istore_n 1, 1) := dk_60 (dk_at dksX1_isString_0 1 rfl rfl)
theorem dX1_isString_2 : decode cX1_isString 2 = .ok (.iconst 1, 1) := dk_4 (dk_at dksX1_isString_0 2 rfl rfl)
theorem dX1_isString_3 : decode cX1_isString 3 = .ok (.istore_n 2, 1) := dk_61 (dk_at dksX1_isString_0 3 rfl rfl)
theorem dX1_isString_4 : decode cX1_isString 4 = .ok (.iload_n 2, 1) := dk_28 (dk_at dksX1_isString_0 4 rfl rfl)
theorem dX1_isString_5 : decode cX1_isString 5 = .ok (.ifCond .eq 73, 3) := dk_153 0 73 (dk_at dksX1_isString_0 5 rfl rfl)
theorem dX1_isString_8 : decode cX1_isString 8 = .ok (.aload_n 0, 1) := dk_42 (dk_at dksX1_isString_0 8 rfl rfl)
theorem dX1_isString_9 : decode cX1_isString 9 = .ok (.iload_n 1, 1) := dk_27 (dk_at dksX1_isString_0 9 rfl rfl)
theorem dX1_isString_10 : decode cX1_isString 10 = .ok (.invokevirtual 51, 3) := dk_182 0 51 (dk_at dksX1_isString_0 10 rfl rfl)
theorem dX1_isString_13 : decode cX1_isString 13 = .ok (.bipush 34, 2) := dk_16 34 (dk_at dksX1_isString_0 13 rfl rfl)
theorem dX1_isString_15 : decode cX1_isString 15 = .ok (.if_icmp .eq 63, 3) := dk_159 0 63 (dk_at dksX1_isString_0 15 rfl rfl)
theorem dX1_isString_18 : decode cX1_isString 18 = .ok (.aload_n 0, 1) := dk_42 (dk_at dksX1_isString_0 18 rfl rfl)
theorem dX1_isString_19 : decode cX1_isString 19 = .ok (.iload_n 1, 1) := dk_27 (dk_at dksX1_isString_0 19 rfl rfl)
theorem dX1_isString_20 : decode cX1_isString 20 = .ok (.invokevirtual 51, 3) := dk_182 0 51 (dk_at dksX1_isString_0 20 rfl rfl)
theorem dX1_isString_23 : decode cX1_isString 23 = .ok (.bipush 10, 2) := dk_16 10 (dk_at dksX1_isString_1 0 rfl rfl)
theorem dX1_isString_25 : decode cX1_isString 25 = .ok (.if_icmp .eq 30, 3) := dk_159 0 30 (dk_at dksX1_isString_1 2 rfl rfl)
theorem dX1_isString_28 : decode cX1_isString 28 = .ok (.aload_n 0, 1) := dk_42 (dk_at dksX1_isString_1 5 rfl rfl)
theorem dX1_isString_29 : decode cX1_isString 29 = .ok (.iload_n 1, 1) := dk_27 (dk_at dksX1_isString_1 6 rfl rfl)
theorem dX1_isString_30 : decode cX1_isString 30 = .ok (.invokevirtual 51, 3) := dk_182 0 51 (dk_at dksX1_isString_1 7 rfl rfl)
theorem dX1_isString_33 : decode cX1_isString 33 = .ok (.bipush 92, 2) := dk_16 92 (dk_at dksX1_isString_1 10 rfl rfl)
theorem dX1_isString_35 : decode cX1_isString 35 = .ok (.if_icmp .ne 16, 3) := dk_160 0 16 (dk_at dksX1_isString_1 12 rfl rfl)
theorem dX1_isString_38 : decode cX1_isString 38 = .ok (.aload_n 0, 1) := dk_42 (dk_at dksX1_isString_1 15 rfl rfl)
theorem dX1_isString_39 : decode cX1_isString 39 = .ok (.iload_n 1, 1) := dk_27 (dk_at dksX1_isString_1 16 rfl rfl)
theorem dX1_isString_40 : decode cX1_isString 40 = .ok (.iconst 1, 1) := dk_4 (dk_at dksX1_isString_1 17 rfl rfl)
theorem dX1_isString_41 : decode cX1_isString 41 = .ok (.iadd, 1) := dk_96 (dk_at dksX1_isString_1 18 rfl rfl)
theorem dX1_isString_42 : decode cX1_isString 42 = .ok (.invokevirtual 51, 3) := dk_182 0 51 (dk_at dksX1_isString_1 19 rfl rfl)
theorem dX1_isString_45 : decode cX1_isString 45 = .ok (.invokestatic 108, 3) := dk_184 0 108 (dk_at dksX1_isString_2 0 rfl rfl)
theorem dX1_isString_48 : decode cX1_isString 48 = .ok (.ifCond .lt 7, 3) := dk_155 0 7 (dk_at dksX1_isString_2 3 rfl rfl)
theorem dX1_isString_51 : decode cX1_isString 51 = .ok (.iconst 1, 1) := dk_4 (dk_at dksX1_isString_2 6 rfl rfl)
theorem dX1_isString_52 : decode cX1_isString 52 = .ok (.goto 4, 3) := dk_167 0 4 (dk_at dksX1_isString_2 7 rfl rfl)
theorem dX1_isString_55 : decode cX1_isString 55 = .ok (.iconst 0, 1) := dk_3 (dk_at dksX1_isString_2 10 rfl rfl)
theorem dX1_isString_56 : decode cX1_isString 56 = .ok (.istore_n 2, 1) := dk_61 (dk_at dksX1_isString_2 11 rfl rfl)
theorem dX1_isString_57 : decode cX1_isString 57 = .ok (.iload_n 1, 1) := dk_27 (dk_at dksX1_isString_2 12 rfl rfl)
theorem dX1_isString_58 : decode cX1_isString 58 = .ok (.aload_n 0, 1) := dk_42 (dk_at dksX1_isString_2 13 rfl rfl)
theorem dX1_isString_59 : decode cX1_isString 59 = .ok (.iload_n 1, 1) := dk_27 (dk_at dksX1_isString_2 14 rfl rfl)
theorem dX1_isString_60 : decode cX1_isString 60 = .ok (.invokevirtual 51, 3) := dk_182 0 51 (dk_at dksX1_isString_2 15 rfl rfl)
theorem dX1_isString_63 : decode cX1_isString 63 = .ok (.bipush 92, 2) := dk_16 92 (dk_at dksX1_isString_2 18 rfl rfl)
theorem dX1_isString_65 : decode cX1_isString 65 = .ok (.if_icmp .ne 7, 3) := dk_160 0 7 (dk_at dksX1_isString_2 20 rfl rfl)
theorem dX1_isString_68 : decode cX1_isString 68 = .ok (.iconst 2, 1) := dk_5 (dk_at dksX1_isString_2 23 rfl rfl)
theorem dX1_isString_69 : decode cX1_isString 69 = .ok (.goto 4, 3) := dk_167 0 4 (dk_at dksX1_isString_3 0 rfl rfl)
theorem dX1_isString_72 : decode cX1_isString 72 = .ok (.iconst 1, 1) := dk_4 (dk_at dksX1_isString_3 3 rfl rfl)
theorem dX1_isString_73 : decode cX1_isString 73 = .ok (.iadd, 1) := dk_96 (dk_at dksX1_isString_3 4 rfl rfl)
theorem dX1_isString_74 : decode cX1_isString 74 = .ok (.istore_n 1, 1) := dk_60 (dk_at dksX1_isString_3 5 rfl rfl)
theorem dX1_isString_75 : decode cX1_isString 75 = .ok (.goto (-71), 3) := dk_167 255 185 (dk_at dksX1_isString_3 6 rfl rfl)
theorem dX1_isString_78 : decode cX1_isString 78 = .ok (.iload_n 2, 1) := dk_28 (dk_at dksX1_isString_3 9 rfl rfl)
theorem dX1_isString_79 : decode cX1_isString 79 = .ok (.ireturn, 1) := dk_172 (dk_at dksX1_isString_3 10 rfl rfl)
abbrev cX1_told : ByteArray := prog_1_method_20_code
def yX1_told : MethodName := ⟨RX1, "told", "()I"⟩
def dkwX1_told_4 : List UInt8 := [100, 182, 0, 117, 172]
abbrev dktX1_told_4 : List UInt8 := dkwX1_told_4 ++ []
def dkwX1_told_3 : List UInt8 := [167, 0, 28, 27, 16, 25, 164, 0, 7, 2, 167, 0, 18, 42, 18, 115, 42, 180, 0, 48, 4, 96, 27, 4]
abbrev dktX1_told_3 : List UInt8 := dkwX1_told_3 ++ dktX1_told_4
def dkwX1_told_2 : List UInt8 := [160, 0, 12, 42, 5, 27, 182, 0, 111, 167, 0, 4, 2, 62, 29, 155, 0, 10, 16, 32, 29, 96]
abbrev dktX1_told_2 : List UInt8 := dkwX1_told_2 ++ dktX1_told_3
def dkwX1_told_1 : List UInt8 := [182, 0, 111, 61, 28, 156, 0, 8, 27, 4, 160, 0, 5, 28, 172, 42, 4, 182, 0, 51, 16, 102]
abbrev dktX1_told_1 : List UInt8 := dkwX1_told_1 ++ dktX1_told_2
def dkwX1_told_0 : List UInt8 := [4, 60, 42, 27, 182, 0, 80, 153, 0, 9, 132, 1, 1, 167, 255, 245, 42, 27, 181, 0, 103, 42, 4, 27]
abbrev dktX1_told_0 : List UInt8 := dkwX1_told_0 ++ dktX1_told_1
theorem dksX1_told_0 : cX1_told.data.toList.drop 0 = dktX1_told_0 := by decide +kernel
theorem dksX1_told_1 : cX1_told.data.toList.drop 24 = dktX1_told_1 := dk_seg dksX1_told_0 24 rfl rfl
theorem dksX1_told_2 : cX1_told.data.toList.drop 46 = dktX1_told_2 := dk_seg dksX1_told_1 22 rfl rfl
theorem dksX1_told_3 : cX1_told.data.toList.drop 68 = dktX1_told_3 := dk_seg dksX1_told_2 22 rfl rfl
theorem dksX1_told_4 : cX1_told.data.toList.drop 92 = dktX1_told_4 := dk_seg dksX1_told_3 24 rfl rfl
theorem dX1_told_0 : decode cX1_told 0 = .ok (.iconst 1, 1) := dk_4 (dk_at dksX1_told_0 0 rfl rfl)
theorem dX1_told_1 : decode cX1_told 1 = .ok (.istore_n 1, 1) := dk_60 (dk_at dksX1_told_0 1 rfl rfl)
theorem dX1_told_2 : decode cX1_told 2 = .ok (.aload_n 0, 1) := dk_42 (dk_at dksX1_told_0 2 rfl rfl)
theorem dX1_told_3 : decode cX1_told 3 = .ok (.iload_n 1, 1) := dk_27 (dk_at dksX1_told_0 3 rfl rfl)
theorem dX1_told_4 : decode cX1_told 4 = .ok (.invokevirtual 80, 3) := dk_182 0 80 (dk_at dksX1_told_0 4 rfl rfl)
theorem dX1_told_7 : decode cX1_told 7 = .ok (.ifCond .eq 9, 3) := dk_153 0 9 (dk_at dksX1_told_0 7 rfl rfl)
theorem dX1_told_10 : decode cX1_told 10 = .ok (.iinc 1 1, 3) := dk_132 1 1 (dk_at dksX1_told_0 10 rfl rfl)
theorem dX1_told_13 : decode cX1_told 13 = .ok (.goto (-11), 3) := dk_167 255 245 (dk_at dksX1_told_0 13 rfl rfl)
theorem dX1_told_16 : decode cX1_told 16 = .ok (.aload_n 0, 1) := dk_42 (dk_at dksX1_told_0 16 rfl rfl)
theorem dX1_told_17 : decode cX1_told 17 = .ok (.iload_n 1, 1) := dk_27 (dk_at dksX1_told_0 17 rfl rfl)
theorem dX1_told_18 : decode cX1_told 18 = .ok (.putfield 103, 3) := dk_181 0 103 (dk_at dksX1_told_0 18 rfl rfl)
theorem dX1_told_21 : decode cX1_told 21 = .ok (.aload_n 0, 1) := dk_42 (dk_at dksX1_told_0 21 rfl rfl)
theorem dX1_told_22 : decode cX1_told 22 = .ok (.iconst 1, 1) := dk_4 (dk_at dksX1_told_0 22 rfl rfl)
theorem dX1_told_23 : decode cX1_told 23 = .ok (.iload_n 1, 1) := dk_27 (dk_at dksX1_told_0 23 rfl rfl)
theorem dX1_told_24 : decode cX1_told 24 = .ok (.invokevirtual 111, 3) := dk_182 0 111 (dk_at dksX1_told_1 0 rfl rfl)
theorem dX1_told_27 : decode cX1_told 27 = .ok (.istore_n 2, 1) := dk_61 (dk_at dksX1_told_1 3 rfl rfl)
theorem dX1_told_28 : decode cX1_told 28 = .ok (.iload_n 2, 1) := dk_28 (dk_at dksX1_told_1 4 rfl rfl)
theorem dX1_told_29 : decode cX1_told 29 = .ok (.ifCond .ge 8, 3) := dk_156 0 8 (dk_at dksX1_told_1 5 rfl rfl)
theorem dX1_told_32 : decode cX1_told 32 = .ok (.iload_n 1, 1) := dk_27 (dk_at dksX1_told_1 8 rfl rfl)
theorem dX1_told_33 : decode cX1_told 33 = .ok (.iconst 1, 1) := dk_4 (dk_at dksX1_told_1 9 rfl rfl)
theorem dX1_told_34 : decode cX1_told 34 = .ok (.if_icmp .ne 5, 3) := dk_160 0 5 (dk_at dksX1_told_1 10 rfl rfl)
theorem dX1_told_37 : decode cX1_told 37 = .ok (.iload_n 2, 1) := dk_28 (dk_at dksX1_told_1 13 rfl rfl)
theorem dX1_told_38 : decode cX1_told 38 = .ok (.ireturn, 1) := dk_172 (dk_at dksX1_told_1 14 rfl rfl)
theorem dX1_told_39 : decode cX1_told 39 = .ok (.aload_n 0, 1) := dk_42 (dk_at dksX1_told_1 15 rfl rfl)
theorem dX1_told_40 : decode cX1_told 40 = .ok (.iconst 1, 1) := dk_4 (dk_at dksX1_told_1 16 rfl rfl)
theorem dX1_told_41 : decode cX1_told 41 = .ok (.invokevirtual 51, 3) := dk_182 0 51 (dk_at dksX1_told_1 17 rfl rfl)
theorem dX1_told_44 : decode cX1_told 44 = .ok (.bipush 102, 2) := dk_16 102 (dk_at dksX1_told_1 20 rfl rfl)
theorem dX1_told_46 : decode cX1_told 46 = .ok (.if_icmp .ne 12, 3) := dk_160 0 12 (dk_at dksX1_told_2 0 rfl rfl)
theorem dX1_told_49 : decode cX1_told 49 = .ok (.aload_n 0, 1) := dk_42 (dk_at dksX1_told_2 3 rfl rfl)
theorem dX1_told_50 : decode cX1_told 50 = .ok (.iconst 2, 1) := dk_5 (dk_at dksX1_told_2 4 rfl rfl)
theorem dX1_told_51 : decode cX1_told 51 = .ok (.iload_n 1, 1) := dk_27 (dk_at dksX1_told_2 5 rfl rfl)
theorem dX1_told_52 : decode cX1_told 52 = .ok (.invokevirtual 111, 3) := dk_182 0 111 (dk_at dksX1_told_2 6 rfl rfl)
theorem dX1_told_55 : decode cX1_told 55 = .ok (.goto 4, 3) := dk_167 0 4 (dk_at dksX1_told_2 9 rfl rfl)
theorem dX1_told_58 : decode cX1_told 58 = .ok (.iconst (-1), 1) := dk_2 (dk_at dksX1_told_2 12 rfl rfl)
theorem dX1_told_59 : decode cX1_told 59 = .ok (.istore_n 3, 1) := dk_62 (dk_at dksX1_told_2 13 rfl rfl)
theorem dX1_told_60 : decode cX1_told 60 = .ok (.iload_n 3, 1) := dk_29 (dk_at dksX1_told_2 14 rfl rfl)
theorem dX1_told_61 : decode cX1_told 61 = .ok (.ifCond .lt 10, 3) := dk_155 0 10 (dk_at dksX1_told_2 15 rfl rfl)
theorem dX1_told_64 : decode cX1_told 64 = .ok (.bipush 32, 2) := dk_16 32 (dk_at dksX1_told_2 18 rfl rfl)
theorem dX1_told_66 : decode cX1_told 66 = .ok (.iload_n 3, 1) := dk_29 (dk_at dksX1_told_2 20 rfl rfl)
theorem dX1_told_67 : decode cX1_told 67 = .ok (.iadd, 1) := dk_96 (dk_at dksX1_told_2 21 rfl rfl)
theorem dX1_told_68 : decode cX1_told 68 = .ok (.goto 28, 3) := dk_167 0 28 (dk_at dksX1_told_3 0 rfl rfl)
theorem dX1_told_71 : decode cX1_told 71 = .ok (.iload_n 1, 1) := dk_27 (dk_at dksX1_told_3 3 rfl rfl)
theorem dX1_told_72 : decode cX1_told 72 = .ok (.bipush 25, 2) := dk_16 25 (dk_at dksX1_told_3 4 rfl rfl)
theorem dX1_told_74 : decode cX1_told 74 = .ok (.if_icmp .le 7, 3) := dk_164 0 7 (dk_at dksX1_told_3 6 rfl rfl)
theorem dX1_told_77 : decode cX1_told 77 = .ok (.iconst (-1), 1) := dk_2 (dk_at dksX1_told_3 9 rfl rfl)
theorem dX1_told_78 : decode cX1_told 78 = .ok (.goto 18, 3) := dk_167 0 18 (dk_at dksX1_told_3 10 rfl rfl)
theorem dX1_told_81 : decode cX1_told 81 = .ok (.aload_n 0, 1) := dk_42 (dk_at dksX1_told_3 13 rfl rfl)
theorem dX1_told_82 : decode cX1_told 82 = .ok (.ldc 115, 2) := dk_18 115 (dk_at dksX1_told_3 14 rfl rfl)
theorem dX1_told_84 : decode cX1_told 84 = .ok (.aload_n 0, 1) := dk_42 (dk_at dksX1_told_3 16 rfl rfl)
theorem dX1_told_85 : decode cX1_told 85 = .ok (.getfield 48, 3) := dk_180 0 48 (dk_at dksX1_told_3 17 rfl rfl)
theorem dX1_told_88 : decode cX1_told 88 = .ok (.iconst 1, 1) := dk_4 (dk_at dksX1_told_3 20 rfl rfl)
theorem dX1_told_89 : decode cX1_told 89 = .ok (.iadd, 1) := dk_96 (dk_at dksX1_told_3 21 rfl rfl)
theorem dX1_told_90 : decode cX1_told 90 = .ok (.iload_n 1, 1) := dk_27 (dk_at dksX1_told_3 22 rfl rfl)
theorem dX1_told_91 : decode cX1_told 91 = .ok (.iconst 1, 1) := dk_4 (dk_at dksX1_told_3 23 rfl rfl)
theorem dX1_told_92 : decode cX1_told 92 = .ok (.isub, 1) := dk_100 (dk_at dksX1_told_4 0 rfl rfl)
theorem dX1_told_93 : decode cX1_told 93 = .ok (.invokevirtual 117, 3) := dk_182 0 117 (dk_at dksX1_told_4 1 rfl rfl)
theorem dX1_told_96 : decode cX1_told 96 = .ok (.ireturn, 1) := dk_172 (dk_at dksX1_told_4 4 rfl rfl)
abbrev cX1_small : ByteArray := prog_1_method_19_code
def yX1_small : MethodName := ⟨RX1, "small", "(II)I"⟩
def dkwX1_small_4 : List UInt8 := [100, 54, 4, 21, 4, 16, 32, 162, 0, 8, 21, 4, 167, 0, 4, 2, 172]
abbrev dktX1_small_4 : List UInt8 := dkwX1_small_4 ++ []
def dkwX1_small_3 : List UInt8 := [167, 0, 25, 16, 10, 42, 27, 182, 0, 51, 16, 48, 100, 104, 42, 27, 4, 96, 182, 0, 51, 96, 16, 48]
abbrev dktX1_small_3 : List UInt8 := dkwX1_small_3 ++ dktX1_small_4
def dkwX1_small_2 : List UInt8 := [182, 0, 51, 16, 48, 160, 0, 5, 2, 172, 29, 4, 160, 0, 14, 42, 27, 182, 0, 51, 16, 48, 100]
abbrev dktX1_small_2 : List UInt8 := dkwX1_small_2 ++ dktX1_small_3
def dkwX1_small_1 : List UInt8 := [153, 0, 31, 42, 28, 4, 100, 182, 0, 51, 184, 0, 55, 153, 0, 18, 29, 5, 160, 0, 15, 42, 27]
abbrev dktX1_small_1 : List UInt8 := dkwX1_small_1 ++ dktX1_small_2
def dkwX1_small_0 : List UInt8 := [28, 27, 100, 62, 29, 4, 161, 0, 47, 29, 5, 163, 0, 42, 42, 27, 182, 0, 51, 184, 0, 55]
abbrev dktX1_small_0 : List UInt8 := dkwX1_small_0 ++ dktX1_small_1
theorem dksX1_small_0 : cX1_small.data.toList.drop 0 = dktX1_small_0 := by decide +kernel
theorem dksX1_small_1 : cX1_small.data.toList.drop 22 = dktX1_small_1 := dk_seg dksX1_small_0 22 rfl rfl
theorem dksX1_small_2 : cX1_small.data.toList.drop 45 = dktX1_small_2 := dk_seg dksX1_small_1 23 rfl rfl
theorem dksX1_small_3 : cX1_small.data.toList.drop 68 = dktX1_small_3 := dk_seg dksX1_small_2 23 rfl rfl
theorem dksX1_small_4 : cX1_small.data.toList.drop 92 = dktX1_small_4 := dk_seg dksX1_small_3 24 rfl rfl
theorem dX1_small_0 : decode cX1_small 0 = .ok (.iload_n 2, 1) := dk_28 (dk_at dksX1_small_0 0 rfl rfl)
theorem dX1_small_1 : decode cX1_small 1 = .ok (.iload_n 1, 1) := dk_27 (dk_at dksX1_small_0 1 rfl rfl)
theorem dX1_small_2 : decode cX1_small 2 = .ok (.isub, 1) := dk_100 (dk_at dksX1_small_0 2 rfl rfl)
theorem dX1_small_3 : decode cX1_small 3 = .ok (.istore_n 3, 1) := dk_62 (dk_at dksX1_small_0 3 rfl rfl)
theorem dX1_small_4 : decode cX1_small 4 = .ok (.iload_n 3, 1) := dk_29 (dk_at dksX1_small_0 4 rfl rfl)
theorem dX1_small_5 : decode cX1_small 5 = .ok (.iconst 1, 1) := dk_4 (dk_at dksX1_small_0 5 rfl rfl)
theorem dX1_small_6 : decode cX1_small 6 = .ok (.if_icmp .lt 47, 3) := dk_161 0 47 (dk_at dksX1_small_0 6 rfl rfl)
theorem dX1_small_9 : decode cX1_small 9 = .ok (.iload_n 3, 1) := dk_29 (dk_at dksX1_small_0 9 rfl rfl)
theorem dX1_small_10 : decode cX1_small 10 = .ok (.iconst 2, 1) := dk_5 (dk_at dksX1_small_0 10 rfl rfl)
theorem dX1_small_11 : decode cX1_small 11 = .ok (.if_icmp .gt 42, 3) := dk_163 0 42 (dk_at dksX1_small_0 11 rfl rfl)
theorem dX1_small_14 : decode cX1_small 14 = .ok (.aload_n 0, 1) := dk_42 (dk_at dksX1_small_0 14 rfl rfl)
theorem dX1_small_15 : decode cX1_small 15 = .ok (.iload_n 1, 1) := dk_27 (dk_at dksX1_small_0 15 rfl rfl)
theorem dX1_small_16 : decode cX1_small 16 = .ok (.invokevirtual 51, 3) := dk_182 0 51 (dk_at dksX1_small_0 16 rfl rfl)
theorem dX1_small_19 : decode cX1_small 19 = .ok (.invokestatic 55, 3) := dk_184 0 55 (dk_at dksX1_small_0 19 rfl rfl)
theorem dX1_small_22 : decode cX1_small 22 = .ok (.ifCond .eq 31, 3) := dk_153 0 31 (dk_at dksX1_small_1 0 rfl rfl)
theorem dX1_small_25 : decode cX1_small 25 = .ok (.aload_n 0, 1) := dk_42 (dk_at dksX1_small_1 3 rfl rfl)
theorem dX1_small_26 : decode cX1_small 26 = .ok (.iload_n 2, 1) := dk_28 (dk_at dksX1_small_1 4 rfl rfl)
theorem dX1_small_27 : decode cX1_small 27 = .ok (.iconst 1, 1) := dk_4 (dk_at dksX1_small_1 5 rfl rfl)
theorem dX1_small_28 : decode cX1_small 28 = .ok (.isub, 1) := dk_100 (dk_at dksX1_small_1 6 rfl rfl)
theorem dX1_small_29 : decode cX1_small 29 = .ok (.invokevirtual 51, 3) := dk_182 0 51 (dk_at dksX1_small_1 7 rfl rfl)
theorem dX1_small_32 : decode cX1_small 32 = .ok (.invokestatic 55, 3) := dk_184 0 55 (dk_at dksX1_small_1 10 rfl rfl)
theorem dX1_small_35 : decode cX1_small 35 = .ok (.ifCond .eq 18, 3) := dk_153 0 18 (dk_at dksX1_small_1 13 rfl rfl)
theorem dX1_small_38 : decode cX1_small 38 = .ok (.iload_n 3, 1) := dk_29 (dk_at dksX1_small_1 16 rfl rfl)
theorem dX1_small_39 : decode cX1_small 39 = .ok (.iconst 2, 1) := dk_5 (dk_at dksX1_small_1 17 rfl rfl)
theorem dX1_small_40 : decode cX1_small 40 = .ok (.if_icmp .ne 15, 3) := dk_160 0 15 (dk_at dksX1_small_1 18 rfl rfl)
theorem dX1_small_43 : decode cX1_small 43 = .ok (.aload_n 0, 1) := dk_42 (dk_at dksX1_small_1 21 rfl rfl)
theorem dX1_small_44 : decode cX1_small 44 = .ok (.iload_n 1, 1) := dk_27 (dk_at dksX1_small_1 22 rfl rfl)
theorem dX1_small_45 : decode cX1_small 45 = .ok (.invokevirtual 51, 3) := dk_182 0 51 (dk_at dksX1_small_2 0 rfl rfl)
theorem dX1_small_48 : decode cX1_small 48 = .ok (.bipush 48, 2) := dk_16 48 (dk_at dksX1_small_2 3 rfl rfl)
theorem dX1_small_50 : decode cX1_small 50 = .ok (.if_icmp .ne 5, 3) := dk_160 0 5 (dk_at dksX1_small_2 5 rfl rfl)
theorem dX1_small_53 : decode cX1_small 53 = .ok (.iconst (-1), 1) := dk_2 (dk_at dksX1_small_2 8 rfl rfl)
theorem dX1_small_54 : decode cX1_small 54 = .ok (.ireturn, 1) := dk_172 (dk_at dksX1_small_2 9 rfl rfl)
theorem dX1_small_55 : decode cX1_small 55 = .ok (.iload_n 3, 1) := dk_29 (dk_at dksX1_small_2 10 rfl rfl)
theorem dX1_small_56 : decode cX1_small 56 = .ok (.iconst 1, 1) := dk_4 (dk_at dksX1_small_2 11 rfl rfl)
theorem dX1_small_57 : decode cX1_small 57 = .ok (.if_icmp .ne 14, 3) := dk_160 0 14 (dk_at dksX1_small_2 12 rfl rfl)
theorem dX1_small_60 : decode cX1_small 60 = .ok (.aload_n 0, 1) := dk_42 (dk_at dksX1_small_2 15 rfl rfl)
theorem dX1_small_61 : decode cX1_small 61 = .ok (.iload_n 1, 1) := dk_27 (dk_at dksX1_small_2 16 rfl rfl)
theorem dX1_small_62 : decode cX1_small 62 = .ok (.invokevirtual 51, 3) := dk_182 0 51 (dk_at dksX1_small_2 17 rfl rfl)
theorem dX1_small_65 : decode cX1_small 65 = .ok (.bipush 48, 2) := dk_16 48 (dk_at dksX1_small_2 20 rfl rfl)
theorem dX1_small_67 : decode cX1_small 67 = .ok (.isub, 1) := dk_100 (dk_at dksX1_small_2 22 rfl rfl)
theorem dX1_small_68 : decode cX1_small 68 = .ok (.goto 25, 3) := dk_167 0 25 (dk_at dksX1_small_3 0 rfl rfl)
theorem dX1_small_71 : decode cX1_small 71 = .ok (.bipush 10, 2) := dk_16 10 (dk_at dksX1_small_3 3 rfl rfl)
theorem dX1_small_73 : decode cX1_small 73 = .ok (.aload_n 0, 1) := dk_42 (dk_at dksX1_small_3 5 rfl rfl)
theorem dX1_small_74 : decode cX1_small 74 = .ok (.iload_n 1, 1) := dk_27 (dk_at dksX1_small_3 6 rfl rfl)
theorem dX1_small_75 : decode cX1_small 75 = .ok (.invokevirtual 51, 3) := dk_182 0 51 (dk_at dksX1_small_3 7 rfl rfl)
theorem dX1_small_78 : decode cX1_small 78 = .ok (.bipush 48, 2) := dk_16 48 (dk_at dksX1_small_3 10 rfl rfl)
theorem dX1_small_80 : decode cX1_small 80 = .ok (.isub, 1) := dk_100 (dk_at dksX1_small_3 12 rfl rfl)
theorem dX1_small_81 : decode cX1_small 81 = .ok (.imul, 1) := dk_104 (dk_at dksX1_small_3 13 rfl rfl)
theorem dX1_small_82 : decode cX1_small 82 = .ok (.aload_n 0, 1) := dk_42 (dk_at dksX1_small_3 14 rfl rfl)
theorem dX1_small_83 : decode cX1_small 83 = .ok (.iload_n 1, 1) := dk_27 (dk_at dksX1_small_3 15 rfl rfl)
theorem dX1_small_84 : decode cX1_small 84 = .ok (.iconst 1, 1) := dk_4 (dk_at dksX1_small_3 16 rfl rfl)
theorem dX1_small_85 : decode cX1_small 85 = .ok (.iadd, 1) := dk_96 (dk_at dksX1_small_3 17 rfl rfl)
theorem dX1_small_86 : decode cX1_small 86 = .ok (.invokevirtual 51, 3) := dk_182 0 51 (dk_at dksX1_small_3 18 rfl rfl)
theorem dX1_small_89 : decode cX1_small 89 = .ok (.iadd, 1) := dk_96 (dk_at dksX1_small_3 21 rfl rfl)
theorem dX1_small_90 : decode cX1_small 90 = .ok (.bipush 48, 2) := dk_16 48 (dk_at dksX1_small_3 22 rfl rfl)
theorem dX1_small_92 : decode cX1_small 92 = .ok (.isub, 1) := dk_100 (dk_at dksX1_small_4 0 rfl rfl)
theorem dX1_small_93 : decode cX1_small 93 = .ok (.istore 4, 2) := dk_54 4 (dk_at dksX1_small_4 1 rfl rfl)
theorem dX1_small_95 : decode cX1_small 95 = .ok (.iload 4, 2) := dk_21 4 (dk_at dksX1_small_4 3 rfl rfl)
theorem dX1_small_97 : decode cX1_small 97 = .ok (.bipush 32, 2) := dk_16 32 (dk_at dksX1_small_4 5 rfl rfl)
theorem dX1_small_99 : decode cX1_small 99 = .ok (.if_icmp .ge 8, 3) := dk_162 0 8 (dk_at dksX1_small_4 7 rfl rfl)
theorem dX1_small_102 : decode cX1_small 102 = .ok (.iload 4, 2) := dk_21 4 (dk_at dksX1_small_4 10 rfl rfl)
theorem dX1_small_104 : decode cX1_small 104 = .ok (.goto 4, 3) := dk_167 0 4 (dk_at dksX1_small_4 12 rfl rfl)
theorem dX1_small_107 : decode cX1_small 107 = .ok (.iconst (-1), 1) := dk_2 (dk_at dksX1_small_4 15 rfl rfl)
theorem dX1_small_108 : decode cX1_small 108 = .ok (.ireturn, 1) := dk_172 (dk_at dksX1_small_4 16 rfl rfl)
abbrev cX1_symbolHere : ByteArray := prog_1_method_32_code
def yX1_symbolHere : MethodName := ⟨RX1, "symbolHere", "()I"⟩
def dkwX1_symbolHere_10 : List UInt8 := [172]
abbrev dktX1_symbolHere_10 : List UInt8 := dkwX1_symbolHere_10 ++ []
def dkwX1_symbolHere_9 : List UInt8 := [42, 180, 0, 150, 180, 0, 170, 27, 3, 84, 42, 180, 0, 150, 89, 180, 0, 154, 4, 96, 181, 0, 154, 27]
abbrev dktX1_symbolHere_9 : List UInt8 := dkwX1_symbolHere_9 ++ dktX1_symbolHere_10
def dkwX1_symbolHere_8 : List UInt8 := [180, 0, 124, 79, 42, 180, 0, 150, 180, 0, 164, 27, 2, 79, 42, 180, 0, 150, 180, 0, 167, 27, 3, 79]
abbrev dktX1_symbolHere_8 : List UInt8 := dkwX1_symbolHere_8 ++ dktX1_symbolHere_9
def dkwX1_symbolHere_7 : List UInt8 := [180, 0, 121, 28, 96, 51, 84, 132, 2, 1, 167, 255, 220, 42, 180, 0, 150, 180, 0, 157, 27, 42]
abbrev dktX1_symbolHere_7 : List UInt8 := dkwX1_symbolHere_7 ++ dktX1_symbolHere_8
def dkwX1_symbolHere_6 : List UInt8 := [180, 0, 124, 162, 0, 34, 42, 180, 0, 150, 180, 0, 161, 16, 24, 27, 104, 28, 96, 42, 180, 0, 9, 42]
abbrev dktX1_symbolHere_6 : List UInt8 := dkwX1_symbolHere_6 ++ dktX1_symbolHere_7
def dkwX1_symbolHere_5 : List UInt8 := [4, 167, 0, 4, 3, 16, 7, 182, 0, 69, 42, 180, 0, 150, 180, 0, 154, 60, 3, 61, 28, 42]
abbrev dktX1_symbolHere_5 : List UInt8 := dkwX1_symbolHere_5 ++ dktX1_symbolHere_6
def dkwX1_symbolHere_4 : List UInt8 := [153, 0, 5, 27, 172, 132, 1, 1, 167, 255, 160, 42, 42, 180, 0, 150, 180, 0, 154, 16, 64, 162, 0, 7]
abbrev dktX1_symbolHere_4 : List UInt8 := dkwX1_symbolHere_4 ++ dktX1_symbolHere_5
def dkwX1_symbolHere_3 : List UInt8 := [180, 0, 121, 29, 96, 51, 160, 0, 7, 4, 167, 0, 4, 3, 61, 132, 3, 1, 167, 255, 207, 28]
abbrev dktX1_symbolHere_3 : List UInt8 := dkwX1_symbolHere_3 ++ dktX1_symbolHere_4
def dkwX1_symbolHere_2 : List UInt8 := [153, 0, 43, 42, 180, 0, 150, 180, 0, 161, 16, 24, 27, 104, 29, 96, 51, 42, 180, 0, 9, 42]
abbrev dktX1_symbolHere_2 : List UInt8 := dkwX1_symbolHere_2 ++ dktX1_symbolHere_3
def dkwX1_symbolHere_1 : List UInt8 := [180, 0, 124, 160, 0, 7, 4, 167, 0, 4, 3, 61, 3, 62, 29, 42, 180, 0, 124, 162, 0, 47, 28]
abbrev dktX1_symbolHere_1 : List UInt8 := dkwX1_symbolHere_1 ++ dktX1_symbolHere_2
def dkwX1_symbolHere_0 : List UInt8 := [3, 60, 27, 42, 180, 0, 150, 180, 0, 154, 162, 0, 91, 42, 180, 0, 150, 180, 0, 157, 27, 46, 42]
abbrev dktX1_symbolHere_0 : List UInt8 := dkwX1_symbolHere_0 ++ dktX1_symbolHere_1
theorem dksX1_symbolHere_0 : cX1_symbolHere.data.toList.drop 0 = dktX1_symbolHere_0 := by decide +kernel
theorem dksX1_symbolHere_1 : cX1_symbolHere.data.toList.drop 23 = dktX1_symbolHere_1 := dk_seg dksX1_symbolHere_0 23 rfl rfl
theorem dksX1_symbolHere_2 : cX1_symbolHere.data.toList.drop 46 = dktX1_symbolHere_2 := dk_seg dksX1_symbolHere_1 23 rfl rfl
theorem dksX1_symbolHere_3 : cX1_symbolHere.data.toList.drop 68 = dktX1_symbolHere_3 := dk_seg dksX1_symbolHere_2 22 rfl rfl
theorem dksX1_symbolHere_4 : cX1_symbolHere.data.toList.drop 90 = dktX1_symbolHere_4 := dk_seg dksX1_symbolHere_3 22 rfl rfl
theorem dksX1_symbolHere_5 : cX1_symbolHere.data.toList.drop 114 = dktX1_symbolHere_5 := dk_seg dksX1_symbolHere_4 24 rfl rfl
theorem dksX1_symbolHere_6 : cX1_symbolHere.data.toList.drop 136 = dktX1_symbolHere_6 := dk_seg dksX1_symbolHere_5 22 rfl rfl
theorem dksX1_symbolHere_7 : cX1_symbolHere.data.toList.drop 160 = dktX1_symbolHere_7 := dk_seg dksX1_symbolHere_6 24 rfl rfl
theorem dksX1_symbolHere_8 : cX1_symbolHere.data.toList.drop 182 = dktX1_symbolHere_8 := dk_seg dksX1_symbolHere_7 22 rfl rfl
theorem dksX1_symbolHere_9 : cX1_symbolHere.data.toList.drop 206 = dktX1_symbolHere_9 := dk_seg dksX1_symbolHere_8 24 rfl rfl
theorem dksX1_symbolHere_10 : cX1_symbolHere.data.toList.drop 230 = dktX1_symbolHere_10 := dk_seg dksX1_symbolHere_9 24 rfl rfl
theorem dX1_symbolHere_0 : decode cX1_symbolHere 0 = .ok (.iconst 0, 1) := dk_3 (dk_at dksX1_symbolHere_0 0 rfl rfl)
theorem dX1_symbolHere_1 : decode cX1_symbolHere 1 = .ok (.istore_n 1, 1) := dk_60 (dk_at dksX1_symbolHere_0 1 rfl rfl)
theorem dX1_symbolHere_2 : decode cX1_symbolHere 2 = .ok (.iload_n 1, 1) := dk_27 (dk_at dksX1_symbolHere_0 2 rfl rfl)
theorem dX1_symbolHere_3 : decode cX1_symbolHere 3 = .ok (.aload_n 0, 1) := dk_42 (dk_at dksX1_symbolHere_0 3 rfl rfl)
theorem dX1_symbolHere_4 : decode cX1_symbolHere 4 = .ok (.getfield 150, 3) := dk_180 0 150 (dk_at dksX1_symbolHere_0 4 rfl rfl)
theorem dX1_symbolHere_7 : decode cX1_symbolHere 7 = .ok (.getfield 154, 3) := dk_180 0 154 (dk_at dksX1_symbolHere_0 7 rfl rfl)
theorem dX1_symbolHere_10 : decode cX1_symbolHere 10 = .ok (.if_icmp .ge 91, 3) := dk_162 0 91 (dk_at dksX1_symbolHere_0 10 rfl rfl)
theorem dX1_symbolHere_13 : decode cX1_symbolHere 13 = .ok (.aload_n 0, 1) := dk_42 (dk_at dksX1_symbolHere_0 13 rfl rfl)
theorem dX1_symbolHere_14 : decode cX1_symbolHere 14 = .ok (.getfield 150, 3) := dk_180 0 150 (dk_at dksX1_symbolHere_0 14 rfl rfl)
theorem dX1_symbolHere_17 : decode cX1_symbolHere 17 = .ok (.getfield 157, 3) := dk_180 0 157 (dk_at dksX1_symbolHere_0 17 rfl rfl)
theorem dX1_symbolHere_20 : decode cX1_symbolHere 20 = .ok (.iload_n 1, 1) := dk_27 (dk_at dksX1_symbolHere_0 20 rfl rfl)
theorem dX1_symbolHere_21 : decode cX1_symbolHere 21 = .ok (.iaload, 1) := dk_46 (dk_at dksX1_symbolHere_0 21 rfl rfl)
theorem dX1_symbolHere_22 : decode cX1_symbolHere 22 = .ok (.aload_n 0, 1) := dk_42 (dk_at dksX1_symbolHere_0 22 rfl rfl)
theorem dX1_symbolHere_23 : decode cX1_symbolHere 23 = .ok (.getfield 124, 3) := dk_180 0 124 (dk_at dksX1_symbolHere_1 0 rfl rfl)
theorem dX1_symbolHere_26 : decode cX1_symbolHere 26 = .ok (.if_icmp .ne 7, 3) := dk_160 0 7 (dk_at dksX1_symbolHere_1 3 rfl rfl)
theorem dX1_symbolHere_29 : decode cX1_symbolHere 29 = .ok (.iconst 1, 1) := dk_4 (dk_at dksX1_symbolHere_1 6 rfl rfl)
theorem dX1_symbolHere_30 : decode cX1_symbolHere 30 = .ok (.goto 4, 3) := dk_167 0 4 (dk_at dksX1_symbolHere_1 7 rfl rfl)
theorem dX1_symbolHere_33 : decode cX1_symbolHere 33 = .ok (.iconst 0, 1) := dk_3 (dk_at dksX1_symbolHere_1 10 rfl rfl)
theorem dX1_symbolHere_34 : decode cX1_symbolHere 34 = .ok (.istore_n 2, 1) := dk_61 (dk_at dksX1_symbolHere_1 11 rfl rfl)
theorem dX1_symbolHere_35 : decode cX1_symbolHere 35 = .ok (.iconst 0, 1) := dk_3 (dk_at dksX1_symbolHere_1 12 rfl rfl)
theorem dX1_symbolHere_36 : decode cX1_symbolHere 36 = .ok (.istore_n 3, 1) := dk_62 (dk_at dksX1_symbolHere_1 13 rfl rfl)
theorem dX1_symbolHere_37 : decode cX1_symbolHere 37 = .ok (.iload_n 3, 1) := dk_29 (dk_at dksX1_symbolHere_1 14 rfl rfl)
theorem dX1_symbolHere_38 : decode cX1_symbolHere 38 = .ok (.aload_n 0, 1) := dk_42 (dk_at dksX1_symbolHere_1 15 rfl rfl)
theorem dX1_symbolHere_39 : decode cX1_symbolHere 39 = .ok (.getfield 124, 3) := dk_180 0 124 (dk_at dksX1_symbolHere_1 16 rfl rfl)
theorem dX1_symbolHere_42 : decode cX1_symbolHere 42 = .ok (.if_icmp .ge 47, 3) := dk_162 0 47 (dk_at dksX1_symbolHere_1 19 rfl rfl)
theorem dX1_symbolHere_45 : decode cX1_symbolHere 45 = .ok (.iload_n 2, 1) := dk_28 (dk_at dksX1_symbolHere_1 22 rfl rfl)
theorem dX1_symbolHere_46 : decode cX1_symbolHere 46 = .ok (.ifCond .eq 43, 3) := dk_153 0 43 (dk_at dksX1_symbolHere_2 0 rfl rfl)
theorem dX1_symbolHere_49 : decode cX1_symbolHere 49 = .ok (.aload_n 0, 1) := dk_42 (dk_at dksX1_symbolHere_2 3 rfl rfl)
theorem dX1_symbolHere_50 : decode cX1_symbolHere 50 = .ok (.getfield 150, 3) := dk_180 0 150 (dk_at dksX1_symbolHere_2 4 rfl rfl)
theorem dX1_symbolHere_53 : decode cX1_symbolHere 53 = .ok (.getfield 161, 3) := dk_180 0 161 (dk_at dksX1_symbolHere_2 7 rfl rfl)
theorem dX1_symbolHere_56 : decode cX1_symbolHere 56 = .ok (.bipush 24, 2) := dk_16 24 (dk_at dksX1_symbolHere_2 10 rfl rfl)
theorem dX1_symbolHere_58 : decode cX1_symbolHere 58 = .ok (.iload_n 1, 1) := dk_27 (dk_at dksX1_symbolHere_2 12 rfl rfl)
theorem dX1_symbolHere_59 : decode cX1_symbolHere 59 = .ok (.imul, 1) := dk_104 (dk_at dksX1_symbolHere_2 13 rfl rfl)
theorem dX1_symbolHere_60 : decode cX1_symbolHere 60 = .ok (.iload_n 3, 1) := dk_29 (dk_at dksX1_symbolHere_2 14 rfl rfl)
theorem dX1_symbolHere_61 : decode cX1_symbolHere 61 = .ok (.iadd, 1) := dk_96 (dk_at dksX1_symbolHere_2 15 rfl rfl)
theorem dX1_symbolHere_62 : decode cX1_symbolHere 62 = .ok (.baload, 1) := dk_51 (dk_at dksX1_symbolHere_2 16 rfl rfl)
theorem dX1_symbolHere_63 : decode cX1_symbolHere 63 = .ok (.aload_n 0, 1) := dk_42 (dk_at dksX1_symbolHere_2 17 rfl rfl)
theorem dX1_symbolHere_64 : decode cX1_symbolHere 64 = .ok (.getfield 9, 3) := dk_180 0 9 (dk_at dksX1_symbolHere_2 18 rfl rfl)
theorem dX1_symbolHere_67 : decode cX1_symbolHere 67 = .ok (.aload_n 0, 1) := dk_42 (dk_at dksX1_symbolHere_2 21 rfl rfl)
theorem dX1_symbolHere_68 : decode cX1_symbolHere 68 = .ok (.getfield 121, 3) := dk_180 0 121 (dk_at dksX1_symbolHere_3 0 rfl rfl)
theorem dX1_symbolHere_71 : decode cX1_symbolHere 71 = .ok (.iload_n 3, 1) := dk_29 (dk_at dksX1_symbolHere_3 3 rfl rfl)
theorem dX1_symbolHere_72 : decode cX1_symbolHere 72 = .ok (.iadd, 1) := dk_96 (dk_at dksX1_symbolHere_3 4 rfl rfl)
theorem dX1_symbolHere_73 : decode cX1_symbolHere 73 = .ok (.baload, 1) := dk_51 (dk_at dksX1_symbolHere_3 5 rfl rfl)
theorem dX1_symbolHere_74 : decode cX1_symbolHere 74 = .ok (.if_icmp .ne 7, 3) := dk_160 0 7 (dk_at dksX1_symbolHere_3 6 rfl rfl)
theorem dX1_symbolHere_77 : decode cX1_symbolHere 77 = .ok (.iconst 1, 1) := dk_4 (dk_at dksX1_symbolHere_3 9 rfl rfl)
theorem dX1_symbolHere_78 : decode cX1_symbolHere 78 = .ok (.goto 4, 3) := dk_167 0 4 (dk_at dksX1_symbolHere_3 10 rfl rfl)
theorem dX1_symbolHere_81 : decode cX1_symbolHere 81 = .ok (.iconst 0, 1) := dk_3 (dk_at dksX1_symbolHere_3 13 rfl rfl)
theorem dX1_symbolHere_82 : decode cX1_symbolHere 82 = .ok (.istore_n 2, 1) := dk_61 (dk_at dksX1_symbolHere_3 14 rfl rfl)
theorem dX1_symbolHere_83 : decode cX1_symbolHere 83 = .ok (.iinc 3 1, 3) := dk_132 3 1 (dk_at dksX1_symbolHere_3 15 rfl rfl)
theorem dX1_symbolHere_86 : decode cX1_symbolHere 86 = .ok (.goto (-49), 3) := dk_167 255 207 (dk_at dksX1_symbolHere_3 18 rfl rfl)
theorem dX1_symbolHere_89 : decode cX1_symbolHere 89 = .ok (.iload_n 2, 1) := dk_28 (dk_at dksX1_symbolHere_3 21 rfl rfl)
theorem dX1_symbolHere_90 : decode cX1_symbolHere 90 = .ok (.ifCond .eq 5, 3) := dk_153 0 5 (dk_at dksX1_symbolHere_4 0 rfl rfl)
theorem dX1_symbolHere_93 : decode cX1_symbolHere 93 = .ok (.iload_n 1, 1) := dk_27 (dk_at dksX1_symbolHere_4 3 rfl rfl)
theorem dX1_symbolHere_94 : decode cX1_symbolHere 94 = .ok (.ireturn, 1) := dk_172 (dk_at dksX1_symbolHere_4 4 rfl rfl)
theorem dX1_symbolHere_95 : decode cX1_symbolHere 95 = .ok (.iinc 1 1, 3) := dk_132 1 1 (dk_at dksX1_symbolHere_4 5 rfl rfl)
theorem dX1_symbolHere_98 : decode cX1_symbolHere 98 = .ok (.goto (-96), 3) := dk_167 255 160 (dk_at dksX1_symbolHere_4 8 rfl rfl)
theorem dX1_symbolHere_101 : decode cX1_symbolHere 101 = .ok (.aload_n 0, 1) := dk_42 (dk_at dksX1_symbolHere_4 11 rfl rfl)
theorem dX1_symbolHere_102 : decode cX1_symbolHere 102 = .ok (.aload_n 0, 1) := dk_42 (dk_at dksX1_symbolHere_4 12 rfl rfl)
theorem dX1_symbolHere_103 : decode cX1_symbolHere 103 = .ok (.getfield 150, 3) := dk_180 0 150 (dk_at dksX1_symbolHere_4 13 rfl rfl)
theorem dX1_symbolHere_106 : decode cX1_symbolHere 106 = .ok (.getfield 154, 3) := dk_180 0 154 (dk_at dksX1_symbolHere_4 16 rfl rfl)
theorem dX1_symbolHere_109 : decode cX1_symbolHere 109 = .ok (.bipush 64, 2) := dk_16 64 (dk_at dksX1_symbolHere_4 19 rfl rfl)
theorem dX1_symbolHere_111 : decode cX1_symbolHere 111 = .ok (.if_icmp .ge 7, 3) := dk_162 0 7 (dk_at dksX1_symbolHere_4 21 rfl rfl)
theorem dX1_symbolHere_114 : decode cX1_symbolHere 114 = .ok (.iconst 1, 1) := dk_4 (dk_at dksX1_symbolHere_5 0 rfl rfl)
theorem dX1_symbolHere_115 : decode cX1_symbolHere 115 = .ok (.goto 4, 3) := dk_167 0 4 (dk_at dksX1_symbolHere_5 1 rfl rfl)
theorem dX1_symbolHere_118 : decode cX1_symbolHere 118 = .ok (.iconst 0, 1) := dk_3 (dk_at dksX1_symbolHere_5 4 rfl rfl)
theorem dX1_symbolHere_119 : decode cX1_symbolHere 119 = .ok (.bipush 7, 2) := dk_16 7 (dk_at dksX1_symbolHere_5 5 rfl rfl)
theorem dX1_symbolHere_121 : decode cX1_symbolHere 121 = .ok (.invokevirtual 69, 3) := dk_182 0 69 (dk_at dksX1_symbolHere_5 7 rfl rfl)
theorem dX1_symbolHere_124 : decode cX1_symbolHere 124 = .ok (.aload_n 0, 1) := dk_42 (dk_at dksX1_symbolHere_5 10 rfl rfl)
theorem dX1_symbolHere_125 : decode cX1_symbolHere 125 = .ok (.getfield 150, 3) := dk_180 0 150 (dk_at dksX1_symbolHere_5 11 rfl rfl)
theorem dX1_symbolHere_128 : decode cX1_symbolHere 128 = .ok (.getfield 154, 3) := dk_180 0 154 (dk_at dksX1_symbolHere_5 14 rfl rfl)
theorem dX1_symbolHere_131 : decode cX1_symbolHere 131 = .ok (.istore_n 1, 1) := dk_60 (dk_at dksX1_symbolHere_5 17 rfl rfl)
theorem dX1_symbolHere_132 : decode cX1_symbolHere 132 = .ok (.iconst 0, 1) := dk_3 (dk_at dksX1_symbolHere_5 18 rfl rfl)
theorem dX1_symbolHere_133 : decode cX1_symbolHere 133 = .ok (.istore_n 2, 1) := dk_61 (dk_at dksX1_symbolHere_5 19 rfl rfl)
theorem dX1_symbolHere_134 : decode cX1_symbolHere 134 = .ok (.iload_n 2, 1) := dk_28 (dk_at dksX1_symbolHere_5 20 rfl rfl)
theorem dX1_symbolHere_135 : decode cX1_symbolHere 135 = .ok (.aload_n 0, 1) := dk_42 (dk_at dksX1_symbolHere_5 21 rfl rfl)
theorem dX1_symbolHere_136 : decode cX1_symbolHere 136 = .ok (.getfield 124, 3) := dk_180 0 124 (dk_at dksX1_symbolHere_6 0 rfl rfl)
theorem dX1_symbolHere_139 : decode cX1_symbolHere 139 = .ok (.if_icmp .ge 34, 3) := dk_162 0 34 (dk_at dksX1_symbolHere_6 3 rfl rfl)
theorem dX1_symbolHere_142 : decode cX1_symbolHere 142 = .ok (.aload_n 0, 1) := dk_42 (dk_at dksX1_symbolHere_6 6 rfl rfl)
theorem dX1_symbolHere_143 : decode cX1_symbolHere 143 = .ok (.getfield 150, 3) := dk_180 0 150 (dk_at dksX1_symbolHere_6 7 rfl rfl)
theorem dX1_symbolHere_146 : decode cX1_symbolHere 146 = .ok (.getfield 161, 3) := dk_180 0 161 (dk_at dksX1_symbolHere_6 10 rfl rfl)
theorem dX1_symbolHere_149 : decode cX1_symbolHere 149 = .ok (.bipush 24, 2) := dk_16 24 (dk_at dksX1_symbolHere_6 13 rfl rfl)
theorem dX1_symbolHere_151 : decode cX1_symbolHere 151 = .ok (.iload_n 1, 1) := dk_27 (dk_at dksX1_symbolHere_6 15 rfl rfl)
theorem dX1_symbolHere_152 : decode cX1_symbolHere 152 = .ok (.imul, 1) := dk_104 (dk_at dksX1_symbolHere_6 16 rfl rfl)
theorem dX1_symbolHere_153 : decode cX1_symbolHere 153 = .ok (.iload_n 2, 1) := dk_28 (dk_at dksX1_symbolHere_6 17 rfl rfl)
theorem dX1_symbolHere_154 : decode cX1_symbolHere 154 = .ok (.iadd, 1) := dk_96 (dk_at dksX1_symbolHere_6 18 rfl rfl)
theorem dX1_symbolHere_155 : decode cX1_symbolHere 155 = .ok (.aload_n 0, 1) := dk_42 (dk_at dksX1_symbolHere_6 19 rfl rfl)
theorem dX1_symbolHere_156 : decode cX1_symbolHere 156 = .ok (.getfield 9, 3) := dk_180 0 9 (dk_at dksX1_symbolHere_6 20 rfl rfl)
theorem dX1_symbolHere_159 : decode cX1_symbolHere 159 = .ok (.aload_n 0, 1) := dk_42 (dk_at dksX1_symbolHere_6 23 rfl rfl)
theorem dX1_symbolHere_160 : decode cX1_symbolHere 160 = .ok (.getfield 121, 3) := dk_180 0 121 (dk_at dksX1_symbolHere_7 0 rfl rfl)
theorem dX1_symbolHere_163 : decode cX1_symbolHere 163 = .ok (.iload_n 2, 1) := dk_28 (dk_at dksX1_symbolHere_7 3 rfl rfl)
theorem dX1_symbolHere_164 : decode cX1_symbolHere 164 = .ok (.iadd, 1) := dk_96 (dk_at dksX1_symbolHere_7 4 rfl rfl)
theorem dX1_symbolHere_165 : decode cX1_symbolHere 165 = .ok (.baload, 1) := dk_51 (dk_at dksX1_symbolHere_7 5 rfl rfl)
theorem dX1_symbolHere_166 : decode cX1_symbolHere 166 = .ok (.bastore, 1) := dk_84 (dk_at dksX1_symbolHere_7 6 rfl rfl)
theorem dX1_symbolHere_167 : decode cX1_symbolHere 167 = .ok (.iinc 2 1, 3) := dk_132 2 1 (dk_at dksX1_symbolHere_7 7 rfl rfl)
theorem dX1_symbolHere_170 : decode cX1_symbolHere 170 = .ok (.goto (-36), 3) := dk_167 255 220 (dk_at dksX1_symbolHere_7 10 rfl rfl)
theorem dX1_symbolHere_173 : decode cX1_symbolHere 173 = .ok (.aload_n 0, 1) := dk_42 (dk_at dksX1_symbolHere_7 13 rfl rfl)
theorem dX1_symbolHere_174 : decode cX1_symbolHere 174 = .ok (.getfield 150, 3) := dk_180 0 150 (dk_at dksX1_symbolHere_7 14 rfl rfl)
theorem dX1_symbolHere_177 : decode cX1_symbolHere 177 = .ok (.getfield 157, 3) := dk_180 0 157 (dk_at dksX1_symbolHere_7 17 rfl rfl)
theorem dX1_symbolHere_180 : decode cX1_symbolHere 180 = .ok (.iload_n 1, 1) := dk_27 (dk_at dksX1_symbolHere_7 20 rfl rfl)
theorem dX1_symbolHere_181 : decode cX1_symbolHere 181 = .ok (.aload_n 0, 1) := dk_42 (dk_at dksX1_symbolHere_7 21 rfl rfl)
theorem dX1_symbolHere_182 : decode cX1_symbolHere 182 = .ok (.getfield 124, 3) := dk_180 0 124 (dk_at dksX1_symbolHere_8 0 rfl rfl)
theorem dX1_symbolHere_185 : decode cX1_symbolHere 185 = .ok (.iastore, 1) := dk_79 (dk_at dksX1_symbolHere_8 3 rfl rfl)
theorem dX1_symbolHere_186 : decode cX1_symbolHere 186 = .ok (.aload_n 0, 1) := dk_42 (dk_at dksX1_symbolHere_8 4 rfl rfl)
theorem dX1_symbolHere_187 : decode cX1_symbolHere 187 = .ok (.getfield 150, 3) := dk_180 0 150 (dk_at dksX1_symbolHere_8 5 rfl rfl)
theorem dX1_symbolHere_190 : decode cX1_symbolHere 190 = .ok (.getfield 164, 3) := dk_180 0 164 (dk_at dksX1_symbolHere_8 8 rfl rfl)
theorem dX1_symbolHere_193 : decode cX1_symbolHere 193 = .ok (.iload_n 1, 1) := dk_27 (dk_at dksX1_symbolHere_8 11 rfl rfl)
theorem dX1_symbolHere_194 : decode cX1_symbolHere 194 = .ok (.iconst (-1), 1) := dk_2 (dk_at dksX1_symbolHere_8 12 rfl rfl)
theorem dX1_symbolHere_195 : decode cX1_symbolHere 195 = .ok (.iastore, 1) := dk_79 (dk_at dksX1_symbolHere_8 13 rfl rfl)
theorem dX1_symbolHere_196 : decode cX1_symbolHere 196 = .ok (.aload_n 0, 1) := dk_42 (dk_at dksX1_symbolHere_8 14 rfl rfl)
theorem dX1_symbolHere_197 : decode cX1_symbolHere 197 = .ok (.getfield 150, 3) := dk_180 0 150 (dk_at dksX1_symbolHere_8 15 rfl rfl)
theorem dX1_symbolHere_200 : decode cX1_symbolHere 200 = .ok (.getfield 167, 3) := dk_180 0 167 (dk_at dksX1_symbolHere_8 18 rfl rfl)
theorem dX1_symbolHere_203 : decode cX1_symbolHere 203 = .ok (.iload_n 1, 1) := dk_27 (dk_at dksX1_symbolHere_8 21 rfl rfl)
theorem dX1_symbolHere_204 : decode cX1_symbolHere 204 = .ok (.iconst 0, 1) := dk_3 (dk_at dksX1_symbolHere_8 22 rfl rfl)
theorem dX1_symbolHere_205 : decode cX1_symbolHere 205 = .ok (.iastore, 1) := dk_79 (dk_at dksX1_symbolHere_8 23 rfl rfl)
theorem dX1_symbolHere_206 : decode cX1_symbolHere 206 = .ok (.aload_n 0, 1) := dk_42 (dk_at dksX1_symbolHere_9 0 rfl rfl)
theorem dX1_symbolHere_207 : decode cX1_symbolHere 207 = .ok (.getfield 150, 3) := dk_180 0 150 (dk_at dksX1_symbolHere_9 1 rfl rfl)
theorem dX1_symbolHere_210 : decode cX1_symbolHere 210 = .ok (.getfield 170, 3) := dk_180 0 170 (dk_at dksX1_symbolHere_9 4 rfl rfl)
theorem dX1_symbolHere_213 : decode cX1_symbolHere 213 = .ok (.iload_n 1, 1) := dk_27 (dk_at dksX1_symbolHere_9 7 rfl rfl)
theorem dX1_symbolHere_214 : decode cX1_symbolHere 214 = .ok (.iconst 0, 1) := dk_3 (dk_at dksX1_symbolHere_9 8 rfl rfl)
theorem dX1_symbolHere_215 : decode cX1_symbolHere 215 = .ok (.bastore, 1) := dk_84 (dk_at dksX1_symbolHere_9 9 rfl rfl)
theorem dX1_symbolHere_216 : decode cX1_symbolHere 216 = .ok (.aload_n 0, 1) := dk_42 (dk_at dksX1_symbolHere_9 10 rfl rfl)
theorem dX1_symbolHere_217 : decode cX1_symbolHere 217 = .ok (.getfield 150, 3) := dk_180 0 150 (dk_at dksX1_symbolHere_9 11 rfl rfl)
theorem dX1_symbolHere_220 : decode cX1_symbolHere 220 = .ok (.dup, 1) := dk_89 (dk_at dksX1_symbolHere_9 14 rfl rfl)
theorem dX1_symbolHere_221 : decode cX1_symbolHere 221 = .ok (.getfield 154, 3) := dk_180 0 154 (dk_at dksX1_symbolHere_9 15 rfl rfl)
theorem dX1_symbolHere_224 : decode cX1_symbolHere 224 = .ok (.iconst 1, 1) := dk_4 (dk_at dksX1_symbolHere_9 18 rfl rfl)
theorem dX1_symbolHere_225 : decode cX1_symbolHere 225 = .ok (.iadd, 1) := dk_96 (dk_at dksX1_symbolHere_9 19 rfl rfl)
theorem dX1_symbolHere_226 : decode cX1_symbolHere 226 = .ok (.putfield 154, 3) := dk_181 0 154 (dk_at dksX1_symbolHere_9 20 rfl rfl)
theorem dX1_symbolHere_229 : decode cX1_symbolHere 229 = .ok (.iload_n 1, 1) := dk_27 (dk_at dksX1_symbolHere_9 23 rfl rfl)
theorem dX1_symbolHere_230 : decode cX1_symbolHere 230 = .ok (.ireturn, 1) := dk_172 (dk_at dksX1_symbolHere_10 0 rfl rfl)
abbrev cX1_bounded : ByteArray := prog_1_method_31_code
def yX1_bounded : MethodName := ⟨RX1, "bounded", "(JJ)J"⟩
def dkwX1_bounded_1 : List UInt8 := [155, 0, 14, 22, 5, 33, 148, 157, 0, 7, 4, 167, 0, 4, 3, 7, 182, 0, 69, 22, 5, 173]
abbrev dktX1_bounded_1 : List UInt8 := dkwX1_bounded_1 ++ []
def dkwX1_bounded_0 : List UInt8 := [42, 42, 182, 0, 144, 42, 182, 0, 65, 182, 0, 69, 42, 182, 0, 147, 55, 5, 42, 22, 5, 31, 148]
abbrev dktX1_bounded_0 : List UInt8 := dkwX1_bounded_0 ++ dktX1_bounded_1
theorem dksX1_bounded_0 : cX1_bounded.data.toList.drop 0 = dktX1_bounded_0 := by decide +kernel
theorem dksX1_bounded_1 : cX1_bounded.data.toList.drop 23 = dktX1_bounded_1 := dk_seg dksX1_bounded_0 23 rfl rfl
theorem dX1_bounded_0 : decode cX1_bounded 0 = .ok (.aload_n 0, 1) := dk_42 (dk_at dksX1_bounded_0 0 rfl rfl)
theorem dX1_bounded_1 : decode cX1_bounded 1 = .ok (.aload_n 0, 1) := dk_42 (dk_at dksX1_bounded_0 1 rfl rfl)
theorem dX1_bounded_2 : decode cX1_bounded 2 = .ok (.invokevirtual 144, 3) := dk_182 0 144 (dk_at dksX1_bounded_0 2 rfl rfl)
theorem dX1_bounded_5 : decode cX1_bounded 5 = .ok (.aload_n 0, 1) := dk_42 (dk_at dksX1_bounded_0 5 rfl rfl)
theorem dX1_bounded_6 : decode cX1_bounded 6 = .ok (.invokevirtual 65, 3) := dk_182 0 65 (dk_at dksX1_bounded_0 6 rfl rfl)
theorem dX1_bounded_9 : decode cX1_bounded 9 = .ok (.invokevirtual 69, 3) := dk_182 0 69 (dk_at dksX1_bounded_0 9 rfl rfl)
theorem dX1_bounded_12 : decode cX1_bounded 12 = .ok (.aload_n 0, 1) := dk_42 (dk_at dksX1_bounded_0 12 rfl rfl)
theorem dX1_bounded_13 : decode cX1_bounded 13 = .ok (.invokevirtual 147, 3) := dk_182 0 147 (dk_at dksX1_bounded_0 13 rfl rfl)
theorem dX1_bounded_16 : decode cX1_bounded 16 = .ok (.lstore 5, 2) := dk_55 5 (dk_at dksX1_bounded_0 16 rfl rfl)
theorem dX1_bounded_18 : decode cX1_bounded 18 = .ok (.aload_n 0, 1) := dk_42 (dk_at dksX1_bounded_0 18 rfl rfl)
theorem dX1_bounded_19 : decode cX1_bounded 19 = .ok (.lload 5, 2) := dk_22 5 (dk_at dksX1_bounded_0 19 rfl rfl)
theorem dX1_bounded_21 : decode cX1_bounded 21 = .ok (.lload_n 1, 1) := dk_31 (dk_at dksX1_bounded_0 21 rfl rfl)
theorem dX1_bounded_22 : decode cX1_bounded 22 = .ok (.lcmp, 1) := dk_148 (dk_at dksX1_bounded_0 22 rfl rfl)
theorem dX1_bounded_23 : decode cX1_bounded 23 = .ok (.ifCond .lt 14, 3) := dk_155 0 14 (dk_at dksX1_bounded_1 0 rfl rfl)
theorem dX1_bounded_26 : decode cX1_bounded 26 = .ok (.lload 5, 2) := dk_22 5 (dk_at dksX1_bounded_1 3 rfl rfl)
theorem dX1_bounded_28 : decode cX1_bounded 28 = .ok (.lload_n 3, 1) := dk_33 (dk_at dksX1_bounded_1 5 rfl rfl)
theorem dX1_bounded_29 : decode cX1_bounded 29 = .ok (.lcmp, 1) := dk_148 (dk_at dksX1_bounded_1 6 rfl rfl)
theorem dX1_bounded_30 : decode cX1_bounded 30 = .ok (.ifCond .gt 7, 3) := dk_157 0 7 (dk_at dksX1_bounded_1 7 rfl rfl)
theorem dX1_bounded_33 : decode cX1_bounded 33 = .ok (.iconst 1, 1) := dk_4 (dk_at dksX1_bounded_1 10 rfl rfl)
theorem dX1_bounded_34 : decode cX1_bounded 34 = .ok (.goto 4, 3) := dk_167 0 4 (dk_at dksX1_bounded_1 11 rfl rfl)
theorem dX1_bounded_37 : decode cX1_bounded 37 = .ok (.iconst 0, 1) := dk_3 (dk_at dksX1_bounded_1 14 rfl rfl)
theorem dX1_bounded_38 : decode cX1_bounded 38 = .ok (.iconst 4, 1) := dk_7 (dk_at dksX1_bounded_1 15 rfl rfl)
theorem dX1_bounded_39 : decode cX1_bounded 39 = .ok (.invokevirtual 69, 3) := dk_182 0 69 (dk_at dksX1_bounded_1 16 rfl rfl)
theorem dX1_bounded_42 : decode cX1_bounded 42 = .ok (.lload 5, 2) := dk_22 5 (dk_at dksX1_bounded_1 19 rfl rfl)
theorem dX1_bounded_44 : decode cX1_bounded 44 = .ok (.lreturn, 1) := dk_173 (dk_at dksX1_bounded_1 21 rfl rfl)
abbrev cX1_isNumber : ByteArray := prog_1_method_27_code
def yX1_isNumber : MethodName := ⟨RX1, "isNumber", "()Z"⟩
def dkwX1_isNumber_1 : List UInt8 := [182, 0, 51, 16, 39, 160, 0, 7, 4, 167, 0, 4, 3, 172]
abbrev dktX1_isNumber_1 : List UInt8 := dkwX1_isNumber_1 ++ []
def dkwX1_isNumber_0 : List UInt8 := [42, 3, 182, 0, 51, 184, 0, 55, 154, 0, 23, 42, 3, 182, 0, 51, 16, 45, 159, 0, 13, 42, 3]
abbrev dktX1_isNumber_0 : List UInt8 := dkwX1_isNumber_0 ++ dktX1_isNumber_1
theorem dksX1_isNumber_0 : cX1_isNumber.data.toList.drop 0 = dktX1_isNumber_0 := by decide +kernel
theorem dksX1_isNumber_1 : cX1_isNumber.data.toList.drop 23 = dktX1_isNumber_1 := dk_seg dksX1_isNumber_0 23 rfl rfl
theorem dX1_isNumber_0 : decode cX1_isNumber 0 = .ok (.aload_n 0, 1) := dk_42 (dk_at dksX1_isNumber_0 0 rfl rfl)
theorem dX1_isNumber_1 : decode cX1_isNumber 1 = .ok (.iconst 0, 1) := dk_3 (dk_at dksX1_isNumber_0 1 rfl rfl)
theorem dX1_isNumber_2 : decode cX1_isNumber 2 = .ok (.invokevirtual 51, 3) := dk_182 0 51 (dk_at dksX1_isNumber_0 2 rfl rfl)
theorem dX1_isNumber_5 : decode cX1_isNumber 5 = .ok (.invokestatic 55, 3) := dk_184 0 55 (dk_at dksX1_isNumber_0 5 rfl rfl)
theorem dX1_isNumber_8 : decode cX1_isNumber 8 = .ok (.ifCond .ne 23, 3) := dk_154 0 23 (dk_at dksX1_isNumber_0 8 rfl rfl)
theorem dX1_isNumber_11 : decode cX1_isNumber 11 = .ok (.aload_n 0, 1) := dk_42 (dk_at dksX1_isNumber_0 11 rfl rfl)
theorem dX1_isNumber_12 : decode cX1_isNumber 12 = .ok (.iconst 0, 1) := dk_3 (dk_at dksX1_isNumber_0 12 rfl rfl)
theorem dX1_isNumber_13 : decode cX1_isNumber 13 = .ok (.invokevirtual 51, 3) := dk_182 0 51 (dk_at dksX1_isNumber_0 13 rfl rfl)
theorem dX1_isNumber_16 : decode cX1_isNumber 16 = .ok (.bipush 45, 2) := dk_16 45 (dk_at dksX1_isNumber_0 16 rfl rfl)
theorem dX1_isNumber_18 : decode cX1_isNumber 18 = .ok (.if_icmp .eq 13, 3) := dk_159 0 13 (dk_at dksX1_isNumber_0 18 rfl rfl)
theorem dX1_isNumber_21 : decode cX1_isNumber 21 = .ok (.aload_n 0, 1) := dk_42 (dk_at dksX1_isNumber_0 21 rfl rfl)
theorem dX1_isNumber_22 : decode cX1_isNumber 22 = .ok (.iconst 0, 1) := dk_3 (dk_at dksX1_isNumber_0 22 rfl rfl)
theorem dX1_isNumber_23 : decode cX1_isNumber 23 = .ok (.invokevirtual 51, 3) := dk_182 0 51 (dk_at dksX1_isNumber_1 0 rfl rfl)
theorem dX1_isNumber_26 : decode cX1_isNumber 26 = .ok (.bipush 39, 2) := dk_16 39 (dk_at dksX1_isNumber_1 3 rfl rfl)
theorem dX1_isNumber_28 : decode cX1_isNumber 28 = .ok (.if_icmp .ne 7, 3) := dk_160 0 7 (dk_at dksX1_isNumber_1 5 rfl rfl)
theorem dX1_isNumber_31 : decode cX1_isNumber 31 = .ok (.iconst 1, 1) := dk_4 (dk_at dksX1_isNumber_1 8 rfl rfl)
theorem dX1_isNumber_32 : decode cX1_isNumber 32 = .ok (.goto 4, 3) := dk_167 0 4 (dk_at dksX1_isNumber_1 9 rfl rfl)
theorem dX1_isNumber_35 : decode cX1_isNumber 35 = .ok (.iconst 0, 1) := dk_3 (dk_at dksX1_isNumber_1 12 rfl rfl)
theorem dX1_isNumber_36 : decode cX1_isNumber 36 = .ok (.ireturn, 1) := dk_172 (dk_at dksX1_isNumber_1 13 rfl rfl)
abbrev cX1_whole : ByteArray := prog_1_method_30_code
def yX1_whole : MethodName := ⟨RX1, "whole", "()J"⟩
def dkwX1_whole_1 : List UInt8 := [157, 0, 7, 4, 167, 0, 4, 3, 4, 182, 0, 69, 27, 153, 0, 8, 32, 117, 167, 0, 4, 32, 173]
abbrev dktX1_whole_1 : List UInt8 := dkwX1_whole_1 ++ []
def dkwX1_whole_0 : List UInt8 := [42, 16, 45, 182, 0, 62, 60, 42, 182, 0, 139, 65, 42, 27, 153, 0, 11, 32, 20, 0, 142, 148]
abbrev dktX1_whole_0 : List UInt8 := dkwX1_whole_0 ++ dktX1_whole_1
theorem dksX1_whole_0 : cX1_whole.data.toList.drop 0 = dktX1_whole_0 := by decide +kernel
theorem dksX1_whole_1 : cX1_whole.data.toList.drop 22 = dktX1_whole_1 := dk_seg dksX1_whole_0 22 rfl rfl
theorem dX1_whole_0 : decode cX1_whole 0 = .ok (.aload_n 0, 1) := dk_42 (dk_at dksX1_whole_0 0 rfl rfl)
theorem dX1_whole_1 : decode cX1_whole 1 = .ok (.bipush 45, 2) := dk_16 45 (dk_at dksX1_whole_0 1 rfl rfl)
theorem dX1_whole_3 : decode cX1_whole 3 = .ok (.invokevirtual 62, 3) := dk_182 0 62 (dk_at dksX1_whole_0 3 rfl rfl)
theorem dX1_whole_6 : decode cX1_whole 6 = .ok (.istore_n 1, 1) := dk_60 (dk_at dksX1_whole_0 6 rfl rfl)
theorem dX1_whole_7 : decode cX1_whole 7 = .ok (.aload_n 0, 1) := dk_42 (dk_at dksX1_whole_0 7 rfl rfl)
theorem dX1_whole_8 : decode cX1_whole 8 = .ok (.invokevirtual 139, 3) := dk_182 0 139 (dk_at dksX1_whole_0 8 rfl rfl)
theorem dX1_whole_11 : decode cX1_whole 11 = .ok (.lstore_n 2, 1) := dk_65 (dk_at dksX1_whole_0 11 rfl rfl)
theorem dX1_whole_12 : decode cX1_whole 12 = .ok (.aload_n 0, 1) := dk_42 (dk_at dksX1_whole_0 12 rfl rfl)
theorem dX1_whole_13 : decode cX1_whole 13 = .ok (.iload_n 1, 1) := dk_27 (dk_at dksX1_whole_0 13 rfl rfl)
theorem dX1_whole_14 : decode cX1_whole 14 = .ok (.ifCond .eq 11, 3) := dk_153 0 11 (dk_at dksX1_whole_0 14 rfl rfl)
theorem dX1_whole_17 : decode cX1_whole 17 = .ok (.lload_n 2, 1) := dk_32 (dk_at dksX1_whole_0 17 rfl rfl)
theorem dX1_whole_18 : decode cX1_whole 18 = .ok (.ldc2_w 142, 3) := dk_20 0 142 (dk_at dksX1_whole_0 18 rfl rfl)
theorem dX1_whole_21 : decode cX1_whole 21 = .ok (.lcmp, 1) := dk_148 (dk_at dksX1_whole_0 21 rfl rfl)
theorem dX1_whole_22 : decode cX1_whole 22 = .ok (.ifCond .gt 7, 3) := dk_157 0 7 (dk_at dksX1_whole_1 0 rfl rfl)
theorem dX1_whole_25 : decode cX1_whole 25 = .ok (.iconst 1, 1) := dk_4 (dk_at dksX1_whole_1 3 rfl rfl)
theorem dX1_whole_26 : decode cX1_whole 26 = .ok (.goto 4, 3) := dk_167 0 4 (dk_at dksX1_whole_1 4 rfl rfl)
theorem dX1_whole_29 : decode cX1_whole 29 = .ok (.iconst 0, 1) := dk_3 (dk_at dksX1_whole_1 7 rfl rfl)
theorem dX1_whole_30 : decode cX1_whole 30 = .ok (.iconst 1, 1) := dk_4 (dk_at dksX1_whole_1 8 rfl rfl)
theorem dX1_whole_31 : decode cX1_whole 31 = .ok (.invokevirtual 69, 3) := dk_182 0 69 (dk_at dksX1_whole_1 9 rfl rfl)
theorem dX1_whole_34 : decode cX1_whole 34 = .ok (.iload_n 1, 1) := dk_27 (dk_at dksX1_whole_1 12 rfl rfl)
theorem dX1_whole_35 : decode cX1_whole 35 = .ok (.ifCond .eq 8, 3) := dk_153 0 8 (dk_at dksX1_whole_1 13 rfl rfl)
theorem dX1_whole_38 : decode cX1_whole 38 = .ok (.lload_n 2, 1) := dk_32 (dk_at dksX1_whole_1 16 rfl rfl)
theorem dX1_whole_39 : decode cX1_whole 39 = .ok (.lneg, 1) := dk_117 (dk_at dksX1_whole_1 17 rfl rfl)
theorem dX1_whole_40 : decode cX1_whole 40 = .ok (.goto 4, 3) := dk_167 0 4 (dk_at dksX1_whole_1 18 rfl rfl)
theorem dX1_whole_43 : decode cX1_whole 43 = .ok (.lload_n 2, 1) := dk_32 (dk_at dksX1_whole_1 21 rfl rfl)
theorem dX1_whole_44 : decode cX1_whole 44 = .ok (.lreturn, 1) := dk_173 (dk_at dksX1_whole_1 22 rfl rfl)
abbrev cX1_plain : ByteArray := prog_1_method_29_code
def yX1_plain : MethodName := ⟨RX1, "plain", "()J"⟩
def dkwX1_plain_3 : List UInt8 := [4, 182, 0, 69, 42, 89, 180, 0, 48, 42, 180, 0, 103, 96, 181, 0, 48, 42, 182, 0, 59, 31, 173]
abbrev dktX1_plain_3 : List UInt8 := dkwX1_plain_3 ++ []
def dkwX1_plain_2 : List UInt8 := [182, 0, 87, 133, 167, 0, 7, 42, 182, 0, 83, 64, 42, 31, 9, 148, 155, 0, 7, 4, 167, 0, 4, 3]
abbrev dktX1_plain_2 : List UInt8 := dkwX1_plain_2 ++ dktX1_plain_3
def dkwX1_plain_1 : List UInt8 := [167, 0, 4, 3, 42, 182, 0, 65, 182, 0, 69, 42, 3, 182, 0, 51, 16, 39, 160, 0, 11, 42]
abbrev dktX1_plain_1 : List UInt8 := dkwX1_plain_1 ++ dktX1_plain_2
def dkwX1_plain_0 : List UInt8 := [42, 42, 3, 182, 0, 51, 184, 0, 55, 154, 0, 13, 42, 3, 182, 0, 51, 16, 39, 160, 0, 7, 4]
abbrev dktX1_plain_0 : List UInt8 := dkwX1_plain_0 ++ dktX1_plain_1
theorem dksX1_plain_0 : cX1_plain.data.toList.drop 0 = dktX1_plain_0 := by decide +kernel
theorem dksX1_plain_1 : cX1_plain.data.toList.drop 23 = dktX1_plain_1 := dk_seg dksX1_plain_0 23 rfl rfl
theorem dksX1_plain_2 : cX1_plain.data.toList.drop 45 = dktX1_plain_2 := dk_seg dksX1_plain_1 22 rfl rfl
theorem dksX1_plain_3 : cX1_plain.data.toList.drop 69 = dktX1_plain_3 := dk_seg dksX1_plain_2 24 rfl rfl
theorem dX1_plain_0 : decode cX1_plain 0 = .ok (.aload_n 0, 1) := dk_42 (dk_at dksX1_plain_0 0 rfl rfl)
theorem dX1_plain_1 : decode cX1_plain 1 = .ok (.aload_n 0, 1) := dk_42 (dk_at dksX1_plain_0 1 rfl rfl)
theorem dX1_plain_2 : decode cX1_plain 2 = .ok (.iconst 0, 1) := dk_3 (dk_at dksX1_plain_0 2 rfl rfl)
theorem dX1_plain_3 : decode cX1_plain 3 = .ok (.invokevirtual 51, 3) := dk_182 0 51 (dk_at dksX1_plain_0 3 rfl rfl)
theorem dX1_plain_6 : decode cX1_plain 6 = .ok (.invokestatic 55, 3) := dk_184 0 55 (dk_at dksX1_plain_0 6 rfl rfl)
theorem dX1_plain_9 : decode cX1_plain 9 = .ok (.ifCond .ne 13, 3) := dk_154 0 13 (dk_at dksX1_plain_0 9 rfl rfl)
theorem dX1_plain_12 : decode cX1_plain 12 = .ok (.aload_n 0, 1) := dk_42 (dk_at dksX1_plain_0 12 rfl rfl)
theorem dX1_plain_13 : decode cX1_plain 13 = .ok (.iconst 0, 1) := dk_3 (dk_at dksX1_plain_0 13 rfl rfl)
theorem dX1_plain_14 : decode cX1_plain 14 = .ok (.invokevirtual 51, 3) := dk_182 0 51 (dk_at dksX1_plain_0 14 rfl rfl)
theorem dX1_plain_17 : decode cX1_plain 17 = .ok (.bipush 39, 2) := dk_16 39 (dk_at dksX1_plain_0 17 rfl rfl)
theorem dX1_plain_19 : decode cX1_plain 19 = .ok (.if_icmp .ne 7, 3) := dk_160 0 7 (dk_at dksX1_plain_0 19 rfl rfl)
theorem dX1_plain_22 : decode cX1_plain 22 = .ok (.iconst 1, 1) := dk_4 (dk_at dksX1_plain_0 22 rfl rfl)
theorem dX1_plain_23 : decode cX1_plain 23 = .ok (.goto 4, 3) := dk_167 0 4 (dk_at dksX1_plain_1 0 rfl rfl)
theorem dX1_plain_26 : decode cX1_plain 26 = .ok (.iconst 0, 1) := dk_3 (dk_at dksX1_plain_1 3 rfl rfl)
theorem dX1_plain_27 : decode cX1_plain 27 = .ok (.aload_n 0, 1) := dk_42 (dk_at dksX1_plain_1 4 rfl rfl)
theorem dX1_plain_28 : decode cX1_plain 28 = .ok (.invokevirtual 65, 3) := dk_182 0 65 (dk_at dksX1_plain_1 5 rfl rfl)
theorem dX1_plain_31 : decode cX1_plain 31 = .ok (.invokevirtual 69, 3) := dk_182 0 69 (dk_at dksX1_plain_1 8 rfl rfl)
theorem dX1_plain_34 : decode cX1_plain 34 = .ok (.aload_n 0, 1) := dk_42 (dk_at dksX1_plain_1 11 rfl rfl)
theorem dX1_plain_35 : decode cX1_plain 35 = .ok (.iconst 0, 1) := dk_3 (dk_at dksX1_plain_1 12 rfl rfl)
theorem dX1_plain_36 : decode cX1_plain 36 = .ok (.invokevirtual 51, 3) := dk_182 0 51 (dk_at dksX1_plain_1 13 rfl rfl)
theorem dX1_plain_39 : decode cX1_plain 39 = .ok (.bipush 39, 2) := dk_16 39 (dk_at dksX1_plain_1 16 rfl rfl)
theorem dX1_plain_41 : decode cX1_plain 41 = .ok (.if_icmp .ne 11, 3) := dk_160 0 11 (dk_at dksX1_plain_1 18 rfl rfl)
theorem dX1_plain_44 : decode cX1_plain 44 = .ok (.aload_n 0, 1) := dk_42 (dk_at dksX1_plain_1 21 rfl rfl)
theorem dX1_plain_45 : decode cX1_plain 45 = .ok (.invokevirtual 87, 3) := dk_182 0 87 (dk_at dksX1_plain_2 0 rfl rfl)
theorem dX1_plain_48 : decode cX1_plain 48 = .ok (.i2l, 1) := dk_133 (dk_at dksX1_plain_2 3 rfl rfl)
theorem dX1_plain_49 : decode cX1_plain 49 = .ok (.goto 7, 3) := dk_167 0 7 (dk_at dksX1_plain_2 4 rfl rfl)
theorem dX1_plain_52 : decode cX1_plain 52 = .ok (.aload_n 0, 1) := dk_42 (dk_at dksX1_plain_2 7 rfl rfl)
theorem dX1_plain_53 : decode cX1_plain 53 = .ok (.invokevirtual 83, 3) := dk_182 0 83 (dk_at dksX1_plain_2 8 rfl rfl)
theorem dX1_plain_56 : decode cX1_plain 56 = .ok (.lstore_n 1, 1) := dk_64 (dk_at dksX1_plain_2 11 rfl rfl)
theorem dX1_plain_57 : decode cX1_plain 57 = .ok (.aload_n 0, 1) := dk_42 (dk_at dksX1_plain_2 12 rfl rfl)
theorem dX1_plain_58 : decode cX1_plain 58 = .ok (.lload_n 1, 1) := dk_31 (dk_at dksX1_plain_2 13 rfl rfl)
theorem dX1_plain_59 : decode cX1_plain 59 = .ok (.lconst 0, 1) := dk_9 (dk_at dksX1_plain_2 14 rfl rfl)
theorem dX1_plain_60 : decode cX1_plain 60 = .ok (.lcmp, 1) := dk_148 (dk_at dksX1_plain_2 15 rfl rfl)
theorem dX1_plain_61 : decode cX1_plain 61 = .ok (.ifCond .lt 7, 3) := dk_155 0 7 (dk_at dksX1_plain_2 16 rfl rfl)
theorem dX1_plain_64 : decode cX1_plain 64 = .ok (.iconst 1, 1) := dk_4 (dk_at dksX1_plain_2 19 rfl rfl)
theorem dX1_plain_65 : decode cX1_plain 65 = .ok (.goto 4, 3) := dk_167 0 4 (dk_at dksX1_plain_2 20 rfl rfl)
theorem dX1_plain_68 : decode cX1_plain 68 = .ok (.iconst 0, 1) := dk_3 (dk_at dksX1_plain_2 23 rfl rfl)
theorem dX1_plain_69 : decode cX1_plain 69 = .ok (.iconst 1, 1) := dk_4 (dk_at dksX1_plain_3 0 rfl rfl)
theorem dX1_plain_70 : decode cX1_plain 70 = .ok (.invokevirtual 69, 3) := dk_182 0 69 (dk_at dksX1_plain_3 1 rfl rfl)
theorem dX1_plain_73 : decode cX1_plain 73 = .ok (.aload_n 0, 1) := dk_42 (dk_at dksX1_plain_3 4 rfl rfl)
theorem dX1_plain_74 : decode cX1_plain 74 = .ok (.dup, 1) := dk_89 (dk_at dksX1_plain_3 5 rfl rfl)
theorem dX1_plain_75 : decode cX1_plain 75 = .ok (.getfield 48, 3) := dk_180 0 48 (dk_at dksX1_plain_3 6 rfl rfl)
theorem dX1_plain_78 : decode cX1_plain 78 = .ok (.aload_n 0, 1) := dk_42 (dk_at dksX1_plain_3 9 rfl rfl)
theorem dX1_plain_79 : decode cX1_plain 79 = .ok (.getfield 103, 3) := dk_180 0 103 (dk_at dksX1_plain_3 10 rfl rfl)
theorem dX1_plain_82 : decode cX1_plain 82 = .ok (.iadd, 1) := dk_96 (dk_at dksX1_plain_3 13 rfl rfl)
theorem dX1_plain_83 : decode cX1_plain 83 = .ok (.putfield 48, 3) := dk_181 0 48 (dk_at dksX1_plain_3 14 rfl rfl)
theorem dX1_plain_86 : decode cX1_plain 86 = .ok (.aload_n 0, 1) := dk_42 (dk_at dksX1_plain_3 17 rfl rfl)
theorem dX1_plain_87 : decode cX1_plain 87 = .ok (.invokevirtual 59, 3) := dk_182 0 59 (dk_at dksX1_plain_3 18 rfl rfl)
theorem dX1_plain_90 : decode cX1_plain 90 = .ok (.lload_n 1, 1) := dk_31 (dk_at dksX1_plain_3 21 rfl rfl)
theorem dX1_plain_91 : decode cX1_plain 91 = .ok (.lreturn, 1) := dk_173 (dk_at dksX1_plain_3 22 rfl rfl)
abbrev cX1_grow : ByteArray := prog_1_method_35_code
def yX1_grow : MethodName := ⟨RX1, "grow", "(I)V"⟩
def dkwX1_grow_1 : List UInt8 := [167, 0, 4, 3, 16, 7, 182, 0, 69, 177]
abbrev dktX1_grow_1 : List UInt8 := dkwX1_grow_1 ++ []
def dkwX1_grow_0 : List UInt8 := [42, 42, 180, 0, 150, 180, 0, 201, 42, 180, 0, 204, 46, 27, 96, 17, 16, 0, 163, 0, 7, 4]
abbrev dktX1_grow_0 : List UInt8 := dkwX1_grow_0 ++ dktX1_grow_1
theorem dksX1_grow_0 : cX1_grow.data.toList.drop 0 = dktX1_grow_0 := by decide +kernel
theorem dksX1_grow_1 : cX1_grow.data.toList.drop 22 = dktX1_grow_1 := dk_seg dksX1_grow_0 22 rfl rfl
theorem dX1_grow_0 : decode cX1_grow 0 = .ok (.aload_n 0, 1) := dk_42 (dk_at dksX1_grow_0 0 rfl rfl)
theorem dX1_grow_1 : decode cX1_grow 1 = .ok (.aload_n 0, 1) := dk_42 (dk_at dksX1_grow_0 1 rfl rfl)
theorem dX1_grow_2 : decode cX1_grow 2 = .ok (.getfield 150, 3) := dk_180 0 150 (dk_at dksX1_grow_0 2 rfl rfl)
theorem dX1_grow_5 : decode cX1_grow 5 = .ok (.getfield 201, 3) := dk_180 0 201 (dk_at dksX1_grow_0 5 rfl rfl)
theorem dX1_grow_8 : decode cX1_grow 8 = .ok (.aload_n 0, 1) := dk_42 (dk_at dksX1_grow_0 8 rfl rfl)
theorem dX1_grow_9 : decode cX1_grow 9 = .ok (.getfield 204, 3) := dk_180 0 204 (dk_at dksX1_grow_0 9 rfl rfl)
theorem dX1_grow_12 : decode cX1_grow 12 = .ok (.iaload, 1) := dk_46 (dk_at dksX1_grow_0 12 rfl rfl)
theorem dX1_grow_13 : decode cX1_grow 13 = .ok (.iload_n 1, 1) := dk_27 (dk_at dksX1_grow_0 13 rfl rfl)
theorem dX1_grow_14 : decode cX1_grow 14 = .ok (.iadd, 1) := dk_96 (dk_at dksX1_grow_0 14 rfl rfl)
theorem dX1_grow_15 : decode cX1_grow 15 = .ok (.sipush 4096, 3) := dk_17 16 0 (dk_at dksX1_grow_0 15 rfl rfl)
theorem dX1_grow_18 : decode cX1_grow 18 = .ok (.if_icmp .gt 7, 3) := dk_163 0 7 (dk_at dksX1_grow_0 18 rfl rfl)
theorem dX1_grow_21 : decode cX1_grow 21 = .ok (.iconst 1, 1) := dk_4 (dk_at dksX1_grow_0 21 rfl rfl)
theorem dX1_grow_22 : decode cX1_grow 22 = .ok (.goto 4, 3) := dk_167 0 4 (dk_at dksX1_grow_1 0 rfl rfl)
theorem dX1_grow_25 : decode cX1_grow 25 = .ok (.iconst 0, 1) := dk_3 (dk_at dksX1_grow_1 3 rfl rfl)
theorem dX1_grow_26 : decode cX1_grow 26 = .ok (.bipush 7, 2) := dk_16 7 (dk_at dksX1_grow_1 4 rfl rfl)
theorem dX1_grow_28 : decode cX1_grow 28 = .ok (.invokevirtual 69, 3) := dk_182 0 69 (dk_at dksX1_grow_1 6 rfl rfl)
theorem dX1_grow_31 : decode cX1_grow 31 = .ok (.return_, 1) := dk_177 (dk_at dksX1_grow_1 9 rfl rfl)
abbrev cX1_put : ByteArray := prog_1_method_36_code
def yX1_put : MethodName := ⟨RX1, "put", "(I)V"⟩
def dkwX1_put_2 : List UInt8 := [180, 0, 204, 92, 46, 4, 96, 79, 177]
abbrev dktX1_put_2 : List UInt8 := dkwX1_put_2 ++ []
def dkwX1_put_1 : List UInt8 := [42, 180, 0, 150, 180, 0, 201, 42, 180, 0, 204, 46, 27, 145, 84, 42, 180, 0, 150, 180, 0, 201, 42]
abbrev dktX1_put_1 : List UInt8 := dkwX1_put_1 ++ dktX1_put_2
def dkwX1_put_0 : List UInt8 := [42, 4, 182, 0, 207, 42, 180, 0, 204, 5, 162, 0, 29, 42, 180, 0, 150, 42, 180, 0, 204, 182, 0, 210]
abbrev dktX1_put_0 : List UInt8 := dkwX1_put_0 ++ dktX1_put_1
theorem dksX1_put_0 : cX1_put.data.toList.drop 0 = dktX1_put_0 := by decide +kernel
theorem dksX1_put_1 : cX1_put.data.toList.drop 24 = dktX1_put_1 := dk_seg dksX1_put_0 24 rfl rfl
theorem dksX1_put_2 : cX1_put.data.toList.drop 47 = dktX1_put_2 := dk_seg dksX1_put_1 23 rfl rfl
theorem dX1_put_0 : decode cX1_put 0 = .ok (.aload_n 0, 1) := dk_42 (dk_at dksX1_put_0 0 rfl rfl)
theorem dX1_put_1 : decode cX1_put 1 = .ok (.iconst 1, 1) := dk_4 (dk_at dksX1_put_0 1 rfl rfl)
theorem dX1_put_2 : decode cX1_put 2 = .ok (.invokevirtual 207, 3) := dk_182 0 207 (dk_at dksX1_put_0 2 rfl rfl)
theorem dX1_put_5 : decode cX1_put 5 = .ok (.aload_n 0, 1) := dk_42 (dk_at dksX1_put_0 5 rfl rfl)
theorem dX1_put_6 : decode cX1_put 6 = .ok (.getfield 204, 3) := dk_180 0 204 (dk_at dksX1_put_0 6 rfl rfl)
theorem dX1_put_9 : decode cX1_put 9 = .ok (.iconst 2, 1) := dk_5 (dk_at dksX1_put_0 9 rfl rfl)
theorem dX1_put_10 : decode cX1_put 10 = .ok (.if_icmp .ge 29, 3) := dk_162 0 29 (dk_at dksX1_put_0 10 rfl rfl)
theorem dX1_put_13 : decode cX1_put 13 = .ok (.aload_n 0, 1) := dk_42 (dk_at dksX1_put_0 13 rfl rfl)
theorem dX1_put_14 : decode cX1_put 14 = .ok (.getfield 150, 3) := dk_180 0 150 (dk_at dksX1_put_0 14 rfl rfl)
theorem dX1_put_17 : decode cX1_put 17 = .ok (.aload_n 0, 1) := dk_42 (dk_at dksX1_put_0 17 rfl rfl)
theorem dX1_put_18 : decode cX1_put 18 = .ok (.getfield 204, 3) := dk_180 0 204 (dk_at dksX1_put_0 18 rfl rfl)
theorem dX1_put_21 : decode cX1_put 21 = .ok (.invokevirtual 210, 3) := dk_182 0 210 (dk_at dksX1_put_0 21 rfl rfl)
theorem dX1_put_24 : decode cX1_put 24 = .ok (.aload_n 0, 1) := dk_42 (dk_at dksX1_put_1 0 rfl rfl)
theorem dX1_put_25 : decode cX1_put 25 = .ok (.getfield 150, 3) := dk_180 0 150 (dk_at dksX1_put_1 1 rfl rfl)
theorem dX1_put_28 : decode cX1_put 28 = .ok (.getfield 201, 3) := dk_180 0 201 (dk_at dksX1_put_1 4 rfl rfl)
theorem dX1_put_31 : decode cX1_put 31 = .ok (.aload_n 0, 1) := dk_42 (dk_at dksX1_put_1 7 rfl rfl)
theorem dX1_put_32 : decode cX1_put 32 = .ok (.getfield 204, 3) := dk_180 0 204 (dk_at dksX1_put_1 8 rfl rfl)
theorem dX1_put_35 : decode cX1_put 35 = .ok (.iaload, 1) := dk_46 (dk_at dksX1_put_1 11 rfl rfl)
theorem dX1_put_36 : decode cX1_put 36 = .ok (.iload_n 1, 1) := dk_27 (dk_at dksX1_put_1 12 rfl rfl)
theorem dX1_put_37 : decode cX1_put 37 = .ok (.i2b, 1) := dk_145 (dk_at dksX1_put_1 13 rfl rfl)
theorem dX1_put_38 : decode cX1_put 38 = .ok (.bastore, 1) := dk_84 (dk_at dksX1_put_1 14 rfl rfl)
theorem dX1_put_39 : decode cX1_put 39 = .ok (.aload_n 0, 1) := dk_42 (dk_at dksX1_put_1 15 rfl rfl)
theorem dX1_put_40 : decode cX1_put 40 = .ok (.getfield 150, 3) := dk_180 0 150 (dk_at dksX1_put_1 16 rfl rfl)
theorem dX1_put_43 : decode cX1_put 43 = .ok (.getfield 201, 3) := dk_180 0 201 (dk_at dksX1_put_1 19 rfl rfl)
theorem dX1_put_46 : decode cX1_put 46 = .ok (.aload_n 0, 1) := dk_42 (dk_at dksX1_put_1 22 rfl rfl)
theorem dX1_put_47 : decode cX1_put 47 = .ok (.getfield 204, 3) := dk_180 0 204 (dk_at dksX1_put_2 0 rfl rfl)
theorem dX1_put_50 : decode cX1_put 50 = .ok (.dup2, 1) := dk_92 (dk_at dksX1_put_2 3 rfl rfl)
theorem dX1_put_51 : decode cX1_put 51 = .ok (.iaload, 1) := dk_46 (dk_at dksX1_put_2 4 rfl rfl)
theorem dX1_put_52 : decode cX1_put 52 = .ok (.iconst 1, 1) := dk_4 (dk_at dksX1_put_2 5 rfl rfl)
theorem dX1_put_53 : decode cX1_put 53 = .ok (.iadd, 1) := dk_96 (dk_at dksX1_put_2 6 rfl rfl)
theorem dX1_put_54 : decode cX1_put 54 = .ok (.iastore, 1) := dk_79 (dk_at dksX1_put_2 7 rfl rfl)
theorem dX1_put_55 : decode cX1_put 55 = .ok (.return_, 1) := dk_177 (dk_at dksX1_put_2 8 rfl rfl)
abbrev cX1_string : ByteArray := prog_1_method_58_code
def yX1_string : MethodName := ⟨RX1, "string", "(Z)V"⟩
def dkwX1_string_6 : List UInt8 := [182, 0, 241, 177]
abbrev dktX1_string_6 : List UInt8 := dkwX1_string_6 ++ []
def dkwX1_string_5 : List UInt8 := [167, 255, 182, 42, 89, 180, 0, 48, 4, 96, 181, 0, 48, 42, 182, 0, 59, 27, 153, 0, 8, 42, 3]
abbrev dktX1_string_5 : List UInt8 := dkwX1_string_5 ++ dktX1_string_6
def dkwX1_string_4 : List UInt8 := [184, 0, 108, 167, 0, 8, 42, 3, 182, 0, 51, 182, 0, 241, 42, 89, 180, 0, 48, 4, 96, 181, 0, 48]
abbrev dktX1_string_4 : List UInt8 := dkwX1_string_4 ++ dktX1_string_5
def dkwX1_string_3 : List UInt8 := [153, 0, 13, 42, 89, 180, 0, 48, 4, 96, 181, 0, 48, 42, 28, 153, 0, 14, 42, 3, 182, 0, 51]
abbrev dktX1_string_3 : List UInt8 := dkwX1_string_3 ++ dktX1_string_4
def dkwX1_string_2 : List UInt8 := [16, 34, 159, 0, 70, 42, 3, 182, 0, 51, 16, 92, 160, 0, 7, 4, 167, 0, 4, 3, 61, 28]
abbrev dktX1_string_2 : List UInt8 := dkwX1_string_2 ++ dktX1_string_3
def dkwX1_string_1 : List UInt8 := [42, 182, 0, 90, 4, 182, 0, 69, 42, 89, 180, 0, 48, 4, 96, 181, 0, 48, 42, 3, 182, 0, 51]
abbrev dktX1_string_1 : List UInt8 := dkwX1_string_1 ++ dktX1_string_2
def dkwX1_string_0 : List UInt8 := [42, 42, 3, 182, 0, 51, 16, 34, 160, 0, 7, 4, 167, 0, 4, 3, 42, 182, 0, 65, 182, 0, 69, 42]
abbrev dktX1_string_0 : List UInt8 := dkwX1_string_0 ++ dktX1_string_1
theorem dksX1_string_0 : cX1_string.data.toList.drop 0 = dktX1_string_0 := by decide +kernel
theorem dksX1_string_1 : cX1_string.data.toList.drop 24 = dktX1_string_1 := dk_seg dksX1_string_0 24 rfl rfl
theorem dksX1_string_2 : cX1_string.data.toList.drop 47 = dktX1_string_2 := dk_seg dksX1_string_1 23 rfl rfl
theorem dksX1_string_3 : cX1_string.data.toList.drop 69 = dktX1_string_3 := dk_seg dksX1_string_2 22 rfl rfl
theorem dksX1_string_4 : cX1_string.data.toList.drop 92 = dktX1_string_4 := dk_seg dksX1_string_3 23 rfl rfl
theorem dksX1_string_5 : cX1_string.data.toList.drop 116 = dktX1_string_5 := dk_seg dksX1_string_4 24 rfl rfl
theorem dksX1_string_6 : cX1_string.data.toList.drop 139 = dktX1_string_6 := dk_seg dksX1_string_5 23 rfl rfl
theorem dX1_string_0 : decode cX1_string 0 = .ok (.aload_n 0, 1) := dk_42 (dk_at dksX1_string_0 0 rfl rfl)
theorem dX1_string_1 : decode cX1_string 1 = .ok (.aload_n 0, 1) := dk_42 (dk_at dksX1_string_0 1 rfl rfl)
theorem dX1_string_2 : decode cX1_string 2 = .ok (.iconst 0, 1) := dk_3 (dk_at dksX1_string_0 2 rfl rfl)
theorem dX1_string_3 : decode cX1_string 3 = .ok (.invokevirtual 51, 3) := dk_182 0 51 (dk_at dksX1_string_0 3 rfl rfl)
theorem dX1_string_6 : decode cX1_string 6 = .ok (.bipush 34, 2) := dk_16 34 (dk_at dksX1_string_0 6 rfl rfl)
theorem dX1_string_8 : decode cX1_string 8 = .ok (.if_icmp .ne 7, 3) := dk_160 0 7 (dk_at dksX1_string_0 8 rfl rfl)
theorem dX1_string_11 : decode cX1_string 11 = .ok (.iconst 1, 1) := dk_4 (dk_at dksX1_string_0 11 rfl rfl)
theorem dX1_string_12 : decode cX1_string 12 = .ok (.goto 4, 3) := dk_167 0 4 (dk_at dksX1_string_0 12 rfl rfl)
theorem dX1_string_15 : decode cX1_string 15 = .ok (.iconst 0, 1) := dk_3 (dk_at dksX1_string_0 15 rfl rfl)
theorem dX1_string_16 : decode cX1_string 16 = .ok (.aload_n 0, 1) := dk_42 (dk_at dksX1_string_0 16 rfl rfl)
theorem dX1_string_17 : decode cX1_string 17 = .ok (.invokevirtual 65, 3) := dk_182 0 65 (dk_at dksX1_string_0 17 rfl rfl)
theorem dX1_string_20 : decode cX1_string 20 = .ok (.invokevirtual 69, 3) := dk_182 0 69 (dk_at dksX1_string_0 20 rfl rfl)
theorem dX1_string_23 : decode cX1_string 23 = .ok (.aload_n 0, 1) := dk_42 (dk_at dksX1_string_0 23 rfl rfl)
theorem dX1_string_24 : decode cX1_string 24 = .ok (.aload_n 0, 1) := dk_42 (dk_at dksX1_string_1 0 rfl rfl)
theorem dX1_string_25 : decode cX1_string 25 = .ok (.invokevirtual 90, 3) := dk_182 0 90 (dk_at dksX1_string_1 1 rfl rfl)
theorem dX1_string_28 : decode cX1_string 28 = .ok (.iconst 1, 1) := dk_4 (dk_at dksX1_string_1 4 rfl rfl)
theorem dX1_string_29 : decode cX1_string 29 = .ok (.invokevirtual 69, 3) := dk_182 0 69 (dk_at dksX1_string_1 5 rfl rfl)
theorem dX1_string_32 : decode cX1_string 32 = .ok (.aload_n 0, 1) := dk_42 (dk_at dksX1_string_1 8 rfl rfl)
theorem dX1_string_33 : decode cX1_string 33 = .ok (.dup, 1) := dk_89 (dk_at dksX1_string_1 9 rfl rfl)
theorem dX1_string_34 : decode cX1_string 34 = .ok (.getfield 48, 3) := dk_180 0 48 (dk_at dksX1_string_1 10 rfl rfl)
theorem dX1_string_37 : decode cX1_string 37 = .ok (.iconst 1, 1) := dk_4 (dk_at dksX1_string_1 13 rfl rfl)
theorem dX1_string_38 : decode cX1_string 38 = .ok (.iadd, 1) := dk_96 (dk_at dksX1_string_1 14 rfl rfl)
theorem dX1_string_39 : decode cX1_string 39 = .ok (.putfield 48, 3) := dk_181 0 48 (dk_at dksX1_string_1 15 rfl rfl)
theorem dX1_string_42 : decode cX1_string 42 = .ok (.aload_n 0, 1) := dk_42 (dk_at dksX1_string_1 18 rfl rfl)
theorem dX1_string_43 : decode cX1_string 43 = .ok (.iconst 0, 1) := dk_3 (dk_at dksX1_string_1 19 rfl rfl)
theorem dX1_string_44 : decode cX1_string 44 = .ok (.invokevirtual 51, 3) := dk_182 0 51 (dk_at dksX1_string_1 20 rfl rfl)
theorem dX1_string_47 : decode cX1_string 47 = .ok (.bipush 34, 2) := dk_16 34 (dk_at dksX1_string_2 0 rfl rfl)
theorem dX1_string_49 : decode cX1_string 49 = .ok (.if_icmp .eq 70, 3) := dk_159 0 70 (dk_at dksX1_string_2 2 rfl rfl)
theorem dX1_string_52 : decode cX1_string 52 = .ok (.aload_n 0, 1) := dk_42 (dk_at dksX1_string_2 5 rfl rfl)
theorem dX1_string_53 : decode cX1_string 53 = .ok (.iconst 0, 1) := dk_3 (dk_at dksX1_string_2 6 rfl rfl)
theorem dX1_string_54 : decode cX1_string 54 = .ok (.invokevirtual 51, 3) := dk_182 0 51 (dk_at dksX1_string_2 7 rfl rfl)
theorem dX1_string_57 : decode cX1_string 57 = .ok (.bipush 92, 2) := dk_16 92 (dk_at dksX1_string_2 10 rfl rfl)
theorem dX1_string_59 : decode cX1_string 59 = .ok (.if_icmp .ne 7, 3) := dk_160 0 7 (dk_at dksX1_string_2 12 rfl rfl)
theorem dX1_string_62 : decode cX1_string 62 = .ok (.iconst 1, 1) := dk_4 (dk_at dksX1_string_2 15 rfl rfl)
theorem dX1_string_63 : decode cX1_string 63 = .ok (.goto 4, 3) := dk_167 0 4 (dk_at dksX1_string_2 16 rfl rfl)
theorem dX1_string_66 : decode cX1_string 66 = .ok (.iconst 0, 1) := dk_3 (dk_at dksX1_string_2 19 rfl rfl)
theorem dX1_string_67 : decode cX1_string 67 = .ok (.istore_n 2, 1) := dk_61 (dk_at dksX1_string_2 20 rfl rfl)
theorem dX1_string_68 : decode cX1_string 68 = .ok (.iload_n 2, 1) := dk_28 (dk_at dksX1_string_2 21 rfl rfl)
theorem dX1_string_69 : decode cX1_string 69 = .ok (.ifCond .eq 13, 3) := dk_153 0 13 (dk_at dksX1_string_3 0 rfl rfl)
theorem dX1_string_72 : decode cX1_string 72 = .ok (.aload_n 0, 1) := dk_42 (dk_at dksX1_string_3 3 rfl rfl)
theorem dX1_string_73 : decode cX1_string 73 = .ok (.dup, 1) := dk_89 (dk_at dksX1_string_3 4 rfl rfl)
theorem dX1_string_74 : decode cX1_string 74 = .ok (.getfield 48, 3) := dk_180 0 48 (dk_at dksX1_string_3 5 rfl rfl)
theorem dX1_string_77 : decode cX1_string 77 = .ok (.iconst 1, 1) := dk_4 (dk_at dksX1_string_3 8 rfl rfl)
theorem dX1_string_78 : decode cX1_string 78 = .ok (.iadd, 1) := dk_96 (dk_at dksX1_string_3 9 rfl rfl)
theorem dX1_string_79 : decode cX1_string 79 = .ok (.putfield 48, 3) := dk_181 0 48 (dk_at dksX1_string_3 10 rfl rfl)
theorem dX1_string_82 : decode cX1_string 82 = .ok (.aload_n 0, 1) := dk_42 (dk_at dksX1_string_3 13 rfl rfl)
theorem dX1_string_83 : decode cX1_string 83 = .ok (.iload_n 2, 1) := dk_28 (dk_at dksX1_string_3 14 rfl rfl)
theorem dX1_string_84 : decode cX1_string 84 = .ok (.ifCond .eq 14, 3) := dk_153 0 14 (dk_at dksX1_string_3 15 rfl rfl)
theorem dX1_string_87 : decode cX1_string 87 = .ok (.aload_n 0, 1) := dk_42 (dk_at dksX1_string_3 18 rfl rfl)
theorem dX1_string_88 : decode cX1_string 88 = .ok (.iconst 0, 1) := dk_3 (dk_at dksX1_string_3 19 rfl rfl)
theorem dX1_string_89 : decode cX1_string 89 = .ok (.invokevirtual 51, 3) := dk_182 0 51 (dk_at dksX1_string_3 20 rfl rfl)
theorem dX1_string_92 : decode cX1_string 92 = .ok (.invokestatic 108, 3) := dk_184 0 108 (dk_at dksX1_string_4 0 rfl rfl)
theorem dX1_string_95 : decode cX1_string 95 = .ok (.goto 8, 3) := dk_167 0 8 (dk_at dksX1_string_4 3 rfl rfl)
theorem dX1_string_98 : decode cX1_string 98 = .ok (.aload_n 0, 1) := dk_42 (dk_at dksX1_string_4 6 rfl rfl)
theorem dX1_string_99 : decode cX1_string 99 = .ok (.iconst 0, 1) := dk_3 (dk_at dksX1_string_4 7 rfl rfl)
theorem dX1_string_100 : decode cX1_string 100 = .ok (.invokevirtual 51, 3) := dk_182 0 51 (dk_at dksX1_string_4 8 rfl rfl)
theorem dX1_string_103 : decode cX1_string 103 = .ok (.invokevirtual 241, 3) := dk_182 0 241 (dk_at dksX1_string_4 11 rfl rfl)
theorem dX1_string_106 : decode cX1_string 106 = .ok (.aload_n 0, 1) := dk_42 (dk_at dksX1_string_4 14 rfl rfl)
theorem dX1_string_107 : decode cX1_string 107 = .ok (.dup, 1) := dk_89 (dk_at dksX1_string_4 15 rfl rfl)
theorem dX1_string_108 : decode cX1_string 108 = .ok (.getfield 48, 3) := dk_180 0 48 (dk_at dksX1_string_4 16 rfl rfl)
theorem dX1_string_111 : decode cX1_string 111 = .ok (.iconst 1, 1) := dk_4 (dk_at dksX1_string_4 19 rfl rfl)
theorem dX1_string_112 : decode cX1_string 112 = .ok (.iadd, 1) := dk_96 (dk_at dksX1_string_4 20 rfl rfl)
theorem dX1_string_113 : decode cX1_string 113 = .ok (.putfield 48, 3) := dk_181 0 48 (dk_at dksX1_string_4 21 rfl rfl)
theorem dX1_string_116 : decode cX1_string 116 = .ok (.goto (-74), 3) := dk_167 255 182 (dk_at dksX1_string_5 0 rfl rfl)
theorem dX1_string_119 : decode cX1_string 119 = .ok (.aload_n 0, 1) := dk_42 (dk_at dksX1_string_5 3 rfl rfl)
theorem dX1_string_120 : decode cX1_string 120 = .ok (.dup, 1) := dk_89 (dk_at dksX1_string_5 4 rfl rfl)
theorem dX1_string_121 : decode cX1_string 121 = .ok (.getfield 48, 3) := dk_180 0 48 (dk_at dksX1_string_5 5 rfl rfl)
theorem dX1_string_124 : decode cX1_string 124 = .ok (.iconst 1, 1) := dk_4 (dk_at dksX1_string_5 8 rfl rfl)
theorem dX1_string_125 : decode cX1_string 125 = .ok (.iadd, 1) := dk_96 (dk_at dksX1_string_5 9 rfl rfl)
theorem dX1_string_126 : decode cX1_string 126 = .ok (.putfield 48, 3) := dk_181 0 48 (dk_at dksX1_string_5 10 rfl rfl)
theorem dX1_string_129 : decode cX1_string 129 = .ok (.aload_n 0, 1) := dk_42 (dk_at dksX1_string_5 13 rfl rfl)
theorem dX1_string_130 : decode cX1_string 130 = .ok (.invokevirtual 59, 3) := dk_182 0 59 (dk_at dksX1_string_5 14 rfl rfl)
theorem dX1_string_133 : decode cX1_string 133 = .ok (.iload_n 1, 1) := dk_27 (dk_at dksX1_string_5 17 rfl rfl)
theorem dX1_string_134 : decode cX1_string 134 = .ok (.ifCond .eq 8, 3) := dk_153 0 8 (dk_at dksX1_string_5 18 rfl rfl)
theorem dX1_string_137 : decode cX1_string 137 = .ok (.aload_n 0, 1) := dk_42 (dk_at dksX1_string_5 21 rfl rfl)
theorem dX1_string_138 : decode cX1_string 138 = .ok (.iconst 0, 1) := dk_3 (dk_at dksX1_string_5 22 rfl rfl)
theorem dX1_string_139 : decode cX1_string 139 = .ok (.invokevirtual 241, 3) := dk_182 0 241 (dk_at dksX1_string_6 0 rfl rfl)
theorem dX1_string_142 : decode cX1_string 142 = .ok (.return_, 1) := dk_177 (dk_at dksX1_string_6 3 rfl rfl)
abbrev cX1_value : ByteArray := prog_1_method_57_code
def yX1_value : MethodName := ⟨RX1, "value", "(I)V"⟩
def dkwX1_value_4 : List UInt8 := [182, 0, 207, 27, 8, 160, 0, 11, 42, 28, 16, 8, 122, 182, 0, 241, 42, 28, 182, 0, 241, 177]
abbrev dktX1_value_4 : List UInt8 := dkwX1_value_4 ++ []
def dkwX1_value_3 : List UInt8 := [20, 1, 145, 20, 1, 147, 182, 0, 190, 136, 61, 42, 27, 8, 160, 0, 7, 5, 167, 0, 4, 4]
abbrev dktX1_value_3 : List UInt8 := dkwX1_value_3 ++ dktX1_value_4
def dkwX1_value_2 : List UInt8 := [182, 0, 245, 177, 27, 8, 160, 0, 16, 42, 20, 1, 93, 20, 1, 101, 182, 0, 190, 167, 0, 13, 42]
abbrev dktX1_value_2 : List UInt8 := dkwX1_value_2 ++ dktX1_value_3
def dkwX1_value_1 : List UInt8 := [167, 0, 4, 5, 181, 0, 187, 42, 42, 180, 0, 180, 156, 0, 11, 42, 180, 0, 183, 136, 167, 0, 4, 3]
abbrev dktX1_value_1 : List UInt8 := dkwX1_value_1 ++ dktX1_value_2
def dkwX1_value_0 : List UInt8 := [42, 3, 181, 0, 187, 27, 7, 160, 0, 45, 42, 3, 182, 0, 195, 42, 42, 180, 0, 180, 156, 0, 7, 3]
abbrev dktX1_value_0 : List UInt8 := dkwX1_value_0 ++ dktX1_value_1
theorem dksX1_value_0 : cX1_value.data.toList.drop 0 = dktX1_value_0 := by decide +kernel
theorem dksX1_value_1 : cX1_value.data.toList.drop 24 = dktX1_value_1 := dk_seg dksX1_value_0 24 rfl rfl
theorem dksX1_value_2 : cX1_value.data.toList.drop 48 = dktX1_value_2 := dk_seg dksX1_value_1 24 rfl rfl
theorem dksX1_value_3 : cX1_value.data.toList.drop 71 = dktX1_value_3 := dk_seg dksX1_value_2 23 rfl rfl
theorem dksX1_value_4 : cX1_value.data.toList.drop 93 = dktX1_value_4 := dk_seg dksX1_value_3 22 rfl rfl
theorem dX1_value_0 : decode cX1_value 0 = .ok (.aload_n 0, 1) := dk_42 (dk_at dksX1_value_0 0 rfl rfl)
theorem dX1_value_1 : decode cX1_value 1 = .ok (.iconst 0, 1) := dk_3 (dk_at dksX1_value_0 1 rfl rfl)
theorem dX1_value_2 : decode cX1_value 2 = .ok (.putfield 187, 3) := dk_181 0 187 (dk_at dksX1_value_0 2 rfl rfl)
theorem dX1_value_5 : decode cX1_value 5 = .ok (.iload_n 1, 1) := dk_27 (dk_at dksX1_value_0 5 rfl rfl)
theorem dX1_value_6 : decode cX1_value 6 = .ok (.iconst 4, 1) := dk_7 (dk_at dksX1_value_0 6 rfl rfl)
theorem dX1_value_7 : decode cX1_value 7 = .ok (.if_icmp .ne 45, 3) := dk_160 0 45 (dk_at dksX1_value_0 7 rfl rfl)
theorem dX1_value_10 : decode cX1_value 10 = .ok (.aload_n 0, 1) := dk_42 (dk_at dksX1_value_0 10 rfl rfl)
theorem dX1_value_11 : decode cX1_value 11 = .ok (.iconst 0, 1) := dk_3 (dk_at dksX1_value_0 11 rfl rfl)
theorem dX1_value_12 : decode cX1_value 12 = .ok (.invokevirtual 195, 3) := dk_182 0 195 (dk_at dksX1_value_0 12 rfl rfl)
theorem dX1_value_15 : decode cX1_value 15 = .ok (.aload_n 0, 1) := dk_42 (dk_at dksX1_value_0 15 rfl rfl)
theorem dX1_value_16 : decode cX1_value 16 = .ok (.aload_n 0, 1) := dk_42 (dk_at dksX1_value_0 16 rfl rfl)
theorem dX1_value_17 : decode cX1_value 17 = .ok (.getfield 180, 3) := dk_180 0 180 (dk_at dksX1_value_0 17 rfl rfl)
theorem dX1_value_20 : decode cX1_value 20 = .ok (.ifCond .ge 7, 3) := dk_156 0 7 (dk_at dksX1_value_0 20 rfl rfl)
theorem dX1_value_23 : decode cX1_value 23 = .ok (.iconst 0, 1) := dk_3 (dk_at dksX1_value_0 23 rfl rfl)
theorem dX1_value_24 : decode cX1_value 24 = .ok (.goto 4, 3) := dk_167 0 4 (dk_at dksX1_value_1 0 rfl rfl)
theorem dX1_value_27 : decode cX1_value 27 = .ok (.iconst 2, 1) := dk_5 (dk_at dksX1_value_1 3 rfl rfl)
theorem dX1_value_28 : decode cX1_value 28 = .ok (.putfield 187, 3) := dk_181 0 187 (dk_at dksX1_value_1 4 rfl rfl)
theorem dX1_value_31 : decode cX1_value 31 = .ok (.aload_n 0, 1) := dk_42 (dk_at dksX1_value_1 7 rfl rfl)
theorem dX1_value_32 : decode cX1_value 32 = .ok (.aload_n 0, 1) := dk_42 (dk_at dksX1_value_1 8 rfl rfl)
theorem dX1_value_33 : decode cX1_value 33 = .ok (.getfield 180, 3) := dk_180 0 180 (dk_at dksX1_value_1 9 rfl rfl)
theorem dX1_value_36 : decode cX1_value 36 = .ok (.ifCond .ge 11, 3) := dk_156 0 11 (dk_at dksX1_value_1 12 rfl rfl)
theorem dX1_value_39 : decode cX1_value 39 = .ok (.aload_n 0, 1) := dk_42 (dk_at dksX1_value_1 15 rfl rfl)
theorem dX1_value_40 : decode cX1_value 40 = .ok (.getfield 183, 3) := dk_180 0 183 (dk_at dksX1_value_1 16 rfl rfl)
theorem dX1_value_43 : decode cX1_value 43 = .ok (.l2i, 1) := dk_136 (dk_at dksX1_value_1 19 rfl rfl)
theorem dX1_value_44 : decode cX1_value 44 = .ok (.goto 4, 3) := dk_167 0 4 (dk_at dksX1_value_1 20 rfl rfl)
theorem dX1_value_47 : decode cX1_value 47 = .ok (.iconst 0, 1) := dk_3 (dk_at dksX1_value_1 23 rfl rfl)
theorem dX1_value_48 : decode cX1_value 48 = .ok (.invokevirtual 245, 3) := dk_182 0 245 (dk_at dksX1_value_2 0 rfl rfl)
theorem dX1_value_51 : decode cX1_value 51 = .ok (.return_, 1) := dk_177 (dk_at dksX1_value_2 3 rfl rfl)
theorem dX1_value_52 : decode cX1_value 52 = .ok (.iload_n 1, 1) := dk_27 (dk_at dksX1_value_2 4 rfl rfl)
theorem dX1_value_53 : decode cX1_value 53 = .ok (.iconst 5, 1) := dk_8 (dk_at dksX1_value_2 5 rfl rfl)
theorem dX1_value_54 : decode cX1_value 54 = .ok (.if_icmp .ne 16, 3) := dk_160 0 16 (dk_at dksX1_value_2 6 rfl rfl)
theorem dX1_value_57 : decode cX1_value 57 = .ok (.aload_n 0, 1) := dk_42 (dk_at dksX1_value_2 9 rfl rfl)
theorem dX1_value_58 : decode cX1_value 58 = .ok (.ldc2_w 349, 3) := dk_20 1 93 (dk_at dksX1_value_2 10 rfl rfl)
theorem dX1_value_61 : decode cX1_value 61 = .ok (.ldc2_w 357, 3) := dk_20 1 101 (dk_at dksX1_value_2 13 rfl rfl)
theorem dX1_value_64 : decode cX1_value 64 = .ok (.invokevirtual 190, 3) := dk_182 0 190 (dk_at dksX1_value_2 16 rfl rfl)
theorem dX1_value_67 : decode cX1_value 67 = .ok (.goto 13, 3) := dk_167 0 13 (dk_at dksX1_value_2 19 rfl rfl)
theorem dX1_value_70 : decode cX1_value 70 = .ok (.aload_n 0, 1) := dk_42 (dk_at dksX1_value_2 22 rfl rfl)
theorem dX1_value_71 : decode cX1_value 71 = .ok (.ldc2_w 401, 3) := dk_20 1 145 (dk_at dksX1_value_3 0 rfl rfl)
theorem dX1_value_74 : decode cX1_value 74 = .ok (.ldc2_w 403, 3) := dk_20 1 147 (dk_at dksX1_value_3 3 rfl rfl)
theorem dX1_value_77 : decode cX1_value 77 = .ok (.invokevirtual 190, 3) := dk_182 0 190 (dk_at dksX1_value_3 6 rfl rfl)
theorem dX1_value_80 : decode cX1_value 80 = .ok (.l2i, 1) := dk_136 (dk_at dksX1_value_3 9 rfl rfl)
theorem dX1_value_81 : decode cX1_value 81 = .ok (.istore_n 2, 1) := dk_61 (dk_at dksX1_value_3 10 rfl rfl)
theorem dX1_value_82 : decode cX1_value 82 = .ok (.aload_n 0, 1) := dk_42 (dk_at dksX1_value_3 11 rfl rfl)
theorem dX1_value_83 : decode cX1_value 83 = .ok (.iload_n 1, 1) := dk_27 (dk_at dksX1_value_3 12 rfl rfl)
theorem dX1_value_84 : decode cX1_value 84 = .ok (.iconst 5, 1) := dk_8 (dk_at dksX1_value_3 13 rfl rfl)
theorem dX1_value_85 : decode cX1_value 85 = .ok (.if_icmp .ne 7, 3) := dk_160 0 7 (dk_at dksX1_value_3 14 rfl rfl)
theorem dX1_value_88 : decode cX1_value 88 = .ok (.iconst 2, 1) := dk_5 (dk_at dksX1_value_3 17 rfl rfl)
theorem dX1_value_89 : decode cX1_value 89 = .ok (.goto 4, 3) := dk_167 0 4 (dk_at dksX1_value_3 18 rfl rfl)
theorem dX1_value_92 : decode cX1_value 92 = .ok (.iconst 1, 1) := dk_4 (dk_at dksX1_value_3 21 rfl rfl)
theorem dX1_value_93 : decode cX1_value 93 = .ok (.invokevirtual 207, 3) := dk_182 0 207 (dk_at dksX1_value_4 0 rfl rfl)
theorem dX1_value_96 : decode cX1_value 96 = .ok (.iload_n 1, 1) := dk_27 (dk_at dksX1_value_4 3 rfl rfl)
theorem dX1_value_97 : decode cX1_value 97 = .ok (.iconst 5, 1) := dk_8 (dk_at dksX1_value_4 4 rfl rfl)
theorem dX1_value_98 : decode cX1_value 98 = .ok (.if_icmp .ne 11, 3) := dk_160 0 11 (dk_at dksX1_value_4 5 rfl rfl)
theorem dX1_value_101 : decode cX1_value 101 = .ok (.aload_n 0, 1) := dk_42 (dk_at dksX1_value_4 8 rfl rfl)
theorem dX1_value_102 : decode cX1_value 102 = .ok (.iload_n 2, 1) := dk_28 (dk_at dksX1_value_4 9 rfl rfl)
theorem dX1_value_103 : decode cX1_value 103 = .ok (.bipush 8, 2) := dk_16 8 (dk_at dksX1_value_4 10 rfl rfl)
theorem dX1_value_105 : decode cX1_value 105 = .ok (.ishr, 1) := dk_122 (dk_at dksX1_value_4 12 rfl rfl)
theorem dX1_value_106 : decode cX1_value 106 = .ok (.invokevirtual 241, 3) := dk_182 0 241 (dk_at dksX1_value_4 13 rfl rfl)
theorem dX1_value_109 : decode cX1_value 109 = .ok (.aload_n 0, 1) := dk_42 (dk_at dksX1_value_4 16 rfl rfl)
theorem dX1_value_110 : decode cX1_value 110 = .ok (.iload_n 2, 1) := dk_28 (dk_at dksX1_value_4 17 rfl rfl)
theorem dX1_value_111 : decode cX1_value 111 = .ok (.invokevirtual 241, 3) := dk_182 0 241 (dk_at dksX1_value_4 18 rfl rfl)
theorem dX1_value_114 : decode cX1_value 114 = .ok (.return_, 1) := dk_177 (dk_at dksX1_value_4 21 rfl rfl)
abbrev cX1_expression : ByteArray := prog_1_method_33_code
def yX1_expression : MethodName := ⟨RX1, "expression", "(Z)V"⟩
def dkwX1_expression_5 : List UInt8 := [182, 0, 65, 182, 0, 69, 42, 2, 181, 0, 180, 42, 42, 182, 0, 147, 181, 0, 183, 177]
abbrev dktX1_expression_5 : List UInt8 := dkwX1_expression_5 ++ []
def dkwX1_expression_4 : List UInt8 := [181, 0, 183, 177, 42, 27, 154, 0, 14, 42, 182, 0, 144, 153, 0, 7, 4, 167, 0, 4, 3, 42]
abbrev dktX1_expression_4 : List UInt8 := dkwX1_expression_4 ++ dktX1_expression_5
def dkwX1_expression_3 : List UInt8 := [182, 0, 139, 181, 0, 183, 42, 28, 153, 0, 10, 42, 180, 0, 183, 167, 0, 8, 42, 180, 0, 183, 117]
abbrev dktX1_expression_3 : List UInt8 := dkwX1_expression_3 ++ dktX1_expression_4
def dkwX1_expression_2 : List UInt8 := [42, 3, 182, 0, 51, 16, 45, 160, 0, 41, 42, 42, 3, 182, 0, 51, 182, 0, 62, 87, 42, 42]
abbrev dktX1_expression_2 : List UInt8 := dkwX1_expression_2 ++ dktX1_expression_3
def dkwX1_expression_1 : List UInt8 := [9, 181, 0, 183, 42, 3, 182, 0, 51, 16, 43, 160, 0, 7, 4, 167, 0, 4, 3, 61, 28, 154, 0, 13]
abbrev dktX1_expression_1 : List UInt8 := dkwX1_expression_1 ++ dktX1_expression_2
def dkwX1_expression_0 : List UInt8 := [42, 3, 182, 0, 51, 184, 0, 73, 153, 0, 89, 42, 182, 0, 174, 42, 42, 182, 0, 177, 181, 0, 180, 42]
abbrev dktX1_expression_0 : List UInt8 := dkwX1_expression_0 ++ dktX1_expression_1
theorem dksX1_expression_0 : cX1_expression.data.toList.drop 0 = dktX1_expression_0 := by decide +kernel
theorem dksX1_expression_1 : cX1_expression.data.toList.drop 24 = dktX1_expression_1 := dk_seg dksX1_expression_0 24 rfl rfl
theorem dksX1_expression_2 : cX1_expression.data.toList.drop 48 = dktX1_expression_2 := dk_seg dksX1_expression_1 24 rfl rfl
theorem dksX1_expression_3 : cX1_expression.data.toList.drop 70 = dktX1_expression_3 := dk_seg dksX1_expression_2 22 rfl rfl
theorem dksX1_expression_4 : cX1_expression.data.toList.drop 93 = dktX1_expression_4 := dk_seg dksX1_expression_3 23 rfl rfl
theorem dksX1_expression_5 : cX1_expression.data.toList.drop 115 = dktX1_expression_5 := dk_seg dksX1_expression_4 22 rfl rfl
theorem dX1_expression_0 : decode cX1_expression 0 = .ok (.aload_n 0, 1) := dk_42 (dk_at dksX1_expression_0 0 rfl rfl)
theorem dX1_expression_1 : decode cX1_expression 1 = .ok (.iconst 0, 1) := dk_3 (dk_at dksX1_expression_0 1 rfl rfl)
theorem dX1_expression_2 : decode cX1_expression 2 = .ok (.invokevirtual 51, 3) := dk_182 0 51 (dk_at dksX1_expression_0 2 rfl rfl)
theorem dX1_expression_5 : decode cX1_expression 5 = .ok (.invokestatic 73, 3) := dk_184 0 73 (dk_at dksX1_expression_0 5 rfl rfl)
theorem dX1_expression_8 : decode cX1_expression 8 = .ok (.ifCond .eq 89, 3) := dk_153 0 89 (dk_at dksX1_expression_0 8 rfl rfl)
theorem dX1_expression_11 : decode cX1_expression 11 = .ok (.aload_n 0, 1) := dk_42 (dk_at dksX1_expression_0 11 rfl rfl)
theorem dX1_expression_12 : decode cX1_expression 12 = .ok (.invokevirtual 174, 3) := dk_182 0 174 (dk_at dksX1_expression_0 12 rfl rfl)
theorem dX1_expression_15 : decode cX1_expression 15 = .ok (.aload_n 0, 1) := dk_42 (dk_at dksX1_expression_0 15 rfl rfl)
theorem dX1_expression_16 : decode cX1_expression 16 = .ok (.aload_n 0, 1) := dk_42 (dk_at dksX1_expression_0 16 rfl rfl)
theorem dX1_expression_17 : decode cX1_expression 17 = .ok (.invokevirtual 177, 3) := dk_182 0 177 (dk_at dksX1_expression_0 17 rfl rfl)
theorem dX1_expression_20 : decode cX1_expression 20 = .ok (.putfield 180, 3) := dk_181 0 180 (dk_at dksX1_expression_0 20 rfl rfl)
theorem dX1_expression_23 : decode cX1_expression 23 = .ok (.aload_n 0, 1) := dk_42 (dk_at dksX1_expression_0 23 rfl rfl)
theorem dX1_expression_24 : decode cX1_expression 24 = .ok (.lconst 0, 1) := dk_9 (dk_at dksX1_expression_1 0 rfl rfl)
theorem dX1_expression_25 : decode cX1_expression 25 = .ok (.putfield 183, 3) := dk_181 0 183 (dk_at dksX1_expression_1 1 rfl rfl)
theorem dX1_expression_28 : decode cX1_expression 28 = .ok (.aload_n 0, 1) := dk_42 (dk_at dksX1_expression_1 4 rfl rfl)
theorem dX1_expression_29 : decode cX1_expression 29 = .ok (.iconst 0, 1) := dk_3 (dk_at dksX1_expression_1 5 rfl rfl)
theorem dX1_expression_30 : decode cX1_expression 30 = .ok (.invokevirtual 51, 3) := dk_182 0 51 (dk_at dksX1_expression_1 6 rfl rfl)
theorem dX1_expression_33 : decode cX1_expression 33 = .ok (.bipush 43, 2) := dk_16 43 (dk_at dksX1_expression_1 9 rfl rfl)
theorem dX1_expression_35 : decode cX1_expression 35 = .ok (.if_icmp .ne 7, 3) := dk_160 0 7 (dk_at dksX1_expression_1 11 rfl rfl)
theorem dX1_expression_38 : decode cX1_expression 38 = .ok (.iconst 1, 1) := dk_4 (dk_at dksX1_expression_1 14 rfl rfl)
theorem dX1_expression_39 : decode cX1_expression 39 = .ok (.goto 4, 3) := dk_167 0 4 (dk_at dksX1_expression_1 15 rfl rfl)
theorem dX1_expression_42 : decode cX1_expression 42 = .ok (.iconst 0, 1) := dk_3 (dk_at dksX1_expression_1 18 rfl rfl)
theorem dX1_expression_43 : decode cX1_expression 43 = .ok (.istore_n 2, 1) := dk_61 (dk_at dksX1_expression_1 19 rfl rfl)
theorem dX1_expression_44 : decode cX1_expression 44 = .ok (.iload_n 2, 1) := dk_28 (dk_at dksX1_expression_1 20 rfl rfl)
theorem dX1_expression_45 : decode cX1_expression 45 = .ok (.ifCond .ne 13, 3) := dk_154 0 13 (dk_at dksX1_expression_1 21 rfl rfl)
theorem dX1_expression_48 : decode cX1_expression 48 = .ok (.aload_n 0, 1) := dk_42 (dk_at dksX1_expression_2 0 rfl rfl)
theorem dX1_expression_49 : decode cX1_expression 49 = .ok (.iconst 0, 1) := dk_3 (dk_at dksX1_expression_2 1 rfl rfl)
theorem dX1_expression_50 : decode cX1_expression 50 = .ok (.invokevirtual 51, 3) := dk_182 0 51 (dk_at dksX1_expression_2 2 rfl rfl)
theorem dX1_expression_53 : decode cX1_expression 53 = .ok (.bipush 45, 2) := dk_16 45 (dk_at dksX1_expression_2 5 rfl rfl)
theorem dX1_expression_55 : decode cX1_expression 55 = .ok (.if_icmp .ne 41, 3) := dk_160 0 41 (dk_at dksX1_expression_2 7 rfl rfl)
theorem dX1_expression_58 : decode cX1_expression 58 = .ok (.aload_n 0, 1) := dk_42 (dk_at dksX1_expression_2 10 rfl rfl)
theorem dX1_expression_59 : decode cX1_expression 59 = .ok (.aload_n 0, 1) := dk_42 (dk_at dksX1_expression_2 11 rfl rfl)
theorem dX1_expression_60 : decode cX1_expression 60 = .ok (.iconst 0, 1) := dk_3 (dk_at dksX1_expression_2 12 rfl rfl)
theorem dX1_expression_61 : decode cX1_expression 61 = .ok (.invokevirtual 51, 3) := dk_182 0 51 (dk_at dksX1_expression_2 13 rfl rfl)
theorem dX1_expression_64 : decode cX1_expression 64 = .ok (.invokevirtual 62, 3) := dk_182 0 62 (dk_at dksX1_expression_2 16 rfl rfl)
theorem dX1_expression_67 : decode cX1_expression 67 = .ok (.pop, 1) := dk_87 (dk_at dksX1_expression_2 19 rfl rfl)
theorem dX1_expression_68 : decode cX1_expression 68 = .ok (.aload_n 0, 1) := dk_42 (dk_at dksX1_expression_2 20 rfl rfl)
theorem dX1_expression_69 : decode cX1_expression 69 = .ok (.aload_n 0, 1) := dk_42 (dk_at dksX1_expression_2 21 rfl rfl)
theorem dX1_expression_70 : decode cX1_expression 70 = .ok (.invokevirtual 139, 3) := dk_182 0 139 (dk_at dksX1_expression_3 0 rfl rfl)
theorem dX1_expression_73 : decode cX1_expression 73 = .ok (.putfield 183, 3) := dk_181 0 183 (dk_at dksX1_expression_3 3 rfl rfl)
theorem dX1_expression_76 : decode cX1_expression 76 = .ok (.aload_n 0, 1) := dk_42 (dk_at dksX1_expression_3 6 rfl rfl)
theorem dX1_expression_77 : decode cX1_expression 77 = .ok (.iload_n 2, 1) := dk_28 (dk_at dksX1_expression_3 7 rfl rfl)
theorem dX1_expression_78 : decode cX1_expression 78 = .ok (.ifCond .eq 10, 3) := dk_153 0 10 (dk_at dksX1_expression_3 8 rfl rfl)
theorem dX1_expression_81 : decode cX1_expression 81 = .ok (.aload_n 0, 1) := dk_42 (dk_at dksX1_expression_3 11 rfl rfl)
theorem dX1_expression_82 : decode cX1_expression 82 = .ok (.getfield 183, 3) := dk_180 0 183 (dk_at dksX1_expression_3 12 rfl rfl)
theorem dX1_expression_85 : decode cX1_expression 85 = .ok (.goto 8, 3) := dk_167 0 8 (dk_at dksX1_expression_3 15 rfl rfl)
theorem dX1_expression_88 : decode cX1_expression 88 = .ok (.aload_n 0, 1) := dk_42 (dk_at dksX1_expression_3 18 rfl rfl)
theorem dX1_expression_89 : decode cX1_expression 89 = .ok (.getfield 183, 3) := dk_180 0 183 (dk_at dksX1_expression_3 19 rfl rfl)
theorem dX1_expression_92 : decode cX1_expression 92 = .ok (.lneg, 1) := dk_117 (dk_at dksX1_expression_3 22 rfl rfl)
theorem dX1_expression_93 : decode cX1_expression 93 = .ok (.putfield 183, 3) := dk_181 0 183 (dk_at dksX1_expression_4 0 rfl rfl)
theorem dX1_expression_96 : decode cX1_expression 96 = .ok (.return_, 1) := dk_177 (dk_at dksX1_expression_4 3 rfl rfl)
theorem dX1_expression_97 : decode cX1_expression 97 = .ok (.aload_n 0, 1) := dk_42 (dk_at dksX1_expression_4 4 rfl rfl)
theorem dX1_expression_98 : decode cX1_expression 98 = .ok (.iload_n 1, 1) := dk_27 (dk_at dksX1_expression_4 5 rfl rfl)
theorem dX1_expression_99 : decode cX1_expression 99 = .ok (.ifCond .ne 14, 3) := dk_154 0 14 (dk_at dksX1_expression_4 6 rfl rfl)
theorem dX1_expression_102 : decode cX1_expression 102 = .ok (.aload_n 0, 1) := dk_42 (dk_at dksX1_expression_4 9 rfl rfl)
theorem dX1_expression_103 : decode cX1_expression 103 = .ok (.invokevirtual 144, 3) := dk_182 0 144 (dk_at dksX1_expression_4 10 rfl rfl)
theorem dX1_expression_106 : decode cX1_expression 106 = .ok (.ifCond .eq 7, 3) := dk_153 0 7 (dk_at dksX1_expression_4 13 rfl rfl)
theorem dX1_expression_109 : decode cX1_expression 109 = .ok (.iconst 1, 1) := dk_4 (dk_at dksX1_expression_4 16 rfl rfl)
theorem dX1_expression_110 : decode cX1_expression 110 = .ok (.goto 4, 3) := dk_167 0 4 (dk_at dksX1_expression_4 17 rfl rfl)
theorem dX1_expression_113 : decode cX1_expression 113 = .ok (.iconst 0, 1) := dk_3 (dk_at dksX1_expression_4 20 rfl rfl)
theorem dX1_expression_114 : decode cX1_expression 114 = .ok (.aload_n 0, 1) := dk_42 (dk_at dksX1_expression_4 21 rfl rfl)
theorem dX1_expression_115 : decode cX1_expression 115 = .ok (.invokevirtual 65, 3) := dk_182 0 65 (dk_at dksX1_expression_5 0 rfl rfl)
theorem dX1_expression_118 : decode cX1_expression 118 = .ok (.invokevirtual 69, 3) := dk_182 0 69 (dk_at dksX1_expression_5 3 rfl rfl)
theorem dX1_expression_121 : decode cX1_expression 121 = .ok (.aload_n 0, 1) := dk_42 (dk_at dksX1_expression_5 6 rfl rfl)
theorem dX1_expression_122 : decode cX1_expression 122 = .ok (.iconst (-1), 1) := dk_2 (dk_at dksX1_expression_5 7 rfl rfl)
theorem dX1_expression_123 : decode cX1_expression 123 = .ok (.putfield 180, 3) := dk_181 0 180 (dk_at dksX1_expression_5 8 rfl rfl)
theorem dX1_expression_126 : decode cX1_expression 126 = .ok (.aload_n 0, 1) := dk_42 (dk_at dksX1_expression_5 11 rfl rfl)
theorem dX1_expression_127 : decode cX1_expression 127 = .ok (.aload_n 0, 1) := dk_42 (dk_at dksX1_expression_5 12 rfl rfl)
theorem dX1_expression_128 : decode cX1_expression 128 = .ok (.invokevirtual 147, 3) := dk_182 0 147 (dk_at dksX1_expression_5 13 rfl rfl)
theorem dX1_expression_131 : decode cX1_expression 131 = .ok (.putfield 183, 3) := dk_181 0 183 (dk_at dksX1_expression_5 16 rfl rfl)
theorem dX1_expression_134 : decode cX1_expression 134 = .ok (.return_, 1) := dk_177 (dk_at dksX1_expression_5 19 rfl rfl)
abbrev cX1_instruction : ByteArray := prog_1_method_38_code
def yX1_instruction : MethodName := ⟨RX1, "instruction", "(I)V"⟩
def dkwX1_instruction_1 : List UInt8 := [181, 0, 187, 16, 24, 61, 28, 155, 0, 16, 42, 27, 28, 122, 182, 0, 241, 132, 2, 248, 167, 255, 242, 177]
abbrev dktX1_instruction_1 : List UInt8 := dkwX1_instruction_1 ++ []
def dkwX1_instruction_0 : List UInt8 := [42, 7, 182, 0, 207, 42, 180, 0, 187, 153, 0, 11, 42, 42, 180, 0, 187, 182, 0, 238, 42, 3]
abbrev dktX1_instruction_0 : List UInt8 := dkwX1_instruction_0 ++ dktX1_instruction_1
theorem dksX1_instruction_0 : cX1_instruction.data.toList.drop 0 = dktX1_instruction_0 := by decide +kernel
theorem dksX1_instruction_1 : cX1_instruction.data.toList.drop 22 = dktX1_instruction_1 := dk_seg dksX1_instruction_0 22 rfl rfl
theorem dX1_instruction_0 : decode cX1_instruction 0 = .ok (.aload_n 0, 1) := dk_42 (dk_at dksX1_instruction_0 0 rfl rfl)
theorem dX1_instruction_1 : decode cX1_instruction 1 = .ok (.iconst 4, 1) := dk_7 (dk_at dksX1_instruction_0 1 rfl rfl)
theorem dX1_instruction_2 : decode cX1_instruction 2 = .ok (.invokevirtual 207, 3) := dk_182 0 207 (dk_at dksX1_instruction_0 2 rfl rfl)
theorem dX1_instruction_5 : decode cX1_instruction 5 = .ok (.aload_n 0, 1) := dk_42 (dk_at dksX1_instruction_0 5 rfl rfl)
theorem dX1_instruction_6 : decode cX1_instruction 6 = .ok (.getfield 187, 3) := dk_180 0 187 (dk_at dksX1_instruction_0 6 rfl rfl)
theorem dX1_instruction_9 : decode cX1_instruction 9 = .ok (.ifCond .eq 11, 3) := dk_153 0 11 (dk_at dksX1_instruction_0 9 rfl rfl)
theorem dX1_instruction_12 : decode cX1_instruction 12 = .ok (.aload_n 0, 1) := dk_42 (dk_at dksX1_instruction_0 12 rfl rfl)
theorem dX1_instruction_13 : decode cX1_instruction 13 = .ok (.aload_n 0, 1) := dk_42 (dk_at dksX1_instruction_0 13 rfl rfl)
theorem dX1_instruction_14 : decode cX1_instruction 14 = .ok (.getfield 187, 3) := dk_180 0 187 (dk_at dksX1_instruction_0 14 rfl rfl)
theorem dX1_instruction_17 : decode cX1_instruction 17 = .ok (.invokevirtual 238, 3) := dk_182 0 238 (dk_at dksX1_instruction_0 17 rfl rfl)
theorem dX1_instruction_20 : decode cX1_instruction 20 = .ok (.aload_n 0, 1) := dk_42 (dk_at dksX1_instruction_0 20 rfl rfl)
theorem dX1_instruction_21 : decode cX1_instruction 21 = .ok (.iconst 0, 1) := dk_3 (dk_at dksX1_instruction_0 21 rfl rfl)
theorem dX1_instruction_22 : decode cX1_instruction 22 = .ok (.putfield 187, 3) := dk_181 0 187 (dk_at dksX1_instruction_1 0 rfl rfl)
theorem dX1_instruction_25 : decode cX1_instruction 25 = .ok (.bipush 24, 2) := dk_16 24 (dk_at dksX1_instruction_1 3 rfl rfl)
theorem dX1_instruction_27 : decode cX1_instruction 27 = .ok (.istore_n 2, 1) := dk_61 (dk_at dksX1_instruction_1 5 rfl rfl)
theorem dX1_instruction_28 : decode cX1_instruction 28 = .ok (.iload_n 2, 1) := dk_28 (dk_at dksX1_instruction_1 6 rfl rfl)
theorem dX1_instruction_29 : decode cX1_instruction 29 = .ok (.ifCond .lt 16, 3) := dk_155 0 16 (dk_at dksX1_instruction_1 7 rfl rfl)
theorem dX1_instruction_32 : decode cX1_instruction 32 = .ok (.aload_n 0, 1) := dk_42 (dk_at dksX1_instruction_1 10 rfl rfl)
theorem dX1_instruction_33 : decode cX1_instruction 33 = .ok (.iload_n 1, 1) := dk_27 (dk_at dksX1_instruction_1 11 rfl rfl)
theorem dX1_instruction_34 : decode cX1_instruction 34 = .ok (.iload_n 2, 1) := dk_28 (dk_at dksX1_instruction_1 12 rfl rfl)
theorem dX1_instruction_35 : decode cX1_instruction 35 = .ok (.ishr, 1) := dk_122 (dk_at dksX1_instruction_1 13 rfl rfl)
theorem dX1_instruction_36 : decode cX1_instruction 36 = .ok (.invokevirtual 241, 3) := dk_182 0 241 (dk_at dksX1_instruction_1 14 rfl rfl)
theorem dX1_instruction_39 : decode cX1_instruction 39 = .ok (.iinc 2 (-8), 3) := dk_132 2 248 (dk_at dksX1_instruction_1 17 rfl rfl)
theorem dX1_instruction_42 : decode cX1_instruction 42 = .ok (.goto (-14), 3) := dk_167 255 242 (dk_at dksX1_instruction_1 20 rfl rfl)
theorem dX1_instruction_45 : decode cX1_instruction 45 = .ok (.return_, 1) := dk_177 (dk_at dksX1_instruction_1 23 rfl rfl)
abbrev cX1_relocate : ByteArray := prog_1_method_37_code
def yX1_relocate : MethodName := ⟨RX1, "relocate", "(I)V"⟩
def dkwX1_relocate_5 : List UInt8 := [96, 181, 0, 214, 177]
abbrev dktX1_relocate_5 : List UInt8 := dkwX1_relocate_5 ++ []
def dkwX1_relocate_4 : List UInt8 := [136, 79, 42, 180, 0, 150, 180, 0, 232, 28, 42, 180, 0, 235, 79, 42, 180, 0, 150, 89, 180, 0, 214, 4]
abbrev dktX1_relocate_4 : List UInt8 := dkwX1_relocate_4 ++ dktX1_relocate_5
def dkwX1_relocate_3 : List UInt8 := [180, 0, 150, 180, 0, 226, 28, 42, 180, 0, 180, 79, 42, 180, 0, 150, 180, 0, 229, 28, 42, 180, 0, 183]
abbrev dktX1_relocate_3 : List UInt8 := dkwX1_relocate_3 ++ dktX1_relocate_4
def dkwX1_relocate_2 : List UInt8 := [42, 180, 0, 150, 180, 0, 201, 42, 180, 0, 204, 46, 79, 42, 180, 0, 150, 180, 0, 223, 28, 27, 79, 42]
abbrev dktX1_relocate_2 : List UInt8 := dkwX1_relocate_2 ++ dktX1_relocate_3
def dkwX1_relocate_1 : List UInt8 := [182, 0, 69, 42, 180, 0, 150, 180, 0, 217, 28, 42, 180, 0, 204, 79, 42, 180, 0, 150, 180, 0, 220, 28]
abbrev dktX1_relocate_1 : List UInt8 := dkwX1_relocate_1 ++ dktX1_relocate_2
def dkwX1_relocate_0 : List UInt8 := [42, 180, 0, 150, 180, 0, 214, 61, 42, 28, 17, 1, 0, 162, 0, 7, 4, 167, 0, 4, 3, 16, 7]
abbrev dktX1_relocate_0 : List UInt8 := dkwX1_relocate_0 ++ dktX1_relocate_1
theorem dksX1_relocate_0 : cX1_relocate.data.toList.drop 0 = dktX1_relocate_0 := by decide +kernel
theorem dksX1_relocate_1 : cX1_relocate.data.toList.drop 23 = dktX1_relocate_1 := dk_seg dksX1_relocate_0 23 rfl rfl
theorem dksX1_relocate_2 : cX1_relocate.data.toList.drop 47 = dktX1_relocate_2 := dk_seg dksX1_relocate_1 24 rfl rfl
theorem dksX1_relocate_3 : cX1_relocate.data.toList.drop 71 = dktX1_relocate_3 := dk_seg dksX1_relocate_2 24 rfl rfl
theorem dksX1_relocate_4 : cX1_relocate.data.toList.drop 95 = dktX1_relocate_4 := dk_seg dksX1_relocate_3 24 rfl rfl
theorem dksX1_relocate_5 : cX1_relocate.data.toList.drop 119 = dktX1_relocate_5 := dk_seg dksX1_relocate_4 24 rfl rfl
theorem dX1_relocate_0 : decode cX1_relocate 0 = .ok (.aload_n 0, 1) := dk_42 (dk_at dksX1_relocate_0 0 rfl rfl)
theorem dX1_relocate_1 : decode cX1_relocate 1 = .ok (.getfield 150, 3) := dk_180 0 150 (dk_at dksX1_relocate_0 1 rfl rfl)
theorem dX1_relocate_4 : decode cX1_relocate 4 = .ok (.getfield 214, 3) := dk_180 0 214 (dk_at dksX1_relocate_0 4 rfl rfl)
theorem dX1_relocate_7 : decode cX1_relocate 7 = .ok (.istore_n 2, 1) := dk_61 (dk_at dksX1_relocate_0 7 rfl rfl)
theorem dX1_relocate_8 : decode cX1_relocate 8 = .ok (.aload_n 0, 1) := dk_42 (dk_at dksX1_relocate_0 8 rfl rfl)
theorem dX1_relocate_9 : decode cX1_relocate 9 = .ok (.iload_n 2, 1) := dk_28 (dk_at dksX1_relocate_0 9 rfl rfl)
theorem dX1_relocate_10 : decode cX1_relocate 10 = .ok (.sipush 256, 3) := dk_17 1 0 (dk_at dksX1_relocate_0 10 rfl rfl)
theorem dX1_relocate_13 : decode cX1_relocate 13 = .ok (.if_icmp .ge 7, 3) := dk_162 0 7 (dk_at dksX1_relocate_0 13 rfl rfl)
theorem dX1_relocate_16 : decode cX1_relocate 16 = .ok (.iconst 1, 1) := dk_4 (dk_at dksX1_relocate_0 16 rfl rfl)
theorem dX1_relocate_17 : decode cX1_relocate 17 = .ok (.goto 4, 3) := dk_167 0 4 (dk_at dksX1_relocate_0 17 rfl rfl)
theorem dX1_relocate_20 : decode cX1_relocate 20 = .ok (.iconst 0, 1) := dk_3 (dk_at dksX1_relocate_0 20 rfl rfl)
theorem dX1_relocate_21 : decode cX1_relocate 21 = .ok (.bipush 7, 2) := dk_16 7 (dk_at dksX1_relocate_0 21 rfl rfl)
theorem dX1_relocate_23 : decode cX1_relocate 23 = .ok (.invokevirtual 69, 3) := dk_182 0 69 (dk_at dksX1_relocate_1 0 rfl rfl)
theorem dX1_relocate_26 : decode cX1_relocate 26 = .ok (.aload_n 0, 1) := dk_42 (dk_at dksX1_relocate_1 3 rfl rfl)
theorem dX1_relocate_27 : decode cX1_relocate 27 = .ok (.getfield 150, 3) := dk_180 0 150 (dk_at dksX1_relocate_1 4 rfl rfl)
theorem dX1_relocate_30 : decode cX1_relocate 30 = .ok (.getfield 217, 3) := dk_180 0 217 (dk_at dksX1_relocate_1 7 rfl rfl)
theorem dX1_relocate_33 : decode cX1_relocate 33 = .ok (.iload_n 2, 1) := dk_28 (dk_at dksX1_relocate_1 10 rfl rfl)
theorem dX1_relocate_34 : decode cX1_relocate 34 = .ok (.aload_n 0, 1) := dk_42 (dk_at dksX1_relocate_1 11 rfl rfl)
theorem dX1_relocate_35 : decode cX1_relocate 35 = .ok (.getfield 204, 3) := dk_180 0 204 (dk_at dksX1_relocate_1 12 rfl rfl)
theorem dX1_relocate_38 : decode cX1_relocate 38 = .ok (.iastore, 1) := dk_79 (dk_at dksX1_relocate_1 15 rfl rfl)
theorem dX1_relocate_39 : decode cX1_relocate 39 = .ok (.aload_n 0, 1) := dk_42 (dk_at dksX1_relocate_1 16 rfl rfl)
theorem dX1_relocate_40 : decode cX1_relocate 40 = .ok (.getfield 150, 3) := dk_180 0 150 (dk_at dksX1_relocate_1 17 rfl rfl)
theorem dX1_relocate_43 : decode cX1_relocate 43 = .ok (.getfield 220, 3) := dk_180 0 220 (dk_at dksX1_relocate_1 20 rfl rfl)
theorem dX1_relocate_46 : decode cX1_relocate 46 = .ok (.iload_n 2, 1) := dk_28 (dk_at dksX1_relocate_1 23 rfl rfl)
theorem dX1_relocate_47 : decode cX1_relocate 47 = .ok (.aload_n 0, 1) := dk_42 (dk_at dksX1_relocate_2 0 rfl rfl)
theorem dX1_relocate_48 : decode cX1_relocate 48 = .ok (.getfield 150, 3) := dk_180 0 150 (dk_at dksX1_relocate_2 1 rfl rfl)
theorem dX1_relocate_51 : decode cX1_relocate 51 = .ok (.getfield 201, 3) := dk_180 0 201 (dk_at dksX1_relocate_2 4 rfl rfl)
theorem dX1_relocate_54 : decode cX1_relocate 54 = .ok (.aload_n 0, 1) := dk_42 (dk_at dksX1_relocate_2 7 rfl rfl)
theorem dX1_relocate_55 : decode cX1_relocate 55 = .ok (.getfield 204, 3) := dk_180 0 204 (dk_at dksX1_relocate_2 8 rfl rfl)
theorem dX1_relocate_58 : decode cX1_relocate 58 = .ok (.iaload, 1) := dk_46 (dk_at dksX1_relocate_2 11 rfl rfl)
theorem dX1_relocate_59 : decode cX1_relocate 59 = .ok (.iastore, 1) := dk_79 (dk_at dksX1_relocate_2 12 rfl rfl)
theorem dX1_relocate_60 : decode cX1_relocate 60 = .ok (.aload_n 0, 1) := dk_42 (dk_at dksX1_relocate_2 13 rfl rfl)
theorem dX1_relocate_61 : decode cX1_relocate 61 = .ok (.getfield 150, 3) := dk_180 0 150 (dk_at dksX1_relocate_2 14 rfl rfl)
theorem dX1_relocate_64 : decode cX1_relocate 64 = .ok (.getfield 223, 3) := dk_180 0 223 (dk_at dksX1_relocate_2 17 rfl rfl)
theorem dX1_relocate_67 : decode cX1_relocate 67 = .ok (.iload_n 2, 1) := dk_28 (dk_at dksX1_relocate_2 20 rfl rfl)
theorem dX1_relocate_68 : decode cX1_relocate 68 = .ok (.iload_n 1, 1) := dk_27 (dk_at dksX1_relocate_2 21 rfl rfl)
theorem dX1_relocate_69 : decode cX1_relocate 69 = .ok (.iastore, 1) := dk_79 (dk_at dksX1_relocate_2 22 rfl rfl)
theorem dX1_relocate_70 : decode cX1_relocate 70 = .ok (.aload_n 0, 1) := dk_42 (dk_at dksX1_relocate_2 23 rfl rfl)
theorem dX1_relocate_71 : decode cX1_relocate 71 = .ok (.getfield 150, 3) := dk_180 0 150 (dk_at dksX1_relocate_3 0 rfl rfl)
theorem dX1_relocate_74 : decode cX1_relocate 74 = .ok (.getfield 226, 3) := dk_180 0 226 (dk_at dksX1_relocate_3 3 rfl rfl)
theorem dX1_relocate_77 : decode cX1_relocate 77 = .ok (.iload_n 2, 1) := dk_28 (dk_at dksX1_relocate_3 6 rfl rfl)
theorem dX1_relocate_78 : decode cX1_relocate 78 = .ok (.aload_n 0, 1) := dk_42 (dk_at dksX1_relocate_3 7 rfl rfl)
theorem dX1_relocate_79 : decode cX1_relocate 79 = .ok (.getfield 180, 3) := dk_180 0 180 (dk_at dksX1_relocate_3 8 rfl rfl)
theorem dX1_relocate_82 : decode cX1_relocate 82 = .ok (.iastore, 1) := dk_79 (dk_at dksX1_relocate_3 11 rfl rfl)
theorem dX1_relocate_83 : decode cX1_relocate 83 = .ok (.aload_n 0, 1) := dk_42 (dk_at dksX1_relocate_3 12 rfl rfl)
theorem dX1_relocate_84 : decode cX1_relocate 84 = .ok (.getfield 150, 3) := dk_180 0 150 (dk_at dksX1_relocate_3 13 rfl rfl)
theorem dX1_relocate_87 : decode cX1_relocate 87 = .ok (.getfield 229, 3) := dk_180 0 229 (dk_at dksX1_relocate_3 16 rfl rfl)
theorem dX1_relocate_90 : decode cX1_relocate 90 = .ok (.iload_n 2, 1) := dk_28 (dk_at dksX1_relocate_3 19 rfl rfl)
theorem dX1_relocate_91 : decode cX1_relocate 91 = .ok (.aload_n 0, 1) := dk_42 (dk_at dksX1_relocate_3 20 rfl rfl)
theorem dX1_relocate_92 : decode cX1_relocate 92 = .ok (.getfield 183, 3) := dk_180 0 183 (dk_at dksX1_relocate_3 21 rfl rfl)
theorem dX1_relocate_95 : decode cX1_relocate 95 = .ok (.l2i, 1) := dk_136 (dk_at dksX1_relocate_4 0 rfl rfl)
theorem dX1_relocate_96 : decode cX1_relocate 96 = .ok (.iastore, 1) := dk_79 (dk_at dksX1_relocate_4 1 rfl rfl)
theorem dX1_relocate_97 : decode cX1_relocate 97 = .ok (.aload_n 0, 1) := dk_42 (dk_at dksX1_relocate_4 2 rfl rfl)
theorem dX1_relocate_98 : decode cX1_relocate 98 = .ok (.getfield 150, 3) := dk_180 0 150 (dk_at dksX1_relocate_4 3 rfl rfl)
theorem dX1_relocate_101 : decode cX1_relocate 101 = .ok (.getfield 232, 3) := dk_180 0 232 (dk_at dksX1_relocate_4 6 rfl rfl)
theorem dX1_relocate_104 : decode cX1_relocate 104 = .ok (.iload_n 2, 1) := dk_28 (dk_at dksX1_relocate_4 9 rfl rfl)
theorem dX1_relocate_105 : decode cX1_relocate 105 = .ok (.aload_n 0, 1) := dk_42 (dk_at dksX1_relocate_4 10 rfl rfl)
theorem dX1_relocate_106 : decode cX1_relocate 106 = .ok (.getfield 235, 3) := dk_180 0 235 (dk_at dksX1_relocate_4 11 rfl rfl)
theorem dX1_relocate_109 : decode cX1_relocate 109 = .ok (.iastore, 1) := dk_79 (dk_at dksX1_relocate_4 14 rfl rfl)
theorem dX1_relocate_110 : decode cX1_relocate 110 = .ok (.aload_n 0, 1) := dk_42 (dk_at dksX1_relocate_4 15 rfl rfl)
theorem dX1_relocate_111 : decode cX1_relocate 111 = .ok (.getfield 150, 3) := dk_180 0 150 (dk_at dksX1_relocate_4 16 rfl rfl)
theorem dX1_relocate_114 : decode cX1_relocate 114 = .ok (.dup, 1) := dk_89 (dk_at dksX1_relocate_4 19 rfl rfl)
theorem dX1_relocate_115 : decode cX1_relocate 115 = .ok (.getfield 214, 3) := dk_180 0 214 (dk_at dksX1_relocate_4 20 rfl rfl)
theorem dX1_relocate_118 : decode cX1_relocate 118 = .ok (.iconst 1, 1) := dk_4 (dk_at dksX1_relocate_4 23 rfl rfl)
theorem dX1_relocate_119 : decode cX1_relocate 119 = .ok (.iadd, 1) := dk_96 (dk_at dksX1_relocate_5 0 rfl rfl)
theorem dX1_relocate_120 : decode cX1_relocate 120 = .ok (.putfield 214, 3) := dk_181 0 214 (dk_at dksX1_relocate_5 1 rfl rfl)
theorem dX1_relocate_123 : decode cX1_relocate 123 = .ok (.return_, 1) := dk_177 (dk_at dksX1_relocate_5 4 rfl rfl)
abbrev cX1_isKnown : ByteArray := prog_1_method_43_code
def yX1_isKnown : MethodName := ⟨RX1, "isKnown", "(II)Z"⟩
def dkwX1_isKnown_11 : List UInt8 := [167, 0, 4, 3, 62, 29, 154, 0, 12, 42, 27, 28, 182, 1, 58, 153, 0, 7, 4, 167, 0, 4, 3, 172]
abbrev dktX1_isKnown_11 : List UInt8 := dkwX1_isKnown_11 ++ []
def dkwX1_isKnown_10 : List UInt8 := [19, 1, 54, 27, 28, 182, 0, 117, 156, 0, 15, 42, 19, 1, 56, 27, 28, 182, 0, 117, 155, 0, 7, 4]
abbrev dktX1_isKnown_10 : List UInt8 := dkwX1_isKnown_10 ++ dktX1_isKnown_11
def dkwX1_isKnown_9 : List UInt8 := [19, 1, 50, 27, 28, 182, 0, 117, 156, 0, 39, 42, 19, 1, 52, 27, 28, 182, 0, 117, 156, 0, 27, 42]
abbrev dktX1_isKnown_9 : List UInt8 := dkwX1_isKnown_9 ++ dktX1_isKnown_10
def dkwX1_isKnown_8 : List UInt8 := [167, 0, 4, 3, 62, 29, 154, 0, 63, 42, 19, 1, 48, 27, 28, 182, 0, 117, 156, 0, 51, 42]
abbrev dktX1_isKnown_8 : List UInt8 := dkwX1_isKnown_8 ++ dktX1_isKnown_9
def dkwX1_isKnown_7 : List UInt8 := [19, 1, 44, 27, 28, 182, 0, 117, 156, 0, 15, 42, 19, 1, 46, 27, 28, 182, 0, 117, 155, 0, 7, 4]
abbrev dktX1_isKnown_7 : List UInt8 := dkwX1_isKnown_7 ++ dktX1_isKnown_8
def dkwX1_isKnown_6 : List UInt8 := [19, 1, 40, 27, 28, 182, 0, 117, 156, 0, 39, 42, 19, 1, 42, 27, 28, 182, 0, 117, 156, 0, 27, 42]
abbrev dktX1_isKnown_6 : List UInt8 := dkwX1_isKnown_6 ++ dktX1_isKnown_7
def dkwX1_isKnown_5 : List UInt8 := [19, 1, 36, 27, 28, 182, 0, 117, 156, 0, 63, 42, 19, 1, 38, 27, 28, 182, 0, 117, 156, 0, 51, 42]
abbrev dktX1_isKnown_5 : List UInt8 := dkwX1_isKnown_5 ++ dktX1_isKnown_6
def dkwX1_isKnown_4 : List UInt8 := [4, 167, 0, 4, 3, 62, 29, 154, 0, 87, 42, 19, 1, 34, 27, 28, 182, 0, 117, 156, 0, 75, 42]
abbrev dktX1_isKnown_4 : List UInt8 := dkwX1_isKnown_4 ++ dktX1_isKnown_5
def dkwX1_isKnown_3 : List UInt8 := [42, 19, 1, 30, 27, 28, 182, 0, 117, 156, 0, 15, 42, 19, 1, 32, 27, 28, 182, 0, 117, 155, 0, 7]
abbrev dktX1_isKnown_3 : List UInt8 := dkwX1_isKnown_3 ++ dktX1_isKnown_4
def dkwX1_isKnown_2 : List UInt8 := [42, 19, 1, 26, 27, 28, 182, 0, 117, 156, 0, 39, 42, 19, 1, 28, 27, 28, 182, 0, 117, 156, 0, 27]
abbrev dktX1_isKnown_2 : List UInt8 := dkwX1_isKnown_2 ++ dktX1_isKnown_3
def dkwX1_isKnown_1 : List UInt8 := [42, 19, 1, 22, 27, 28, 182, 0, 117, 156, 0, 63, 42, 19, 1, 24, 27, 28, 182, 0, 117, 156, 0, 51]
abbrev dktX1_isKnown_1 : List UInt8 := dkwX1_isKnown_1 ++ dktX1_isKnown_2
def dkwX1_isKnown_0 : List UInt8 := [42, 19, 1, 18, 27, 28, 182, 0, 117, 156, 0, 87, 42, 19, 1, 20, 27, 28, 182, 0, 117, 156, 0, 75]
abbrev dktX1_isKnown_0 : List UInt8 := dkwX1_isKnown_0 ++ dktX1_isKnown_1
theorem dksX1_isKnown_0 : cX1_isKnown.data.toList.drop 0 = dktX1_isKnown_0 := by decide +kernel
theorem dksX1_isKnown_1 : cX1_isKnown.data.toList.drop 24 = dktX1_isKnown_1 := dk_seg dksX1_isKnown_0 24 rfl rfl
theorem dksX1_isKnown_2 : cX1_isKnown.data.toList.drop 48 = dktX1_isKnown_2 := dk_seg dksX1_isKnown_1 24 rfl rfl
theorem dksX1_isKnown_3 : cX1_isKnown.data.toList.drop 72 = dktX1_isKnown_3 := dk_seg dksX1_isKnown_2 24 rfl rfl
theorem dksX1_isKnown_4 : cX1_isKnown.data.toList.drop 96 = dktX1_isKnown_4 := dk_seg dksX1_isKnown_3 24 rfl rfl
theorem dksX1_isKnown_5 : cX1_isKnown.data.toList.drop 119 = dktX1_isKnown_5 := dk_seg dksX1_isKnown_4 23 rfl rfl
theorem dksX1_isKnown_6 : cX1_isKnown.data.toList.drop 143 = dktX1_isKnown_6 := dk_seg dksX1_isKnown_5 24 rfl rfl
theorem dksX1_isKnown_7 : cX1_isKnown.data.toList.drop 167 = dktX1_isKnown_7 := dk_seg dksX1_isKnown_6 24 rfl rfl
theorem dksX1_isKnown_8 : cX1_isKnown.data.toList.drop 191 = dktX1_isKnown_8 := dk_seg dksX1_isKnown_7 24 rfl rfl
theorem dksX1_isKnown_9 : cX1_isKnown.data.toList.drop 213 = dktX1_isKnown_9 := dk_seg dksX1_isKnown_8 22 rfl rfl
theorem dksX1_isKnown_10 : cX1_isKnown.data.toList.drop 237 = dktX1_isKnown_10 := dk_seg dksX1_isKnown_9 24 rfl rfl
theorem dksX1_isKnown_11 : cX1_isKnown.data.toList.drop 261 = dktX1_isKnown_11 := dk_seg dksX1_isKnown_10 24 rfl rfl
theorem dX1_isKnown_0 : decode cX1_isKnown 0 = .ok (.aload_n 0, 1) := dk_42 (dk_at dksX1_isKnown_0 0 rfl rfl)
theorem dX1_isKnown_1 : decode cX1_isKnown 1 = .ok (.ldc_w 274, 3) := dk_19 1 18 (dk_at dksX1_isKnown_0 1 rfl rfl)
theorem dX1_isKnown_4 : decode cX1_isKnown 4 = .ok (.iload_n 1, 1) := dk_27 (dk_at dksX1_isKnown_0 4 rfl rfl)
theorem dX1_isKnown_5 : decode cX1_isKnown 5 = .ok (.iload_n 2, 1) := dk_28 (dk_at dksX1_isKnown_0 5 rfl rfl)
theorem dX1_isKnown_6 : decode cX1_isKnown 6 = .ok (.invokevirtual 117, 3) := dk_182 0 117 (dk_at dksX1_isKnown_0 6 rfl rfl)
theorem dX1_isKnown_9 : decode cX1_isKnown 9 = .ok (.ifCond .ge 87, 3) := dk_156 0 87 (dk_at dksX1_isKnown_0 9 rfl rfl)
theorem dX1_isKnown_12 : decode cX1_isKnown 12 = .ok (.aload_n 0, 1) := dk_42 (dk_at dksX1_isKnown_0 12 rfl rfl)
theorem dX1_isKnown_13 : decode cX1_isKnown 13 = .ok (.ldc_w 276, 3) := dk_19 1 20 (dk_at dksX1_isKnown_0 13 rfl rfl)
theorem dX1_isKnown_16 : decode cX1_isKnown 16 = .ok (.iload_n 1, 1) := dk_27 (dk_at dksX1_isKnown_0 16 rfl rfl)
theorem dX1_isKnown_17 : decode cX1_isKnown 17 = .ok (.iload_n 2, 1) := dk_28 (dk_at dksX1_isKnown_0 17 rfl rfl)
theorem dX1_isKnown_18 : decode cX1_isKnown 18 = .ok (.invokevirtual 117, 3) := dk_182 0 117 (dk_at dksX1_isKnown_0 18 rfl rfl)
theorem dX1_isKnown_21 : decode cX1_isKnown 21 = .ok (.ifCond .ge 75, 3) := dk_156 0 75 (dk_at dksX1_isKnown_0 21 rfl rfl)
theorem dX1_isKnown_24 : decode cX1_isKnown 24 = .ok (.aload_n 0, 1) := dk_42 (dk_at dksX1_isKnown_1 0 rfl rfl)
theorem dX1_isKnown_25 : decode cX1_isKnown 25 = .ok (.ldc_w 278, 3) := dk_19 1 22 (dk_at dksX1_isKnown_1 1 rfl rfl)
theorem dX1_isKnown_28 : decode cX1_isKnown 28 = .ok (.iload_n 1, 1) := dk_27 (dk_at dksX1_isKnown_1 4 rfl rfl)
theorem dX1_isKnown_29 : decode cX1_isKnown 29 = .ok (.iload_n 2, 1) := dk_28 (dk_at dksX1_isKnown_1 5 rfl rfl)
theorem dX1_isKnown_30 : decode cX1_isKnown 30 = .ok (.invokevirtual 117, 3) := dk_182 0 117 (dk_at dksX1_isKnown_1 6 rfl rfl)
theorem dX1_isKnown_33 : decode cX1_isKnown 33 = .ok (.ifCond .ge 63, 3) := dk_156 0 63 (dk_at dksX1_isKnown_1 9 rfl rfl)
theorem dX1_isKnown_36 : decode cX1_isKnown 36 = .ok (.aload_n 0, 1) := dk_42 (dk_at dksX1_isKnown_1 12 rfl rfl)
theorem dX1_isKnown_37 : decode cX1_isKnown 37 = .ok (.ldc_w 280, 3) := dk_19 1 24 (dk_at dksX1_isKnown_1 13 rfl rfl)
theorem dX1_isKnown_40 : decode cX1_isKnown 40 = .ok (.iload_n 1, 1) := dk_27 (dk_at dksX1_isKnown_1 16 rfl rfl)
theorem dX1_isKnown_41 : decode cX1_isKnown 41 = .ok (.iload_n 2, 1) := dk_28 (dk_at dksX1_isKnown_1 17 rfl rfl)
theorem dX1_isKnown_42 : decode cX1_isKnown 42 = .ok (.invokevirtual 117, 3) := dk_182 0 117 (dk_at dksX1_isKnown_1 18 rfl rfl)
theorem dX1_isKnown_45 : decode cX1_isKnown 45 = .ok (.ifCond .ge 51, 3) := dk_156 0 51 (dk_at dksX1_isKnown_1 21 rfl rfl)
theorem dX1_isKnown_48 : decode cX1_isKnown 48 = .ok (.aload_n 0, 1) := dk_42 (dk_at dksX1_isKnown_2 0 rfl rfl)
theorem dX1_isKnown_49 : decode cX1_isKnown 49 = .ok (.ldc_w 282, 3) := dk_19 1 26 (dk_at dksX1_isKnown_2 1 rfl rfl)
theorem dX1_isKnown_52 : decode cX1_isKnown 52 = .ok (.iload_n 1, 1) := dk_27 (dk_at dksX1_isKnown_2 4 rfl rfl)
theorem dX1_isKnown_53 : decode cX1_isKnown 53 = .ok (.iload_n 2, 1) := dk_28 (dk_at dksX1_isKnown_2 5 rfl rfl)
theorem dX1_isKnown_54 : decode cX1_isKnown 54 = .ok (.invokevirtual 117, 3) := dk_182 0 117 (dk_at dksX1_isKnown_2 6 rfl rfl)
theorem dX1_isKnown_57 : decode cX1_isKnown 57 = .ok (.ifCond .ge 39, 3) := dk_156 0 39 (dk_at dksX1_isKnown_2 9 rfl rfl)
theorem dX1_isKnown_60 : decode cX1_isKnown 60 = .ok (.aload_n 0, 1) := dk_42 (dk_at dksX1_isKnown_2 12 rfl rfl)
theorem dX1_isKnown_61 : decode cX1_isKnown 61 = .ok (.ldc_w 284, 3) := dk_19 1 28 (dk_at dksX1_isKnown_2 13 rfl rfl)
theorem dX1_isKnown_64 : decode cX1_isKnown 64 = .ok (.iload_n 1, 1) := dk_27 (dk_at dksX1_isKnown_2 16 rfl rfl)
theorem dX1_isKnown_65 : decode cX1_isKnown 65 = .ok (.iload_n 2, 1) := dk_28 (dk_at dksX1_isKnown_2 17 rfl rfl)
theorem dX1_isKnown_66 : decode cX1_isKnown 66 = .ok (.invokevirtual 117, 3) := dk_182 0 117 (dk_at dksX1_isKnown_2 18 rfl rfl)
theorem dX1_isKnown_69 : decode cX1_isKnown 69 = .ok (.ifCond .ge 27, 3) := dk_156 0 27 (dk_at dksX1_isKnown_2 21 rfl rfl)
theorem dX1_isKnown_72 : decode cX1_isKnown 72 = .ok (.aload_n 0, 1) := dk_42 (dk_at dksX1_isKnown_3 0 rfl rfl)
theorem dX1_isKnown_73 : decode cX1_isKnown 73 = .ok (.ldc_w 286, 3) := dk_19 1 30 (dk_at dksX1_isKnown_3 1 rfl rfl)
theorem dX1_isKnown_76 : decode cX1_isKnown 76 = .ok (.iload_n 1, 1) := dk_27 (dk_at dksX1_isKnown_3 4 rfl rfl)
theorem dX1_isKnown_77 : decode cX1_isKnown 77 = .ok (.iload_n 2, 1) := dk_28 (dk_at dksX1_isKnown_3 5 rfl rfl)
theorem dX1_isKnown_78 : decode cX1_isKnown 78 = .ok (.invokevirtual 117, 3) := dk_182 0 117 (dk_at dksX1_isKnown_3 6 rfl rfl)
theorem dX1_isKnown_81 : decode cX1_isKnown 81 = .ok (.ifCond .ge 15, 3) := dk_156 0 15 (dk_at dksX1_isKnown_3 9 rfl rfl)
theorem dX1_isKnown_84 : decode cX1_isKnown 84 = .ok (.aload_n 0, 1) := dk_42 (dk_at dksX1_isKnown_3 12 rfl rfl)
theorem dX1_isKnown_85 : decode cX1_isKnown 85 = .ok (.ldc_w 288, 3) := dk_19 1 32 (dk_at dksX1_isKnown_3 13 rfl rfl)
theorem dX1_isKnown_88 : decode cX1_isKnown 88 = .ok (.iload_n 1, 1) := dk_27 (dk_at dksX1_isKnown_3 16 rfl rfl)
theorem dX1_isKnown_89 : decode cX1_isKnown 89 = .ok (.iload_n 2, 1) := dk_28 (dk_at dksX1_isKnown_3 17 rfl rfl)
theorem dX1_isKnown_90 : decode cX1_isKnown 90 = .ok (.invokevirtual 117, 3) := dk_182 0 117 (dk_at dksX1_isKnown_3 18 rfl rfl)
theorem dX1_isKnown_93 : decode cX1_isKnown 93 = .ok (.ifCond .lt 7, 3) := dk_155 0 7 (dk_at dksX1_isKnown_3 21 rfl rfl)
theorem dX1_isKnown_96 : decode cX1_isKnown 96 = .ok (.iconst 1, 1) := dk_4 (dk_at dksX1_isKnown_4 0 rfl rfl)
theorem dX1_isKnown_97 : decode cX1_isKnown 97 = .ok (.goto 4, 3) := dk_167 0 4 (dk_at dksX1_isKnown_4 1 rfl rfl)
theorem dX1_isKnown_100 : decode cX1_isKnown 100 = .ok (.iconst 0, 1) := dk_3 (dk_at dksX1_isKnown_4 4 rfl rfl)
theorem dX1_isKnown_101 : decode cX1_isKnown 101 = .ok (.istore_n 3, 1) := dk_62 (dk_at dksX1_isKnown_4 5 rfl rfl)
theorem dX1_isKnown_102 : decode cX1_isKnown 102 = .ok (.iload_n 3, 1) := dk_29 (dk_at dksX1_isKnown_4 6 rfl rfl)
theorem dX1_isKnown_103 : decode cX1_isKnown 103 = .ok (.ifCond .ne 87, 3) := dk_154 0 87 (dk_at dksX1_isKnown_4 7 rfl rfl)
theorem dX1_isKnown_106 : decode cX1_isKnown 106 = .ok (.aload_n 0, 1) := dk_42 (dk_at dksX1_isKnown_4 10 rfl rfl)
theorem dX1_isKnown_107 : decode cX1_isKnown 107 = .ok (.ldc_w 290, 3) := dk_19 1 34 (dk_at dksX1_isKnown_4 11 rfl rfl)
theorem dX1_isKnown_110 : decode cX1_isKnown 110 = .ok (.iload_n 1, 1) := dk_27 (dk_at dksX1_isKnown_4 14 rfl rfl)
theorem dX1_isKnown_111 : decode cX1_isKnown 111 = .ok (.iload_n 2, 1) := dk_28 (dk_at dksX1_isKnown_4 15 rfl rfl)
theorem dX1_isKnown_112 : decode cX1_isKnown 112 = .ok (.invokevirtual 117, 3) := dk_182 0 117 (dk_at dksX1_isKnown_4 16 rfl rfl)
theorem dX1_isKnown_115 : decode cX1_isKnown 115 = .ok (.ifCond .ge 75, 3) := dk_156 0 75 (dk_at dksX1_isKnown_4 19 rfl rfl)
theorem dX1_isKnown_118 : decode cX1_isKnown 118 = .ok (.aload_n 0, 1) := dk_42 (dk_at dksX1_isKnown_4 22 rfl rfl)
theorem dX1_isKnown_119 : decode cX1_isKnown 119 = .ok (.ldc_w 292, 3) := dk_19 1 36 (dk_at dksX1_isKnown_5 0 rfl rfl)
theorem dX1_isKnown_122 : decode cX1_isKnown 122 = .ok (.iload_n 1, 1) := dk_27 (dk_at dksX1_isKnown_5 3 rfl rfl)
theorem dX1_isKnown_123 : decode cX1_isKnown 123 = .ok (.iload_n 2, 1) := dk_28 (dk_at dksX1_isKnown_5 4 rfl rfl)
theorem dX1_isKnown_124 : decode cX1_isKnown 124 = .ok (.invokevirtual 117, 3) := dk_182 0 117 (dk_at dksX1_isKnown_5 5 rfl rfl)
theorem dX1_isKnown_127 : decode cX1_isKnown 127 = .ok (.ifCond .ge 63, 3) := dk_156 0 63 (dk_at dksX1_isKnown_5 8 rfl rfl)
theorem dX1_isKnown_130 : decode cX1_isKnown 130 = .ok (.aload_n 0, 1) := dk_42 (dk_at dksX1_isKnown_5 11 rfl rfl)
theorem dX1_isKnown_131 : decode cX1_isKnown 131 = .ok (.ldc_w 294, 3) := dk_19 1 38 (dk_at dksX1_isKnown_5 12 rfl rfl)
theorem dX1_isKnown_134 : decode cX1_isKnown 134 = .ok (.iload_n 1, 1) := dk_27 (dk_at dksX1_isKnown_5 15 rfl rfl)
theorem dX1_isKnown_135 : decode cX1_isKnown 135 = .ok (.iload_n 2, 1) := dk_28 (dk_at dksX1_isKnown_5 16 rfl rfl)
theorem dX1_isKnown_136 : decode cX1_isKnown 136 = .ok (.invokevirtual 117, 3) := dk_182 0 117 (dk_at dksX1_isKnown_5 17 rfl rfl)
theorem dX1_isKnown_139 : decode cX1_isKnown 139 = .ok (.ifCond .ge 51, 3) := dk_156 0 51 (dk_at dksX1_isKnown_5 20 rfl rfl)
theorem dX1_isKnown_142 : decode cX1_isKnown 142 = .ok (.aload_n 0, 1) := dk_42 (dk_at dksX1_isKnown_5 23 rfl rfl)
theorem dX1_isKnown_143 : decode cX1_isKnown 143 = .ok (.ldc_w 296, 3) := dk_19 1 40 (dk_at dksX1_isKnown_6 0 rfl rfl)
theorem dX1_isKnown_146 : decode cX1_isKnown 146 = .ok (.iload_n 1, 1) := dk_27 (dk_at dksX1_isKnown_6 3 rfl rfl)
theorem dX1_isKnown_147 : decode cX1_isKnown 147 = .ok (.iload_n 2, 1) := dk_28 (dk_at dksX1_isKnown_6 4 rfl rfl)
theorem dX1_isKnown_148 : decode cX1_isKnown 148 = .ok (.invokevirtual 117, 3) := dk_182 0 117 (dk_at dksX1_isKnown_6 5 rfl rfl)
theorem dX1_isKnown_151 : decode cX1_isKnown 151 = .ok (.ifCond .ge 39, 3) := dk_156 0 39 (dk_at dksX1_isKnown_6 8 rfl rfl)
theorem dX1_isKnown_154 : decode cX1_isKnown 154 = .ok (.aload_n 0, 1) := dk_42 (dk_at dksX1_isKnown_6 11 rfl rfl)
theorem dX1_isKnown_155 : decode cX1_isKnown 155 = .ok (.ldc_w 298, 3) := dk_19 1 42 (dk_at dksX1_isKnown_6 12 rfl rfl)
theorem dX1_isKnown_158 : decode cX1_isKnown 158 = .ok (.iload_n 1, 1) := dk_27 (dk_at dksX1_isKnown_6 15 rfl rfl)
theorem dX1_isKnown_159 : decode cX1_isKnown 159 = .ok (.iload_n 2, 1) := dk_28 (dk_at dksX1_isKnown_6 16 rfl rfl)
theorem dX1_isKnown_160 : decode cX1_isKnown 160 = .ok (.invokevirtual 117, 3) := dk_182 0 117 (dk_at dksX1_isKnown_6 17 rfl rfl)
theorem dX1_isKnown_163 : decode cX1_isKnown 163 = .ok (.ifCond .ge 27, 3) := dk_156 0 27 (dk_at dksX1_isKnown_6 20 rfl rfl)
theorem dX1_isKnown_166 : decode cX1_isKnown 166 = .ok (.aload_n 0, 1) := dk_42 (dk_at dksX1_isKnown_6 23 rfl rfl)
theorem dX1_isKnown_167 : decode cX1_isKnown 167 = .ok (.ldc_w 300, 3) := dk_19 1 44 (dk_at dksX1_isKnown_7 0 rfl rfl)
theorem dX1_isKnown_170 : decode cX1_isKnown 170 = .ok (.iload_n 1, 1) := dk_27 (dk_at dksX1_isKnown_7 3 rfl rfl)
theorem dX1_isKnown_171 : decode cX1_isKnown 171 = .ok (.iload_n 2, 1) := dk_28 (dk_at dksX1_isKnown_7 4 rfl rfl)
theorem dX1_isKnown_172 : decode cX1_isKnown 172 = .ok (.invokevirtual 117, 3) := dk_182 0 117 (dk_at dksX1_isKnown_7 5 rfl rfl)
theorem dX1_isKnown_175 : decode cX1_isKnown 175 = .ok (.ifCond .ge 15, 3) := dk_156 0 15 (dk_at dksX1_isKnown_7 8 rfl rfl)
theorem dX1_isKnown_178 : decode cX1_isKnown 178 = .ok (.aload_n 0, 1) := dk_42 (dk_at dksX1_isKnown_7 11 rfl rfl)
theorem dX1_isKnown_179 : decode cX1_isKnown 179 = .ok (.ldc_w 302, 3) := dk_19 1 46 (dk_at dksX1_isKnown_7 12 rfl rfl)
theorem dX1_isKnown_182 : decode cX1_isKnown 182 = .ok (.iload_n 1, 1) := dk_27 (dk_at dksX1_isKnown_7 15 rfl rfl)
theorem dX1_isKnown_183 : decode cX1_isKnown 183 = .ok (.iload_n 2, 1) := dk_28 (dk_at dksX1_isKnown_7 16 rfl rfl)
theorem dX1_isKnown_184 : decode cX1_isKnown 184 = .ok (.invokevirtual 117, 3) := dk_182 0 117 (dk_at dksX1_isKnown_7 17 rfl rfl)
theorem dX1_isKnown_187 : decode cX1_isKnown 187 = .ok (.ifCond .lt 7, 3) := dk_155 0 7 (dk_at dksX1_isKnown_7 20 rfl rfl)
theorem dX1_isKnown_190 : decode cX1_isKnown 190 = .ok (.iconst 1, 1) := dk_4 (dk_at dksX1_isKnown_7 23 rfl rfl)
theorem dX1_isKnown_191 : decode cX1_isKnown 191 = .ok (.goto 4, 3) := dk_167 0 4 (dk_at dksX1_isKnown_8 0 rfl rfl)
theorem dX1_isKnown_194 : decode cX1_isKnown 194 = .ok (.iconst 0, 1) := dk_3 (dk_at dksX1_isKnown_8 3 rfl rfl)
theorem dX1_isKnown_195 : decode cX1_isKnown 195 = .ok (.istore_n 3, 1) := dk_62 (dk_at dksX1_isKnown_8 4 rfl rfl)
theorem dX1_isKnown_196 : decode cX1_isKnown 196 = .ok (.iload_n 3, 1) := dk_29 (dk_at dksX1_isKnown_8 5 rfl rfl)
theorem dX1_isKnown_197 : decode cX1_isKnown 197 = .ok (.ifCond .ne 63, 3) := dk_154 0 63 (dk_at dksX1_isKnown_8 6 rfl rfl)
theorem dX1_isKnown_200 : decode cX1_isKnown 200 = .ok (.aload_n 0, 1) := dk_42 (dk_at dksX1_isKnown_8 9 rfl rfl)
theorem dX1_isKnown_201 : decode cX1_isKnown 201 = .ok (.ldc_w 304, 3) := dk_19 1 48 (dk_at dksX1_isKnown_8 10 rfl rfl)
theorem dX1_isKnown_204 : decode cX1_isKnown 204 = .ok (.iload_n 1, 1) := dk_27 (dk_at dksX1_isKnown_8 13 rfl rfl)
theorem dX1_isKnown_205 : decode cX1_isKnown 205 = .ok (.iload_n 2, 1) := dk_28 (dk_at dksX1_isKnown_8 14 rfl rfl)
theorem dX1_isKnown_206 : decode cX1_isKnown 206 = .ok (.invokevirtual 117, 3) := dk_182 0 117 (dk_at dksX1_isKnown_8 15 rfl rfl)
theorem dX1_isKnown_209 : decode cX1_isKnown 209 = .ok (.ifCond .ge 51, 3) := dk_156 0 51 (dk_at dksX1_isKnown_8 18 rfl rfl)
theorem dX1_isKnown_212 : decode cX1_isKnown 212 = .ok (.aload_n 0, 1) := dk_42 (dk_at dksX1_isKnown_8 21 rfl rfl)
theorem dX1_isKnown_213 : decode cX1_isKnown 213 = .ok (.ldc_w 306, 3) := dk_19 1 50 (dk_at dksX1_isKnown_9 0 rfl rfl)
theorem dX1_isKnown_216 : decode cX1_isKnown 216 = .ok (.iload_n 1, 1) := dk_27 (dk_at dksX1_isKnown_9 3 rfl rfl)
theorem dX1_isKnown_217 : decode cX1_isKnown 217 = .ok (.iload_n 2, 1) := dk_28 (dk_at dksX1_isKnown_9 4 rfl rfl)
theorem dX1_isKnown_218 : decode cX1_isKnown 218 = .ok (.invokevirtual 117, 3) := dk_182 0 117 (dk_at dksX1_isKnown_9 5 rfl rfl)
theorem dX1_isKnown_221 : decode cX1_isKnown 221 = .ok (.ifCond .ge 39, 3) := dk_156 0 39 (dk_at dksX1_isKnown_9 8 rfl rfl)
theorem dX1_isKnown_224 : decode cX1_isKnown 224 = .ok (.aload_n 0, 1) := dk_42 (dk_at dksX1_isKnown_9 11 rfl rfl)
theorem dX1_isKnown_225 : decode cX1_isKnown 225 = .ok (.ldc_w 308, 3) := dk_19 1 52 (dk_at dksX1_isKnown_9 12 rfl rfl)
theorem dX1_isKnown_228 : decode cX1_isKnown 228 = .ok (.iload_n 1, 1) := dk_27 (dk_at dksX1_isKnown_9 15 rfl rfl)
theorem dX1_isKnown_229 : decode cX1_isKnown 229 = .ok (.iload_n 2, 1) := dk_28 (dk_at dksX1_isKnown_9 16 rfl rfl)
theorem dX1_isKnown_230 : decode cX1_isKnown 230 = .ok (.invokevirtual 117, 3) := dk_182 0 117 (dk_at dksX1_isKnown_9 17 rfl rfl)
theorem dX1_isKnown_233 : decode cX1_isKnown 233 = .ok (.ifCond .ge 27, 3) := dk_156 0 27 (dk_at dksX1_isKnown_9 20 rfl rfl)
theorem dX1_isKnown_236 : decode cX1_isKnown 236 = .ok (.aload_n 0, 1) := dk_42 (dk_at dksX1_isKnown_9 23 rfl rfl)
theorem dX1_isKnown_237 : decode cX1_isKnown 237 = .ok (.ldc_w 310, 3) := dk_19 1 54 (dk_at dksX1_isKnown_10 0 rfl rfl)
theorem dX1_isKnown_240 : decode cX1_isKnown 240 = .ok (.iload_n 1, 1) := dk_27 (dk_at dksX1_isKnown_10 3 rfl rfl)
theorem dX1_isKnown_241 : decode cX1_isKnown 241 = .ok (.iload_n 2, 1) := dk_28 (dk_at dksX1_isKnown_10 4 rfl rfl)
theorem dX1_isKnown_242 : decode cX1_isKnown 242 = .ok (.invokevirtual 117, 3) := dk_182 0 117 (dk_at dksX1_isKnown_10 5 rfl rfl)
theorem dX1_isKnown_245 : decode cX1_isKnown 245 = .ok (.ifCond .ge 15, 3) := dk_156 0 15 (dk_at dksX1_isKnown_10 8 rfl rfl)
theorem dX1_isKnown_248 : decode cX1_isKnown 248 = .ok (.aload_n 0, 1) := dk_42 (dk_at dksX1_isKnown_10 11 rfl rfl)
theorem dX1_isKnown_249 : decode cX1_isKnown 249 = .ok (.ldc_w 312, 3) := dk_19 1 56 (dk_at dksX1_isKnown_10 12 rfl rfl)
theorem dX1_isKnown_252 : decode cX1_isKnown 252 = .ok (.iload_n 1, 1) := dk_27 (dk_at dksX1_isKnown_10 15 rfl rfl)
theorem dX1_isKnown_253 : decode cX1_isKnown 253 = .ok (.iload_n 2, 1) := dk_28 (dk_at dksX1_isKnown_10 16 rfl rfl)
theorem dX1_isKnown_254 : decode cX1_isKnown 254 = .ok (.invokevirtual 117, 3) := dk_182 0 117 (dk_at dksX1_isKnown_10 17 rfl rfl)
theorem dX1_isKnown_257 : decode cX1_isKnown 257 = .ok (.ifCond .lt 7, 3) := dk_155 0 7 (dk_at dksX1_isKnown_10 20 rfl rfl)
theorem dX1_isKnown_260 : decode cX1_isKnown 260 = .ok (.iconst 1, 1) := dk_4 (dk_at dksX1_isKnown_10 23 rfl rfl)
theorem dX1_isKnown_261 : decode cX1_isKnown 261 = .ok (.goto 4, 3) := dk_167 0 4 (dk_at dksX1_isKnown_11 0 rfl rfl)
theorem dX1_isKnown_264 : decode cX1_isKnown 264 = .ok (.iconst 0, 1) := dk_3 (dk_at dksX1_isKnown_11 3 rfl rfl)
theorem dX1_isKnown_265 : decode cX1_isKnown 265 = .ok (.istore_n 3, 1) := dk_62 (dk_at dksX1_isKnown_11 4 rfl rfl)
theorem dX1_isKnown_266 : decode cX1_isKnown 266 = .ok (.iload_n 3, 1) := dk_29 (dk_at dksX1_isKnown_11 5 rfl rfl)
theorem dX1_isKnown_267 : decode cX1_isKnown 267 = .ok (.ifCond .ne 12, 3) := dk_154 0 12 (dk_at dksX1_isKnown_11 6 rfl rfl)
theorem dX1_isKnown_270 : decode cX1_isKnown 270 = .ok (.aload_n 0, 1) := dk_42 (dk_at dksX1_isKnown_11 9 rfl rfl)
theorem dX1_isKnown_271 : decode cX1_isKnown 271 = .ok (.iload_n 1, 1) := dk_27 (dk_at dksX1_isKnown_11 10 rfl rfl)
theorem dX1_isKnown_272 : decode cX1_isKnown 272 = .ok (.iload_n 2, 1) := dk_28 (dk_at dksX1_isKnown_11 11 rfl rfl)
theorem dX1_isKnown_273 : decode cX1_isKnown 273 = .ok (.invokevirtual 314, 3) := dk_182 1 58 (dk_at dksX1_isKnown_11 12 rfl rfl)
theorem dX1_isKnown_276 : decode cX1_isKnown 276 = .ok (.ifCond .eq 7, 3) := dk_153 0 7 (dk_at dksX1_isKnown_11 15 rfl rfl)
theorem dX1_isKnown_279 : decode cX1_isKnown 279 = .ok (.iconst 1, 1) := dk_4 (dk_at dksX1_isKnown_11 18 rfl rfl)
theorem dX1_isKnown_280 : decode cX1_isKnown 280 = .ok (.goto 4, 3) := dk_167 0 4 (dk_at dksX1_isKnown_11 19 rfl rfl)
theorem dX1_isKnown_283 : decode cX1_isKnown 283 = .ok (.iconst 0, 1) := dk_3 (dk_at dksX1_isKnown_11 22 rfl rfl)
theorem dX1_isKnown_284 : decode cX1_isKnown 284 = .ok (.ireturn, 1) := dk_172 (dk_at dksX1_isKnown_11 23 rfl rfl)
abbrev cX1_isOfFractions : ByteArray := prog_1_method_45_code
def yX1_isOfFractions : MethodName := ⟨RX1, "isOfFractions", "(II)Z"⟩
def dkwX1_isOfFractions_4 : List UInt8 := [182, 0, 117, 155, 0, 7, 4, 167, 0, 4, 3, 172]
abbrev dktX1_isOfFractions_4 : List UInt8 := dkwX1_isOfFractions_4 ++ []
def dkwX1_isOfFractions_3 : List UInt8 := [180, 0, 9, 27, 4, 96, 51, 16, 46, 160, 0, 23, 42, 19, 1, 70, 27, 5, 96, 28, 7, 100]
abbrev dktX1_isOfFractions_3 : List UInt8 := dkwX1_isOfFractions_3 ++ dktX1_isOfFractions_4
def dkwX1_isOfFractions_2 : List UInt8 := [182, 0, 117, 156, 0, 48, 28, 7, 164, 0, 47, 42, 180, 0, 9, 27, 51, 16, 99, 160, 0, 36, 42]
abbrev dktX1_isOfFractions_2 : List UInt8 := dkwX1_isOfFractions_2 ++ dktX1_isOfFractions_3
def dkwX1_isOfFractions_1 : List UInt8 := [172, 42, 19, 1, 66, 27, 28, 5, 100, 182, 0, 117, 156, 0, 62, 42, 19, 1, 68, 27, 28, 5, 100]
abbrev dktX1_isOfFractions_1 : List UInt8 := dkwX1_isOfFractions_1 ++ dktX1_isOfFractions_2
def dkwX1_isOfFractions_0 : List UInt8 := [42, 19, 1, 61, 27, 28, 182, 0, 117, 155, 0, 5, 4, 172, 42, 27, 28, 182, 1, 63, 156, 0, 5, 3]
abbrev dktX1_isOfFractions_0 : List UInt8 := dkwX1_isOfFractions_0 ++ dktX1_isOfFractions_1
theorem dksX1_isOfFractions_0 : cX1_isOfFractions.data.toList.drop 0 = dktX1_isOfFractions_0 := by decide +kernel
theorem dksX1_isOfFractions_1 : cX1_isOfFractions.data.toList.drop 24 = dktX1_isOfFractions_1 := dk_seg dksX1_isOfFractions_0 24 rfl rfl
theorem dksX1_isOfFractions_2 : cX1_isOfFractions.data.toList.drop 47 = dktX1_isOfFractions_2 := dk_seg dksX1_isOfFractions_1 23 rfl rfl
theorem dksX1_isOfFractions_3 : cX1_isOfFractions.data.toList.drop 70 = dktX1_isOfFractions_3 := dk_seg dksX1_isOfFractions_2 23 rfl rfl
theorem dksX1_isOfFractions_4 : cX1_isOfFractions.data.toList.drop 92 = dktX1_isOfFractions_4 := dk_seg dksX1_isOfFractions_3 22 rfl rfl
theorem dX1_isOfFractions_0 : decode cX1_isOfFractions 0 = .ok (.aload_n 0, 1) := dk_42 (dk_at dksX1_isOfFractions_0 0 rfl rfl)
theorem dX1_isOfFractions_1 : decode cX1_isOfFractions 1 = .ok (.ldc_w 317, 3) := dk_19 1 61 (dk_at dksX1_isOfFractions_0 1 rfl rfl)
theorem dX1_isOfFractions_4 : decode cX1_isOfFractions 4 = .ok (.iload_n 1, 1) := dk_27 (dk_at dksX1_isOfFractions_0 4 rfl rfl)
theorem dX1_isOfFractions_5 : decode cX1_isOfFractions 5 = .ok (.iload_n 2, 1) := dk_28 (dk_at dksX1_isOfFractions_0 5 rfl rfl)
theorem dX1_isOfFractions_6 : decode cX1_isOfFractions 6 = .ok (.invokevirtual 117, 3) := dk_182 0 117 (dk_at dksX1_isOfFractions_0 6 rfl rfl)
theorem dX1_isOfFractions_9 : decode cX1_isOfFractions 9 = .ok (.ifCond .lt 5, 3) := dk_155 0 5 (dk_at dksX1_isOfFractions_0 9 rfl rfl)
theorem dX1_isOfFractions_12 : decode cX1_isOfFractions 12 = .ok (.iconst 1, 1) := dk_4 (dk_at dksX1_isOfFractions_0 12 rfl rfl)
theorem dX1_isOfFractions_13 : decode cX1_isOfFractions 13 = .ok (.ireturn, 1) := dk_172 (dk_at dksX1_isOfFractions_0 13 rfl rfl)
theorem dX1_isOfFractions_14 : decode cX1_isOfFractions 14 = .ok (.aload_n 0, 1) := dk_42 (dk_at dksX1_isOfFractions_0 14 rfl rfl)
theorem dX1_isOfFractions_15 : decode cX1_isOfFractions 15 = .ok (.iload_n 1, 1) := dk_27 (dk_at dksX1_isOfFractions_0 15 rfl rfl)
theorem dX1_isOfFractions_16 : decode cX1_isOfFractions 16 = .ok (.iload_n 2, 1) := dk_28 (dk_at dksX1_isOfFractions_0 16 rfl rfl)
theorem dX1_isOfFractions_17 : decode cX1_isOfFractions 17 = .ok (.invokevirtual 319, 3) := dk_182 1 63 (dk_at dksX1_isOfFractions_0 17 rfl rfl)
theorem dX1_isOfFractions_20 : decode cX1_isOfFractions 20 = .ok (.ifCond .ge 5, 3) := dk_156 0 5 (dk_at dksX1_isOfFractions_0 20 rfl rfl)
theorem dX1_isOfFractions_23 : decode cX1_isOfFractions 23 = .ok (.iconst 0, 1) := dk_3 (dk_at dksX1_isOfFractions_0 23 rfl rfl)
theorem dX1_isOfFractions_24 : decode cX1_isOfFractions 24 = .ok (.ireturn, 1) := dk_172 (dk_at dksX1_isOfFractions_1 0 rfl rfl)
theorem dX1_isOfFractions_25 : decode cX1_isOfFractions 25 = .ok (.aload_n 0, 1) := dk_42 (dk_at dksX1_isOfFractions_1 1 rfl rfl)
theorem dX1_isOfFractions_26 : decode cX1_isOfFractions 26 = .ok (.ldc_w 322, 3) := dk_19 1 66 (dk_at dksX1_isOfFractions_1 2 rfl rfl)
theorem dX1_isOfFractions_29 : decode cX1_isOfFractions 29 = .ok (.iload_n 1, 1) := dk_27 (dk_at dksX1_isOfFractions_1 5 rfl rfl)
theorem dX1_isOfFractions_30 : decode cX1_isOfFractions 30 = .ok (.iload_n 2, 1) := dk_28 (dk_at dksX1_isOfFractions_1 6 rfl rfl)
theorem dX1_isOfFractions_31 : decode cX1_isOfFractions 31 = .ok (.iconst 2, 1) := dk_5 (dk_at dksX1_isOfFractions_1 7 rfl rfl)
theorem dX1_isOfFractions_32 : decode cX1_isOfFractions 32 = .ok (.isub, 1) := dk_100 (dk_at dksX1_isOfFractions_1 8 rfl rfl)
theorem dX1_isOfFractions_33 : decode cX1_isOfFractions 33 = .ok (.invokevirtual 117, 3) := dk_182 0 117 (dk_at dksX1_isOfFractions_1 9 rfl rfl)
theorem dX1_isOfFractions_36 : decode cX1_isOfFractions 36 = .ok (.ifCond .ge 62, 3) := dk_156 0 62 (dk_at dksX1_isOfFractions_1 12 rfl rfl)
theorem dX1_isOfFractions_39 : decode cX1_isOfFractions 39 = .ok (.aload_n 0, 1) := dk_42 (dk_at dksX1_isOfFractions_1 15 rfl rfl)
theorem dX1_isOfFractions_40 : decode cX1_isOfFractions 40 = .ok (.ldc_w 324, 3) := dk_19 1 68 (dk_at dksX1_isOfFractions_1 16 rfl rfl)
theorem dX1_isOfFractions_43 : decode cX1_isOfFractions 43 = .ok (.iload_n 1, 1) := dk_27 (dk_at dksX1_isOfFractions_1 19 rfl rfl)
theorem dX1_isOfFractions_44 : decode cX1_isOfFractions 44 = .ok (.iload_n 2, 1) := dk_28 (dk_at dksX1_isOfFractions_1 20 rfl rfl)
theorem dX1_isOfFractions_45 : decode cX1_isOfFractions 45 = .ok (.iconst 2, 1) := dk_5 (dk_at dksX1_isOfFractions_1 21 rfl rfl)
theorem dX1_isOfFractions_46 : decode cX1_isOfFractions 46 = .ok (.isub, 1) := dk_100 (dk_at dksX1_isOfFractions_1 22 rfl rfl)
theorem dX1_isOfFractions_47 : decode cX1_isOfFractions 47 = .ok (.invokevirtual 117, 3) := dk_182 0 117 (dk_at dksX1_isOfFractions_2 0 rfl rfl)
theorem dX1_isOfFractions_50 : decode cX1_isOfFractions 50 = .ok (.ifCond .ge 48, 3) := dk_156 0 48 (dk_at dksX1_isOfFractions_2 3 rfl rfl)
theorem dX1_isOfFractions_53 : decode cX1_isOfFractions 53 = .ok (.iload_n 2, 1) := dk_28 (dk_at dksX1_isOfFractions_2 6 rfl rfl)
theorem dX1_isOfFractions_54 : decode cX1_isOfFractions 54 = .ok (.iconst 4, 1) := dk_7 (dk_at dksX1_isOfFractions_2 7 rfl rfl)
theorem dX1_isOfFractions_55 : decode cX1_isOfFractions 55 = .ok (.if_icmp .le 47, 3) := dk_164 0 47 (dk_at dksX1_isOfFractions_2 8 rfl rfl)
theorem dX1_isOfFractions_58 : decode cX1_isOfFractions 58 = .ok (.aload_n 0, 1) := dk_42 (dk_at dksX1_isOfFractions_2 11 rfl rfl)
theorem dX1_isOfFractions_59 : decode cX1_isOfFractions 59 = .ok (.getfield 9, 3) := dk_180 0 9 (dk_at dksX1_isOfFractions_2 12 rfl rfl)
theorem dX1_isOfFractions_62 : decode cX1_isOfFractions 62 = .ok (.iload_n 1, 1) := dk_27 (dk_at dksX1_isOfFractions_2 15 rfl rfl)
theorem dX1_isOfFractions_63 : decode cX1_isOfFractions 63 = .ok (.baload, 1) := dk_51 (dk_at dksX1_isOfFractions_2 16 rfl rfl)
theorem dX1_isOfFractions_64 : decode cX1_isOfFractions 64 = .ok (.bipush 99, 2) := dk_16 99 (dk_at dksX1_isOfFractions_2 17 rfl rfl)
theorem dX1_isOfFractions_66 : decode cX1_isOfFractions 66 = .ok (.if_icmp .ne 36, 3) := dk_160 0 36 (dk_at dksX1_isOfFractions_2 19 rfl rfl)
theorem dX1_isOfFractions_69 : decode cX1_isOfFractions 69 = .ok (.aload_n 0, 1) := dk_42 (dk_at dksX1_isOfFractions_2 22 rfl rfl)
theorem dX1_isOfFractions_70 : decode cX1_isOfFractions 70 = .ok (.getfield 9, 3) := dk_180 0 9 (dk_at dksX1_isOfFractions_3 0 rfl rfl)
theorem dX1_isOfFractions_73 : decode cX1_isOfFractions 73 = .ok (.iload_n 1, 1) := dk_27 (dk_at dksX1_isOfFractions_3 3 rfl rfl)
theorem dX1_isOfFractions_74 : decode cX1_isOfFractions 74 = .ok (.iconst 1, 1) := dk_4 (dk_at dksX1_isOfFractions_3 4 rfl rfl)
theorem dX1_isOfFractions_75 : decode cX1_isOfFractions 75 = .ok (.iadd, 1) := dk_96 (dk_at dksX1_isOfFractions_3 5 rfl rfl)
theorem dX1_isOfFractions_76 : decode cX1_isOfFractions 76 = .ok (.baload, 1) := dk_51 (dk_at dksX1_isOfFractions_3 6 rfl rfl)
theorem dX1_isOfFractions_77 : decode cX1_isOfFractions 77 = .ok (.bipush 46, 2) := dk_16 46 (dk_at dksX1_isOfFractions_3 7 rfl rfl)
theorem dX1_isOfFractions_79 : decode cX1_isOfFractions 79 = .ok (.if_icmp .ne 23, 3) := dk_160 0 23 (dk_at dksX1_isOfFractions_3 9 rfl rfl)
theorem dX1_isOfFractions_82 : decode cX1_isOfFractions 82 = .ok (.aload_n 0, 1) := dk_42 (dk_at dksX1_isOfFractions_3 12 rfl rfl)
theorem dX1_isOfFractions_83 : decode cX1_isOfFractions 83 = .ok (.ldc_w 326, 3) := dk_19 1 70 (dk_at dksX1_isOfFractions_3 13 rfl rfl)
theorem dX1_isOfFractions_86 : decode cX1_isOfFractions 86 = .ok (.iload_n 1, 1) := dk_27 (dk_at dksX1_isOfFractions_3 16 rfl rfl)
theorem dX1_isOfFractions_87 : decode cX1_isOfFractions 87 = .ok (.iconst 2, 1) := dk_5 (dk_at dksX1_isOfFractions_3 17 rfl rfl)
theorem dX1_isOfFractions_88 : decode cX1_isOfFractions 88 = .ok (.iadd, 1) := dk_96 (dk_at dksX1_isOfFractions_3 18 rfl rfl)
theorem dX1_isOfFractions_89 : decode cX1_isOfFractions 89 = .ok (.iload_n 2, 1) := dk_28 (dk_at dksX1_isOfFractions_3 19 rfl rfl)
theorem dX1_isOfFractions_90 : decode cX1_isOfFractions 90 = .ok (.iconst 4, 1) := dk_7 (dk_at dksX1_isOfFractions_3 20 rfl rfl)
theorem dX1_isOfFractions_91 : decode cX1_isOfFractions 91 = .ok (.isub, 1) := dk_100 (dk_at dksX1_isOfFractions_3 21 rfl rfl)
theorem dX1_isOfFractions_92 : decode cX1_isOfFractions 92 = .ok (.invokevirtual 117, 3) := dk_182 0 117 (dk_at dksX1_isOfFractions_4 0 rfl rfl)
theorem dX1_isOfFractions_95 : decode cX1_isOfFractions 95 = .ok (.ifCond .lt 7, 3) := dk_155 0 7 (dk_at dksX1_isOfFractions_4 3 rfl rfl)
theorem dX1_isOfFractions_98 : decode cX1_isOfFractions 98 = .ok (.iconst 1, 1) := dk_4 (dk_at dksX1_isOfFractions_4 6 rfl rfl)
theorem dX1_isOfFractions_99 : decode cX1_isOfFractions 99 = .ok (.goto 4, 3) := dk_167 0 4 (dk_at dksX1_isOfFractions_4 7 rfl rfl)
theorem dX1_isOfFractions_102 : decode cX1_isOfFractions 102 = .ok (.iconst 0, 1) := dk_3 (dk_at dksX1_isOfFractions_4 10 rfl rfl)
theorem dX1_isOfFractions_103 : decode cX1_isOfFractions 103 = .ok (.ireturn, 1) := dk_172 (dk_at dksX1_isOfFractions_4 11 rfl rfl)
abbrev cX1_formatOf : ByteArray := prog_1_method_44_code
def yX1_formatOf : MethodName := ⟨RX1, "formatOf", "(II)I"⟩
def dkwX1_formatOf_2 : List UInt8 := [28, 96, 4, 100, 51, 16, 100, 160, 0, 8, 16, 17, 167, 0, 4, 2, 172]
abbrev dktX1_formatOf_2 : List UInt8 := dkwX1_formatOf_2 ++ []
def dkwX1_formatOf_1 : List UInt8 := [180, 0, 9, 27, 28, 96, 4, 100, 51, 16, 115, 160, 0, 8, 16, 16, 167, 0, 24, 42, 180, 0, 9, 27]
abbrev dktX1_formatOf_1 : List UInt8 := dkwX1_formatOf_1 ++ dktX1_formatOf_2
def dkwX1_formatOf_0 : List UInt8 := [28, 6, 161, 0, 18, 42, 180, 0, 9, 27, 28, 96, 5, 100, 51, 16, 46, 159, 0, 5, 2, 172, 42]
abbrev dktX1_formatOf_0 : List UInt8 := dkwX1_formatOf_0 ++ dktX1_formatOf_1
theorem dksX1_formatOf_0 : cX1_formatOf.data.toList.drop 0 = dktX1_formatOf_0 := by decide +kernel
theorem dksX1_formatOf_1 : cX1_formatOf.data.toList.drop 23 = dktX1_formatOf_1 := dk_seg dksX1_formatOf_0 23 rfl rfl
theorem dksX1_formatOf_2 : cX1_formatOf.data.toList.drop 47 = dktX1_formatOf_2 := dk_seg dksX1_formatOf_1 24 rfl rfl
theorem dX1_formatOf_0 : decode cX1_formatOf 0 = .ok (.iload_n 2, 1) := dk_28 (dk_at dksX1_formatOf_0 0 rfl rfl)
theorem dX1_formatOf_1 : decode cX1_formatOf 1 = .ok (.iconst 3, 1) := dk_6 (dk_at dksX1_formatOf_0 1 rfl rfl)
theorem dX1_formatOf_2 : decode cX1_formatOf 2 = .ok (.if_icmp .lt 18, 3) := dk_161 0 18 (dk_at dksX1_formatOf_0 2 rfl rfl)
theorem dX1_formatOf_5 : decode cX1_formatOf 5 = .ok (.aload_n 0, 1) := dk_42 (dk_at dksX1_formatOf_0 5 rfl rfl)
theorem dX1_formatOf_6 : decode cX1_formatOf 6 = .ok (.getfield 9, 3) := dk_180 0 9 (dk_at dksX1_formatOf_0 6 rfl rfl)
theorem dX1_formatOf_9 : decode cX1_formatOf 9 = .ok (.iload_n 1, 1) := dk_27 (dk_at dksX1_formatOf_0 9 rfl rfl)
theorem dX1_formatOf_10 : decode cX1_formatOf 10 = .ok (.iload_n 2, 1) := dk_28 (dk_at dksX1_formatOf_0 10 rfl rfl)
theorem dX1_formatOf_11 : decode cX1_formatOf 11 = .ok (.iadd, 1) := dk_96 (dk_at dksX1_formatOf_0 11 rfl rfl)
theorem dX1_formatOf_12 : decode cX1_formatOf 12 = .ok (.iconst 2, 1) := dk_5 (dk_at dksX1_formatOf_0 12 rfl rfl)
theorem dX1_formatOf_13 : decode cX1_formatOf 13 = .ok (.isub, 1) := dk_100 (dk_at dksX1_formatOf_0 13 rfl rfl)
theorem dX1_formatOf_14 : decode cX1_formatOf 14 = .ok (.baload, 1) := dk_51 (dk_at dksX1_formatOf_0 14 rfl rfl)
theorem dX1_formatOf_15 : decode cX1_formatOf 15 = .ok (.bipush 46, 2) := dk_16 46 (dk_at dksX1_formatOf_0 15 rfl rfl)
theorem dX1_formatOf_17 : decode cX1_formatOf 17 = .ok (.if_icmp .eq 5, 3) := dk_159 0 5 (dk_at dksX1_formatOf_0 17 rfl rfl)
theorem dX1_formatOf_20 : decode cX1_formatOf 20 = .ok (.iconst (-1), 1) := dk_2 (dk_at dksX1_formatOf_0 20 rfl rfl)
theorem dX1_formatOf_21 : decode cX1_formatOf 21 = .ok (.ireturn, 1) := dk_172 (dk_at dksX1_formatOf_0 21 rfl rfl)
theorem dX1_formatOf_22 : decode cX1_formatOf 22 = .ok (.aload_n 0, 1) := dk_42 (dk_at dksX1_formatOf_0 22 rfl rfl)
theorem dX1_formatOf_23 : decode cX1_formatOf 23 = .ok (.getfield 9, 3) := dk_180 0 9 (dk_at dksX1_formatOf_1 0 rfl rfl)
theorem dX1_formatOf_26 : decode cX1_formatOf 26 = .ok (.iload_n 1, 1) := dk_27 (dk_at dksX1_formatOf_1 3 rfl rfl)
theorem dX1_formatOf_27 : decode cX1_formatOf 27 = .ok (.iload_n 2, 1) := dk_28 (dk_at dksX1_formatOf_1 4 rfl rfl)
theorem dX1_formatOf_28 : decode cX1_formatOf 28 = .ok (.iadd, 1) := dk_96 (dk_at dksX1_formatOf_1 5 rfl rfl)
theorem dX1_formatOf_29 : decode cX1_formatOf 29 = .ok (.iconst 1, 1) := dk_4 (dk_at dksX1_formatOf_1 6 rfl rfl)
theorem dX1_formatOf_30 : decode cX1_formatOf 30 = .ok (.isub, 1) := dk_100 (dk_at dksX1_formatOf_1 7 rfl rfl)
theorem dX1_formatOf_31 : decode cX1_formatOf 31 = .ok (.baload, 1) := dk_51 (dk_at dksX1_formatOf_1 8 rfl rfl)
theorem dX1_formatOf_32 : decode cX1_formatOf 32 = .ok (.bipush 115, 2) := dk_16 115 (dk_at dksX1_formatOf_1 9 rfl rfl)
theorem dX1_formatOf_34 : decode cX1_formatOf 34 = .ok (.if_icmp .ne 8, 3) := dk_160 0 8 (dk_at dksX1_formatOf_1 11 rfl rfl)
theorem dX1_formatOf_37 : decode cX1_formatOf 37 = .ok (.bipush 16, 2) := dk_16 16 (dk_at dksX1_formatOf_1 14 rfl rfl)
theorem dX1_formatOf_39 : decode cX1_formatOf 39 = .ok (.goto 24, 3) := dk_167 0 24 (dk_at dksX1_formatOf_1 16 rfl rfl)
theorem dX1_formatOf_42 : decode cX1_formatOf 42 = .ok (.aload_n 0, 1) := dk_42 (dk_at dksX1_formatOf_1 19 rfl rfl)
theorem dX1_formatOf_43 : decode cX1_formatOf 43 = .ok (.getfield 9, 3) := dk_180 0 9 (dk_at dksX1_formatOf_1 20 rfl rfl)
theorem dX1_formatOf_46 : decode cX1_formatOf 46 = .ok (.iload_n 1, 1) := dk_27 (dk_at dksX1_formatOf_1 23 rfl rfl)
theorem dX1_formatOf_47 : decode cX1_formatOf 47 = .ok (.iload_n 2, 1) := dk_28 (dk_at dksX1_formatOf_2 0 rfl rfl)
theorem dX1_formatOf_48 : decode cX1_formatOf 48 = .ok (.iadd, 1) := dk_96 (dk_at dksX1_formatOf_2 1 rfl rfl)
theorem dX1_formatOf_49 : decode cX1_formatOf 49 = .ok (.iconst 1, 1) := dk_4 (dk_at dksX1_formatOf_2 2 rfl rfl)
theorem dX1_formatOf_50 : decode cX1_formatOf 50 = .ok (.isub, 1) := dk_100 (dk_at dksX1_formatOf_2 3 rfl rfl)
theorem dX1_formatOf_51 : decode cX1_formatOf 51 = .ok (.baload, 1) := dk_51 (dk_at dksX1_formatOf_2 4 rfl rfl)
theorem dX1_formatOf_52 : decode cX1_formatOf 52 = .ok (.bipush 100, 2) := dk_16 100 (dk_at dksX1_formatOf_2 5 rfl rfl)
theorem dX1_formatOf_54 : decode cX1_formatOf 54 = .ok (.if_icmp .ne 8, 3) := dk_160 0 8 (dk_at dksX1_formatOf_2 7 rfl rfl)
theorem dX1_formatOf_57 : decode cX1_formatOf 57 = .ok (.bipush 17, 2) := dk_16 17 (dk_at dksX1_formatOf_2 10 rfl rfl)
theorem dX1_formatOf_59 : decode cX1_formatOf 59 = .ok (.goto 4, 3) := dk_167 0 4 (dk_at dksX1_formatOf_2 12 rfl rfl)
theorem dX1_formatOf_62 : decode cX1_formatOf 62 = .ok (.iconst (-1), 1) := dk_2 (dk_at dksX1_formatOf_2 15 rfl rfl)
theorem dX1_formatOf_63 : decode cX1_formatOf 63 = .ok (.ireturn, 1) := dk_172 (dk_at dksX1_formatOf_2 16 rfl rfl)
abbrev cX1_arithmetic : ByteArray := prog_1_method_46_code
def yX1_arithmetic : MethodName := ⟨RX1, "arithmetic", "(II)Z"⟩
def dkwX1_arithmetic_10 : List UInt8 := [182, 1, 87, 172]
abbrev dktX1_arithmetic_10 : List UInt8 := dkwX1_arithmetic_10 ++ []
def dkwX1_arithmetic_9 : List UInt8 := [155, 0, 19, 42, 42, 19, 1, 26, 27, 28, 182, 0, 117, 182, 1, 84, 167, 0, 9, 42, 27, 28]
abbrev dktX1_arithmetic_9 : List UInt8 := dkwX1_arithmetic_9 ++ dktX1_arithmetic_10
def dkwX1_arithmetic_8 : List UInt8 := [42, 29, 21, 4, 42, 182, 1, 72, 3, 182, 1, 78, 4, 172, 42, 19, 1, 26, 27, 28, 182, 0, 117]
abbrev dktX1_arithmetic_8 : List UInt8 := dkwX1_arithmetic_8 ++ dktX1_arithmetic_9
def dkwX1_arithmetic_7 : List UInt8 := [42, 19, 1, 24, 27, 28, 182, 0, 117, 62, 29, 155, 0, 27, 42, 182, 1, 72, 54, 4, 42, 182, 1, 75]
abbrev dktX1_arithmetic_7 : List UInt8 := dkwX1_arithmetic_7 ++ dktX1_arithmetic_8
def dkwX1_arithmetic_6 : List UInt8 := [182, 1, 72, 54, 5, 42, 182, 1, 75, 42, 29, 42, 182, 1, 72, 21, 5, 21, 4, 182, 1, 78, 4, 172]
abbrev dktX1_arithmetic_6 : List UInt8 := dkwX1_arithmetic_6 ++ dktX1_arithmetic_7
def dkwX1_arithmetic_5 : List UInt8 := [19, 1, 22, 27, 28, 182, 0, 117, 62, 29, 155, 0, 38, 42, 182, 1, 72, 54, 4, 42, 182, 1, 75, 42]
abbrev dktX1_arithmetic_5 : List UInt8 := dkwX1_arithmetic_5 ++ dktX1_arithmetic_6
def dkwX1_arithmetic_4 : List UInt8 := [128, 42, 9, 20, 1, 82, 182, 0, 190, 136, 16, 6, 120, 128, 29, 128, 182, 0, 245, 4, 172, 42]
abbrev dktX1_arithmetic_4 : List UInt8 := dkwX1_arithmetic_4 ++ dktX1_arithmetic_5
def dkwX1_arithmetic_3 : List UInt8 := [182, 1, 75, 42, 182, 1, 72, 54, 5, 42, 182, 1, 75, 42, 21, 5, 16, 16, 120, 21, 4, 16, 11, 120]
abbrev dktX1_arithmetic_3 : List UInt8 := dkwX1_arithmetic_3 ++ dktX1_arithmetic_4
def dkwX1_arithmetic_2 : List UInt8 := [172, 42, 19, 1, 20, 27, 28, 182, 0, 117, 62, 29, 155, 0, 55, 42, 182, 1, 72, 54, 4, 42]
abbrev dktX1_arithmetic_2 : List UInt8 := dkwX1_arithmetic_2 ++ dktX1_arithmetic_3
def dkwX1_arithmetic_1 : List UInt8 := [42, 182, 1, 72, 54, 5, 42, 182, 1, 75, 42, 29, 21, 5, 42, 182, 1, 72, 21, 4, 182, 1, 78, 4]
abbrev dktX1_arithmetic_1 : List UInt8 := dkwX1_arithmetic_1 ++ dktX1_arithmetic_2
def dkwX1_arithmetic_0 : List UInt8 := [42, 19, 1, 18, 27, 28, 182, 0, 117, 62, 29, 155, 0, 38, 42, 182, 1, 72, 54, 4, 42, 182, 1, 75]
abbrev dktX1_arithmetic_0 : List UInt8 := dkwX1_arithmetic_0 ++ dktX1_arithmetic_1
theorem dksX1_arithmetic_0 : cX1_arithmetic.data.toList.drop 0 = dktX1_arithmetic_0 := by decide +kernel
theorem dksX1_arithmetic_1 : cX1_arithmetic.data.toList.drop 24 = dktX1_arithmetic_1 := dk_seg dksX1_arithmetic_0 24 rfl rfl
theorem dksX1_arithmetic_2 : cX1_arithmetic.data.toList.drop 48 = dktX1_arithmetic_2 := dk_seg dksX1_arithmetic_1 24 rfl rfl
theorem dksX1_arithmetic_3 : cX1_arithmetic.data.toList.drop 70 = dktX1_arithmetic_3 := dk_seg dksX1_arithmetic_2 22 rfl rfl
theorem dksX1_arithmetic_4 : cX1_arithmetic.data.toList.drop 94 = dktX1_arithmetic_4 := dk_seg dksX1_arithmetic_3 24 rfl rfl
theorem dksX1_arithmetic_5 : cX1_arithmetic.data.toList.drop 116 = dktX1_arithmetic_5 := dk_seg dksX1_arithmetic_4 22 rfl rfl
theorem dksX1_arithmetic_6 : cX1_arithmetic.data.toList.drop 140 = dktX1_arithmetic_6 := dk_seg dksX1_arithmetic_5 24 rfl rfl
theorem dksX1_arithmetic_7 : cX1_arithmetic.data.toList.drop 164 = dktX1_arithmetic_7 := dk_seg dksX1_arithmetic_6 24 rfl rfl
theorem dksX1_arithmetic_8 : cX1_arithmetic.data.toList.drop 188 = dktX1_arithmetic_8 := dk_seg dksX1_arithmetic_7 24 rfl rfl
theorem dksX1_arithmetic_9 : cX1_arithmetic.data.toList.drop 211 = dktX1_arithmetic_9 := dk_seg dksX1_arithmetic_8 23 rfl rfl
theorem dksX1_arithmetic_10 : cX1_arithmetic.data.toList.drop 233 = dktX1_arithmetic_10 := dk_seg dksX1_arithmetic_9 22 rfl rfl
theorem dX1_arithmetic_0 : decode cX1_arithmetic 0 = .ok (.aload_n 0, 1) := dk_42 (dk_at dksX1_arithmetic_0 0 rfl rfl)
theorem dX1_arithmetic_1 : decode cX1_arithmetic 1 = .ok (.ldc_w 274, 3) := dk_19 1 18 (dk_at dksX1_arithmetic_0 1 rfl rfl)
theorem dX1_arithmetic_4 : decode cX1_arithmetic 4 = .ok (.iload_n 1, 1) := dk_27 (dk_at dksX1_arithmetic_0 4 rfl rfl)
theorem dX1_arithmetic_5 : decode cX1_arithmetic 5 = .ok (.iload_n 2, 1) := dk_28 (dk_at dksX1_arithmetic_0 5 rfl rfl)
theorem dX1_arithmetic_6 : decode cX1_arithmetic 6 = .ok (.invokevirtual 117, 3) := dk_182 0 117 (dk_at dksX1_arithmetic_0 6 rfl rfl)
theorem dX1_arithmetic_9 : decode cX1_arithmetic 9 = .ok (.istore_n 3, 1) := dk_62 (dk_at dksX1_arithmetic_0 9 rfl rfl)
theorem dX1_arithmetic_10 : decode cX1_arithmetic 10 = .ok (.iload_n 3, 1) := dk_29 (dk_at dksX1_arithmetic_0 10 rfl rfl)
theorem dX1_arithmetic_11 : decode cX1_arithmetic 11 = .ok (.ifCond .lt 38, 3) := dk_155 0 38 (dk_at dksX1_arithmetic_0 11 rfl rfl)
theorem dX1_arithmetic_14 : decode cX1_arithmetic 14 = .ok (.aload_n 0, 1) := dk_42 (dk_at dksX1_arithmetic_0 14 rfl rfl)
theorem dX1_arithmetic_15 : decode cX1_arithmetic 15 = .ok (.invokevirtual 328, 3) := dk_182 1 72 (dk_at dksX1_arithmetic_0 15 rfl rfl)
theorem dX1_arithmetic_18 : decode cX1_arithmetic 18 = .ok (.istore 4, 2) := dk_54 4 (dk_at dksX1_arithmetic_0 18 rfl rfl)
theorem dX1_arithmetic_20 : decode cX1_arithmetic 20 = .ok (.aload_n 0, 1) := dk_42 (dk_at dksX1_arithmetic_0 20 rfl rfl)
theorem dX1_arithmetic_21 : decode cX1_arithmetic 21 = .ok (.invokevirtual 331, 3) := dk_182 1 75 (dk_at dksX1_arithmetic_0 21 rfl rfl)
theorem dX1_arithmetic_24 : decode cX1_arithmetic 24 = .ok (.aload_n 0, 1) := dk_42 (dk_at dksX1_arithmetic_1 0 rfl rfl)
theorem dX1_arithmetic_25 : decode cX1_arithmetic 25 = .ok (.invokevirtual 328, 3) := dk_182 1 72 (dk_at dksX1_arithmetic_1 1 rfl rfl)
theorem dX1_arithmetic_28 : decode cX1_arithmetic 28 = .ok (.istore 5, 2) := dk_54 5 (dk_at dksX1_arithmetic_1 4 rfl rfl)
theorem dX1_arithmetic_30 : decode cX1_arithmetic 30 = .ok (.aload_n 0, 1) := dk_42 (dk_at dksX1_arithmetic_1 6 rfl rfl)
theorem dX1_arithmetic_31 : decode cX1_arithmetic 31 = .ok (.invokevirtual 331, 3) := dk_182 1 75 (dk_at dksX1_arithmetic_1 7 rfl rfl)
theorem dX1_arithmetic_34 : decode cX1_arithmetic 34 = .ok (.aload_n 0, 1) := dk_42 (dk_at dksX1_arithmetic_1 10 rfl rfl)
theorem dX1_arithmetic_35 : decode cX1_arithmetic 35 = .ok (.iload_n 3, 1) := dk_29 (dk_at dksX1_arithmetic_1 11 rfl rfl)
theorem dX1_arithmetic_36 : decode cX1_arithmetic 36 = .ok (.iload 5, 2) := dk_21 5 (dk_at dksX1_arithmetic_1 12 rfl rfl)
theorem dX1_arithmetic_38 : decode cX1_arithmetic 38 = .ok (.aload_n 0, 1) := dk_42 (dk_at dksX1_arithmetic_1 14 rfl rfl)
theorem dX1_arithmetic_39 : decode cX1_arithmetic 39 = .ok (.invokevirtual 328, 3) := dk_182 1 72 (dk_at dksX1_arithmetic_1 15 rfl rfl)
theorem dX1_arithmetic_42 : decode cX1_arithmetic 42 = .ok (.iload 4, 2) := dk_21 4 (dk_at dksX1_arithmetic_1 18 rfl rfl)
theorem dX1_arithmetic_44 : decode cX1_arithmetic 44 = .ok (.invokevirtual 334, 3) := dk_182 1 78 (dk_at dksX1_arithmetic_1 20 rfl rfl)
theorem dX1_arithmetic_47 : decode cX1_arithmetic 47 = .ok (.iconst 1, 1) := dk_4 (dk_at dksX1_arithmetic_1 23 rfl rfl)
theorem dX1_arithmetic_48 : decode cX1_arithmetic 48 = .ok (.ireturn, 1) := dk_172 (dk_at dksX1_arithmetic_2 0 rfl rfl)
theorem dX1_arithmetic_49 : decode cX1_arithmetic 49 = .ok (.aload_n 0, 1) := dk_42 (dk_at dksX1_arithmetic_2 1 rfl rfl)
theorem dX1_arithmetic_50 : decode cX1_arithmetic 50 = .ok (.ldc_w 276, 3) := dk_19 1 20 (dk_at dksX1_arithmetic_2 2 rfl rfl)
theorem dX1_arithmetic_53 : decode cX1_arithmetic 53 = .ok (.iload_n 1, 1) := dk_27 (dk_at dksX1_arithmetic_2 5 rfl rfl)
theorem dX1_arithmetic_54 : decode cX1_arithmetic 54 = .ok (.iload_n 2, 1) := dk_28 (dk_at dksX1_arithmetic_2 6 rfl rfl)
theorem dX1_arithmetic_55 : decode cX1_arithmetic 55 = .ok (.invokevirtual 117, 3) := dk_182 0 117 (dk_at dksX1_arithmetic_2 7 rfl rfl)
theorem dX1_arithmetic_58 : decode cX1_arithmetic 58 = .ok (.istore_n 3, 1) := dk_62 (dk_at dksX1_arithmetic_2 10 rfl rfl)
theorem dX1_arithmetic_59 : decode cX1_arithmetic 59 = .ok (.iload_n 3, 1) := dk_29 (dk_at dksX1_arithmetic_2 11 rfl rfl)
theorem dX1_arithmetic_60 : decode cX1_arithmetic 60 = .ok (.ifCond .lt 55, 3) := dk_155 0 55 (dk_at dksX1_arithmetic_2 12 rfl rfl)
theorem dX1_arithmetic_63 : decode cX1_arithmetic 63 = .ok (.aload_n 0, 1) := dk_42 (dk_at dksX1_arithmetic_2 15 rfl rfl)
theorem dX1_arithmetic_64 : decode cX1_arithmetic 64 = .ok (.invokevirtual 328, 3) := dk_182 1 72 (dk_at dksX1_arithmetic_2 16 rfl rfl)
theorem dX1_arithmetic_67 : decode cX1_arithmetic 67 = .ok (.istore 4, 2) := dk_54 4 (dk_at dksX1_arithmetic_2 19 rfl rfl)
theorem dX1_arithmetic_69 : decode cX1_arithmetic 69 = .ok (.aload_n 0, 1) := dk_42 (dk_at dksX1_arithmetic_2 21 rfl rfl)
theorem dX1_arithmetic_70 : decode cX1_arithmetic 70 = .ok (.invokevirtual 331, 3) := dk_182 1 75 (dk_at dksX1_arithmetic_3 0 rfl rfl)
theorem dX1_arithmetic_73 : decode cX1_arithmetic 73 = .ok (.aload_n 0, 1) := dk_42 (dk_at dksX1_arithmetic_3 3 rfl rfl)
theorem dX1_arithmetic_74 : decode cX1_arithmetic 74 = .ok (.invokevirtual 328, 3) := dk_182 1 72 (dk_at dksX1_arithmetic_3 4 rfl rfl)
theorem dX1_arithmetic_77 : decode cX1_arithmetic 77 = .ok (.istore 5, 2) := dk_54 5 (dk_at dksX1_arithmetic_3 7 rfl rfl)
theorem dX1_arithmetic_79 : decode cX1_arithmetic 79 = .ok (.aload_n 0, 1) := dk_42 (dk_at dksX1_arithmetic_3 9 rfl rfl)
theorem dX1_arithmetic_80 : decode cX1_arithmetic 80 = .ok (.invokevirtual 331, 3) := dk_182 1 75 (dk_at dksX1_arithmetic_3 10 rfl rfl)
theorem dX1_arithmetic_83 : decode cX1_arithmetic 83 = .ok (.aload_n 0, 1) := dk_42 (dk_at dksX1_arithmetic_3 13 rfl rfl)
theorem dX1_arithmetic_84 : decode cX1_arithmetic 84 = .ok (.iload 5, 2) := dk_21 5 (dk_at dksX1_arithmetic_3 14 rfl rfl)
theorem dX1_arithmetic_86 : decode cX1_arithmetic 86 = .ok (.bipush 16, 2) := dk_16 16 (dk_at dksX1_arithmetic_3 16 rfl rfl)
theorem dX1_arithmetic_88 : decode cX1_arithmetic 88 = .ok (.ishl, 1) := dk_120 (dk_at dksX1_arithmetic_3 18 rfl rfl)
theorem dX1_arithmetic_89 : decode cX1_arithmetic 89 = .ok (.iload 4, 2) := dk_21 4 (dk_at dksX1_arithmetic_3 19 rfl rfl)
theorem dX1_arithmetic_91 : decode cX1_arithmetic 91 = .ok (.bipush 11, 2) := dk_16 11 (dk_at dksX1_arithmetic_3 21 rfl rfl)
theorem dX1_arithmetic_93 : decode cX1_arithmetic 93 = .ok (.ishl, 1) := dk_120 (dk_at dksX1_arithmetic_3 23 rfl rfl)
theorem dX1_arithmetic_94 : decode cX1_arithmetic 94 = .ok (.ior, 1) := dk_128 (dk_at dksX1_arithmetic_4 0 rfl rfl)
theorem dX1_arithmetic_95 : decode cX1_arithmetic 95 = .ok (.aload_n 0, 1) := dk_42 (dk_at dksX1_arithmetic_4 1 rfl rfl)
theorem dX1_arithmetic_96 : decode cX1_arithmetic 96 = .ok (.lconst 0, 1) := dk_9 (dk_at dksX1_arithmetic_4 2 rfl rfl)
theorem dX1_arithmetic_97 : decode cX1_arithmetic 97 = .ok (.ldc2_w 338, 3) := dk_20 1 82 (dk_at dksX1_arithmetic_4 3 rfl rfl)
theorem dX1_arithmetic_100 : decode cX1_arithmetic 100 = .ok (.invokevirtual 190, 3) := dk_182 0 190 (dk_at dksX1_arithmetic_4 6 rfl rfl)
theorem dX1_arithmetic_103 : decode cX1_arithmetic 103 = .ok (.l2i, 1) := dk_136 (dk_at dksX1_arithmetic_4 9 rfl rfl)
theorem dX1_arithmetic_104 : decode cX1_arithmetic 104 = .ok (.bipush 6, 2) := dk_16 6 (dk_at dksX1_arithmetic_4 10 rfl rfl)
theorem dX1_arithmetic_106 : decode cX1_arithmetic 106 = .ok (.ishl, 1) := dk_120 (dk_at dksX1_arithmetic_4 12 rfl rfl)
theorem dX1_arithmetic_107 : decode cX1_arithmetic 107 = .ok (.ior, 1) := dk_128 (dk_at dksX1_arithmetic_4 13 rfl rfl)
theorem dX1_arithmetic_108 : decode cX1_arithmetic 108 = .ok (.iload_n 3, 1) := dk_29 (dk_at dksX1_arithmetic_4 14 rfl rfl)
theorem dX1_arithmetic_109 : decode cX1_arithmetic 109 = .ok (.ior, 1) := dk_128 (dk_at dksX1_arithmetic_4 15 rfl rfl)
theorem dX1_arithmetic_110 : decode cX1_arithmetic 110 = .ok (.invokevirtual 245, 3) := dk_182 0 245 (dk_at dksX1_arithmetic_4 16 rfl rfl)
theorem dX1_arithmetic_113 : decode cX1_arithmetic 113 = .ok (.iconst 1, 1) := dk_4 (dk_at dksX1_arithmetic_4 19 rfl rfl)
theorem dX1_arithmetic_114 : decode cX1_arithmetic 114 = .ok (.ireturn, 1) := dk_172 (dk_at dksX1_arithmetic_4 20 rfl rfl)
theorem dX1_arithmetic_115 : decode cX1_arithmetic 115 = .ok (.aload_n 0, 1) := dk_42 (dk_at dksX1_arithmetic_4 21 rfl rfl)
theorem dX1_arithmetic_116 : decode cX1_arithmetic 116 = .ok (.ldc_w 278, 3) := dk_19 1 22 (dk_at dksX1_arithmetic_5 0 rfl rfl)
theorem dX1_arithmetic_119 : decode cX1_arithmetic 119 = .ok (.iload_n 1, 1) := dk_27 (dk_at dksX1_arithmetic_5 3 rfl rfl)
theorem dX1_arithmetic_120 : decode cX1_arithmetic 120 = .ok (.iload_n 2, 1) := dk_28 (dk_at dksX1_arithmetic_5 4 rfl rfl)
theorem dX1_arithmetic_121 : decode cX1_arithmetic 121 = .ok (.invokevirtual 117, 3) := dk_182 0 117 (dk_at dksX1_arithmetic_5 5 rfl rfl)
theorem dX1_arithmetic_124 : decode cX1_arithmetic 124 = .ok (.istore_n 3, 1) := dk_62 (dk_at dksX1_arithmetic_5 8 rfl rfl)
theorem dX1_arithmetic_125 : decode cX1_arithmetic 125 = .ok (.iload_n 3, 1) := dk_29 (dk_at dksX1_arithmetic_5 9 rfl rfl)
theorem dX1_arithmetic_126 : decode cX1_arithmetic 126 = .ok (.ifCond .lt 38, 3) := dk_155 0 38 (dk_at dksX1_arithmetic_5 10 rfl rfl)
theorem dX1_arithmetic_129 : decode cX1_arithmetic 129 = .ok (.aload_n 0, 1) := dk_42 (dk_at dksX1_arithmetic_5 13 rfl rfl)
theorem dX1_arithmetic_130 : decode cX1_arithmetic 130 = .ok (.invokevirtual 328, 3) := dk_182 1 72 (dk_at dksX1_arithmetic_5 14 rfl rfl)
theorem dX1_arithmetic_133 : decode cX1_arithmetic 133 = .ok (.istore 4, 2) := dk_54 4 (dk_at dksX1_arithmetic_5 17 rfl rfl)
theorem dX1_arithmetic_135 : decode cX1_arithmetic 135 = .ok (.aload_n 0, 1) := dk_42 (dk_at dksX1_arithmetic_5 19 rfl rfl)
theorem dX1_arithmetic_136 : decode cX1_arithmetic 136 = .ok (.invokevirtual 331, 3) := dk_182 1 75 (dk_at dksX1_arithmetic_5 20 rfl rfl)
theorem dX1_arithmetic_139 : decode cX1_arithmetic 139 = .ok (.aload_n 0, 1) := dk_42 (dk_at dksX1_arithmetic_5 23 rfl rfl)
theorem dX1_arithmetic_140 : decode cX1_arithmetic 140 = .ok (.invokevirtual 328, 3) := dk_182 1 72 (dk_at dksX1_arithmetic_6 0 rfl rfl)
theorem dX1_arithmetic_143 : decode cX1_arithmetic 143 = .ok (.istore 5, 2) := dk_54 5 (dk_at dksX1_arithmetic_6 3 rfl rfl)
theorem dX1_arithmetic_145 : decode cX1_arithmetic 145 = .ok (.aload_n 0, 1) := dk_42 (dk_at dksX1_arithmetic_6 5 rfl rfl)
theorem dX1_arithmetic_146 : decode cX1_arithmetic 146 = .ok (.invokevirtual 331, 3) := dk_182 1 75 (dk_at dksX1_arithmetic_6 6 rfl rfl)
theorem dX1_arithmetic_149 : decode cX1_arithmetic 149 = .ok (.aload_n 0, 1) := dk_42 (dk_at dksX1_arithmetic_6 9 rfl rfl)
theorem dX1_arithmetic_150 : decode cX1_arithmetic 150 = .ok (.iload_n 3, 1) := dk_29 (dk_at dksX1_arithmetic_6 10 rfl rfl)
theorem dX1_arithmetic_151 : decode cX1_arithmetic 151 = .ok (.aload_n 0, 1) := dk_42 (dk_at dksX1_arithmetic_6 11 rfl rfl)
theorem dX1_arithmetic_152 : decode cX1_arithmetic 152 = .ok (.invokevirtual 328, 3) := dk_182 1 72 (dk_at dksX1_arithmetic_6 12 rfl rfl)
theorem dX1_arithmetic_155 : decode cX1_arithmetic 155 = .ok (.iload 5, 2) := dk_21 5 (dk_at dksX1_arithmetic_6 15 rfl rfl)
theorem dX1_arithmetic_157 : decode cX1_arithmetic 157 = .ok (.iload 4, 2) := dk_21 4 (dk_at dksX1_arithmetic_6 17 rfl rfl)
theorem dX1_arithmetic_159 : decode cX1_arithmetic 159 = .ok (.invokevirtual 334, 3) := dk_182 1 78 (dk_at dksX1_arithmetic_6 19 rfl rfl)
theorem dX1_arithmetic_162 : decode cX1_arithmetic 162 = .ok (.iconst 1, 1) := dk_4 (dk_at dksX1_arithmetic_6 22 rfl rfl)
theorem dX1_arithmetic_163 : decode cX1_arithmetic 163 = .ok (.ireturn, 1) := dk_172 (dk_at dksX1_arithmetic_6 23 rfl rfl)
theorem dX1_arithmetic_164 : decode cX1_arithmetic 164 = .ok (.aload_n 0, 1) := dk_42 (dk_at dksX1_arithmetic_7 0 rfl rfl)
theorem dX1_arithmetic_165 : decode cX1_arithmetic 165 = .ok (.ldc_w 280, 3) := dk_19 1 24 (dk_at dksX1_arithmetic_7 1 rfl rfl)
theorem dX1_arithmetic_168 : decode cX1_arithmetic 168 = .ok (.iload_n 1, 1) := dk_27 (dk_at dksX1_arithmetic_7 4 rfl rfl)
theorem dX1_arithmetic_169 : decode cX1_arithmetic 169 = .ok (.iload_n 2, 1) := dk_28 (dk_at dksX1_arithmetic_7 5 rfl rfl)
theorem dX1_arithmetic_170 : decode cX1_arithmetic 170 = .ok (.invokevirtual 117, 3) := dk_182 0 117 (dk_at dksX1_arithmetic_7 6 rfl rfl)
theorem dX1_arithmetic_173 : decode cX1_arithmetic 173 = .ok (.istore_n 3, 1) := dk_62 (dk_at dksX1_arithmetic_7 9 rfl rfl)
theorem dX1_arithmetic_174 : decode cX1_arithmetic 174 = .ok (.iload_n 3, 1) := dk_29 (dk_at dksX1_arithmetic_7 10 rfl rfl)
theorem dX1_arithmetic_175 : decode cX1_arithmetic 175 = .ok (.ifCond .lt 27, 3) := dk_155 0 27 (dk_at dksX1_arithmetic_7 11 rfl rfl)
theorem dX1_arithmetic_178 : decode cX1_arithmetic 178 = .ok (.aload_n 0, 1) := dk_42 (dk_at dksX1_arithmetic_7 14 rfl rfl)
theorem dX1_arithmetic_179 : decode cX1_arithmetic 179 = .ok (.invokevirtual 328, 3) := dk_182 1 72 (dk_at dksX1_arithmetic_7 15 rfl rfl)
theorem dX1_arithmetic_182 : decode cX1_arithmetic 182 = .ok (.istore 4, 2) := dk_54 4 (dk_at dksX1_arithmetic_7 18 rfl rfl)
theorem dX1_arithmetic_184 : decode cX1_arithmetic 184 = .ok (.aload_n 0, 1) := dk_42 (dk_at dksX1_arithmetic_7 20 rfl rfl)
theorem dX1_arithmetic_185 : decode cX1_arithmetic 185 = .ok (.invokevirtual 331, 3) := dk_182 1 75 (dk_at dksX1_arithmetic_7 21 rfl rfl)
theorem dX1_arithmetic_188 : decode cX1_arithmetic 188 = .ok (.aload_n 0, 1) := dk_42 (dk_at dksX1_arithmetic_8 0 rfl rfl)
theorem dX1_arithmetic_189 : decode cX1_arithmetic 189 = .ok (.iload_n 3, 1) := dk_29 (dk_at dksX1_arithmetic_8 1 rfl rfl)
theorem dX1_arithmetic_190 : decode cX1_arithmetic 190 = .ok (.iload 4, 2) := dk_21 4 (dk_at dksX1_arithmetic_8 2 rfl rfl)
theorem dX1_arithmetic_192 : decode cX1_arithmetic 192 = .ok (.aload_n 0, 1) := dk_42 (dk_at dksX1_arithmetic_8 4 rfl rfl)
theorem dX1_arithmetic_193 : decode cX1_arithmetic 193 = .ok (.invokevirtual 328, 3) := dk_182 1 72 (dk_at dksX1_arithmetic_8 5 rfl rfl)
theorem dX1_arithmetic_196 : decode cX1_arithmetic 196 = .ok (.iconst 0, 1) := dk_3 (dk_at dksX1_arithmetic_8 8 rfl rfl)
theorem dX1_arithmetic_197 : decode cX1_arithmetic 197 = .ok (.invokevirtual 334, 3) := dk_182 1 78 (dk_at dksX1_arithmetic_8 9 rfl rfl)
theorem dX1_arithmetic_200 : decode cX1_arithmetic 200 = .ok (.iconst 1, 1) := dk_4 (dk_at dksX1_arithmetic_8 12 rfl rfl)
theorem dX1_arithmetic_201 : decode cX1_arithmetic 201 = .ok (.ireturn, 1) := dk_172 (dk_at dksX1_arithmetic_8 13 rfl rfl)
theorem dX1_arithmetic_202 : decode cX1_arithmetic 202 = .ok (.aload_n 0, 1) := dk_42 (dk_at dksX1_arithmetic_8 14 rfl rfl)
theorem dX1_arithmetic_203 : decode cX1_arithmetic 203 = .ok (.ldc_w 282, 3) := dk_19 1 26 (dk_at dksX1_arithmetic_8 15 rfl rfl)
theorem dX1_arithmetic_206 : decode cX1_arithmetic 206 = .ok (.iload_n 1, 1) := dk_27 (dk_at dksX1_arithmetic_8 18 rfl rfl)
theorem dX1_arithmetic_207 : decode cX1_arithmetic 207 = .ok (.iload_n 2, 1) := dk_28 (dk_at dksX1_arithmetic_8 19 rfl rfl)
theorem dX1_arithmetic_208 : decode cX1_arithmetic 208 = .ok (.invokevirtual 117, 3) := dk_182 0 117 (dk_at dksX1_arithmetic_8 20 rfl rfl)
theorem dX1_arithmetic_211 : decode cX1_arithmetic 211 = .ok (.ifCond .lt 19, 3) := dk_155 0 19 (dk_at dksX1_arithmetic_9 0 rfl rfl)
theorem dX1_arithmetic_214 : decode cX1_arithmetic 214 = .ok (.aload_n 0, 1) := dk_42 (dk_at dksX1_arithmetic_9 3 rfl rfl)
theorem dX1_arithmetic_215 : decode cX1_arithmetic 215 = .ok (.aload_n 0, 1) := dk_42 (dk_at dksX1_arithmetic_9 4 rfl rfl)
theorem dX1_arithmetic_216 : decode cX1_arithmetic 216 = .ok (.ldc_w 282, 3) := dk_19 1 26 (dk_at dksX1_arithmetic_9 5 rfl rfl)
theorem dX1_arithmetic_219 : decode cX1_arithmetic 219 = .ok (.iload_n 1, 1) := dk_27 (dk_at dksX1_arithmetic_9 8 rfl rfl)
theorem dX1_arithmetic_220 : decode cX1_arithmetic 220 = .ok (.iload_n 2, 1) := dk_28 (dk_at dksX1_arithmetic_9 9 rfl rfl)
theorem dX1_arithmetic_221 : decode cX1_arithmetic 221 = .ok (.invokevirtual 117, 3) := dk_182 0 117 (dk_at dksX1_arithmetic_9 10 rfl rfl)
theorem dX1_arithmetic_224 : decode cX1_arithmetic 224 = .ok (.invokevirtual 340, 3) := dk_182 1 84 (dk_at dksX1_arithmetic_9 13 rfl rfl)
theorem dX1_arithmetic_227 : decode cX1_arithmetic 227 = .ok (.goto 9, 3) := dk_167 0 9 (dk_at dksX1_arithmetic_9 16 rfl rfl)
theorem dX1_arithmetic_230 : decode cX1_arithmetic 230 = .ok (.aload_n 0, 1) := dk_42 (dk_at dksX1_arithmetic_9 19 rfl rfl)
theorem dX1_arithmetic_231 : decode cX1_arithmetic 231 = .ok (.iload_n 1, 1) := dk_27 (dk_at dksX1_arithmetic_9 20 rfl rfl)
theorem dX1_arithmetic_232 : decode cX1_arithmetic 232 = .ok (.iload_n 2, 1) := dk_28 (dk_at dksX1_arithmetic_9 21 rfl rfl)
theorem dX1_arithmetic_233 : decode cX1_arithmetic 233 = .ok (.invokevirtual 343, 3) := dk_182 1 87 (dk_at dksX1_arithmetic_10 0 rfl rfl)
theorem dX1_arithmetic_236 : decode cX1_arithmetic 236 = .ok (.ireturn, 1) := dk_172 (dk_at dksX1_arithmetic_10 3 rfl rfl)
abbrev cX1_general : ByteArray := prog_1_method_25_code
def yX1_general : MethodName := ⟨RX1, "general", "()I"⟩
def dkwX1_general_3 : List UInt8 := [181, 0, 48, 42, 182, 0, 59, 27, 172]
abbrev dktX1_general_3 : List UInt8 := dkwX1_general_3 ++ []
def dkwX1_general_2 : List UInt8 := [162, 0, 7, 4, 167, 0, 4, 3, 6, 182, 0, 69, 42, 89, 180, 0, 48, 42, 180, 0, 103, 96]
abbrev dktX1_general_2 : List UInt8 := dkwX1_general_2 ++ dktX1_general_3
def dkwX1_general_1 : List UInt8 := [182, 0, 93, 60, 42, 27, 155, 0, 7, 4, 167, 0, 4, 3, 4, 182, 0, 69, 42, 27, 16, 32]
abbrev dktX1_general_1 : List UInt8 := dkwX1_general_1 ++ dktX1_general_2
def dkwX1_general_0 : List UInt8 := [42, 42, 3, 182, 0, 51, 16, 36, 160, 0, 7, 4, 167, 0, 4, 3, 42, 182, 0, 65, 182, 0, 69, 42]
abbrev dktX1_general_0 : List UInt8 := dkwX1_general_0 ++ dktX1_general_1
theorem dksX1_general_0 : cX1_general.data.toList.drop 0 = dktX1_general_0 := by decide +kernel
theorem dksX1_general_1 : cX1_general.data.toList.drop 24 = dktX1_general_1 := dk_seg dksX1_general_0 24 rfl rfl
theorem dksX1_general_2 : cX1_general.data.toList.drop 46 = dktX1_general_2 := dk_seg dksX1_general_1 22 rfl rfl
theorem dksX1_general_3 : cX1_general.data.toList.drop 68 = dktX1_general_3 := dk_seg dksX1_general_2 22 rfl rfl
theorem dX1_general_0 : decode cX1_general 0 = .ok (.aload_n 0, 1) := dk_42 (dk_at dksX1_general_0 0 rfl rfl)
theorem dX1_general_1 : decode cX1_general 1 = .ok (.aload_n 0, 1) := dk_42 (dk_at dksX1_general_0 1 rfl rfl)
theorem dX1_general_2 : decode cX1_general 2 = .ok (.iconst 0, 1) := dk_3 (dk_at dksX1_general_0 2 rfl rfl)
theorem dX1_general_3 : decode cX1_general 3 = .ok (.invokevirtual 51, 3) := dk_182 0 51 (dk_at dksX1_general_0 3 rfl rfl)
theorem dX1_general_6 : decode cX1_general 6 = .ok (.bipush 36, 2) := dk_16 36 (dk_at dksX1_general_0 6 rfl rfl)
theorem dX1_general_8 : decode cX1_general 8 = .ok (.if_icmp .ne 7, 3) := dk_160 0 7 (dk_at dksX1_general_0 8 rfl rfl)
theorem dX1_general_11 : decode cX1_general 11 = .ok (.iconst 1, 1) := dk_4 (dk_at dksX1_general_0 11 rfl rfl)
theorem dX1_general_12 : decode cX1_general 12 = .ok (.goto 4, 3) := dk_167 0 4 (dk_at dksX1_general_0 12 rfl rfl)
theorem dX1_general_15 : decode cX1_general 15 = .ok (.iconst 0, 1) := dk_3 (dk_at dksX1_general_0 15 rfl rfl)
theorem dX1_general_16 : decode cX1_general 16 = .ok (.aload_n 0, 1) := dk_42 (dk_at dksX1_general_0 16 rfl rfl)
theorem dX1_general_17 : decode cX1_general 17 = .ok (.invokevirtual 65, 3) := dk_182 0 65 (dk_at dksX1_general_0 17 rfl rfl)
theorem dX1_general_20 : decode cX1_general 20 = .ok (.invokevirtual 69, 3) := dk_182 0 69 (dk_at dksX1_general_0 20 rfl rfl)
theorem dX1_general_23 : decode cX1_general 23 = .ok (.aload_n 0, 1) := dk_42 (dk_at dksX1_general_0 23 rfl rfl)
theorem dX1_general_24 : decode cX1_general 24 = .ok (.invokevirtual 93, 3) := dk_182 0 93 (dk_at dksX1_general_1 0 rfl rfl)
theorem dX1_general_27 : decode cX1_general 27 = .ok (.istore_n 1, 1) := dk_60 (dk_at dksX1_general_1 3 rfl rfl)
theorem dX1_general_28 : decode cX1_general 28 = .ok (.aload_n 0, 1) := dk_42 (dk_at dksX1_general_1 4 rfl rfl)
theorem dX1_general_29 : decode cX1_general 29 = .ok (.iload_n 1, 1) := dk_27 (dk_at dksX1_general_1 5 rfl rfl)
theorem dX1_general_30 : decode cX1_general 30 = .ok (.ifCond .lt 7, 3) := dk_155 0 7 (dk_at dksX1_general_1 6 rfl rfl)
theorem dX1_general_33 : decode cX1_general 33 = .ok (.iconst 1, 1) := dk_4 (dk_at dksX1_general_1 9 rfl rfl)
theorem dX1_general_34 : decode cX1_general 34 = .ok (.goto 4, 3) := dk_167 0 4 (dk_at dksX1_general_1 10 rfl rfl)
theorem dX1_general_37 : decode cX1_general 37 = .ok (.iconst 0, 1) := dk_3 (dk_at dksX1_general_1 13 rfl rfl)
theorem dX1_general_38 : decode cX1_general 38 = .ok (.iconst 1, 1) := dk_4 (dk_at dksX1_general_1 14 rfl rfl)
theorem dX1_general_39 : decode cX1_general 39 = .ok (.invokevirtual 69, 3) := dk_182 0 69 (dk_at dksX1_general_1 15 rfl rfl)
theorem dX1_general_42 : decode cX1_general 42 = .ok (.aload_n 0, 1) := dk_42 (dk_at dksX1_general_1 18 rfl rfl)
theorem dX1_general_43 : decode cX1_general 43 = .ok (.iload_n 1, 1) := dk_27 (dk_at dksX1_general_1 19 rfl rfl)
theorem dX1_general_44 : decode cX1_general 44 = .ok (.bipush 32, 2) := dk_16 32 (dk_at dksX1_general_1 20 rfl rfl)
theorem dX1_general_46 : decode cX1_general 46 = .ok (.if_icmp .ge 7, 3) := dk_162 0 7 (dk_at dksX1_general_2 0 rfl rfl)
theorem dX1_general_49 : decode cX1_general 49 = .ok (.iconst 1, 1) := dk_4 (dk_at dksX1_general_2 3 rfl rfl)
theorem dX1_general_50 : decode cX1_general 50 = .ok (.goto 4, 3) := dk_167 0 4 (dk_at dksX1_general_2 4 rfl rfl)
theorem dX1_general_53 : decode cX1_general 53 = .ok (.iconst 0, 1) := dk_3 (dk_at dksX1_general_2 7 rfl rfl)
theorem dX1_general_54 : decode cX1_general 54 = .ok (.iconst 3, 1) := dk_6 (dk_at dksX1_general_2 8 rfl rfl)
theorem dX1_general_55 : decode cX1_general 55 = .ok (.invokevirtual 69, 3) := dk_182 0 69 (dk_at dksX1_general_2 9 rfl rfl)
theorem dX1_general_58 : decode cX1_general 58 = .ok (.aload_n 0, 1) := dk_42 (dk_at dksX1_general_2 12 rfl rfl)
theorem dX1_general_59 : decode cX1_general 59 = .ok (.dup, 1) := dk_89 (dk_at dksX1_general_2 13 rfl rfl)
theorem dX1_general_60 : decode cX1_general 60 = .ok (.getfield 48, 3) := dk_180 0 48 (dk_at dksX1_general_2 14 rfl rfl)
theorem dX1_general_63 : decode cX1_general 63 = .ok (.aload_n 0, 1) := dk_42 (dk_at dksX1_general_2 17 rfl rfl)
theorem dX1_general_64 : decode cX1_general 64 = .ok (.getfield 103, 3) := dk_180 0 103 (dk_at dksX1_general_2 18 rfl rfl)
theorem dX1_general_67 : decode cX1_general 67 = .ok (.iadd, 1) := dk_96 (dk_at dksX1_general_2 21 rfl rfl)
theorem dX1_general_68 : decode cX1_general 68 = .ok (.putfield 48, 3) := dk_181 0 48 (dk_at dksX1_general_3 0 rfl rfl)
theorem dX1_general_71 : decode cX1_general 71 = .ok (.aload_n 0, 1) := dk_42 (dk_at dksX1_general_3 3 rfl rfl)
theorem dX1_general_72 : decode cX1_general 72 = .ok (.invokevirtual 59, 3) := dk_182 0 59 (dk_at dksX1_general_3 4 rfl rfl)
theorem dX1_general_75 : decode cX1_general 75 = .ok (.iload_n 1, 1) := dk_27 (dk_at dksX1_general_3 7 rfl rfl)
theorem dX1_general_76 : decode cX1_general 76 = .ok (.ireturn, 1) := dk_172 (dk_at dksX1_general_3 8 rfl rfl)
abbrev cX1_comma : ByteArray := prog_1_method_24_code
def yX1_comma : MethodName := ⟨RX1, "comma", "()V"⟩
def dkwX1_comma_0 : List UInt8 := [42, 16, 44, 182, 0, 135, 177]
abbrev dktX1_comma_0 : List UInt8 := dkwX1_comma_0 ++ []
theorem dksX1_comma_0 : cX1_comma.data.toList.drop 0 = dktX1_comma_0 := by decide +kernel
theorem dX1_comma_0 : decode cX1_comma 0 = .ok (.aload_n 0, 1) := dk_42 (dk_at dksX1_comma_0 0 rfl rfl)
theorem dX1_comma_1 : decode cX1_comma 1 = .ok (.bipush 44, 2) := dk_16 44 (dk_at dksX1_comma_0 1 rfl rfl)
theorem dX1_comma_3 : decode cX1_comma 3 = .ok (.invokevirtual 135, 3) := dk_182 0 135 (dk_at dksX1_comma_0 3 rfl rfl)
theorem dX1_comma_6 : decode cX1_comma 6 = .ok (.return_, 1) := dk_177 (dk_at dksX1_comma_0 6 rfl rfl)
abbrev cX1_need : ByteArray := prog_1_method_13_code
def yX1_need : MethodName := ⟨RX1, "need", "(I)V"⟩
def dkwX1_need_0 : List UInt8 := [42, 27, 182, 0, 62, 154, 0, 12, 42, 3, 42, 182, 0, 65, 182, 0, 69, 177]
abbrev dktX1_need_0 : List UInt8 := dkwX1_need_0 ++ []
theorem dksX1_need_0 : cX1_need.data.toList.drop 0 = dktX1_need_0 := by decide +kernel
theorem dX1_need_0 : decode cX1_need 0 = .ok (.aload_n 0, 1) := dk_42 (dk_at dksX1_need_0 0 rfl rfl)
theorem dX1_need_1 : decode cX1_need 1 = .ok (.iload_n 1, 1) := dk_27 (dk_at dksX1_need_0 1 rfl rfl)
theorem dX1_need_2 : decode cX1_need 2 = .ok (.invokevirtual 62, 3) := dk_182 0 62 (dk_at dksX1_need_0 2 rfl rfl)
theorem dX1_need_5 : decode cX1_need 5 = .ok (.ifCond .ne 12, 3) := dk_154 0 12 (dk_at dksX1_need_0 5 rfl rfl)
theorem dX1_need_8 : decode cX1_need 8 = .ok (.aload_n 0, 1) := dk_42 (dk_at dksX1_need_0 8 rfl rfl)
theorem dX1_need_9 : decode cX1_need 9 = .ok (.iconst 0, 1) := dk_3 (dk_at dksX1_need_0 9 rfl rfl)
theorem dX1_need_10 : decode cX1_need 10 = .ok (.aload_n 0, 1) := dk_42 (dk_at dksX1_need_0 10 rfl rfl)
theorem dX1_need_11 : decode cX1_need 11 = .ok (.invokevirtual 65, 3) := dk_182 0 65 (dk_at dksX1_need_0 11 rfl rfl)
theorem dX1_need_14 : decode cX1_need 14 = .ok (.invokevirtual 69, 3) := dk_182 0 69 (dk_at dksX1_need_0 14 rfl rfl)
theorem dX1_need_17 : decode cX1_need 17 = .ok (.return_, 1) := dk_177 (dk_at dksX1_need_0 17 rfl rfl)
abbrev cX1_special : ByteArray := prog_1_method_39_code
def yX1_special : MethodName := ⟨RX1, "special", "(IIII)V"⟩
def dkwX1_special_1 : List UInt8 := [21, 4, 16, 11, 120, 128, 27, 16, 63, 126, 128, 182, 0, 245, 177]
abbrev dktX1_special_1 : List UInt8 := dkwX1_special_1 ++ []
def dkwX1_special_0 : List UInt8 := [42, 27, 16, 64, 162, 0, 7, 3, 167, 0, 5, 18, 244, 28, 16, 21, 120, 128, 29, 16, 16, 120, 128]
abbrev dktX1_special_0 : List UInt8 := dkwX1_special_0 ++ dktX1_special_1
theorem dksX1_special_0 : cX1_special.data.toList.drop 0 = dktX1_special_0 := by decide +kernel
theorem dksX1_special_1 : cX1_special.data.toList.drop 23 = dktX1_special_1 := dk_seg dksX1_special_0 23 rfl rfl
theorem dX1_special_0 : decode cX1_special 0 = .ok (.aload_n 0, 1) := dk_42 (dk_at dksX1_special_0 0 rfl rfl)
theorem dX1_special_1 : decode cX1_special 1 = .ok (.iload_n 1, 1) := dk_27 (dk_at dksX1_special_0 1 rfl rfl)
theorem dX1_special_2 : decode cX1_special 2 = .ok (.bipush 64, 2) := dk_16 64 (dk_at dksX1_special_0 2 rfl rfl)
theorem dX1_special_4 : decode cX1_special 4 = .ok (.if_icmp .ge 7, 3) := dk_162 0 7 (dk_at dksX1_special_0 4 rfl rfl)
theorem dX1_special_7 : decode cX1_special 7 = .ok (.iconst 0, 1) := dk_3 (dk_at dksX1_special_0 7 rfl rfl)
theorem dX1_special_8 : decode cX1_special 8 = .ok (.goto 5, 3) := dk_167 0 5 (dk_at dksX1_special_0 8 rfl rfl)
theorem dX1_special_11 : decode cX1_special 11 = .ok (.ldc 244, 2) := dk_18 244 (dk_at dksX1_special_0 11 rfl rfl)
theorem dX1_special_13 : decode cX1_special 13 = .ok (.iload_n 2, 1) := dk_28 (dk_at dksX1_special_0 13 rfl rfl)
theorem dX1_special_14 : decode cX1_special 14 = .ok (.bipush 21, 2) := dk_16 21 (dk_at dksX1_special_0 14 rfl rfl)
theorem dX1_special_16 : decode cX1_special 16 = .ok (.ishl, 1) := dk_120 (dk_at dksX1_special_0 16 rfl rfl)
theorem dX1_special_17 : decode cX1_special 17 = .ok (.ior, 1) := dk_128 (dk_at dksX1_special_0 17 rfl rfl)
theorem dX1_special_18 : decode cX1_special 18 = .ok (.iload_n 3, 1) := dk_29 (dk_at dksX1_special_0 18 rfl rfl)
theorem dX1_special_19 : decode cX1_special 19 = .ok (.bipush 16, 2) := dk_16 16 (dk_at dksX1_special_0 19 rfl rfl)
theorem dX1_special_21 : decode cX1_special 21 = .ok (.ishl, 1) := dk_120 (dk_at dksX1_special_0 21 rfl rfl)
theorem dX1_special_22 : decode cX1_special 22 = .ok (.ior, 1) := dk_128 (dk_at dksX1_special_0 22 rfl rfl)
theorem dX1_special_23 : decode cX1_special 23 = .ok (.iload 4, 2) := dk_21 4 (dk_at dksX1_special_1 0 rfl rfl)
theorem dX1_special_25 : decode cX1_special 25 = .ok (.bipush 11, 2) := dk_16 11 (dk_at dksX1_special_1 2 rfl rfl)
theorem dX1_special_27 : decode cX1_special 27 = .ok (.ishl, 1) := dk_120 (dk_at dksX1_special_1 4 rfl rfl)
theorem dX1_special_28 : decode cX1_special 28 = .ok (.ior, 1) := dk_128 (dk_at dksX1_special_1 5 rfl rfl)
theorem dX1_special_29 : decode cX1_special 29 = .ok (.iload_n 1, 1) := dk_27 (dk_at dksX1_special_1 6 rfl rfl)
theorem dX1_special_30 : decode cX1_special 30 = .ok (.bipush 63, 2) := dk_16 63 (dk_at dksX1_special_1 7 rfl rfl)
theorem dX1_special_32 : decode cX1_special 32 = .ok (.iand, 1) := dk_126 (dk_at dksX1_special_1 9 rfl rfl)
theorem dX1_special_33 : decode cX1_special 33 = .ok (.ior, 1) := dk_128 (dk_at dksX1_special_1 10 rfl rfl)
theorem dX1_special_34 : decode cX1_special 34 = .ok (.invokevirtual 245, 3) := dk_182 0 245 (dk_at dksX1_special_1 11 rfl rfl)
theorem dX1_special_37 : decode cX1_special 37 = .ok (.return_, 1) := dk_177 (dk_at dksX1_special_1 14 rfl rfl)
abbrev cX1_divides : ByteArray := prog_1_method_47_code
def yX1_divides : MethodName := ⟨RX1, "divides", "(I)Z"⟩
def dkwX1_divides_3 : List UInt8 := [21, 4, 153, 0, 8, 16, 16, 167, 0, 5, 16, 18, 3, 3, 28, 182, 1, 78, 4, 172]
abbrev dktX1_divides_3 : List UInt8 := dkwX1_divides_3 ++ []
def dkwX1_divides_2 : List UInt8 := [182, 1, 78, 4, 172, 42, 182, 1, 75, 42, 27, 16, 63, 126, 29, 42, 182, 1, 72, 3, 182, 1, 78, 42]
abbrev dktX1_divides_2 : List UInt8 := dkwX1_divides_2 ++ dktX1_divides_3
def dkwX1_divides_1 : List UInt8 := [3, 54, 4, 21, 4, 154, 0, 23, 42, 3, 182, 0, 51, 16, 44, 159, 0, 13, 42, 27, 28, 29, 3]
abbrev dktX1_divides_1 : List UInt8 := dkwX1_divides_1 ++ dktX1_divides_2
def dkwX1_divides_0 : List UInt8 := [42, 182, 1, 72, 61, 42, 182, 1, 75, 42, 182, 1, 72, 62, 27, 16, 64, 164, 0, 7, 4, 167, 0, 4]
abbrev dktX1_divides_0 : List UInt8 := dkwX1_divides_0 ++ dktX1_divides_1
theorem dksX1_divides_0 : cX1_divides.data.toList.drop 0 = dktX1_divides_0 := by decide +kernel
theorem dksX1_divides_1 : cX1_divides.data.toList.drop 24 = dktX1_divides_1 := dk_seg dksX1_divides_0 24 rfl rfl
theorem dksX1_divides_2 : cX1_divides.data.toList.drop 47 = dktX1_divides_2 := dk_seg dksX1_divides_1 23 rfl rfl
theorem dksX1_divides_3 : cX1_divides.data.toList.drop 71 = dktX1_divides_3 := dk_seg dksX1_divides_2 24 rfl rfl
theorem dX1_divides_0 : decode cX1_divides 0 = .ok (.aload_n 0, 1) := dk_42 (dk_at dksX1_divides_0 0 rfl rfl)
theorem dX1_divides_1 : decode cX1_divides 1 = .ok (.invokevirtual 328, 3) := dk_182 1 72 (dk_at dksX1_divides_0 1 rfl rfl)
theorem dX1_divides_4 : decode cX1_divides 4 = .ok (.istore_n 2, 1) := dk_61 (dk_at dksX1_divides_0 4 rfl rfl)
theorem dX1_divides_5 : decode cX1_divides 5 = .ok (.aload_n 0, 1) := dk_42 (dk_at dksX1_divides_0 5 rfl rfl)
theorem dX1_divides_6 : decode cX1_divides 6 = .ok (.invokevirtual 331, 3) := dk_182 1 75 (dk_at dksX1_divides_0 6 rfl rfl)
theorem dX1_divides_9 : decode cX1_divides 9 = .ok (.aload_n 0, 1) := dk_42 (dk_at dksX1_divides_0 9 rfl rfl)
theorem dX1_divides_10 : decode cX1_divides 10 = .ok (.invokevirtual 328, 3) := dk_182 1 72 (dk_at dksX1_divides_0 10 rfl rfl)
theorem dX1_divides_13 : decode cX1_divides 13 = .ok (.istore_n 3, 1) := dk_62 (dk_at dksX1_divides_0 13 rfl rfl)
theorem dX1_divides_14 : decode cX1_divides 14 = .ok (.iload_n 1, 1) := dk_27 (dk_at dksX1_divides_0 14 rfl rfl)
theorem dX1_divides_15 : decode cX1_divides 15 = .ok (.bipush 64, 2) := dk_16 64 (dk_at dksX1_divides_0 15 rfl rfl)
theorem dX1_divides_17 : decode cX1_divides 17 = .ok (.if_icmp .le 7, 3) := dk_164 0 7 (dk_at dksX1_divides_0 17 rfl rfl)
theorem dX1_divides_20 : decode cX1_divides 20 = .ok (.iconst 1, 1) := dk_4 (dk_at dksX1_divides_0 20 rfl rfl)
theorem dX1_divides_21 : decode cX1_divides 21 = .ok (.goto 4, 3) := dk_167 0 4 (dk_at dksX1_divides_0 21 rfl rfl)
theorem dX1_divides_24 : decode cX1_divides 24 = .ok (.iconst 0, 1) := dk_3 (dk_at dksX1_divides_1 0 rfl rfl)
theorem dX1_divides_25 : decode cX1_divides 25 = .ok (.istore 4, 2) := dk_54 4 (dk_at dksX1_divides_1 1 rfl rfl)
theorem dX1_divides_27 : decode cX1_divides 27 = .ok (.iload 4, 2) := dk_21 4 (dk_at dksX1_divides_1 3 rfl rfl)
theorem dX1_divides_29 : decode cX1_divides 29 = .ok (.ifCond .ne 23, 3) := dk_154 0 23 (dk_at dksX1_divides_1 5 rfl rfl)
theorem dX1_divides_32 : decode cX1_divides 32 = .ok (.aload_n 0, 1) := dk_42 (dk_at dksX1_divides_1 8 rfl rfl)
theorem dX1_divides_33 : decode cX1_divides 33 = .ok (.iconst 0, 1) := dk_3 (dk_at dksX1_divides_1 9 rfl rfl)
theorem dX1_divides_34 : decode cX1_divides 34 = .ok (.invokevirtual 51, 3) := dk_182 0 51 (dk_at dksX1_divides_1 10 rfl rfl)
theorem dX1_divides_37 : decode cX1_divides 37 = .ok (.bipush 44, 2) := dk_16 44 (dk_at dksX1_divides_1 13 rfl rfl)
theorem dX1_divides_39 : decode cX1_divides 39 = .ok (.if_icmp .eq 13, 3) := dk_159 0 13 (dk_at dksX1_divides_1 15 rfl rfl)
theorem dX1_divides_42 : decode cX1_divides 42 = .ok (.aload_n 0, 1) := dk_42 (dk_at dksX1_divides_1 18 rfl rfl)
theorem dX1_divides_43 : decode cX1_divides 43 = .ok (.iload_n 1, 1) := dk_27 (dk_at dksX1_divides_1 19 rfl rfl)
theorem dX1_divides_44 : decode cX1_divides 44 = .ok (.iload_n 2, 1) := dk_28 (dk_at dksX1_divides_1 20 rfl rfl)
theorem dX1_divides_45 : decode cX1_divides 45 = .ok (.iload_n 3, 1) := dk_29 (dk_at dksX1_divides_1 21 rfl rfl)
theorem dX1_divides_46 : decode cX1_divides 46 = .ok (.iconst 0, 1) := dk_3 (dk_at dksX1_divides_1 22 rfl rfl)
theorem dX1_divides_47 : decode cX1_divides 47 = .ok (.invokevirtual 334, 3) := dk_182 1 78 (dk_at dksX1_divides_2 0 rfl rfl)
theorem dX1_divides_50 : decode cX1_divides 50 = .ok (.iconst 1, 1) := dk_4 (dk_at dksX1_divides_2 3 rfl rfl)
theorem dX1_divides_51 : decode cX1_divides 51 = .ok (.ireturn, 1) := dk_172 (dk_at dksX1_divides_2 4 rfl rfl)
theorem dX1_divides_52 : decode cX1_divides 52 = .ok (.aload_n 0, 1) := dk_42 (dk_at dksX1_divides_2 5 rfl rfl)
theorem dX1_divides_53 : decode cX1_divides 53 = .ok (.invokevirtual 331, 3) := dk_182 1 75 (dk_at dksX1_divides_2 6 rfl rfl)
theorem dX1_divides_56 : decode cX1_divides 56 = .ok (.aload_n 0, 1) := dk_42 (dk_at dksX1_divides_2 9 rfl rfl)
theorem dX1_divides_57 : decode cX1_divides 57 = .ok (.iload_n 1, 1) := dk_27 (dk_at dksX1_divides_2 10 rfl rfl)
theorem dX1_divides_58 : decode cX1_divides 58 = .ok (.bipush 63, 2) := dk_16 63 (dk_at dksX1_divides_2 11 rfl rfl)
theorem dX1_divides_60 : decode cX1_divides 60 = .ok (.iand, 1) := dk_126 (dk_at dksX1_divides_2 13 rfl rfl)
theorem dX1_divides_61 : decode cX1_divides 61 = .ok (.iload_n 3, 1) := dk_29 (dk_at dksX1_divides_2 14 rfl rfl)
theorem dX1_divides_62 : decode cX1_divides 62 = .ok (.aload_n 0, 1) := dk_42 (dk_at dksX1_divides_2 15 rfl rfl)
theorem dX1_divides_63 : decode cX1_divides 63 = .ok (.invokevirtual 328, 3) := dk_182 1 72 (dk_at dksX1_divides_2 16 rfl rfl)
theorem dX1_divides_66 : decode cX1_divides 66 = .ok (.iconst 0, 1) := dk_3 (dk_at dksX1_divides_2 19 rfl rfl)
theorem dX1_divides_67 : decode cX1_divides 67 = .ok (.invokevirtual 334, 3) := dk_182 1 78 (dk_at dksX1_divides_2 20 rfl rfl)
theorem dX1_divides_70 : decode cX1_divides 70 = .ok (.aload_n 0, 1) := dk_42 (dk_at dksX1_divides_2 23 rfl rfl)
theorem dX1_divides_71 : decode cX1_divides 71 = .ok (.iload 4, 2) := dk_21 4 (dk_at dksX1_divides_3 0 rfl rfl)
theorem dX1_divides_73 : decode cX1_divides 73 = .ok (.ifCond .eq 8, 3) := dk_153 0 8 (dk_at dksX1_divides_3 2 rfl rfl)
theorem dX1_divides_76 : decode cX1_divides 76 = .ok (.bipush 16, 2) := dk_16 16 (dk_at dksX1_divides_3 5 rfl rfl)
theorem dX1_divides_78 : decode cX1_divides 78 = .ok (.goto 5, 3) := dk_167 0 5 (dk_at dksX1_divides_3 7 rfl rfl)
theorem dX1_divides_81 : decode cX1_divides 81 = .ok (.bipush 18, 2) := dk_16 18 (dk_at dksX1_divides_3 10 rfl rfl)
theorem dX1_divides_83 : decode cX1_divides 83 = .ok (.iconst 0, 1) := dk_3 (dk_at dksX1_divides_3 12 rfl rfl)
theorem dX1_divides_84 : decode cX1_divides 84 = .ok (.iconst 0, 1) := dk_3 (dk_at dksX1_divides_3 13 rfl rfl)
theorem dX1_divides_85 : decode cX1_divides 85 = .ok (.iload_n 2, 1) := dk_28 (dk_at dksX1_divides_3 14 rfl rfl)
theorem dX1_divides_86 : decode cX1_divides 86 = .ok (.invokevirtual 334, 3) := dk_182 1 78 (dk_at dksX1_divides_3 15 rfl rfl)
theorem dX1_divides_89 : decode cX1_divides 89 = .ok (.iconst 1, 1) := dk_4 (dk_at dksX1_divides_3 18 rfl rfl)
theorem dX1_divides_90 : decode cX1_divides 90 = .ok (.ireturn, 1) := dk_172 (dk_at dksX1_divides_3 19 rfl rfl)
abbrev cX1_numbers : ByteArray := prog_1_method_48_code
def yX1_numbers : MethodName := ⟨RX1, "numbers", "(II)Z"⟩
def dkwX1_numbers_7 : List UInt8 := [182, 1, 97, 167, 0, 12, 42, 9, 20, 1, 101, 4, 182, 1, 97, 182, 1, 103, 4, 172]
abbrev dktX1_numbers_7 : List UInt8 := dkwX1_numbers_7 ++ []
def dkwX1_numbers_6 : List UInt8 := [182, 1, 75, 42, 29, 21, 6, 21, 5, 21, 4, 153, 0, 17, 42, 20, 1, 93, 20, 1, 95, 3]
abbrev dktX1_numbers_6 : List UInt8 := dkwX1_numbers_6 ++ dktX1_numbers_7
def dkwX1_numbers_5 : List UInt8 := [62, 29, 156, 0, 5, 3, 172, 42, 182, 1, 72, 54, 5, 42, 182, 1, 75, 42, 182, 1, 72, 54, 6, 42]
abbrev dktX1_numbers_5 : List UInt8 := dkwX1_numbers_5 ++ dktX1_numbers_6
def dkwX1_numbers_4 : List UInt8 := [155, 0, 7, 4, 167, 0, 4, 3, 54, 4, 21, 4, 154, 0, 13, 42, 19, 1, 36, 27, 28, 182, 0, 117]
abbrev dktX1_numbers_4 : List UInt8 := dkwX1_numbers_4 ++ dktX1_numbers_5
def dkwX1_numbers_3 : List UInt8 := [42, 29, 42, 180, 0, 9, 27, 51, 182, 1, 90, 4, 172, 42, 19, 1, 34, 27, 28, 182, 0, 117, 62, 29]
abbrev dktX1_numbers_3 : List UInt8 := dkwX1_numbers_3 ++ dktX1_numbers_4
def dkwX1_numbers_2 : List UInt8 := [182, 1, 72, 3, 3, 182, 1, 78, 4, 172, 42, 19, 1, 32, 27, 28, 182, 0, 117, 62, 29, 155, 0, 16]
abbrev dktX1_numbers_2 : List UInt8 := dkwX1_numbers_2 ++ dktX1_numbers_3
def dkwX1_numbers_1 : List UInt8 := [182, 1, 78, 4, 172, 42, 19, 1, 30, 27, 28, 182, 0, 117, 62, 29, 155, 0, 16, 42, 29, 42]
abbrev dktX1_numbers_1 : List UInt8 := dkwX1_numbers_1 ++ dktX1_numbers_2
def dkwX1_numbers_0 : List UInt8 := [42, 19, 1, 28, 27, 28, 182, 0, 117, 62, 29, 155, 0, 16, 42, 29, 3, 3, 42, 182, 1, 72]
abbrev dktX1_numbers_0 : List UInt8 := dkwX1_numbers_0 ++ dktX1_numbers_1
theorem dksX1_numbers_0 : cX1_numbers.data.toList.drop 0 = dktX1_numbers_0 := by decide +kernel
theorem dksX1_numbers_1 : cX1_numbers.data.toList.drop 22 = dktX1_numbers_1 := dk_seg dksX1_numbers_0 22 rfl rfl
theorem dksX1_numbers_2 : cX1_numbers.data.toList.drop 44 = dktX1_numbers_2 := dk_seg dksX1_numbers_1 22 rfl rfl
theorem dksX1_numbers_3 : cX1_numbers.data.toList.drop 68 = dktX1_numbers_3 := dk_seg dksX1_numbers_2 24 rfl rfl
theorem dksX1_numbers_4 : cX1_numbers.data.toList.drop 92 = dktX1_numbers_4 := dk_seg dksX1_numbers_3 24 rfl rfl
theorem dksX1_numbers_5 : cX1_numbers.data.toList.drop 116 = dktX1_numbers_5 := dk_seg dksX1_numbers_4 24 rfl rfl
theorem dksX1_numbers_6 : cX1_numbers.data.toList.drop 140 = dktX1_numbers_6 := dk_seg dksX1_numbers_5 24 rfl rfl
theorem dksX1_numbers_7 : cX1_numbers.data.toList.drop 162 = dktX1_numbers_7 := dk_seg dksX1_numbers_6 22 rfl rfl
theorem dX1_numbers_0 : decode cX1_numbers 0 = .ok (.aload_n 0, 1) := dk_42 (dk_at dksX1_numbers_0 0 rfl rfl)
theorem dX1_numbers_1 : decode cX1_numbers 1 = .ok (.ldc_w 284, 3) := dk_19 1 28 (dk_at dksX1_numbers_0 1 rfl rfl)
theorem dX1_numbers_4 : decode cX1_numbers 4 = .ok (.iload_n 1, 1) := dk_27 (dk_at dksX1_numbers_0 4 rfl rfl)
theorem dX1_numbers_5 : decode cX1_numbers 5 = .ok (.iload_n 2, 1) := dk_28 (dk_at dksX1_numbers_0 5 rfl rfl)
theorem dX1_numbers_6 : decode cX1_numbers 6 = .ok (.invokevirtual 117, 3) := dk_182 0 117 (dk_at dksX1_numbers_0 6 rfl rfl)
theorem dX1_numbers_9 : decode cX1_numbers 9 = .ok (.istore_n 3, 1) := dk_62 (dk_at dksX1_numbers_0 9 rfl rfl)
theorem dX1_numbers_10 : decode cX1_numbers 10 = .ok (.iload_n 3, 1) := dk_29 (dk_at dksX1_numbers_0 10 rfl rfl)
theorem dX1_numbers_11 : decode cX1_numbers 11 = .ok (.ifCond .lt 16, 3) := dk_155 0 16 (dk_at dksX1_numbers_0 11 rfl rfl)
theorem dX1_numbers_14 : decode cX1_numbers 14 = .ok (.aload_n 0, 1) := dk_42 (dk_at dksX1_numbers_0 14 rfl rfl)
theorem dX1_numbers_15 : decode cX1_numbers 15 = .ok (.iload_n 3, 1) := dk_29 (dk_at dksX1_numbers_0 15 rfl rfl)
theorem dX1_numbers_16 : decode cX1_numbers 16 = .ok (.iconst 0, 1) := dk_3 (dk_at dksX1_numbers_0 16 rfl rfl)
theorem dX1_numbers_17 : decode cX1_numbers 17 = .ok (.iconst 0, 1) := dk_3 (dk_at dksX1_numbers_0 17 rfl rfl)
theorem dX1_numbers_18 : decode cX1_numbers 18 = .ok (.aload_n 0, 1) := dk_42 (dk_at dksX1_numbers_0 18 rfl rfl)
theorem dX1_numbers_19 : decode cX1_numbers 19 = .ok (.invokevirtual 328, 3) := dk_182 1 72 (dk_at dksX1_numbers_0 19 rfl rfl)
theorem dX1_numbers_22 : decode cX1_numbers 22 = .ok (.invokevirtual 334, 3) := dk_182 1 78 (dk_at dksX1_numbers_1 0 rfl rfl)
theorem dX1_numbers_25 : decode cX1_numbers 25 = .ok (.iconst 1, 1) := dk_4 (dk_at dksX1_numbers_1 3 rfl rfl)
theorem dX1_numbers_26 : decode cX1_numbers 26 = .ok (.ireturn, 1) := dk_172 (dk_at dksX1_numbers_1 4 rfl rfl)
theorem dX1_numbers_27 : decode cX1_numbers 27 = .ok (.aload_n 0, 1) := dk_42 (dk_at dksX1_numbers_1 5 rfl rfl)
theorem dX1_numbers_28 : decode cX1_numbers 28 = .ok (.ldc_w 286, 3) := dk_19 1 30 (dk_at dksX1_numbers_1 6 rfl rfl)
theorem dX1_numbers_31 : decode cX1_numbers 31 = .ok (.iload_n 1, 1) := dk_27 (dk_at dksX1_numbers_1 9 rfl rfl)
theorem dX1_numbers_32 : decode cX1_numbers 32 = .ok (.iload_n 2, 1) := dk_28 (dk_at dksX1_numbers_1 10 rfl rfl)
theorem dX1_numbers_33 : decode cX1_numbers 33 = .ok (.invokevirtual 117, 3) := dk_182 0 117 (dk_at dksX1_numbers_1 11 rfl rfl)
theorem dX1_numbers_36 : decode cX1_numbers 36 = .ok (.istore_n 3, 1) := dk_62 (dk_at dksX1_numbers_1 14 rfl rfl)
theorem dX1_numbers_37 : decode cX1_numbers 37 = .ok (.iload_n 3, 1) := dk_29 (dk_at dksX1_numbers_1 15 rfl rfl)
theorem dX1_numbers_38 : decode cX1_numbers 38 = .ok (.ifCond .lt 16, 3) := dk_155 0 16 (dk_at dksX1_numbers_1 16 rfl rfl)
theorem dX1_numbers_41 : decode cX1_numbers 41 = .ok (.aload_n 0, 1) := dk_42 (dk_at dksX1_numbers_1 19 rfl rfl)
theorem dX1_numbers_42 : decode cX1_numbers 42 = .ok (.iload_n 3, 1) := dk_29 (dk_at dksX1_numbers_1 20 rfl rfl)
theorem dX1_numbers_43 : decode cX1_numbers 43 = .ok (.aload_n 0, 1) := dk_42 (dk_at dksX1_numbers_1 21 rfl rfl)
theorem dX1_numbers_44 : decode cX1_numbers 44 = .ok (.invokevirtual 328, 3) := dk_182 1 72 (dk_at dksX1_numbers_2 0 rfl rfl)
theorem dX1_numbers_47 : decode cX1_numbers 47 = .ok (.iconst 0, 1) := dk_3 (dk_at dksX1_numbers_2 3 rfl rfl)
theorem dX1_numbers_48 : decode cX1_numbers 48 = .ok (.iconst 0, 1) := dk_3 (dk_at dksX1_numbers_2 4 rfl rfl)
theorem dX1_numbers_49 : decode cX1_numbers 49 = .ok (.invokevirtual 334, 3) := dk_182 1 78 (dk_at dksX1_numbers_2 5 rfl rfl)
theorem dX1_numbers_52 : decode cX1_numbers 52 = .ok (.iconst 1, 1) := dk_4 (dk_at dksX1_numbers_2 8 rfl rfl)
theorem dX1_numbers_53 : decode cX1_numbers 53 = .ok (.ireturn, 1) := dk_172 (dk_at dksX1_numbers_2 9 rfl rfl)
theorem dX1_numbers_54 : decode cX1_numbers 54 = .ok (.aload_n 0, 1) := dk_42 (dk_at dksX1_numbers_2 10 rfl rfl)
theorem dX1_numbers_55 : decode cX1_numbers 55 = .ok (.ldc_w 288, 3) := dk_19 1 32 (dk_at dksX1_numbers_2 11 rfl rfl)
theorem dX1_numbers_58 : decode cX1_numbers 58 = .ok (.iload_n 1, 1) := dk_27 (dk_at dksX1_numbers_2 14 rfl rfl)
theorem dX1_numbers_59 : decode cX1_numbers 59 = .ok (.iload_n 2, 1) := dk_28 (dk_at dksX1_numbers_2 15 rfl rfl)
theorem dX1_numbers_60 : decode cX1_numbers 60 = .ok (.invokevirtual 117, 3) := dk_182 0 117 (dk_at dksX1_numbers_2 16 rfl rfl)
theorem dX1_numbers_63 : decode cX1_numbers 63 = .ok (.istore_n 3, 1) := dk_62 (dk_at dksX1_numbers_2 19 rfl rfl)
theorem dX1_numbers_64 : decode cX1_numbers 64 = .ok (.iload_n 3, 1) := dk_29 (dk_at dksX1_numbers_2 20 rfl rfl)
theorem dX1_numbers_65 : decode cX1_numbers 65 = .ok (.ifCond .lt 16, 3) := dk_155 0 16 (dk_at dksX1_numbers_2 21 rfl rfl)
theorem dX1_numbers_68 : decode cX1_numbers 68 = .ok (.aload_n 0, 1) := dk_42 (dk_at dksX1_numbers_3 0 rfl rfl)
theorem dX1_numbers_69 : decode cX1_numbers 69 = .ok (.iload_n 3, 1) := dk_29 (dk_at dksX1_numbers_3 1 rfl rfl)
theorem dX1_numbers_70 : decode cX1_numbers 70 = .ok (.aload_n 0, 1) := dk_42 (dk_at dksX1_numbers_3 2 rfl rfl)
theorem dX1_numbers_71 : decode cX1_numbers 71 = .ok (.getfield 9, 3) := dk_180 0 9 (dk_at dksX1_numbers_3 3 rfl rfl)
theorem dX1_numbers_74 : decode cX1_numbers 74 = .ok (.iload_n 1, 1) := dk_27 (dk_at dksX1_numbers_3 6 rfl rfl)
theorem dX1_numbers_75 : decode cX1_numbers 75 = .ok (.baload, 1) := dk_51 (dk_at dksX1_numbers_3 7 rfl rfl)
theorem dX1_numbers_76 : decode cX1_numbers 76 = .ok (.invokevirtual 346, 3) := dk_182 1 90 (dk_at dksX1_numbers_3 8 rfl rfl)
theorem dX1_numbers_79 : decode cX1_numbers 79 = .ok (.iconst 1, 1) := dk_4 (dk_at dksX1_numbers_3 11 rfl rfl)
theorem dX1_numbers_80 : decode cX1_numbers 80 = .ok (.ireturn, 1) := dk_172 (dk_at dksX1_numbers_3 12 rfl rfl)
theorem dX1_numbers_81 : decode cX1_numbers 81 = .ok (.aload_n 0, 1) := dk_42 (dk_at dksX1_numbers_3 13 rfl rfl)
theorem dX1_numbers_82 : decode cX1_numbers 82 = .ok (.ldc_w 290, 3) := dk_19 1 34 (dk_at dksX1_numbers_3 14 rfl rfl)
theorem dX1_numbers_85 : decode cX1_numbers 85 = .ok (.iload_n 1, 1) := dk_27 (dk_at dksX1_numbers_3 17 rfl rfl)
theorem dX1_numbers_86 : decode cX1_numbers 86 = .ok (.iload_n 2, 1) := dk_28 (dk_at dksX1_numbers_3 18 rfl rfl)
theorem dX1_numbers_87 : decode cX1_numbers 87 = .ok (.invokevirtual 117, 3) := dk_182 0 117 (dk_at dksX1_numbers_3 19 rfl rfl)
theorem dX1_numbers_90 : decode cX1_numbers 90 = .ok (.istore_n 3, 1) := dk_62 (dk_at dksX1_numbers_3 22 rfl rfl)
theorem dX1_numbers_91 : decode cX1_numbers 91 = .ok (.iload_n 3, 1) := dk_29 (dk_at dksX1_numbers_3 23 rfl rfl)
theorem dX1_numbers_92 : decode cX1_numbers 92 = .ok (.ifCond .lt 7, 3) := dk_155 0 7 (dk_at dksX1_numbers_4 0 rfl rfl)
theorem dX1_numbers_95 : decode cX1_numbers 95 = .ok (.iconst 1, 1) := dk_4 (dk_at dksX1_numbers_4 3 rfl rfl)
theorem dX1_numbers_96 : decode cX1_numbers 96 = .ok (.goto 4, 3) := dk_167 0 4 (dk_at dksX1_numbers_4 4 rfl rfl)
theorem dX1_numbers_99 : decode cX1_numbers 99 = .ok (.iconst 0, 1) := dk_3 (dk_at dksX1_numbers_4 7 rfl rfl)
theorem dX1_numbers_100 : decode cX1_numbers 100 = .ok (.istore 4, 2) := dk_54 4 (dk_at dksX1_numbers_4 8 rfl rfl)
theorem dX1_numbers_102 : decode cX1_numbers 102 = .ok (.iload 4, 2) := dk_21 4 (dk_at dksX1_numbers_4 10 rfl rfl)
theorem dX1_numbers_104 : decode cX1_numbers 104 = .ok (.ifCond .ne 13, 3) := dk_154 0 13 (dk_at dksX1_numbers_4 12 rfl rfl)
theorem dX1_numbers_107 : decode cX1_numbers 107 = .ok (.aload_n 0, 1) := dk_42 (dk_at dksX1_numbers_4 15 rfl rfl)
theorem dX1_numbers_108 : decode cX1_numbers 108 = .ok (.ldc_w 292, 3) := dk_19 1 36 (dk_at dksX1_numbers_4 16 rfl rfl)
theorem dX1_numbers_111 : decode cX1_numbers 111 = .ok (.iload_n 1, 1) := dk_27 (dk_at dksX1_numbers_4 19 rfl rfl)
theorem dX1_numbers_112 : decode cX1_numbers 112 = .ok (.iload_n 2, 1) := dk_28 (dk_at dksX1_numbers_4 20 rfl rfl)
theorem dX1_numbers_113 : decode cX1_numbers 113 = .ok (.invokevirtual 117, 3) := dk_182 0 117 (dk_at dksX1_numbers_4 21 rfl rfl)
theorem dX1_numbers_116 : decode cX1_numbers 116 = .ok (.istore_n 3, 1) := dk_62 (dk_at dksX1_numbers_5 0 rfl rfl)
theorem dX1_numbers_117 : decode cX1_numbers 117 = .ok (.iload_n 3, 1) := dk_29 (dk_at dksX1_numbers_5 1 rfl rfl)
theorem dX1_numbers_118 : decode cX1_numbers 118 = .ok (.ifCond .ge 5, 3) := dk_156 0 5 (dk_at dksX1_numbers_5 2 rfl rfl)
theorem dX1_numbers_121 : decode cX1_numbers 121 = .ok (.iconst 0, 1) := dk_3 (dk_at dksX1_numbers_5 5 rfl rfl)
theorem dX1_numbers_122 : decode cX1_numbers 122 = .ok (.ireturn, 1) := dk_172 (dk_at dksX1_numbers_5 6 rfl rfl)
theorem dX1_numbers_123 : decode cX1_numbers 123 = .ok (.aload_n 0, 1) := dk_42 (dk_at dksX1_numbers_5 7 rfl rfl)
theorem dX1_numbers_124 : decode cX1_numbers 124 = .ok (.invokevirtual 328, 3) := dk_182 1 72 (dk_at dksX1_numbers_5 8 rfl rfl)
theorem dX1_numbers_127 : decode cX1_numbers 127 = .ok (.istore 5, 2) := dk_54 5 (dk_at dksX1_numbers_5 11 rfl rfl)
theorem dX1_numbers_129 : decode cX1_numbers 129 = .ok (.aload_n 0, 1) := dk_42 (dk_at dksX1_numbers_5 13 rfl rfl)
theorem dX1_numbers_130 : decode cX1_numbers 130 = .ok (.invokevirtual 331, 3) := dk_182 1 75 (dk_at dksX1_numbers_5 14 rfl rfl)
theorem dX1_numbers_133 : decode cX1_numbers 133 = .ok (.aload_n 0, 1) := dk_42 (dk_at dksX1_numbers_5 17 rfl rfl)
theorem dX1_numbers_134 : decode cX1_numbers 134 = .ok (.invokevirtual 328, 3) := dk_182 1 72 (dk_at dksX1_numbers_5 18 rfl rfl)
theorem dX1_numbers_137 : decode cX1_numbers 137 = .ok (.istore 6, 2) := dk_54 6 (dk_at dksX1_numbers_5 21 rfl rfl)
theorem dX1_numbers_139 : decode cX1_numbers 139 = .ok (.aload_n 0, 1) := dk_42 (dk_at dksX1_numbers_5 23 rfl rfl)
theorem dX1_numbers_140 : decode cX1_numbers 140 = .ok (.invokevirtual 331, 3) := dk_182 1 75 (dk_at dksX1_numbers_6 0 rfl rfl)
theorem dX1_numbers_143 : decode cX1_numbers 143 = .ok (.aload_n 0, 1) := dk_42 (dk_at dksX1_numbers_6 3 rfl rfl)
theorem dX1_numbers_144 : decode cX1_numbers 144 = .ok (.iload_n 3, 1) := dk_29 (dk_at dksX1_numbers_6 4 rfl rfl)
theorem dX1_numbers_145 : decode cX1_numbers 145 = .ok (.iload 6, 2) := dk_21 6 (dk_at dksX1_numbers_6 5 rfl rfl)
theorem dX1_numbers_147 : decode cX1_numbers 147 = .ok (.iload 5, 2) := dk_21 5 (dk_at dksX1_numbers_6 7 rfl rfl)
theorem dX1_numbers_149 : decode cX1_numbers 149 = .ok (.iload 4, 2) := dk_21 4 (dk_at dksX1_numbers_6 9 rfl rfl)
theorem dX1_numbers_151 : decode cX1_numbers 151 = .ok (.ifCond .eq 17, 3) := dk_153 0 17 (dk_at dksX1_numbers_6 11 rfl rfl)
theorem dX1_numbers_154 : decode cX1_numbers 154 = .ok (.aload_n 0, 1) := dk_42 (dk_at dksX1_numbers_6 14 rfl rfl)
theorem dX1_numbers_155 : decode cX1_numbers 155 = .ok (.ldc2_w 349, 3) := dk_20 1 93 (dk_at dksX1_numbers_6 15 rfl rfl)
theorem dX1_numbers_158 : decode cX1_numbers 158 = .ok (.ldc2_w 351, 3) := dk_20 1 95 (dk_at dksX1_numbers_6 18 rfl rfl)
theorem dX1_numbers_161 : decode cX1_numbers 161 = .ok (.iconst 0, 1) := dk_3 (dk_at dksX1_numbers_6 21 rfl rfl)
theorem dX1_numbers_162 : decode cX1_numbers 162 = .ok (.invokevirtual 353, 3) := dk_182 1 97 (dk_at dksX1_numbers_7 0 rfl rfl)
theorem dX1_numbers_165 : decode cX1_numbers 165 = .ok (.goto 12, 3) := dk_167 0 12 (dk_at dksX1_numbers_7 3 rfl rfl)
theorem dX1_numbers_168 : decode cX1_numbers 168 = .ok (.aload_n 0, 1) := dk_42 (dk_at dksX1_numbers_7 6 rfl rfl)
theorem dX1_numbers_169 : decode cX1_numbers 169 = .ok (.lconst 0, 1) := dk_9 (dk_at dksX1_numbers_7 7 rfl rfl)
theorem dX1_numbers_170 : decode cX1_numbers 170 = .ok (.ldc2_w 357, 3) := dk_20 1 101 (dk_at dksX1_numbers_7 8 rfl rfl)
theorem dX1_numbers_173 : decode cX1_numbers 173 = .ok (.iconst 1, 1) := dk_4 (dk_at dksX1_numbers_7 11 rfl rfl)
theorem dX1_numbers_174 : decode cX1_numbers 174 = .ok (.invokevirtual 353, 3) := dk_182 1 97 (dk_at dksX1_numbers_7 12 rfl rfl)
theorem dX1_numbers_177 : decode cX1_numbers 177 = .ok (.invokevirtual 359, 3) := dk_182 1 103 (dk_at dksX1_numbers_7 15 rfl rfl)
theorem dX1_numbers_180 : decode cX1_numbers 180 = .ok (.iconst 1, 1) := dk_4 (dk_at dksX1_numbers_7 18 rfl rfl)
theorem dX1_numbers_181 : decode cX1_numbers 181 = .ok (.ireturn, 1) := dk_172 (dk_at dksX1_numbers_7 19 rfl rfl)
abbrev cX1_two : ByteArray := prog_1_method_49_code
def yX1_two : MethodName := ⟨RX1, "two", "(II)V"⟩
def dkwX1_two_3 : List UInt8 := [182, 1, 78, 167, 0, 12, 42, 27, 21, 4, 3, 29, 182, 1, 78, 177]
abbrev dktX1_two_3 : List UInt8 := dkwX1_two_3 ++ []
def dkwX1_two_2 : List UInt8 := [42, 27, 21, 4, 29, 29, 182, 1, 78, 167, 0, 30, 27, 16, 35, 160, 0, 15, 42, 27, 3, 21, 4, 29]
abbrev dktX1_two_2 : List UInt8 := dkwX1_two_2 ++ dktX1_two_3
def dkwX1_two_1 : List UInt8 := [29, 3, 16, 31, 182, 1, 78, 177, 42, 182, 1, 75, 42, 182, 1, 72, 54, 4, 27, 16, 64, 164, 0, 15]
abbrev dktX1_two_1 : List UInt8 := dkwX1_two_1 ++ dktX1_two_2
def dkwX1_two_0 : List UInt8 := [42, 182, 1, 72, 62, 27, 16, 9, 160, 0, 24, 42, 3, 182, 0, 51, 16, 44, 159, 0, 14, 42, 16, 9]
abbrev dktX1_two_0 : List UInt8 := dkwX1_two_0 ++ dktX1_two_1
theorem dksX1_two_0 : cX1_two.data.toList.drop 0 = dktX1_two_0 := by decide +kernel
theorem dksX1_two_1 : cX1_two.data.toList.drop 24 = dktX1_two_1 := dk_seg dksX1_two_0 24 rfl rfl
theorem dksX1_two_2 : cX1_two.data.toList.drop 48 = dktX1_two_2 := dk_seg dksX1_two_1 24 rfl rfl
theorem dksX1_two_3 : cX1_two.data.toList.drop 72 = dktX1_two_3 := dk_seg dksX1_two_2 24 rfl rfl
theorem dX1_two_0 : decode cX1_two 0 = .ok (.aload_n 0, 1) := dk_42 (dk_at dksX1_two_0 0 rfl rfl)
theorem dX1_two_1 : decode cX1_two 1 = .ok (.invokevirtual 328, 3) := dk_182 1 72 (dk_at dksX1_two_0 1 rfl rfl)
theorem dX1_two_4 : decode cX1_two 4 = .ok (.istore_n 3, 1) := dk_62 (dk_at dksX1_two_0 4 rfl rfl)
theorem dX1_two_5 : decode cX1_two 5 = .ok (.iload_n 1, 1) := dk_27 (dk_at dksX1_two_0 5 rfl rfl)
theorem dX1_two_6 : decode cX1_two 6 = .ok (.bipush 9, 2) := dk_16 9 (dk_at dksX1_two_0 6 rfl rfl)
theorem dX1_two_8 : decode cX1_two 8 = .ok (.if_icmp .ne 24, 3) := dk_160 0 24 (dk_at dksX1_two_0 8 rfl rfl)
theorem dX1_two_11 : decode cX1_two 11 = .ok (.aload_n 0, 1) := dk_42 (dk_at dksX1_two_0 11 rfl rfl)
theorem dX1_two_12 : decode cX1_two 12 = .ok (.iconst 0, 1) := dk_3 (dk_at dksX1_two_0 12 rfl rfl)
theorem dX1_two_13 : decode cX1_two 13 = .ok (.invokevirtual 51, 3) := dk_182 0 51 (dk_at dksX1_two_0 13 rfl rfl)
theorem dX1_two_16 : decode cX1_two 16 = .ok (.bipush 44, 2) := dk_16 44 (dk_at dksX1_two_0 16 rfl rfl)
theorem dX1_two_18 : decode cX1_two 18 = .ok (.if_icmp .eq 14, 3) := dk_159 0 14 (dk_at dksX1_two_0 18 rfl rfl)
theorem dX1_two_21 : decode cX1_two 21 = .ok (.aload_n 0, 1) := dk_42 (dk_at dksX1_two_0 21 rfl rfl)
theorem dX1_two_22 : decode cX1_two 22 = .ok (.bipush 9, 2) := dk_16 9 (dk_at dksX1_two_0 22 rfl rfl)
theorem dX1_two_24 : decode cX1_two 24 = .ok (.iload_n 3, 1) := dk_29 (dk_at dksX1_two_1 0 rfl rfl)
theorem dX1_two_25 : decode cX1_two 25 = .ok (.iconst 0, 1) := dk_3 (dk_at dksX1_two_1 1 rfl rfl)
theorem dX1_two_26 : decode cX1_two 26 = .ok (.bipush 31, 2) := dk_16 31 (dk_at dksX1_two_1 2 rfl rfl)
theorem dX1_two_28 : decode cX1_two 28 = .ok (.invokevirtual 334, 3) := dk_182 1 78 (dk_at dksX1_two_1 4 rfl rfl)
theorem dX1_two_31 : decode cX1_two 31 = .ok (.return_, 1) := dk_177 (dk_at dksX1_two_1 7 rfl rfl)
theorem dX1_two_32 : decode cX1_two 32 = .ok (.aload_n 0, 1) := dk_42 (dk_at dksX1_two_1 8 rfl rfl)
theorem dX1_two_33 : decode cX1_two 33 = .ok (.invokevirtual 331, 3) := dk_182 1 75 (dk_at dksX1_two_1 9 rfl rfl)
theorem dX1_two_36 : decode cX1_two 36 = .ok (.aload_n 0, 1) := dk_42 (dk_at dksX1_two_1 12 rfl rfl)
theorem dX1_two_37 : decode cX1_two 37 = .ok (.invokevirtual 328, 3) := dk_182 1 72 (dk_at dksX1_two_1 13 rfl rfl)
theorem dX1_two_40 : decode cX1_two 40 = .ok (.istore 4, 2) := dk_54 4 (dk_at dksX1_two_1 16 rfl rfl)
theorem dX1_two_42 : decode cX1_two 42 = .ok (.iload_n 1, 1) := dk_27 (dk_at dksX1_two_1 18 rfl rfl)
theorem dX1_two_43 : decode cX1_two 43 = .ok (.bipush 64, 2) := dk_16 64 (dk_at dksX1_two_1 19 rfl rfl)
theorem dX1_two_45 : decode cX1_two 45 = .ok (.if_icmp .le 15, 3) := dk_164 0 15 (dk_at dksX1_two_1 21 rfl rfl)
theorem dX1_two_48 : decode cX1_two 48 = .ok (.aload_n 0, 1) := dk_42 (dk_at dksX1_two_2 0 rfl rfl)
theorem dX1_two_49 : decode cX1_two 49 = .ok (.iload_n 1, 1) := dk_27 (dk_at dksX1_two_2 1 rfl rfl)
theorem dX1_two_50 : decode cX1_two 50 = .ok (.iload 4, 2) := dk_21 4 (dk_at dksX1_two_2 2 rfl rfl)
theorem dX1_two_52 : decode cX1_two 52 = .ok (.iload_n 3, 1) := dk_29 (dk_at dksX1_two_2 4 rfl rfl)
theorem dX1_two_53 : decode cX1_two 53 = .ok (.iload_n 3, 1) := dk_29 (dk_at dksX1_two_2 5 rfl rfl)
theorem dX1_two_54 : decode cX1_two 54 = .ok (.invokevirtual 334, 3) := dk_182 1 78 (dk_at dksX1_two_2 6 rfl rfl)
theorem dX1_two_57 : decode cX1_two 57 = .ok (.goto 30, 3) := dk_167 0 30 (dk_at dksX1_two_2 9 rfl rfl)
theorem dX1_two_60 : decode cX1_two 60 = .ok (.iload_n 1, 1) := dk_27 (dk_at dksX1_two_2 12 rfl rfl)
theorem dX1_two_61 : decode cX1_two 61 = .ok (.bipush 35, 2) := dk_16 35 (dk_at dksX1_two_2 13 rfl rfl)
theorem dX1_two_63 : decode cX1_two 63 = .ok (.if_icmp .ne 15, 3) := dk_160 0 15 (dk_at dksX1_two_2 15 rfl rfl)
theorem dX1_two_66 : decode cX1_two 66 = .ok (.aload_n 0, 1) := dk_42 (dk_at dksX1_two_2 18 rfl rfl)
theorem dX1_two_67 : decode cX1_two 67 = .ok (.iload_n 1, 1) := dk_27 (dk_at dksX1_two_2 19 rfl rfl)
theorem dX1_two_68 : decode cX1_two 68 = .ok (.iconst 0, 1) := dk_3 (dk_at dksX1_two_2 20 rfl rfl)
theorem dX1_two_69 : decode cX1_two 69 = .ok (.iload 4, 2) := dk_21 4 (dk_at dksX1_two_2 21 rfl rfl)
theorem dX1_two_71 : decode cX1_two 71 = .ok (.iload_n 3, 1) := dk_29 (dk_at dksX1_two_2 23 rfl rfl)
theorem dX1_two_72 : decode cX1_two 72 = .ok (.invokevirtual 334, 3) := dk_182 1 78 (dk_at dksX1_two_3 0 rfl rfl)
theorem dX1_two_75 : decode cX1_two 75 = .ok (.goto 12, 3) := dk_167 0 12 (dk_at dksX1_two_3 3 rfl rfl)
theorem dX1_two_78 : decode cX1_two 78 = .ok (.aload_n 0, 1) := dk_42 (dk_at dksX1_two_3 6 rfl rfl)
theorem dX1_two_79 : decode cX1_two 79 = .ok (.iload_n 1, 1) := dk_27 (dk_at dksX1_two_3 7 rfl rfl)
theorem dX1_two_80 : decode cX1_two 80 = .ok (.iload 4, 2) := dk_21 4 (dk_at dksX1_two_3 8 rfl rfl)
theorem dX1_two_82 : decode cX1_two 82 = .ok (.iconst 0, 1) := dk_3 (dk_at dksX1_two_3 10 rfl rfl)
theorem dX1_two_83 : decode cX1_two 83 = .ok (.iload_n 3, 1) := dk_29 (dk_at dksX1_two_3 11 rfl rfl)
theorem dX1_two_84 : decode cX1_two 84 = .ok (.invokevirtual 334, 3) := dk_182 1 78 (dk_at dksX1_two_3 12 rfl rfl)
theorem dX1_two_87 : decode cX1_two 87 = .ok (.return_, 1) := dk_177 (dk_at dksX1_two_3 15 rfl rfl)
abbrev cX1_half : ByteArray := prog_1_method_34_code
def yX1_half : MethodName := ⟨RX1, "half", "(JJZ)I"⟩
def dkwX1_half_10 : List UInt8 := [180, 0, 183, 136, 18, 194, 126, 172]
abbrev dktX1_half_10 : List UInt8 := dkwX1_half_10 ++ []
def dkwX1_half_9 : List UInt8 := [181, 0, 187, 21, 6, 153, 0, 17, 42, 180, 0, 183, 20, 0, 199, 97, 16, 16, 123, 167, 0, 7, 42]
abbrev dktX1_half_9 : List UInt8 := dkwX1_half_9 ++ dktX1_half_10
def dkwX1_half_8 : List UInt8 := [153, 0, 7, 8, 167, 0, 5, 16, 6, 181, 0, 187, 42, 180, 0, 180, 155, 0, 5, 3, 172, 42, 3]
abbrev dktX1_half_8 : List UInt8 := dkwX1_half_8 ++ dktX1_half_9
def dkwX1_half_7 : List UInt8 := [6, 182, 0, 69, 42, 16, 40, 182, 0, 135, 42, 3, 182, 0, 195, 42, 16, 41, 182, 0, 135, 42, 21, 6]
abbrev dktX1_half_7 : List UInt8 := dkwX1_half_7 ++ dktX1_half_8
def dkwX1_half_6 : List UInt8 := [167, 0, 4, 3, 6, 182, 0, 69, 42, 21, 6, 153, 0, 8, 21, 5, 153, 0, 7, 4, 167, 0, 4, 3]
abbrev dktX1_half_6 : List UInt8 := dkwX1_half_6 ++ dktX1_half_7
def dkwX1_half_5 : List UInt8 := [51, 16, 108, 160, 0, 23, 42, 180, 0, 9, 42, 180, 0, 121, 4, 96, 51, 16, 111, 160, 0, 7, 4]
abbrev dktX1_half_5 : List UInt8 := dkwX1_half_5 ++ dktX1_half_6
def dkwX1_half_4 : List UInt8 := [54, 6, 42, 21, 6, 154, 0, 41, 42, 180, 0, 124, 5, 160, 0, 37, 42, 180, 0, 9, 42, 180, 0, 121]
abbrev dktX1_half_4 : List UInt8 := dkwX1_half_4 ++ dktX1_half_5
def dkwX1_half_3 : List UInt8 := [160, 0, 23, 42, 180, 0, 9, 42, 180, 0, 121, 4, 96, 51, 16, 105, 160, 0, 7, 4, 167, 0, 4, 3]
abbrev dktX1_half_3 : List UInt8 := dkwX1_half_3 ++ dktX1_half_4
def dkwX1_half_2 : List UInt8 := [42, 182, 0, 174, 42, 180, 0, 124, 5, 160, 0, 37, 42, 180, 0, 9, 42, 180, 0, 121, 51, 16, 104]
abbrev dktX1_half_2 : List UInt8 := dkwX1_half_2 ++ dktX1_half_3
def dkwX1_half_1 : List UInt8 := [182, 0, 190, 136, 18, 194, 126, 172, 42, 42, 3, 182, 0, 51, 184, 0, 73, 42, 182, 0, 65, 182, 0, 69]
abbrev dktX1_half_1 : List UInt8 := dkwX1_half_1 ++ dktX1_half_2
def dkwX1_half_0 : List UInt8 := [42, 2, 181, 0, 180, 42, 3, 181, 0, 187, 42, 16, 37, 182, 0, 62, 154, 0, 14, 42, 31, 33]
abbrev dktX1_half_0 : List UInt8 := dkwX1_half_0 ++ dktX1_half_1
theorem dksX1_half_0 : cX1_half.data.toList.drop 0 = dktX1_half_0 := by decide +kernel
theorem dksX1_half_1 : cX1_half.data.toList.drop 22 = dktX1_half_1 := dk_seg dksX1_half_0 22 rfl rfl
theorem dksX1_half_2 : cX1_half.data.toList.drop 46 = dktX1_half_2 := dk_seg dksX1_half_1 24 rfl rfl
theorem dksX1_half_3 : cX1_half.data.toList.drop 69 = dktX1_half_3 := dk_seg dksX1_half_2 23 rfl rfl
theorem dksX1_half_4 : cX1_half.data.toList.drop 93 = dktX1_half_4 := dk_seg dksX1_half_3 24 rfl rfl
theorem dksX1_half_5 : cX1_half.data.toList.drop 117 = dktX1_half_5 := dk_seg dksX1_half_4 24 rfl rfl
theorem dksX1_half_6 : cX1_half.data.toList.drop 140 = dktX1_half_6 := dk_seg dksX1_half_5 23 rfl rfl
theorem dksX1_half_7 : cX1_half.data.toList.drop 164 = dktX1_half_7 := dk_seg dksX1_half_6 24 rfl rfl
theorem dksX1_half_8 : cX1_half.data.toList.drop 188 = dktX1_half_8 := dk_seg dksX1_half_7 24 rfl rfl
theorem dksX1_half_9 : cX1_half.data.toList.drop 211 = dktX1_half_9 := dk_seg dksX1_half_8 23 rfl rfl
theorem dksX1_half_10 : cX1_half.data.toList.drop 234 = dktX1_half_10 := dk_seg dksX1_half_9 23 rfl rfl
theorem dX1_half_0 : decode cX1_half 0 = .ok (.aload_n 0, 1) := dk_42 (dk_at dksX1_half_0 0 rfl rfl)
theorem dX1_half_1 : decode cX1_half 1 = .ok (.iconst (-1), 1) := dk_2 (dk_at dksX1_half_0 1 rfl rfl)
theorem dX1_half_2 : decode cX1_half 2 = .ok (.putfield 180, 3) := dk_181 0 180 (dk_at dksX1_half_0 2 rfl rfl)
theorem dX1_half_5 : decode cX1_half 5 = .ok (.aload_n 0, 1) := dk_42 (dk_at dksX1_half_0 5 rfl rfl)
theorem dX1_half_6 : decode cX1_half 6 = .ok (.iconst 0, 1) := dk_3 (dk_at dksX1_half_0 6 rfl rfl)
theorem dX1_half_7 : decode cX1_half 7 = .ok (.putfield 187, 3) := dk_181 0 187 (dk_at dksX1_half_0 7 rfl rfl)
theorem dX1_half_10 : decode cX1_half 10 = .ok (.aload_n 0, 1) := dk_42 (dk_at dksX1_half_0 10 rfl rfl)
theorem dX1_half_11 : decode cX1_half 11 = .ok (.bipush 37, 2) := dk_16 37 (dk_at dksX1_half_0 11 rfl rfl)
theorem dX1_half_13 : decode cX1_half 13 = .ok (.invokevirtual 62, 3) := dk_182 0 62 (dk_at dksX1_half_0 13 rfl rfl)
theorem dX1_half_16 : decode cX1_half 16 = .ok (.ifCond .ne 14, 3) := dk_154 0 14 (dk_at dksX1_half_0 16 rfl rfl)
theorem dX1_half_19 : decode cX1_half 19 = .ok (.aload_n 0, 1) := dk_42 (dk_at dksX1_half_0 19 rfl rfl)
theorem dX1_half_20 : decode cX1_half 20 = .ok (.lload_n 1, 1) := dk_31 (dk_at dksX1_half_0 20 rfl rfl)
theorem dX1_half_21 : decode cX1_half 21 = .ok (.lload_n 3, 1) := dk_33 (dk_at dksX1_half_0 21 rfl rfl)
theorem dX1_half_22 : decode cX1_half 22 = .ok (.invokevirtual 190, 3) := dk_182 0 190 (dk_at dksX1_half_1 0 rfl rfl)
theorem dX1_half_25 : decode cX1_half 25 = .ok (.l2i, 1) := dk_136 (dk_at dksX1_half_1 3 rfl rfl)
theorem dX1_half_26 : decode cX1_half 26 = .ok (.ldc 194, 2) := dk_18 194 (dk_at dksX1_half_1 4 rfl rfl)
theorem dX1_half_28 : decode cX1_half 28 = .ok (.iand, 1) := dk_126 (dk_at dksX1_half_1 6 rfl rfl)
theorem dX1_half_29 : decode cX1_half 29 = .ok (.ireturn, 1) := dk_172 (dk_at dksX1_half_1 7 rfl rfl)
theorem dX1_half_30 : decode cX1_half 30 = .ok (.aload_n 0, 1) := dk_42 (dk_at dksX1_half_1 8 rfl rfl)
theorem dX1_half_31 : decode cX1_half 31 = .ok (.aload_n 0, 1) := dk_42 (dk_at dksX1_half_1 9 rfl rfl)
theorem dX1_half_32 : decode cX1_half 32 = .ok (.iconst 0, 1) := dk_3 (dk_at dksX1_half_1 10 rfl rfl)
theorem dX1_half_33 : decode cX1_half 33 = .ok (.invokevirtual 51, 3) := dk_182 0 51 (dk_at dksX1_half_1 11 rfl rfl)
theorem dX1_half_36 : decode cX1_half 36 = .ok (.invokestatic 73, 3) := dk_184 0 73 (dk_at dksX1_half_1 14 rfl rfl)
theorem dX1_half_39 : decode cX1_half 39 = .ok (.aload_n 0, 1) := dk_42 (dk_at dksX1_half_1 17 rfl rfl)
theorem dX1_half_40 : decode cX1_half 40 = .ok (.invokevirtual 65, 3) := dk_182 0 65 (dk_at dksX1_half_1 18 rfl rfl)
theorem dX1_half_43 : decode cX1_half 43 = .ok (.invokevirtual 69, 3) := dk_182 0 69 (dk_at dksX1_half_1 21 rfl rfl)
theorem dX1_half_46 : decode cX1_half 46 = .ok (.aload_n 0, 1) := dk_42 (dk_at dksX1_half_2 0 rfl rfl)
theorem dX1_half_47 : decode cX1_half 47 = .ok (.invokevirtual 174, 3) := dk_182 0 174 (dk_at dksX1_half_2 1 rfl rfl)
theorem dX1_half_50 : decode cX1_half 50 = .ok (.aload_n 0, 1) := dk_42 (dk_at dksX1_half_2 4 rfl rfl)
theorem dX1_half_51 : decode cX1_half 51 = .ok (.getfield 124, 3) := dk_180 0 124 (dk_at dksX1_half_2 5 rfl rfl)
theorem dX1_half_54 : decode cX1_half 54 = .ok (.iconst 2, 1) := dk_5 (dk_at dksX1_half_2 8 rfl rfl)
theorem dX1_half_55 : decode cX1_half 55 = .ok (.if_icmp .ne 37, 3) := dk_160 0 37 (dk_at dksX1_half_2 9 rfl rfl)
theorem dX1_half_58 : decode cX1_half 58 = .ok (.aload_n 0, 1) := dk_42 (dk_at dksX1_half_2 12 rfl rfl)
theorem dX1_half_59 : decode cX1_half 59 = .ok (.getfield 9, 3) := dk_180 0 9 (dk_at dksX1_half_2 13 rfl rfl)
theorem dX1_half_62 : decode cX1_half 62 = .ok (.aload_n 0, 1) := dk_42 (dk_at dksX1_half_2 16 rfl rfl)
theorem dX1_half_63 : decode cX1_half 63 = .ok (.getfield 121, 3) := dk_180 0 121 (dk_at dksX1_half_2 17 rfl rfl)
theorem dX1_half_66 : decode cX1_half 66 = .ok (.baload, 1) := dk_51 (dk_at dksX1_half_2 20 rfl rfl)
theorem dX1_half_67 : decode cX1_half 67 = .ok (.bipush 104, 2) := dk_16 104 (dk_at dksX1_half_2 21 rfl rfl)
theorem dX1_half_69 : decode cX1_half 69 = .ok (.if_icmp .ne 23, 3) := dk_160 0 23 (dk_at dksX1_half_3 0 rfl rfl)
theorem dX1_half_72 : decode cX1_half 72 = .ok (.aload_n 0, 1) := dk_42 (dk_at dksX1_half_3 3 rfl rfl)
theorem dX1_half_73 : decode cX1_half 73 = .ok (.getfield 9, 3) := dk_180 0 9 (dk_at dksX1_half_3 4 rfl rfl)
theorem dX1_half_76 : decode cX1_half 76 = .ok (.aload_n 0, 1) := dk_42 (dk_at dksX1_half_3 7 rfl rfl)
theorem dX1_half_77 : decode cX1_half 77 = .ok (.getfield 121, 3) := dk_180 0 121 (dk_at dksX1_half_3 8 rfl rfl)
theorem dX1_half_80 : decode cX1_half 80 = .ok (.iconst 1, 1) := dk_4 (dk_at dksX1_half_3 11 rfl rfl)
theorem dX1_half_81 : decode cX1_half 81 = .ok (.iadd, 1) := dk_96 (dk_at dksX1_half_3 12 rfl rfl)
theorem dX1_half_82 : decode cX1_half 82 = .ok (.baload, 1) := dk_51 (dk_at dksX1_half_3 13 rfl rfl)
theorem dX1_half_83 : decode cX1_half 83 = .ok (.bipush 105, 2) := dk_16 105 (dk_at dksX1_half_3 14 rfl rfl)
theorem dX1_half_85 : decode cX1_half 85 = .ok (.if_icmp .ne 7, 3) := dk_160 0 7 (dk_at dksX1_half_3 16 rfl rfl)
theorem dX1_half_88 : decode cX1_half 88 = .ok (.iconst 1, 1) := dk_4 (dk_at dksX1_half_3 19 rfl rfl)
theorem dX1_half_89 : decode cX1_half 89 = .ok (.goto 4, 3) := dk_167 0 4 (dk_at dksX1_half_3 20 rfl rfl)
theorem dX1_half_92 : decode cX1_half 92 = .ok (.iconst 0, 1) := dk_3 (dk_at dksX1_half_3 23 rfl rfl)
theorem dX1_half_93 : decode cX1_half 93 = .ok (.istore 6, 2) := dk_54 6 (dk_at dksX1_half_4 0 rfl rfl)
theorem dX1_half_95 : decode cX1_half 95 = .ok (.aload_n 0, 1) := dk_42 (dk_at dksX1_half_4 2 rfl rfl)
theorem dX1_half_96 : decode cX1_half 96 = .ok (.iload 6, 2) := dk_21 6 (dk_at dksX1_half_4 3 rfl rfl)
theorem dX1_half_98 : decode cX1_half 98 = .ok (.ifCond .ne 41, 3) := dk_154 0 41 (dk_at dksX1_half_4 5 rfl rfl)
theorem dX1_half_101 : decode cX1_half 101 = .ok (.aload_n 0, 1) := dk_42 (dk_at dksX1_half_4 8 rfl rfl)
theorem dX1_half_102 : decode cX1_half 102 = .ok (.getfield 124, 3) := dk_180 0 124 (dk_at dksX1_half_4 9 rfl rfl)
theorem dX1_half_105 : decode cX1_half 105 = .ok (.iconst 2, 1) := dk_5 (dk_at dksX1_half_4 12 rfl rfl)
theorem dX1_half_106 : decode cX1_half 106 = .ok (.if_icmp .ne 37, 3) := dk_160 0 37 (dk_at dksX1_half_4 13 rfl rfl)
theorem dX1_half_109 : decode cX1_half 109 = .ok (.aload_n 0, 1) := dk_42 (dk_at dksX1_half_4 16 rfl rfl)
theorem dX1_half_110 : decode cX1_half 110 = .ok (.getfield 9, 3) := dk_180 0 9 (dk_at dksX1_half_4 17 rfl rfl)
theorem dX1_half_113 : decode cX1_half 113 = .ok (.aload_n 0, 1) := dk_42 (dk_at dksX1_half_4 20 rfl rfl)
theorem dX1_half_114 : decode cX1_half 114 = .ok (.getfield 121, 3) := dk_180 0 121 (dk_at dksX1_half_4 21 rfl rfl)
theorem dX1_half_117 : decode cX1_half 117 = .ok (.baload, 1) := dk_51 (dk_at dksX1_half_5 0 rfl rfl)
theorem dX1_half_118 : decode cX1_half 118 = .ok (.bipush 108, 2) := dk_16 108 (dk_at dksX1_half_5 1 rfl rfl)
theorem dX1_half_120 : decode cX1_half 120 = .ok (.if_icmp .ne 23, 3) := dk_160 0 23 (dk_at dksX1_half_5 3 rfl rfl)
theorem dX1_half_123 : decode cX1_half 123 = .ok (.aload_n 0, 1) := dk_42 (dk_at dksX1_half_5 6 rfl rfl)
theorem dX1_half_124 : decode cX1_half 124 = .ok (.getfield 9, 3) := dk_180 0 9 (dk_at dksX1_half_5 7 rfl rfl)
theorem dX1_half_127 : decode cX1_half 127 = .ok (.aload_n 0, 1) := dk_42 (dk_at dksX1_half_5 10 rfl rfl)
theorem dX1_half_128 : decode cX1_half 128 = .ok (.getfield 121, 3) := dk_180 0 121 (dk_at dksX1_half_5 11 rfl rfl)
theorem dX1_half_131 : decode cX1_half 131 = .ok (.iconst 1, 1) := dk_4 (dk_at dksX1_half_5 14 rfl rfl)
theorem dX1_half_132 : decode cX1_half 132 = .ok (.iadd, 1) := dk_96 (dk_at dksX1_half_5 15 rfl rfl)
theorem dX1_half_133 : decode cX1_half 133 = .ok (.baload, 1) := dk_51 (dk_at dksX1_half_5 16 rfl rfl)
theorem dX1_half_134 : decode cX1_half 134 = .ok (.bipush 111, 2) := dk_16 111 (dk_at dksX1_half_5 17 rfl rfl)
theorem dX1_half_136 : decode cX1_half 136 = .ok (.if_icmp .ne 7, 3) := dk_160 0 7 (dk_at dksX1_half_5 19 rfl rfl)
theorem dX1_half_139 : decode cX1_half 139 = .ok (.iconst 1, 1) := dk_4 (dk_at dksX1_half_5 22 rfl rfl)
theorem dX1_half_140 : decode cX1_half 140 = .ok (.goto 4, 3) := dk_167 0 4 (dk_at dksX1_half_6 0 rfl rfl)
theorem dX1_half_143 : decode cX1_half 143 = .ok (.iconst 0, 1) := dk_3 (dk_at dksX1_half_6 3 rfl rfl)
theorem dX1_half_144 : decode cX1_half 144 = .ok (.iconst 3, 1) := dk_6 (dk_at dksX1_half_6 4 rfl rfl)
theorem dX1_half_145 : decode cX1_half 145 = .ok (.invokevirtual 69, 3) := dk_182 0 69 (dk_at dksX1_half_6 5 rfl rfl)
theorem dX1_half_148 : decode cX1_half 148 = .ok (.aload_n 0, 1) := dk_42 (dk_at dksX1_half_6 8 rfl rfl)
theorem dX1_half_149 : decode cX1_half 149 = .ok (.iload 6, 2) := dk_21 6 (dk_at dksX1_half_6 9 rfl rfl)
theorem dX1_half_151 : decode cX1_half 151 = .ok (.ifCond .eq 8, 3) := dk_153 0 8 (dk_at dksX1_half_6 11 rfl rfl)
theorem dX1_half_154 : decode cX1_half 154 = .ok (.iload 5, 2) := dk_21 5 (dk_at dksX1_half_6 14 rfl rfl)
theorem dX1_half_156 : decode cX1_half 156 = .ok (.ifCond .eq 7, 3) := dk_153 0 7 (dk_at dksX1_half_6 16 rfl rfl)
theorem dX1_half_159 : decode cX1_half 159 = .ok (.iconst 1, 1) := dk_4 (dk_at dksX1_half_6 19 rfl rfl)
theorem dX1_half_160 : decode cX1_half 160 = .ok (.goto 4, 3) := dk_167 0 4 (dk_at dksX1_half_6 20 rfl rfl)
theorem dX1_half_163 : decode cX1_half 163 = .ok (.iconst 0, 1) := dk_3 (dk_at dksX1_half_6 23 rfl rfl)
theorem dX1_half_164 : decode cX1_half 164 = .ok (.iconst 3, 1) := dk_6 (dk_at dksX1_half_7 0 rfl rfl)
theorem dX1_half_165 : decode cX1_half 165 = .ok (.invokevirtual 69, 3) := dk_182 0 69 (dk_at dksX1_half_7 1 rfl rfl)
theorem dX1_half_168 : decode cX1_half 168 = .ok (.aload_n 0, 1) := dk_42 (dk_at dksX1_half_7 4 rfl rfl)
theorem dX1_half_169 : decode cX1_half 169 = .ok (.bipush 40, 2) := dk_16 40 (dk_at dksX1_half_7 5 rfl rfl)
theorem dX1_half_171 : decode cX1_half 171 = .ok (.invokevirtual 135, 3) := dk_182 0 135 (dk_at dksX1_half_7 7 rfl rfl)
theorem dX1_half_174 : decode cX1_half 174 = .ok (.aload_n 0, 1) := dk_42 (dk_at dksX1_half_7 10 rfl rfl)
theorem dX1_half_175 : decode cX1_half 175 = .ok (.iconst 0, 1) := dk_3 (dk_at dksX1_half_7 11 rfl rfl)
theorem dX1_half_176 : decode cX1_half 176 = .ok (.invokevirtual 195, 3) := dk_182 0 195 (dk_at dksX1_half_7 12 rfl rfl)
theorem dX1_half_179 : decode cX1_half 179 = .ok (.aload_n 0, 1) := dk_42 (dk_at dksX1_half_7 15 rfl rfl)
theorem dX1_half_180 : decode cX1_half 180 = .ok (.bipush 41, 2) := dk_16 41 (dk_at dksX1_half_7 16 rfl rfl)
theorem dX1_half_182 : decode cX1_half 182 = .ok (.invokevirtual 135, 3) := dk_182 0 135 (dk_at dksX1_half_7 18 rfl rfl)
theorem dX1_half_185 : decode cX1_half 185 = .ok (.aload_n 0, 1) := dk_42 (dk_at dksX1_half_7 21 rfl rfl)
theorem dX1_half_186 : decode cX1_half 186 = .ok (.iload 6, 2) := dk_21 6 (dk_at dksX1_half_7 22 rfl rfl)
theorem dX1_half_188 : decode cX1_half 188 = .ok (.ifCond .eq 7, 3) := dk_153 0 7 (dk_at dksX1_half_8 0 rfl rfl)
theorem dX1_half_191 : decode cX1_half 191 = .ok (.iconst 5, 1) := dk_8 (dk_at dksX1_half_8 3 rfl rfl)
theorem dX1_half_192 : decode cX1_half 192 = .ok (.goto 5, 3) := dk_167 0 5 (dk_at dksX1_half_8 4 rfl rfl)
theorem dX1_half_195 : decode cX1_half 195 = .ok (.bipush 6, 2) := dk_16 6 (dk_at dksX1_half_8 7 rfl rfl)
theorem dX1_half_197 : decode cX1_half 197 = .ok (.putfield 187, 3) := dk_181 0 187 (dk_at dksX1_half_8 9 rfl rfl)
theorem dX1_half_200 : decode cX1_half 200 = .ok (.aload_n 0, 1) := dk_42 (dk_at dksX1_half_8 12 rfl rfl)
theorem dX1_half_201 : decode cX1_half 201 = .ok (.getfield 180, 3) := dk_180 0 180 (dk_at dksX1_half_8 13 rfl rfl)
theorem dX1_half_204 : decode cX1_half 204 = .ok (.ifCond .lt 5, 3) := dk_155 0 5 (dk_at dksX1_half_8 16 rfl rfl)
theorem dX1_half_207 : decode cX1_half 207 = .ok (.iconst 0, 1) := dk_3 (dk_at dksX1_half_8 19 rfl rfl)
theorem dX1_half_208 : decode cX1_half 208 = .ok (.ireturn, 1) := dk_172 (dk_at dksX1_half_8 20 rfl rfl)
theorem dX1_half_209 : decode cX1_half 209 = .ok (.aload_n 0, 1) := dk_42 (dk_at dksX1_half_8 21 rfl rfl)
theorem dX1_half_210 : decode cX1_half 210 = .ok (.iconst 0, 1) := dk_3 (dk_at dksX1_half_8 22 rfl rfl)
theorem dX1_half_211 : decode cX1_half 211 = .ok (.putfield 187, 3) := dk_181 0 187 (dk_at dksX1_half_9 0 rfl rfl)
theorem dX1_half_214 : decode cX1_half 214 = .ok (.iload 6, 2) := dk_21 6 (dk_at dksX1_half_9 3 rfl rfl)
theorem dX1_half_216 : decode cX1_half 216 = .ok (.ifCond .eq 17, 3) := dk_153 0 17 (dk_at dksX1_half_9 5 rfl rfl)
theorem dX1_half_219 : decode cX1_half 219 = .ok (.aload_n 0, 1) := dk_42 (dk_at dksX1_half_9 8 rfl rfl)
theorem dX1_half_220 : decode cX1_half 220 = .ok (.getfield 183, 3) := dk_180 0 183 (dk_at dksX1_half_9 9 rfl rfl)
theorem dX1_half_223 : decode cX1_half 223 = .ok (.ldc2_w 199, 3) := dk_20 0 199 (dk_at dksX1_half_9 12 rfl rfl)
theorem dX1_half_226 : decode cX1_half 226 = .ok (.ladd, 1) := dk_97 (dk_at dksX1_half_9 15 rfl rfl)
theorem dX1_half_227 : decode cX1_half 227 = .ok (.bipush 16, 2) := dk_16 16 (dk_at dksX1_half_9 16 rfl rfl)
theorem dX1_half_229 : decode cX1_half 229 = .ok (.lshr, 1) := dk_123 (dk_at dksX1_half_9 18 rfl rfl)
theorem dX1_half_230 : decode cX1_half 230 = .ok (.goto 7, 3) := dk_167 0 7 (dk_at dksX1_half_9 19 rfl rfl)
theorem dX1_half_233 : decode cX1_half 233 = .ok (.aload_n 0, 1) := dk_42 (dk_at dksX1_half_9 22 rfl rfl)
theorem dX1_half_234 : decode cX1_half 234 = .ok (.getfield 183, 3) := dk_180 0 183 (dk_at dksX1_half_10 0 rfl rfl)
theorem dX1_half_237 : decode cX1_half 237 = .ok (.l2i, 1) := dk_136 (dk_at dksX1_half_10 3 rfl rfl)
theorem dX1_half_238 : decode cX1_half 238 = .ok (.ldc 194, 2) := dk_18 194 (dk_at dksX1_half_10 4 rfl rfl)
theorem dX1_half_240 : decode cX1_half 240 = .ok (.iand, 1) := dk_126 (dk_at dksX1_half_10 6 rfl rfl)
theorem dX1_half_241 : decode cX1_half 241 = .ok (.ireturn, 1) := dk_172 (dk_at dksX1_half_10 7 rfl rfl)
abbrev cX1_immediate : ByteArray := prog_1_method_40_code
def yX1_immediate : MethodName := ⟨RX1, "immediate", "(IIII)V"⟩
def dkwX1_immediate_1 : List UInt8 := [177]
abbrev dktX1_immediate_1 : List UInt8 := dkwX1_immediate_1 ++ []
def dkwX1_immediate_0 : List UInt8 := [42, 27, 16, 26, 120, 28, 16, 21, 120, 128, 29, 16, 16, 120, 128, 21, 4, 18, 194, 126, 128, 182, 0, 245]
abbrev dktX1_immediate_0 : List UInt8 := dkwX1_immediate_0 ++ dktX1_immediate_1
theorem dksX1_immediate_0 : cX1_immediate.data.toList.drop 0 = dktX1_immediate_0 := by decide +kernel
theorem dksX1_immediate_1 : cX1_immediate.data.toList.drop 24 = dktX1_immediate_1 := dk_seg dksX1_immediate_0 24 rfl rfl
theorem dX1_immediate_0 : decode cX1_immediate 0 = .ok (.aload_n 0, 1) := dk_42 (dk_at dksX1_immediate_0 0 rfl rfl)
theorem dX1_immediate_1 : decode cX1_immediate 1 = .ok (.iload_n 1, 1) := dk_27 (dk_at dksX1_immediate_0 1 rfl rfl)
theorem dX1_immediate_2 : decode cX1_immediate 2 = .ok (.bipush 26, 2) := dk_16 26 (dk_at dksX1_immediate_0 2 rfl rfl)
theorem dX1_immediate_4 : decode cX1_immediate 4 = .ok (.ishl, 1) := dk_120 (dk_at dksX1_immediate_0 4 rfl rfl)
theorem dX1_immediate_5 : decode cX1_immediate 5 = .ok (.iload_n 2, 1) := dk_28 (dk_at dksX1_immediate_0 5 rfl rfl)
theorem dX1_immediate_6 : decode cX1_immediate 6 = .ok (.bipush 21, 2) := dk_16 21 (dk_at dksX1_immediate_0 6 rfl rfl)
theorem dX1_immediate_8 : decode cX1_immediate 8 = .ok (.ishl, 1) := dk_120 (dk_at dksX1_immediate_0 8 rfl rfl)
theorem dX1_immediate_9 : decode cX1_immediate 9 = .ok (.ior, 1) := dk_128 (dk_at dksX1_immediate_0 9 rfl rfl)
theorem dX1_immediate_10 : decode cX1_immediate 10 = .ok (.iload_n 3, 1) := dk_29 (dk_at dksX1_immediate_0 10 rfl rfl)
theorem dX1_immediate_11 : decode cX1_immediate 11 = .ok (.bipush 16, 2) := dk_16 16 (dk_at dksX1_immediate_0 11 rfl rfl)
theorem dX1_immediate_13 : decode cX1_immediate 13 = .ok (.ishl, 1) := dk_120 (dk_at dksX1_immediate_0 13 rfl rfl)
theorem dX1_immediate_14 : decode cX1_immediate 14 = .ok (.ior, 1) := dk_128 (dk_at dksX1_immediate_0 14 rfl rfl)
theorem dX1_immediate_15 : decode cX1_immediate 15 = .ok (.iload 4, 2) := dk_21 4 (dk_at dksX1_immediate_0 15 rfl rfl)
theorem dX1_immediate_17 : decode cX1_immediate 17 = .ok (.ldc 194, 2) := dk_18 194 (dk_at dksX1_immediate_0 17 rfl rfl)
theorem dX1_immediate_19 : decode cX1_immediate 19 = .ok (.iand, 1) := dk_126 (dk_at dksX1_immediate_0 19 rfl rfl)
theorem dX1_immediate_20 : decode cX1_immediate 20 = .ok (.ior, 1) := dk_128 (dk_at dksX1_immediate_0 20 rfl rfl)
theorem dX1_immediate_21 : decode cX1_immediate 21 = .ok (.invokevirtual 245, 3) := dk_182 0 245 (dk_at dksX1_immediate_0 21 rfl rfl)
theorem dX1_immediate_24 : decode cX1_immediate 24 = .ok (.return_, 1) := dk_177 (dk_at dksX1_immediate_1 0 rfl rfl)
abbrev cX1_branches : ByteArray := prog_1_method_50_code
def yX1_branches : MethodName := ⟨RX1, "branches", "(II)Z"⟩
def dkwX1_branches_15 : List UInt8 := [16, 26, 120, 19, 1, 116, 128, 182, 1, 106, 4, 172]
abbrev dktX1_branches_15 : List UInt8 := dkwX1_branches_15 ++ []
def dkwX1_branches_14 : List UInt8 := [4, 182, 1, 78, 42, 29, 6, 126, 153, 0, 10, 29, 6, 126, 5, 160, 0, 7, 8, 167, 0, 4, 7]
abbrev dktX1_branches_14 : List UInt8 := dkwX1_branches_14 ++ dktX1_branches_15
def dkwX1_branches_13 : List UInt8 := [21, 6, 153, 0, 8, 21, 5, 167, 0, 5, 21, 4, 21, 6, 153, 0, 8, 21, 4, 167, 0, 5, 21, 5]
abbrev dktX1_branches_13 : List UInt8 := dkwX1_branches_13 ++ dktX1_branches_14
def dkwX1_branches_12 : List UInt8 := [160, 0, 7, 4, 167, 0, 4, 3, 54, 6, 42, 29, 7, 162, 0, 8, 16, 42, 167, 0, 5, 16, 43]
abbrev dktX1_branches_12 : List UInt8 := dkwX1_branches_12 ++ dktX1_branches_13
def dkwX1_branches_11 : List UInt8 := [182, 1, 75, 42, 182, 1, 72, 54, 5, 42, 182, 1, 75, 42, 4, 182, 0, 195, 29, 5, 126, 5]
abbrev dktX1_branches_11 : List UInt8 := dkwX1_branches_11 ++ dktX1_branches_12
def dkwX1_branches_10 : List UInt8 := [42, 19, 1, 50, 27, 28, 182, 0, 117, 62, 29, 156, 0, 5, 3, 172, 42, 182, 1, 72, 54, 4, 42]
abbrev dktX1_branches_10 : List UInt8 := dkwX1_branches_10 ++ dktX1_branches_11
def dkwX1_branches_9 : List UInt8 := [19, 1, 115, 182, 1, 106, 167, 0, 16, 42, 7, 181, 0, 187, 42, 29, 16, 26, 120, 182, 0, 245, 4, 172]
abbrev dktX1_branches_9 : List UInt8 := dkwX1_branches_9 ++ dktX1_branches_10
def dkwX1_branches_8 : List UInt8 := [155, 0, 48, 42, 4, 182, 0, 195, 29, 5, 162, 0, 23, 42, 29, 154, 0, 9, 19, 1, 114, 167, 0, 6]
abbrev dktX1_branches_8 : List UInt8 := dkwX1_branches_8 ++ dktX1_branches_9
def dkwX1_branches_7 : List UInt8 := [120, 128, 29, 16, 16, 120, 128, 182, 1, 106, 4, 172, 42, 19, 1, 48, 27, 28, 182, 0, 117, 62, 29]
abbrev dktX1_branches_7 : List UInt8 := dkwX1_branches_7 ++ dktX1_branches_8
def dkwX1_branches_6 : List UInt8 := [62, 29, 155, 0, 34, 42, 182, 1, 110, 54, 4, 42, 4, 182, 0, 195, 42, 19, 1, 113, 21, 4, 16, 18]
abbrev dktX1_branches_6 : List UInt8 := dkwX1_branches_6 ++ dktX1_branches_7
def dkwX1_branches_5 : List UInt8 := [128, 29, 17, 1, 0, 100, 16, 16, 120, 128, 182, 1, 106, 4, 172, 42, 19, 1, 46, 27, 28, 182, 0, 117]
abbrev dktX1_branches_5 : List UInt8 := dkwX1_branches_5 ++ dktX1_branches_6
def dkwX1_branches_4 : List UInt8 := [162, 0, 16, 29, 16, 26, 120, 21, 4, 16, 21, 120, 128, 167, 0, 21, 19, 1, 109, 21, 4, 16, 21, 120]
abbrev dktX1_branches_4 : List UInt8 := dkwX1_branches_4 ++ dktX1_branches_5
def dkwX1_branches_3 : List UInt8 := [155, 0, 62, 42, 182, 1, 72, 54, 4, 42, 182, 1, 75, 42, 4, 182, 0, 195, 42, 29, 17, 1, 0]
abbrev dktX1_branches_3 : List UInt8 := dkwX1_branches_3 ++ dktX1_branches_4
def dkwX1_branches_2 : List UInt8 := [120, 128, 21, 5, 16, 16, 120, 128, 182, 1, 106, 4, 172, 42, 19, 1, 44, 27, 28, 182, 0, 117, 62, 29]
abbrev dktX1_branches_2 : List UInt8 := dkwX1_branches_2 ++ dktX1_branches_3
def dkwX1_branches_1 : List UInt8 := [42, 182, 1, 72, 54, 5, 42, 182, 1, 75, 42, 4, 182, 0, 195, 42, 29, 16, 26, 120, 21, 4, 16, 21]
abbrev dktX1_branches_1 : List UInt8 := dkwX1_branches_1 ++ dktX1_branches_2
def dkwX1_branches_0 : List UInt8 := [42, 19, 1, 42, 27, 28, 182, 0, 117, 62, 29, 155, 0, 50, 42, 182, 1, 72, 54, 4, 42, 182, 1, 75]
abbrev dktX1_branches_0 : List UInt8 := dkwX1_branches_0 ++ dktX1_branches_1
theorem dksX1_branches_0 : cX1_branches.data.toList.drop 0 = dktX1_branches_0 := by decide +kernel
theorem dksX1_branches_1 : cX1_branches.data.toList.drop 24 = dktX1_branches_1 := dk_seg dksX1_branches_0 24 rfl rfl
theorem dksX1_branches_2 : cX1_branches.data.toList.drop 48 = dktX1_branches_2 := dk_seg dksX1_branches_1 24 rfl rfl
theorem dksX1_branches_3 : cX1_branches.data.toList.drop 72 = dktX1_branches_3 := dk_seg dksX1_branches_2 24 rfl rfl
theorem dksX1_branches_4 : cX1_branches.data.toList.drop 95 = dktX1_branches_4 := dk_seg dksX1_branches_3 23 rfl rfl
theorem dksX1_branches_5 : cX1_branches.data.toList.drop 119 = dktX1_branches_5 := dk_seg dksX1_branches_4 24 rfl rfl
theorem dksX1_branches_6 : cX1_branches.data.toList.drop 143 = dktX1_branches_6 := dk_seg dksX1_branches_5 24 rfl rfl
theorem dksX1_branches_7 : cX1_branches.data.toList.drop 167 = dktX1_branches_7 := dk_seg dksX1_branches_6 24 rfl rfl
theorem dksX1_branches_8 : cX1_branches.data.toList.drop 190 = dktX1_branches_8 := dk_seg dksX1_branches_7 23 rfl rfl
theorem dksX1_branches_9 : cX1_branches.data.toList.drop 214 = dktX1_branches_9 := dk_seg dksX1_branches_8 24 rfl rfl
theorem dksX1_branches_10 : cX1_branches.data.toList.drop 238 = dktX1_branches_10 := dk_seg dksX1_branches_9 24 rfl rfl
theorem dksX1_branches_11 : cX1_branches.data.toList.drop 261 = dktX1_branches_11 := dk_seg dksX1_branches_10 23 rfl rfl
theorem dksX1_branches_12 : cX1_branches.data.toList.drop 283 = dktX1_branches_12 := dk_seg dksX1_branches_11 22 rfl rfl
theorem dksX1_branches_13 : cX1_branches.data.toList.drop 306 = dktX1_branches_13 := dk_seg dksX1_branches_12 23 rfl rfl
theorem dksX1_branches_14 : cX1_branches.data.toList.drop 330 = dktX1_branches_14 := dk_seg dksX1_branches_13 24 rfl rfl
theorem dksX1_branches_15 : cX1_branches.data.toList.drop 353 = dktX1_branches_15 := dk_seg dksX1_branches_14 23 rfl rfl
theorem dX1_branches_0 : decode cX1_branches 0 = .ok (.aload_n 0, 1) := dk_42 (dk_at dksX1_branches_0 0 rfl rfl)
theorem dX1_branches_1 : decode cX1_branches 1 = .ok (.ldc_w 298, 3) := dk_19 1 42 (dk_at dksX1_branches_0 1 rfl rfl)
theorem dX1_branches_4 : decode cX1_branches 4 = .ok (.iload_n 1, 1) := dk_27 (dk_at dksX1_branches_0 4 rfl rfl)
theorem dX1_branches_5 : decode cX1_branches 5 = .ok (.iload_n 2, 1) := dk_28 (dk_at dksX1_branches_0 5 rfl rfl)
theorem dX1_branches_6 : decode cX1_branches 6 = .ok (.invokevirtual 117, 3) := dk_182 0 117 (dk_at dksX1_branches_0 6 rfl rfl)
theorem dX1_branches_9 : decode cX1_branches 9 = .ok (.istore_n 3, 1) := dk_62 (dk_at dksX1_branches_0 9 rfl rfl)
theorem dX1_branches_10 : decode cX1_branches 10 = .ok (.iload_n 3, 1) := dk_29 (dk_at dksX1_branches_0 10 rfl rfl)
theorem dX1_branches_11 : decode cX1_branches 11 = .ok (.ifCond .lt 50, 3) := dk_155 0 50 (dk_at dksX1_branches_0 11 rfl rfl)
theorem dX1_branches_14 : decode cX1_branches 14 = .ok (.aload_n 0, 1) := dk_42 (dk_at dksX1_branches_0 14 rfl rfl)
theorem dX1_branches_15 : decode cX1_branches 15 = .ok (.invokevirtual 328, 3) := dk_182 1 72 (dk_at dksX1_branches_0 15 rfl rfl)
theorem dX1_branches_18 : decode cX1_branches 18 = .ok (.istore 4, 2) := dk_54 4 (dk_at dksX1_branches_0 18 rfl rfl)
theorem dX1_branches_20 : decode cX1_branches 20 = .ok (.aload_n 0, 1) := dk_42 (dk_at dksX1_branches_0 20 rfl rfl)
theorem dX1_branches_21 : decode cX1_branches 21 = .ok (.invokevirtual 331, 3) := dk_182 1 75 (dk_at dksX1_branches_0 21 rfl rfl)
theorem dX1_branches_24 : decode cX1_branches 24 = .ok (.aload_n 0, 1) := dk_42 (dk_at dksX1_branches_1 0 rfl rfl)
theorem dX1_branches_25 : decode cX1_branches 25 = .ok (.invokevirtual 328, 3) := dk_182 1 72 (dk_at dksX1_branches_1 1 rfl rfl)
theorem dX1_branches_28 : decode cX1_branches 28 = .ok (.istore 5, 2) := dk_54 5 (dk_at dksX1_branches_1 4 rfl rfl)
theorem dX1_branches_30 : decode cX1_branches 30 = .ok (.aload_n 0, 1) := dk_42 (dk_at dksX1_branches_1 6 rfl rfl)
theorem dX1_branches_31 : decode cX1_branches 31 = .ok (.invokevirtual 331, 3) := dk_182 1 75 (dk_at dksX1_branches_1 7 rfl rfl)
theorem dX1_branches_34 : decode cX1_branches 34 = .ok (.aload_n 0, 1) := dk_42 (dk_at dksX1_branches_1 10 rfl rfl)
theorem dX1_branches_35 : decode cX1_branches 35 = .ok (.iconst 1, 1) := dk_4 (dk_at dksX1_branches_1 11 rfl rfl)
theorem dX1_branches_36 : decode cX1_branches 36 = .ok (.invokevirtual 195, 3) := dk_182 0 195 (dk_at dksX1_branches_1 12 rfl rfl)
theorem dX1_branches_39 : decode cX1_branches 39 = .ok (.aload_n 0, 1) := dk_42 (dk_at dksX1_branches_1 15 rfl rfl)
theorem dX1_branches_40 : decode cX1_branches 40 = .ok (.iload_n 3, 1) := dk_29 (dk_at dksX1_branches_1 16 rfl rfl)
theorem dX1_branches_41 : decode cX1_branches 41 = .ok (.bipush 26, 2) := dk_16 26 (dk_at dksX1_branches_1 17 rfl rfl)
theorem dX1_branches_43 : decode cX1_branches 43 = .ok (.ishl, 1) := dk_120 (dk_at dksX1_branches_1 19 rfl rfl)
theorem dX1_branches_44 : decode cX1_branches 44 = .ok (.iload 4, 2) := dk_21 4 (dk_at dksX1_branches_1 20 rfl rfl)
theorem dX1_branches_46 : decode cX1_branches 46 = .ok (.bipush 21, 2) := dk_16 21 (dk_at dksX1_branches_1 22 rfl rfl)
theorem dX1_branches_48 : decode cX1_branches 48 = .ok (.ishl, 1) := dk_120 (dk_at dksX1_branches_2 0 rfl rfl)
theorem dX1_branches_49 : decode cX1_branches 49 = .ok (.ior, 1) := dk_128 (dk_at dksX1_branches_2 1 rfl rfl)
theorem dX1_branches_50 : decode cX1_branches 50 = .ok (.iload 5, 2) := dk_21 5 (dk_at dksX1_branches_2 2 rfl rfl)
theorem dX1_branches_52 : decode cX1_branches 52 = .ok (.bipush 16, 2) := dk_16 16 (dk_at dksX1_branches_2 4 rfl rfl)
theorem dX1_branches_54 : decode cX1_branches 54 = .ok (.ishl, 1) := dk_120 (dk_at dksX1_branches_2 6 rfl rfl)
theorem dX1_branches_55 : decode cX1_branches 55 = .ok (.ior, 1) := dk_128 (dk_at dksX1_branches_2 7 rfl rfl)
theorem dX1_branches_56 : decode cX1_branches 56 = .ok (.invokevirtual 362, 3) := dk_182 1 106 (dk_at dksX1_branches_2 8 rfl rfl)
theorem dX1_branches_59 : decode cX1_branches 59 = .ok (.iconst 1, 1) := dk_4 (dk_at dksX1_branches_2 11 rfl rfl)
theorem dX1_branches_60 : decode cX1_branches 60 = .ok (.ireturn, 1) := dk_172 (dk_at dksX1_branches_2 12 rfl rfl)
theorem dX1_branches_61 : decode cX1_branches 61 = .ok (.aload_n 0, 1) := dk_42 (dk_at dksX1_branches_2 13 rfl rfl)
theorem dX1_branches_62 : decode cX1_branches 62 = .ok (.ldc_w 300, 3) := dk_19 1 44 (dk_at dksX1_branches_2 14 rfl rfl)
theorem dX1_branches_65 : decode cX1_branches 65 = .ok (.iload_n 1, 1) := dk_27 (dk_at dksX1_branches_2 17 rfl rfl)
theorem dX1_branches_66 : decode cX1_branches 66 = .ok (.iload_n 2, 1) := dk_28 (dk_at dksX1_branches_2 18 rfl rfl)
theorem dX1_branches_67 : decode cX1_branches 67 = .ok (.invokevirtual 117, 3) := dk_182 0 117 (dk_at dksX1_branches_2 19 rfl rfl)
theorem dX1_branches_70 : decode cX1_branches 70 = .ok (.istore_n 3, 1) := dk_62 (dk_at dksX1_branches_2 22 rfl rfl)
theorem dX1_branches_71 : decode cX1_branches 71 = .ok (.iload_n 3, 1) := dk_29 (dk_at dksX1_branches_2 23 rfl rfl)
theorem dX1_branches_72 : decode cX1_branches 72 = .ok (.ifCond .lt 62, 3) := dk_155 0 62 (dk_at dksX1_branches_3 0 rfl rfl)
theorem dX1_branches_75 : decode cX1_branches 75 = .ok (.aload_n 0, 1) := dk_42 (dk_at dksX1_branches_3 3 rfl rfl)
theorem dX1_branches_76 : decode cX1_branches 76 = .ok (.invokevirtual 328, 3) := dk_182 1 72 (dk_at dksX1_branches_3 4 rfl rfl)
theorem dX1_branches_79 : decode cX1_branches 79 = .ok (.istore 4, 2) := dk_54 4 (dk_at dksX1_branches_3 7 rfl rfl)
theorem dX1_branches_81 : decode cX1_branches 81 = .ok (.aload_n 0, 1) := dk_42 (dk_at dksX1_branches_3 9 rfl rfl)
theorem dX1_branches_82 : decode cX1_branches 82 = .ok (.invokevirtual 331, 3) := dk_182 1 75 (dk_at dksX1_branches_3 10 rfl rfl)
theorem dX1_branches_85 : decode cX1_branches 85 = .ok (.aload_n 0, 1) := dk_42 (dk_at dksX1_branches_3 13 rfl rfl)
theorem dX1_branches_86 : decode cX1_branches 86 = .ok (.iconst 1, 1) := dk_4 (dk_at dksX1_branches_3 14 rfl rfl)
theorem dX1_branches_87 : decode cX1_branches 87 = .ok (.invokevirtual 195, 3) := dk_182 0 195 (dk_at dksX1_branches_3 15 rfl rfl)
theorem dX1_branches_90 : decode cX1_branches 90 = .ok (.aload_n 0, 1) := dk_42 (dk_at dksX1_branches_3 18 rfl rfl)
theorem dX1_branches_91 : decode cX1_branches 91 = .ok (.iload_n 3, 1) := dk_29 (dk_at dksX1_branches_3 19 rfl rfl)
theorem dX1_branches_92 : decode cX1_branches 92 = .ok (.sipush 256, 3) := dk_17 1 0 (dk_at dksX1_branches_3 20 rfl rfl)
theorem dX1_branches_95 : decode cX1_branches 95 = .ok (.if_icmp .ge 16, 3) := dk_162 0 16 (dk_at dksX1_branches_4 0 rfl rfl)
theorem dX1_branches_98 : decode cX1_branches 98 = .ok (.iload_n 3, 1) := dk_29 (dk_at dksX1_branches_4 3 rfl rfl)
theorem dX1_branches_99 : decode cX1_branches 99 = .ok (.bipush 26, 2) := dk_16 26 (dk_at dksX1_branches_4 4 rfl rfl)
theorem dX1_branches_101 : decode cX1_branches 101 = .ok (.ishl, 1) := dk_120 (dk_at dksX1_branches_4 6 rfl rfl)
theorem dX1_branches_102 : decode cX1_branches 102 = .ok (.iload 4, 2) := dk_21 4 (dk_at dksX1_branches_4 7 rfl rfl)
theorem dX1_branches_104 : decode cX1_branches 104 = .ok (.bipush 21, 2) := dk_16 21 (dk_at dksX1_branches_4 9 rfl rfl)
theorem dX1_branches_106 : decode cX1_branches 106 = .ok (.ishl, 1) := dk_120 (dk_at dksX1_branches_4 11 rfl rfl)
theorem dX1_branches_107 : decode cX1_branches 107 = .ok (.ior, 1) := dk_128 (dk_at dksX1_branches_4 12 rfl rfl)
theorem dX1_branches_108 : decode cX1_branches 108 = .ok (.goto 21, 3) := dk_167 0 21 (dk_at dksX1_branches_4 13 rfl rfl)
theorem dX1_branches_111 : decode cX1_branches 111 = .ok (.ldc_w 365, 3) := dk_19 1 109 (dk_at dksX1_branches_4 16 rfl rfl)
theorem dX1_branches_114 : decode cX1_branches 114 = .ok (.iload 4, 2) := dk_21 4 (dk_at dksX1_branches_4 19 rfl rfl)
theorem dX1_branches_116 : decode cX1_branches 116 = .ok (.bipush 21, 2) := dk_16 21 (dk_at dksX1_branches_4 21 rfl rfl)
theorem dX1_branches_118 : decode cX1_branches 118 = .ok (.ishl, 1) := dk_120 (dk_at dksX1_branches_4 23 rfl rfl)
theorem dX1_branches_119 : decode cX1_branches 119 = .ok (.ior, 1) := dk_128 (dk_at dksX1_branches_5 0 rfl rfl)
theorem dX1_branches_120 : decode cX1_branches 120 = .ok (.iload_n 3, 1) := dk_29 (dk_at dksX1_branches_5 1 rfl rfl)
theorem dX1_branches_121 : decode cX1_branches 121 = .ok (.sipush 256, 3) := dk_17 1 0 (dk_at dksX1_branches_5 2 rfl rfl)
theorem dX1_branches_124 : decode cX1_branches 124 = .ok (.isub, 1) := dk_100 (dk_at dksX1_branches_5 5 rfl rfl)
theorem dX1_branches_125 : decode cX1_branches 125 = .ok (.bipush 16, 2) := dk_16 16 (dk_at dksX1_branches_5 6 rfl rfl)
theorem dX1_branches_127 : decode cX1_branches 127 = .ok (.ishl, 1) := dk_120 (dk_at dksX1_branches_5 8 rfl rfl)
theorem dX1_branches_128 : decode cX1_branches 128 = .ok (.ior, 1) := dk_128 (dk_at dksX1_branches_5 9 rfl rfl)
theorem dX1_branches_129 : decode cX1_branches 129 = .ok (.invokevirtual 362, 3) := dk_182 1 106 (dk_at dksX1_branches_5 10 rfl rfl)
theorem dX1_branches_132 : decode cX1_branches 132 = .ok (.iconst 1, 1) := dk_4 (dk_at dksX1_branches_5 13 rfl rfl)
theorem dX1_branches_133 : decode cX1_branches 133 = .ok (.ireturn, 1) := dk_172 (dk_at dksX1_branches_5 14 rfl rfl)
theorem dX1_branches_134 : decode cX1_branches 134 = .ok (.aload_n 0, 1) := dk_42 (dk_at dksX1_branches_5 15 rfl rfl)
theorem dX1_branches_135 : decode cX1_branches 135 = .ok (.ldc_w 302, 3) := dk_19 1 46 (dk_at dksX1_branches_5 16 rfl rfl)
theorem dX1_branches_138 : decode cX1_branches 138 = .ok (.iload_n 1, 1) := dk_27 (dk_at dksX1_branches_5 19 rfl rfl)
theorem dX1_branches_139 : decode cX1_branches 139 = .ok (.iload_n 2, 1) := dk_28 (dk_at dksX1_branches_5 20 rfl rfl)
theorem dX1_branches_140 : decode cX1_branches 140 = .ok (.invokevirtual 117, 3) := dk_182 0 117 (dk_at dksX1_branches_5 21 rfl rfl)
theorem dX1_branches_143 : decode cX1_branches 143 = .ok (.istore_n 3, 1) := dk_62 (dk_at dksX1_branches_6 0 rfl rfl)
theorem dX1_branches_144 : decode cX1_branches 144 = .ok (.iload_n 3, 1) := dk_29 (dk_at dksX1_branches_6 1 rfl rfl)
theorem dX1_branches_145 : decode cX1_branches 145 = .ok (.ifCond .lt 34, 3) := dk_155 0 34 (dk_at dksX1_branches_6 2 rfl rfl)
theorem dX1_branches_148 : decode cX1_branches 148 = .ok (.aload_n 0, 1) := dk_42 (dk_at dksX1_branches_6 5 rfl rfl)
theorem dX1_branches_149 : decode cX1_branches 149 = .ok (.invokevirtual 366, 3) := dk_182 1 110 (dk_at dksX1_branches_6 6 rfl rfl)
theorem dX1_branches_152 : decode cX1_branches 152 = .ok (.istore 4, 2) := dk_54 4 (dk_at dksX1_branches_6 9 rfl rfl)
theorem dX1_branches_154 : decode cX1_branches 154 = .ok (.aload_n 0, 1) := dk_42 (dk_at dksX1_branches_6 11 rfl rfl)
theorem dX1_branches_155 : decode cX1_branches 155 = .ok (.iconst 1, 1) := dk_4 (dk_at dksX1_branches_6 12 rfl rfl)
theorem dX1_branches_156 : decode cX1_branches 156 = .ok (.invokevirtual 195, 3) := dk_182 0 195 (dk_at dksX1_branches_6 13 rfl rfl)
theorem dX1_branches_159 : decode cX1_branches 159 = .ok (.aload_n 0, 1) := dk_42 (dk_at dksX1_branches_6 16 rfl rfl)
theorem dX1_branches_160 : decode cX1_branches 160 = .ok (.ldc_w 369, 3) := dk_19 1 113 (dk_at dksX1_branches_6 17 rfl rfl)
theorem dX1_branches_163 : decode cX1_branches 163 = .ok (.iload 4, 2) := dk_21 4 (dk_at dksX1_branches_6 20 rfl rfl)
theorem dX1_branches_165 : decode cX1_branches 165 = .ok (.bipush 18, 2) := dk_16 18 (dk_at dksX1_branches_6 22 rfl rfl)
theorem dX1_branches_167 : decode cX1_branches 167 = .ok (.ishl, 1) := dk_120 (dk_at dksX1_branches_7 0 rfl rfl)
theorem dX1_branches_168 : decode cX1_branches 168 = .ok (.ior, 1) := dk_128 (dk_at dksX1_branches_7 1 rfl rfl)
theorem dX1_branches_169 : decode cX1_branches 169 = .ok (.iload_n 3, 1) := dk_29 (dk_at dksX1_branches_7 2 rfl rfl)
theorem dX1_branches_170 : decode cX1_branches 170 = .ok (.bipush 16, 2) := dk_16 16 (dk_at dksX1_branches_7 3 rfl rfl)
theorem dX1_branches_172 : decode cX1_branches 172 = .ok (.ishl, 1) := dk_120 (dk_at dksX1_branches_7 5 rfl rfl)
theorem dX1_branches_173 : decode cX1_branches 173 = .ok (.ior, 1) := dk_128 (dk_at dksX1_branches_7 6 rfl rfl)
theorem dX1_branches_174 : decode cX1_branches 174 = .ok (.invokevirtual 362, 3) := dk_182 1 106 (dk_at dksX1_branches_7 7 rfl rfl)
theorem dX1_branches_177 : decode cX1_branches 177 = .ok (.iconst 1, 1) := dk_4 (dk_at dksX1_branches_7 10 rfl rfl)
theorem dX1_branches_178 : decode cX1_branches 178 = .ok (.ireturn, 1) := dk_172 (dk_at dksX1_branches_7 11 rfl rfl)
theorem dX1_branches_179 : decode cX1_branches 179 = .ok (.aload_n 0, 1) := dk_42 (dk_at dksX1_branches_7 12 rfl rfl)
theorem dX1_branches_180 : decode cX1_branches 180 = .ok (.ldc_w 304, 3) := dk_19 1 48 (dk_at dksX1_branches_7 13 rfl rfl)
theorem dX1_branches_183 : decode cX1_branches 183 = .ok (.iload_n 1, 1) := dk_27 (dk_at dksX1_branches_7 16 rfl rfl)
theorem dX1_branches_184 : decode cX1_branches 184 = .ok (.iload_n 2, 1) := dk_28 (dk_at dksX1_branches_7 17 rfl rfl)
theorem dX1_branches_185 : decode cX1_branches 185 = .ok (.invokevirtual 117, 3) := dk_182 0 117 (dk_at dksX1_branches_7 18 rfl rfl)
theorem dX1_branches_188 : decode cX1_branches 188 = .ok (.istore_n 3, 1) := dk_62 (dk_at dksX1_branches_7 21 rfl rfl)
theorem dX1_branches_189 : decode cX1_branches 189 = .ok (.iload_n 3, 1) := dk_29 (dk_at dksX1_branches_7 22 rfl rfl)
theorem dX1_branches_190 : decode cX1_branches 190 = .ok (.ifCond .lt 48, 3) := dk_155 0 48 (dk_at dksX1_branches_8 0 rfl rfl)
theorem dX1_branches_193 : decode cX1_branches 193 = .ok (.aload_n 0, 1) := dk_42 (dk_at dksX1_branches_8 3 rfl rfl)
theorem dX1_branches_194 : decode cX1_branches 194 = .ok (.iconst 1, 1) := dk_4 (dk_at dksX1_branches_8 4 rfl rfl)
theorem dX1_branches_195 : decode cX1_branches 195 = .ok (.invokevirtual 195, 3) := dk_182 0 195 (dk_at dksX1_branches_8 5 rfl rfl)
theorem dX1_branches_198 : decode cX1_branches 198 = .ok (.iload_n 3, 1) := dk_29 (dk_at dksX1_branches_8 8 rfl rfl)
theorem dX1_branches_199 : decode cX1_branches 199 = .ok (.iconst 2, 1) := dk_5 (dk_at dksX1_branches_8 9 rfl rfl)
theorem dX1_branches_200 : decode cX1_branches 200 = .ok (.if_icmp .ge 23, 3) := dk_162 0 23 (dk_at dksX1_branches_8 10 rfl rfl)
theorem dX1_branches_203 : decode cX1_branches 203 = .ok (.aload_n 0, 1) := dk_42 (dk_at dksX1_branches_8 13 rfl rfl)
theorem dX1_branches_204 : decode cX1_branches 204 = .ok (.iload_n 3, 1) := dk_29 (dk_at dksX1_branches_8 14 rfl rfl)
theorem dX1_branches_205 : decode cX1_branches 205 = .ok (.ifCond .ne 9, 3) := dk_154 0 9 (dk_at dksX1_branches_8 15 rfl rfl)
theorem dX1_branches_208 : decode cX1_branches 208 = .ok (.ldc_w 370, 3) := dk_19 1 114 (dk_at dksX1_branches_8 18 rfl rfl)
theorem dX1_branches_211 : decode cX1_branches 211 = .ok (.goto 6, 3) := dk_167 0 6 (dk_at dksX1_branches_8 21 rfl rfl)
theorem dX1_branches_214 : decode cX1_branches 214 = .ok (.ldc_w 371, 3) := dk_19 1 115 (dk_at dksX1_branches_9 0 rfl rfl)
theorem dX1_branches_217 : decode cX1_branches 217 = .ok (.invokevirtual 362, 3) := dk_182 1 106 (dk_at dksX1_branches_9 3 rfl rfl)
theorem dX1_branches_220 : decode cX1_branches 220 = .ok (.goto 16, 3) := dk_167 0 16 (dk_at dksX1_branches_9 6 rfl rfl)
theorem dX1_branches_223 : decode cX1_branches 223 = .ok (.aload_n 0, 1) := dk_42 (dk_at dksX1_branches_9 9 rfl rfl)
theorem dX1_branches_224 : decode cX1_branches 224 = .ok (.iconst 4, 1) := dk_7 (dk_at dksX1_branches_9 10 rfl rfl)
theorem dX1_branches_225 : decode cX1_branches 225 = .ok (.putfield 187, 3) := dk_181 0 187 (dk_at dksX1_branches_9 11 rfl rfl)
theorem dX1_branches_228 : decode cX1_branches 228 = .ok (.aload_n 0, 1) := dk_42 (dk_at dksX1_branches_9 14 rfl rfl)
theorem dX1_branches_229 : decode cX1_branches 229 = .ok (.iload_n 3, 1) := dk_29 (dk_at dksX1_branches_9 15 rfl rfl)
theorem dX1_branches_230 : decode cX1_branches 230 = .ok (.bipush 26, 2) := dk_16 26 (dk_at dksX1_branches_9 16 rfl rfl)
theorem dX1_branches_232 : decode cX1_branches 232 = .ok (.ishl, 1) := dk_120 (dk_at dksX1_branches_9 18 rfl rfl)
theorem dX1_branches_233 : decode cX1_branches 233 = .ok (.invokevirtual 245, 3) := dk_182 0 245 (dk_at dksX1_branches_9 19 rfl rfl)
theorem dX1_branches_236 : decode cX1_branches 236 = .ok (.iconst 1, 1) := dk_4 (dk_at dksX1_branches_9 22 rfl rfl)
theorem dX1_branches_237 : decode cX1_branches 237 = .ok (.ireturn, 1) := dk_172 (dk_at dksX1_branches_9 23 rfl rfl)
theorem dX1_branches_238 : decode cX1_branches 238 = .ok (.aload_n 0, 1) := dk_42 (dk_at dksX1_branches_10 0 rfl rfl)
theorem dX1_branches_239 : decode cX1_branches 239 = .ok (.ldc_w 306, 3) := dk_19 1 50 (dk_at dksX1_branches_10 1 rfl rfl)
theorem dX1_branches_242 : decode cX1_branches 242 = .ok (.iload_n 1, 1) := dk_27 (dk_at dksX1_branches_10 4 rfl rfl)
theorem dX1_branches_243 : decode cX1_branches 243 = .ok (.iload_n 2, 1) := dk_28 (dk_at dksX1_branches_10 5 rfl rfl)
theorem dX1_branches_244 : decode cX1_branches 244 = .ok (.invokevirtual 117, 3) := dk_182 0 117 (dk_at dksX1_branches_10 6 rfl rfl)
theorem dX1_branches_247 : decode cX1_branches 247 = .ok (.istore_n 3, 1) := dk_62 (dk_at dksX1_branches_10 9 rfl rfl)
theorem dX1_branches_248 : decode cX1_branches 248 = .ok (.iload_n 3, 1) := dk_29 (dk_at dksX1_branches_10 10 rfl rfl)
theorem dX1_branches_249 : decode cX1_branches 249 = .ok (.ifCond .ge 5, 3) := dk_156 0 5 (dk_at dksX1_branches_10 11 rfl rfl)
theorem dX1_branches_252 : decode cX1_branches 252 = .ok (.iconst 0, 1) := dk_3 (dk_at dksX1_branches_10 14 rfl rfl)
theorem dX1_branches_253 : decode cX1_branches 253 = .ok (.ireturn, 1) := dk_172 (dk_at dksX1_branches_10 15 rfl rfl)
theorem dX1_branches_254 : decode cX1_branches 254 = .ok (.aload_n 0, 1) := dk_42 (dk_at dksX1_branches_10 16 rfl rfl)
theorem dX1_branches_255 : decode cX1_branches 255 = .ok (.invokevirtual 328, 3) := dk_182 1 72 (dk_at dksX1_branches_10 17 rfl rfl)
theorem dX1_branches_258 : decode cX1_branches 258 = .ok (.istore 4, 2) := dk_54 4 (dk_at dksX1_branches_10 20 rfl rfl)
theorem dX1_branches_260 : decode cX1_branches 260 = .ok (.aload_n 0, 1) := dk_42 (dk_at dksX1_branches_10 22 rfl rfl)
theorem dX1_branches_261 : decode cX1_branches 261 = .ok (.invokevirtual 331, 3) := dk_182 1 75 (dk_at dksX1_branches_11 0 rfl rfl)
theorem dX1_branches_264 : decode cX1_branches 264 = .ok (.aload_n 0, 1) := dk_42 (dk_at dksX1_branches_11 3 rfl rfl)
theorem dX1_branches_265 : decode cX1_branches 265 = .ok (.invokevirtual 328, 3) := dk_182 1 72 (dk_at dksX1_branches_11 4 rfl rfl)
theorem dX1_branches_268 : decode cX1_branches 268 = .ok (.istore 5, 2) := dk_54 5 (dk_at dksX1_branches_11 7 rfl rfl)
theorem dX1_branches_270 : decode cX1_branches 270 = .ok (.aload_n 0, 1) := dk_42 (dk_at dksX1_branches_11 9 rfl rfl)
theorem dX1_branches_271 : decode cX1_branches 271 = .ok (.invokevirtual 331, 3) := dk_182 1 75 (dk_at dksX1_branches_11 10 rfl rfl)
theorem dX1_branches_274 : decode cX1_branches 274 = .ok (.aload_n 0, 1) := dk_42 (dk_at dksX1_branches_11 13 rfl rfl)
theorem dX1_branches_275 : decode cX1_branches 275 = .ok (.iconst 1, 1) := dk_4 (dk_at dksX1_branches_11 14 rfl rfl)
theorem dX1_branches_276 : decode cX1_branches 276 = .ok (.invokevirtual 195, 3) := dk_182 0 195 (dk_at dksX1_branches_11 15 rfl rfl)
theorem dX1_branches_279 : decode cX1_branches 279 = .ok (.iload_n 3, 1) := dk_29 (dk_at dksX1_branches_11 18 rfl rfl)
theorem dX1_branches_280 : decode cX1_branches 280 = .ok (.iconst 2, 1) := dk_5 (dk_at dksX1_branches_11 19 rfl rfl)
theorem dX1_branches_281 : decode cX1_branches 281 = .ok (.iand, 1) := dk_126 (dk_at dksX1_branches_11 20 rfl rfl)
theorem dX1_branches_282 : decode cX1_branches 282 = .ok (.iconst 2, 1) := dk_5 (dk_at dksX1_branches_11 21 rfl rfl)
theorem dX1_branches_283 : decode cX1_branches 283 = .ok (.if_icmp .ne 7, 3) := dk_160 0 7 (dk_at dksX1_branches_12 0 rfl rfl)
theorem dX1_branches_286 : decode cX1_branches 286 = .ok (.iconst 1, 1) := dk_4 (dk_at dksX1_branches_12 3 rfl rfl)
theorem dX1_branches_287 : decode cX1_branches 287 = .ok (.goto 4, 3) := dk_167 0 4 (dk_at dksX1_branches_12 4 rfl rfl)
theorem dX1_branches_290 : decode cX1_branches 290 = .ok (.iconst 0, 1) := dk_3 (dk_at dksX1_branches_12 7 rfl rfl)
theorem dX1_branches_291 : decode cX1_branches 291 = .ok (.istore 6, 2) := dk_54 6 (dk_at dksX1_branches_12 8 rfl rfl)
theorem dX1_branches_293 : decode cX1_branches 293 = .ok (.aload_n 0, 1) := dk_42 (dk_at dksX1_branches_12 10 rfl rfl)
theorem dX1_branches_294 : decode cX1_branches 294 = .ok (.iload_n 3, 1) := dk_29 (dk_at dksX1_branches_12 11 rfl rfl)
theorem dX1_branches_295 : decode cX1_branches 295 = .ok (.iconst 4, 1) := dk_7 (dk_at dksX1_branches_12 12 rfl rfl)
theorem dX1_branches_296 : decode cX1_branches 296 = .ok (.if_icmp .ge 8, 3) := dk_162 0 8 (dk_at dksX1_branches_12 13 rfl rfl)
theorem dX1_branches_299 : decode cX1_branches 299 = .ok (.bipush 42, 2) := dk_16 42 (dk_at dksX1_branches_12 16 rfl rfl)
theorem dX1_branches_301 : decode cX1_branches 301 = .ok (.goto 5, 3) := dk_167 0 5 (dk_at dksX1_branches_12 18 rfl rfl)
theorem dX1_branches_304 : decode cX1_branches 304 = .ok (.bipush 43, 2) := dk_16 43 (dk_at dksX1_branches_12 21 rfl rfl)
theorem dX1_branches_306 : decode cX1_branches 306 = .ok (.iload 6, 2) := dk_21 6 (dk_at dksX1_branches_13 0 rfl rfl)
theorem dX1_branches_308 : decode cX1_branches 308 = .ok (.ifCond .eq 8, 3) := dk_153 0 8 (dk_at dksX1_branches_13 2 rfl rfl)
theorem dX1_branches_311 : decode cX1_branches 311 = .ok (.iload 5, 2) := dk_21 5 (dk_at dksX1_branches_13 5 rfl rfl)
theorem dX1_branches_313 : decode cX1_branches 313 = .ok (.goto 5, 3) := dk_167 0 5 (dk_at dksX1_branches_13 7 rfl rfl)
theorem dX1_branches_316 : decode cX1_branches 316 = .ok (.iload 4, 2) := dk_21 4 (dk_at dksX1_branches_13 10 rfl rfl)
theorem dX1_branches_318 : decode cX1_branches 318 = .ok (.iload 6, 2) := dk_21 6 (dk_at dksX1_branches_13 12 rfl rfl)
theorem dX1_branches_320 : decode cX1_branches 320 = .ok (.ifCond .eq 8, 3) := dk_153 0 8 (dk_at dksX1_branches_13 14 rfl rfl)
theorem dX1_branches_323 : decode cX1_branches 323 = .ok (.iload 4, 2) := dk_21 4 (dk_at dksX1_branches_13 17 rfl rfl)
theorem dX1_branches_325 : decode cX1_branches 325 = .ok (.goto 5, 3) := dk_167 0 5 (dk_at dksX1_branches_13 19 rfl rfl)
theorem dX1_branches_328 : decode cX1_branches 328 = .ok (.iload 5, 2) := dk_21 5 (dk_at dksX1_branches_13 22 rfl rfl)
theorem dX1_branches_330 : decode cX1_branches 330 = .ok (.iconst 1, 1) := dk_4 (dk_at dksX1_branches_14 0 rfl rfl)
theorem dX1_branches_331 : decode cX1_branches 331 = .ok (.invokevirtual 334, 3) := dk_182 1 78 (dk_at dksX1_branches_14 1 rfl rfl)
theorem dX1_branches_334 : decode cX1_branches 334 = .ok (.aload_n 0, 1) := dk_42 (dk_at dksX1_branches_14 4 rfl rfl)
theorem dX1_branches_335 : decode cX1_branches 335 = .ok (.iload_n 3, 1) := dk_29 (dk_at dksX1_branches_14 5 rfl rfl)
theorem dX1_branches_336 : decode cX1_branches 336 = .ok (.iconst 3, 1) := dk_6 (dk_at dksX1_branches_14 6 rfl rfl)
theorem dX1_branches_337 : decode cX1_branches 337 = .ok (.iand, 1) := dk_126 (dk_at dksX1_branches_14 7 rfl rfl)
theorem dX1_branches_338 : decode cX1_branches 338 = .ok (.ifCond .eq 10, 3) := dk_153 0 10 (dk_at dksX1_branches_14 8 rfl rfl)
theorem dX1_branches_341 : decode cX1_branches 341 = .ok (.iload_n 3, 1) := dk_29 (dk_at dksX1_branches_14 11 rfl rfl)
theorem dX1_branches_342 : decode cX1_branches 342 = .ok (.iconst 3, 1) := dk_6 (dk_at dksX1_branches_14 12 rfl rfl)
theorem dX1_branches_343 : decode cX1_branches 343 = .ok (.iand, 1) := dk_126 (dk_at dksX1_branches_14 13 rfl rfl)
theorem dX1_branches_344 : decode cX1_branches 344 = .ok (.iconst 2, 1) := dk_5 (dk_at dksX1_branches_14 14 rfl rfl)
theorem dX1_branches_345 : decode cX1_branches 345 = .ok (.if_icmp .ne 7, 3) := dk_160 0 7 (dk_at dksX1_branches_14 15 rfl rfl)
theorem dX1_branches_348 : decode cX1_branches 348 = .ok (.iconst 5, 1) := dk_8 (dk_at dksX1_branches_14 18 rfl rfl)
theorem dX1_branches_349 : decode cX1_branches 349 = .ok (.goto 4, 3) := dk_167 0 4 (dk_at dksX1_branches_14 19 rfl rfl)
theorem dX1_branches_352 : decode cX1_branches 352 = .ok (.iconst 4, 1) := dk_7 (dk_at dksX1_branches_14 22 rfl rfl)
theorem dX1_branches_353 : decode cX1_branches 353 = .ok (.bipush 26, 2) := dk_16 26 (dk_at dksX1_branches_15 0 rfl rfl)
theorem dX1_branches_355 : decode cX1_branches 355 = .ok (.ishl, 1) := dk_120 (dk_at dksX1_branches_15 2 rfl rfl)
theorem dX1_branches_356 : decode cX1_branches 356 = .ok (.ldc_w 372, 3) := dk_19 1 116 (dk_at dksX1_branches_15 3 rfl rfl)
theorem dX1_branches_359 : decode cX1_branches 359 = .ok (.ior, 1) := dk_128 (dk_at dksX1_branches_15 6 rfl rfl)
theorem dX1_branches_360 : decode cX1_branches 360 = .ok (.invokevirtual 362, 3) := dk_182 1 106 (dk_at dksX1_branches_15 7 rfl rfl)
theorem dX1_branches_363 : decode cX1_branches 363 = .ok (.iconst 1, 1) := dk_4 (dk_at dksX1_branches_15 10 rfl rfl)
theorem dX1_branches_364 : decode cX1_branches 364 = .ok (.ireturn, 1) := dk_172 (dk_at dksX1_branches_15 11 rfl rfl)
abbrev cX1_target : ByteArray := prog_1_method_41_code
def yX1_target : MethodName := ⟨RX1, "target", "(I)V"⟩
def dkwX1_target_0 : List UInt8 := [42, 16, 10, 181, 0, 187, 42, 27, 182, 0, 245, 177]
abbrev dktX1_target_0 : List UInt8 := dkwX1_target_0 ++ []
theorem dksX1_target_0 : cX1_target.data.toList.drop 0 = dktX1_target_0 := by decide +kernel
theorem dX1_target_0 : decode cX1_target 0 = .ok (.aload_n 0, 1) := dk_42 (dk_at dksX1_target_0 0 rfl rfl)
theorem dX1_target_1 : decode cX1_target 1 = .ok (.bipush 10, 2) := dk_16 10 (dk_at dksX1_target_0 1 rfl rfl)
theorem dX1_target_3 : decode cX1_target 3 = .ok (.putfield 187, 3) := dk_181 0 187 (dk_at dksX1_target_0 3 rfl rfl)
theorem dX1_target_6 : decode cX1_target 6 = .ok (.aload_n 0, 1) := dk_42 (dk_at dksX1_target_0 6 rfl rfl)
theorem dX1_target_7 : decode cX1_target 7 = .ok (.iload_n 1, 1) := dk_27 (dk_at dksX1_target_0 7 rfl rfl)
theorem dX1_target_8 : decode cX1_target 8 = .ok (.invokevirtual 245, 3) := dk_182 0 245 (dk_at dksX1_target_0 8 rfl rfl)
theorem dX1_target_11 : decode cX1_target 11 = .ok (.return_, 1) := dk_177 (dk_at dksX1_target_0 11 rfl rfl)
abbrev cX1_condition : ByteArray := prog_1_method_51_code
def yX1_condition : MethodName := ⟨RX1, "condition", "()I"⟩
def dkwX1_condition_1 : List UInt8 := [172]
abbrev dktX1_condition_1 : List UInt8 := dkwX1_condition_1 ++ []
def dkwX1_condition_0 : List UInt8 := [42, 182, 0, 144, 154, 0, 5, 3, 172, 42, 9, 20, 1, 117, 182, 0, 190, 136, 60, 42, 182, 1, 75, 27]
abbrev dktX1_condition_0 : List UInt8 := dkwX1_condition_0 ++ dktX1_condition_1
theorem dksX1_condition_0 : cX1_condition.data.toList.drop 0 = dktX1_condition_0 := by decide +kernel
theorem dksX1_condition_1 : cX1_condition.data.toList.drop 24 = dktX1_condition_1 := dk_seg dksX1_condition_0 24 rfl rfl
theorem dX1_condition_0 : decode cX1_condition 0 = .ok (.aload_n 0, 1) := dk_42 (dk_at dksX1_condition_0 0 rfl rfl)
theorem dX1_condition_1 : decode cX1_condition 1 = .ok (.invokevirtual 144, 3) := dk_182 0 144 (dk_at dksX1_condition_0 1 rfl rfl)
theorem dX1_condition_4 : decode cX1_condition 4 = .ok (.ifCond .ne 5, 3) := dk_154 0 5 (dk_at dksX1_condition_0 4 rfl rfl)
theorem dX1_condition_7 : decode cX1_condition 7 = .ok (.iconst 0, 1) := dk_3 (dk_at dksX1_condition_0 7 rfl rfl)
theorem dX1_condition_8 : decode cX1_condition 8 = .ok (.ireturn, 1) := dk_172 (dk_at dksX1_condition_0 8 rfl rfl)
theorem dX1_condition_9 : decode cX1_condition 9 = .ok (.aload_n 0, 1) := dk_42 (dk_at dksX1_condition_0 9 rfl rfl)
theorem dX1_condition_10 : decode cX1_condition 10 = .ok (.lconst 0, 1) := dk_9 (dk_at dksX1_condition_0 10 rfl rfl)
theorem dX1_condition_11 : decode cX1_condition 11 = .ok (.ldc2_w 373, 3) := dk_20 1 117 (dk_at dksX1_condition_0 11 rfl rfl)
theorem dX1_condition_14 : decode cX1_condition 14 = .ok (.invokevirtual 190, 3) := dk_182 0 190 (dk_at dksX1_condition_0 14 rfl rfl)
theorem dX1_condition_17 : decode cX1_condition 17 = .ok (.l2i, 1) := dk_136 (dk_at dksX1_condition_0 17 rfl rfl)
theorem dX1_condition_18 : decode cX1_condition 18 = .ok (.istore_n 1, 1) := dk_60 (dk_at dksX1_condition_0 18 rfl rfl)
theorem dX1_condition_19 : decode cX1_condition 19 = .ok (.aload_n 0, 1) := dk_42 (dk_at dksX1_condition_0 19 rfl rfl)
theorem dX1_condition_20 : decode cX1_condition 20 = .ok (.invokevirtual 331, 3) := dk_182 1 75 (dk_at dksX1_condition_0 20 rfl rfl)
theorem dX1_condition_23 : decode cX1_condition 23 = .ok (.iload_n 1, 1) := dk_27 (dk_at dksX1_condition_0 23 rfl rfl)
theorem dX1_condition_24 : decode cX1_condition 24 = .ok (.ireturn, 1) := dk_172 (dk_at dksX1_condition_1 0 rfl rfl)
abbrev cX1_others : ByteArray := prog_1_method_52_code
def yX1_others : MethodName := ⟨RX1, "others", "(II)Z"⟩
def dkwX1_others_8 : List UInt8 := [27, 28, 182, 0, 117, 62, 29, 156, 0, 5, 3, 172, 42, 29, 182, 1, 128, 4, 172]
abbrev dktX1_others_8 : List UInt8 := dkwX1_others_8 ++ []
def dkwX1_others_7 : List UInt8 := [136, 167, 0, 4, 3, 54, 5, 42, 21, 5, 16, 6, 120, 29, 128, 182, 0, 245, 4, 172, 42, 19, 1, 56]
abbrev dktX1_others_7 : List UInt8 := dkwX1_others_7 ++ dktX1_others_8
def dkwX1_others_6 : List UInt8 := [159, 0, 9, 29, 16, 13, 160, 0, 22, 42, 182, 0, 76, 154, 0, 15, 42, 9, 20, 1, 126, 182, 0, 190]
abbrev dktX1_others_6 : List UInt8 := dkwX1_others_6 ++ dktX1_others_7
def dkwX1_others_5 : List UInt8 := [120, 128, 182, 0, 245, 4, 172, 42, 19, 1, 54, 27, 28, 182, 0, 117, 62, 29, 155, 0, 50, 29, 16, 12]
abbrev dktX1_others_5 : List UInt8 := dkwX1_others_5 ++ dktX1_others_6
def dkwX1_others_4 : List UInt8 := [182, 1, 75, 42, 19, 1, 125, 29, 16, 21, 120, 128, 21, 5, 16, 16, 120, 128, 42, 182, 1, 119, 16, 11]
abbrev dktX1_others_4 : List UInt8 := dkwX1_others_4 ++ dktX1_others_5
def dkwX1_others_3 : List UInt8 := [172, 42, 19, 1, 52, 27, 28, 182, 0, 117, 62, 29, 155, 0, 41, 42, 182, 1, 72, 54, 5, 42]
abbrev dktX1_others_3 : List UInt8 := dkwX1_others_3 ++ dktX1_others_4
def dkwX1_others_2 : List UInt8 := [182, 1, 72, 167, 0, 7, 42, 182, 1, 119, 54, 5, 42, 182, 1, 75, 42, 29, 21, 5, 182, 1, 122, 4]
abbrev dktX1_others_2 : List UInt8 := dkwX1_others_2 ++ dktX1_others_3
def dkwX1_others_1 : List UInt8 := [154, 0, 13, 42, 19, 1, 40, 27, 28, 182, 0, 117, 62, 29, 155, 0, 34, 21, 4, 153, 0, 10, 42]
abbrev dktX1_others_1 : List UInt8 := dkwX1_others_1 ++ dktX1_others_2
def dkwX1_others_0 : List UInt8 := [42, 19, 1, 38, 27, 28, 182, 0, 117, 62, 29, 155, 0, 7, 4, 167, 0, 4, 3, 54, 4, 21, 4]
abbrev dktX1_others_0 : List UInt8 := dkwX1_others_0 ++ dktX1_others_1
theorem dksX1_others_0 : cX1_others.data.toList.drop 0 = dktX1_others_0 := by decide +kernel
theorem dksX1_others_1 : cX1_others.data.toList.drop 23 = dktX1_others_1 := dk_seg dksX1_others_0 23 rfl rfl
theorem dksX1_others_2 : cX1_others.data.toList.drop 46 = dktX1_others_2 := dk_seg dksX1_others_1 23 rfl rfl
theorem dksX1_others_3 : cX1_others.data.toList.drop 70 = dktX1_others_3 := dk_seg dksX1_others_2 24 rfl rfl
theorem dksX1_others_4 : cX1_others.data.toList.drop 92 = dktX1_others_4 := dk_seg dksX1_others_3 22 rfl rfl
theorem dksX1_others_5 : cX1_others.data.toList.drop 116 = dktX1_others_5 := dk_seg dksX1_others_4 24 rfl rfl
theorem dksX1_others_6 : cX1_others.data.toList.drop 140 = dktX1_others_6 := dk_seg dksX1_others_5 24 rfl rfl
theorem dksX1_others_7 : cX1_others.data.toList.drop 164 = dktX1_others_7 := dk_seg dksX1_others_6 24 rfl rfl
theorem dksX1_others_8 : cX1_others.data.toList.drop 188 = dktX1_others_8 := dk_seg dksX1_others_7 24 rfl rfl
theorem dX1_others_0 : decode cX1_others 0 = .ok (.aload_n 0, 1) := dk_42 (dk_at dksX1_others_0 0 rfl rfl)
theorem dX1_others_1 : decode cX1_others 1 = .ok (.ldc_w 294, 3) := dk_19 1 38 (dk_at dksX1_others_0 1 rfl rfl)
theorem dX1_others_4 : decode cX1_others 4 = .ok (.iload_n 1, 1) := dk_27 (dk_at dksX1_others_0 4 rfl rfl)
theorem dX1_others_5 : decode cX1_others 5 = .ok (.iload_n 2, 1) := dk_28 (dk_at dksX1_others_0 5 rfl rfl)
theorem dX1_others_6 : decode cX1_others 6 = .ok (.invokevirtual 117, 3) := dk_182 0 117 (dk_at dksX1_others_0 6 rfl rfl)
theorem dX1_others_9 : decode cX1_others 9 = .ok (.istore_n 3, 1) := dk_62 (dk_at dksX1_others_0 9 rfl rfl)
theorem dX1_others_10 : decode cX1_others 10 = .ok (.iload_n 3, 1) := dk_29 (dk_at dksX1_others_0 10 rfl rfl)
theorem dX1_others_11 : decode cX1_others 11 = .ok (.ifCond .lt 7, 3) := dk_155 0 7 (dk_at dksX1_others_0 11 rfl rfl)
theorem dX1_others_14 : decode cX1_others 14 = .ok (.iconst 1, 1) := dk_4 (dk_at dksX1_others_0 14 rfl rfl)
theorem dX1_others_15 : decode cX1_others 15 = .ok (.goto 4, 3) := dk_167 0 4 (dk_at dksX1_others_0 15 rfl rfl)
theorem dX1_others_18 : decode cX1_others 18 = .ok (.iconst 0, 1) := dk_3 (dk_at dksX1_others_0 18 rfl rfl)
theorem dX1_others_19 : decode cX1_others 19 = .ok (.istore 4, 2) := dk_54 4 (dk_at dksX1_others_0 19 rfl rfl)
theorem dX1_others_21 : decode cX1_others 21 = .ok (.iload 4, 2) := dk_21 4 (dk_at dksX1_others_0 21 rfl rfl)
theorem dX1_others_23 : decode cX1_others 23 = .ok (.ifCond .ne 13, 3) := dk_154 0 13 (dk_at dksX1_others_1 0 rfl rfl)
theorem dX1_others_26 : decode cX1_others 26 = .ok (.aload_n 0, 1) := dk_42 (dk_at dksX1_others_1 3 rfl rfl)
theorem dX1_others_27 : decode cX1_others 27 = .ok (.ldc_w 296, 3) := dk_19 1 40 (dk_at dksX1_others_1 4 rfl rfl)
theorem dX1_others_30 : decode cX1_others 30 = .ok (.iload_n 1, 1) := dk_27 (dk_at dksX1_others_1 7 rfl rfl)
theorem dX1_others_31 : decode cX1_others 31 = .ok (.iload_n 2, 1) := dk_28 (dk_at dksX1_others_1 8 rfl rfl)
theorem dX1_others_32 : decode cX1_others 32 = .ok (.invokevirtual 117, 3) := dk_182 0 117 (dk_at dksX1_others_1 9 rfl rfl)
theorem dX1_others_35 : decode cX1_others 35 = .ok (.istore_n 3, 1) := dk_62 (dk_at dksX1_others_1 12 rfl rfl)
theorem dX1_others_36 : decode cX1_others 36 = .ok (.iload_n 3, 1) := dk_29 (dk_at dksX1_others_1 13 rfl rfl)
theorem dX1_others_37 : decode cX1_others 37 = .ok (.ifCond .lt 34, 3) := dk_155 0 34 (dk_at dksX1_others_1 14 rfl rfl)
theorem dX1_others_40 : decode cX1_others 40 = .ok (.iload 4, 2) := dk_21 4 (dk_at dksX1_others_1 17 rfl rfl)
theorem dX1_others_42 : decode cX1_others 42 = .ok (.ifCond .eq 10, 3) := dk_153 0 10 (dk_at dksX1_others_1 19 rfl rfl)
theorem dX1_others_45 : decode cX1_others 45 = .ok (.aload_n 0, 1) := dk_42 (dk_at dksX1_others_1 22 rfl rfl)
theorem dX1_others_46 : decode cX1_others 46 = .ok (.invokevirtual 328, 3) := dk_182 1 72 (dk_at dksX1_others_2 0 rfl rfl)
theorem dX1_others_49 : decode cX1_others 49 = .ok (.goto 7, 3) := dk_167 0 7 (dk_at dksX1_others_2 3 rfl rfl)
theorem dX1_others_52 : decode cX1_others 52 = .ok (.aload_n 0, 1) := dk_42 (dk_at dksX1_others_2 6 rfl rfl)
theorem dX1_others_53 : decode cX1_others 53 = .ok (.invokevirtual 375, 3) := dk_182 1 119 (dk_at dksX1_others_2 7 rfl rfl)
theorem dX1_others_56 : decode cX1_others 56 = .ok (.istore 5, 2) := dk_54 5 (dk_at dksX1_others_2 10 rfl rfl)
theorem dX1_others_58 : decode cX1_others 58 = .ok (.aload_n 0, 1) := dk_42 (dk_at dksX1_others_2 12 rfl rfl)
theorem dX1_others_59 : decode cX1_others 59 = .ok (.invokevirtual 331, 3) := dk_182 1 75 (dk_at dksX1_others_2 13 rfl rfl)
theorem dX1_others_62 : decode cX1_others 62 = .ok (.aload_n 0, 1) := dk_42 (dk_at dksX1_others_2 16 rfl rfl)
theorem dX1_others_63 : decode cX1_others 63 = .ok (.iload_n 3, 1) := dk_29 (dk_at dksX1_others_2 17 rfl rfl)
theorem dX1_others_64 : decode cX1_others 64 = .ok (.iload 5, 2) := dk_21 5 (dk_at dksX1_others_2 18 rfl rfl)
theorem dX1_others_66 : decode cX1_others 66 = .ok (.invokevirtual 378, 3) := dk_182 1 122 (dk_at dksX1_others_2 20 rfl rfl)
theorem dX1_others_69 : decode cX1_others 69 = .ok (.iconst 1, 1) := dk_4 (dk_at dksX1_others_2 23 rfl rfl)
theorem dX1_others_70 : decode cX1_others 70 = .ok (.ireturn, 1) := dk_172 (dk_at dksX1_others_3 0 rfl rfl)
theorem dX1_others_71 : decode cX1_others 71 = .ok (.aload_n 0, 1) := dk_42 (dk_at dksX1_others_3 1 rfl rfl)
theorem dX1_others_72 : decode cX1_others 72 = .ok (.ldc_w 308, 3) := dk_19 1 52 (dk_at dksX1_others_3 2 rfl rfl)
theorem dX1_others_75 : decode cX1_others 75 = .ok (.iload_n 1, 1) := dk_27 (dk_at dksX1_others_3 5 rfl rfl)
theorem dX1_others_76 : decode cX1_others 76 = .ok (.iload_n 2, 1) := dk_28 (dk_at dksX1_others_3 6 rfl rfl)
theorem dX1_others_77 : decode cX1_others 77 = .ok (.invokevirtual 117, 3) := dk_182 0 117 (dk_at dksX1_others_3 7 rfl rfl)
theorem dX1_others_80 : decode cX1_others 80 = .ok (.istore_n 3, 1) := dk_62 (dk_at dksX1_others_3 10 rfl rfl)
theorem dX1_others_81 : decode cX1_others 81 = .ok (.iload_n 3, 1) := dk_29 (dk_at dksX1_others_3 11 rfl rfl)
theorem dX1_others_82 : decode cX1_others 82 = .ok (.ifCond .lt 41, 3) := dk_155 0 41 (dk_at dksX1_others_3 12 rfl rfl)
theorem dX1_others_85 : decode cX1_others 85 = .ok (.aload_n 0, 1) := dk_42 (dk_at dksX1_others_3 15 rfl rfl)
theorem dX1_others_86 : decode cX1_others 86 = .ok (.invokevirtual 328, 3) := dk_182 1 72 (dk_at dksX1_others_3 16 rfl rfl)
theorem dX1_others_89 : decode cX1_others 89 = .ok (.istore 5, 2) := dk_54 5 (dk_at dksX1_others_3 19 rfl rfl)
theorem dX1_others_91 : decode cX1_others 91 = .ok (.aload_n 0, 1) := dk_42 (dk_at dksX1_others_3 21 rfl rfl)
theorem dX1_others_92 : decode cX1_others 92 = .ok (.invokevirtual 331, 3) := dk_182 1 75 (dk_at dksX1_others_4 0 rfl rfl)
theorem dX1_others_95 : decode cX1_others 95 = .ok (.aload_n 0, 1) := dk_42 (dk_at dksX1_others_4 3 rfl rfl)
theorem dX1_others_96 : decode cX1_others 96 = .ok (.ldc_w 381, 3) := dk_19 1 125 (dk_at dksX1_others_4 4 rfl rfl)
theorem dX1_others_99 : decode cX1_others 99 = .ok (.iload_n 3, 1) := dk_29 (dk_at dksX1_others_4 7 rfl rfl)
theorem dX1_others_100 : decode cX1_others 100 = .ok (.bipush 21, 2) := dk_16 21 (dk_at dksX1_others_4 8 rfl rfl)
theorem dX1_others_102 : decode cX1_others 102 = .ok (.ishl, 1) := dk_120 (dk_at dksX1_others_4 10 rfl rfl)
theorem dX1_others_103 : decode cX1_others 103 = .ok (.ior, 1) := dk_128 (dk_at dksX1_others_4 11 rfl rfl)
theorem dX1_others_104 : decode cX1_others 104 = .ok (.iload 5, 2) := dk_21 5 (dk_at dksX1_others_4 12 rfl rfl)
theorem dX1_others_106 : decode cX1_others 106 = .ok (.bipush 16, 2) := dk_16 16 (dk_at dksX1_others_4 14 rfl rfl)
theorem dX1_others_108 : decode cX1_others 108 = .ok (.ishl, 1) := dk_120 (dk_at dksX1_others_4 16 rfl rfl)
theorem dX1_others_109 : decode cX1_others 109 = .ok (.ior, 1) := dk_128 (dk_at dksX1_others_4 17 rfl rfl)
theorem dX1_others_110 : decode cX1_others 110 = .ok (.aload_n 0, 1) := dk_42 (dk_at dksX1_others_4 18 rfl rfl)
theorem dX1_others_111 : decode cX1_others 111 = .ok (.invokevirtual 375, 3) := dk_182 1 119 (dk_at dksX1_others_4 19 rfl rfl)
theorem dX1_others_114 : decode cX1_others 114 = .ok (.bipush 11, 2) := dk_16 11 (dk_at dksX1_others_4 22 rfl rfl)
theorem dX1_others_116 : decode cX1_others 116 = .ok (.ishl, 1) := dk_120 (dk_at dksX1_others_5 0 rfl rfl)
theorem dX1_others_117 : decode cX1_others 117 = .ok (.ior, 1) := dk_128 (dk_at dksX1_others_5 1 rfl rfl)
theorem dX1_others_118 : decode cX1_others 118 = .ok (.invokevirtual 245, 3) := dk_182 0 245 (dk_at dksX1_others_5 2 rfl rfl)
theorem dX1_others_121 : decode cX1_others 121 = .ok (.iconst 1, 1) := dk_4 (dk_at dksX1_others_5 5 rfl rfl)
theorem dX1_others_122 : decode cX1_others 122 = .ok (.ireturn, 1) := dk_172 (dk_at dksX1_others_5 6 rfl rfl)
theorem dX1_others_123 : decode cX1_others 123 = .ok (.aload_n 0, 1) := dk_42 (dk_at dksX1_others_5 7 rfl rfl)
theorem dX1_others_124 : decode cX1_others 124 = .ok (.ldc_w 310, 3) := dk_19 1 54 (dk_at dksX1_others_5 8 rfl rfl)
theorem dX1_others_127 : decode cX1_others 127 = .ok (.iload_n 1, 1) := dk_27 (dk_at dksX1_others_5 11 rfl rfl)
theorem dX1_others_128 : decode cX1_others 128 = .ok (.iload_n 2, 1) := dk_28 (dk_at dksX1_others_5 12 rfl rfl)
theorem dX1_others_129 : decode cX1_others 129 = .ok (.invokevirtual 117, 3) := dk_182 0 117 (dk_at dksX1_others_5 13 rfl rfl)
theorem dX1_others_132 : decode cX1_others 132 = .ok (.istore_n 3, 1) := dk_62 (dk_at dksX1_others_5 16 rfl rfl)
theorem dX1_others_133 : decode cX1_others 133 = .ok (.iload_n 3, 1) := dk_29 (dk_at dksX1_others_5 17 rfl rfl)
theorem dX1_others_134 : decode cX1_others 134 = .ok (.ifCond .lt 50, 3) := dk_155 0 50 (dk_at dksX1_others_5 18 rfl rfl)
theorem dX1_others_137 : decode cX1_others 137 = .ok (.iload_n 3, 1) := dk_29 (dk_at dksX1_others_5 21 rfl rfl)
theorem dX1_others_138 : decode cX1_others 138 = .ok (.bipush 12, 2) := dk_16 12 (dk_at dksX1_others_5 22 rfl rfl)
theorem dX1_others_140 : decode cX1_others 140 = .ok (.if_icmp .eq 9, 3) := dk_159 0 9 (dk_at dksX1_others_6 0 rfl rfl)
theorem dX1_others_143 : decode cX1_others 143 = .ok (.iload_n 3, 1) := dk_29 (dk_at dksX1_others_6 3 rfl rfl)
theorem dX1_others_144 : decode cX1_others 144 = .ok (.bipush 13, 2) := dk_16 13 (dk_at dksX1_others_6 4 rfl rfl)
theorem dX1_others_146 : decode cX1_others 146 = .ok (.if_icmp .ne 22, 3) := dk_160 0 22 (dk_at dksX1_others_6 6 rfl rfl)
theorem dX1_others_149 : decode cX1_others 149 = .ok (.aload_n 0, 1) := dk_42 (dk_at dksX1_others_6 9 rfl rfl)
theorem dX1_others_150 : decode cX1_others 150 = .ok (.invokevirtual 76, 3) := dk_182 0 76 (dk_at dksX1_others_6 10 rfl rfl)
theorem dX1_others_153 : decode cX1_others 153 = .ok (.ifCond .ne 15, 3) := dk_154 0 15 (dk_at dksX1_others_6 13 rfl rfl)
theorem dX1_others_156 : decode cX1_others 156 = .ok (.aload_n 0, 1) := dk_42 (dk_at dksX1_others_6 16 rfl rfl)
theorem dX1_others_157 : decode cX1_others 157 = .ok (.lconst 0, 1) := dk_9 (dk_at dksX1_others_6 17 rfl rfl)
theorem dX1_others_158 : decode cX1_others 158 = .ok (.ldc2_w 382, 3) := dk_20 1 126 (dk_at dksX1_others_6 18 rfl rfl)
theorem dX1_others_161 : decode cX1_others 161 = .ok (.invokevirtual 190, 3) := dk_182 0 190 (dk_at dksX1_others_6 21 rfl rfl)
theorem dX1_others_164 : decode cX1_others 164 = .ok (.l2i, 1) := dk_136 (dk_at dksX1_others_7 0 rfl rfl)
theorem dX1_others_165 : decode cX1_others 165 = .ok (.goto 4, 3) := dk_167 0 4 (dk_at dksX1_others_7 1 rfl rfl)
theorem dX1_others_168 : decode cX1_others 168 = .ok (.iconst 0, 1) := dk_3 (dk_at dksX1_others_7 4 rfl rfl)
theorem dX1_others_169 : decode cX1_others 169 = .ok (.istore 5, 2) := dk_54 5 (dk_at dksX1_others_7 5 rfl rfl)
theorem dX1_others_171 : decode cX1_others 171 = .ok (.aload_n 0, 1) := dk_42 (dk_at dksX1_others_7 7 rfl rfl)
theorem dX1_others_172 : decode cX1_others 172 = .ok (.iload 5, 2) := dk_21 5 (dk_at dksX1_others_7 8 rfl rfl)
theorem dX1_others_174 : decode cX1_others 174 = .ok (.bipush 6, 2) := dk_16 6 (dk_at dksX1_others_7 10 rfl rfl)
theorem dX1_others_176 : decode cX1_others 176 = .ok (.ishl, 1) := dk_120 (dk_at dksX1_others_7 12 rfl rfl)
theorem dX1_others_177 : decode cX1_others 177 = .ok (.iload_n 3, 1) := dk_29 (dk_at dksX1_others_7 13 rfl rfl)
theorem dX1_others_178 : decode cX1_others 178 = .ok (.ior, 1) := dk_128 (dk_at dksX1_others_7 14 rfl rfl)
theorem dX1_others_179 : decode cX1_others 179 = .ok (.invokevirtual 245, 3) := dk_182 0 245 (dk_at dksX1_others_7 15 rfl rfl)
theorem dX1_others_182 : decode cX1_others 182 = .ok (.iconst 1, 1) := dk_4 (dk_at dksX1_others_7 18 rfl rfl)
theorem dX1_others_183 : decode cX1_others 183 = .ok (.ireturn, 1) := dk_172 (dk_at dksX1_others_7 19 rfl rfl)
theorem dX1_others_184 : decode cX1_others 184 = .ok (.aload_n 0, 1) := dk_42 (dk_at dksX1_others_7 20 rfl rfl)
theorem dX1_others_185 : decode cX1_others 185 = .ok (.ldc_w 312, 3) := dk_19 1 56 (dk_at dksX1_others_7 21 rfl rfl)
theorem dX1_others_188 : decode cX1_others 188 = .ok (.iload_n 1, 1) := dk_27 (dk_at dksX1_others_8 0 rfl rfl)
theorem dX1_others_189 : decode cX1_others 189 = .ok (.iload_n 2, 1) := dk_28 (dk_at dksX1_others_8 1 rfl rfl)
theorem dX1_others_190 : decode cX1_others 190 = .ok (.invokevirtual 117, 3) := dk_182 0 117 (dk_at dksX1_others_8 2 rfl rfl)
theorem dX1_others_193 : decode cX1_others 193 = .ok (.istore_n 3, 1) := dk_62 (dk_at dksX1_others_8 5 rfl rfl)
theorem dX1_others_194 : decode cX1_others 194 = .ok (.iload_n 3, 1) := dk_29 (dk_at dksX1_others_8 6 rfl rfl)
theorem dX1_others_195 : decode cX1_others 195 = .ok (.ifCond .ge 5, 3) := dk_156 0 5 (dk_at dksX1_others_8 7 rfl rfl)
theorem dX1_others_198 : decode cX1_others 198 = .ok (.iconst 0, 1) := dk_3 (dk_at dksX1_others_8 10 rfl rfl)
theorem dX1_others_199 : decode cX1_others 199 = .ok (.ireturn, 1) := dk_172 (dk_at dksX1_others_8 11 rfl rfl)
theorem dX1_others_200 : decode cX1_others 200 = .ok (.aload_n 0, 1) := dk_42 (dk_at dksX1_others_8 12 rfl rfl)
theorem dX1_others_201 : decode cX1_others 201 = .ok (.iload_n 3, 1) := dk_29 (dk_at dksX1_others_8 13 rfl rfl)
theorem dX1_others_202 : decode cX1_others 202 = .ok (.invokevirtual 384, 3) := dk_182 1 128 (dk_at dksX1_others_8 14 rfl rfl)
theorem dX1_others_205 : decode cX1_others 205 = .ok (.iconst 1, 1) := dk_4 (dk_at dksX1_others_8 17 rfl rfl)
theorem dX1_others_206 : decode cX1_others 206 = .ok (.ireturn, 1) := dk_172 (dk_at dksX1_others_8 18 rfl rfl)
abbrev cX1_fraction : ByteArray := prog_1_method_26_code
def yX1_fraction : MethodName := ⟨RX1, "fraction", "()I"⟩
def dkwX1_fraction_3 : List UInt8 := [181, 0, 48, 42, 182, 0, 59, 27, 16, 32, 100, 172]
abbrev dktX1_fraction_3 : List UInt8 := dkwX1_fraction_3 ++ []
def dkwX1_fraction_2 : List UInt8 := [161, 0, 7, 4, 167, 0, 4, 3, 6, 182, 0, 69, 42, 89, 180, 0, 48, 42, 180, 0, 103, 96]
abbrev dktX1_fraction_2 : List UInt8 := dkwX1_fraction_2 ++ dktX1_fraction_3
def dkwX1_fraction_1 : List UInt8 := [182, 0, 93, 60, 42, 27, 155, 0, 7, 4, 167, 0, 4, 3, 4, 182, 0, 69, 42, 27, 16, 32]
abbrev dktX1_fraction_1 : List UInt8 := dkwX1_fraction_1 ++ dktX1_fraction_2
def dkwX1_fraction_0 : List UInt8 := [42, 42, 3, 182, 0, 51, 16, 36, 160, 0, 7, 4, 167, 0, 4, 3, 42, 182, 0, 65, 182, 0, 69, 42]
abbrev dktX1_fraction_0 : List UInt8 := dkwX1_fraction_0 ++ dktX1_fraction_1
theorem dksX1_fraction_0 : cX1_fraction.data.toList.drop 0 = dktX1_fraction_0 := by decide +kernel
theorem dksX1_fraction_1 : cX1_fraction.data.toList.drop 24 = dktX1_fraction_1 := dk_seg dksX1_fraction_0 24 rfl rfl
theorem dksX1_fraction_2 : cX1_fraction.data.toList.drop 46 = dktX1_fraction_2 := dk_seg dksX1_fraction_1 22 rfl rfl
theorem dksX1_fraction_3 : cX1_fraction.data.toList.drop 68 = dktX1_fraction_3 := dk_seg dksX1_fraction_2 22 rfl rfl
theorem dX1_fraction_0 : decode cX1_fraction 0 = .ok (.aload_n 0, 1) := dk_42 (dk_at dksX1_fraction_0 0 rfl rfl)
theorem dX1_fraction_1 : decode cX1_fraction 1 = .ok (.aload_n 0, 1) := dk_42 (dk_at dksX1_fraction_0 1 rfl rfl)
theorem dX1_fraction_2 : decode cX1_fraction 2 = .ok (.iconst 0, 1) := dk_3 (dk_at dksX1_fraction_0 2 rfl rfl)
theorem dX1_fraction_3 : decode cX1_fraction 3 = .ok (.invokevirtual 51, 3) := dk_182 0 51 (dk_at dksX1_fraction_0 3 rfl rfl)
theorem dX1_fraction_6 : decode cX1_fraction 6 = .ok (.bipush 36, 2) := dk_16 36 (dk_at dksX1_fraction_0 6 rfl rfl)
theorem dX1_fraction_8 : decode cX1_fraction 8 = .ok (.if_icmp .ne 7, 3) := dk_160 0 7 (dk_at dksX1_fraction_0 8 rfl rfl)
theorem dX1_fraction_11 : decode cX1_fraction 11 = .ok (.iconst 1, 1) := dk_4 (dk_at dksX1_fraction_0 11 rfl rfl)
theorem dX1_fraction_12 : decode cX1_fraction 12 = .ok (.goto 4, 3) := dk_167 0 4 (dk_at dksX1_fraction_0 12 rfl rfl)
theorem dX1_fraction_15 : decode cX1_fraction 15 = .ok (.iconst 0, 1) := dk_3 (dk_at dksX1_fraction_0 15 rfl rfl)
theorem dX1_fraction_16 : decode cX1_fraction 16 = .ok (.aload_n 0, 1) := dk_42 (dk_at dksX1_fraction_0 16 rfl rfl)
theorem dX1_fraction_17 : decode cX1_fraction 17 = .ok (.invokevirtual 65, 3) := dk_182 0 65 (dk_at dksX1_fraction_0 17 rfl rfl)
theorem dX1_fraction_20 : decode cX1_fraction 20 = .ok (.invokevirtual 69, 3) := dk_182 0 69 (dk_at dksX1_fraction_0 20 rfl rfl)
theorem dX1_fraction_23 : decode cX1_fraction 23 = .ok (.aload_n 0, 1) := dk_42 (dk_at dksX1_fraction_0 23 rfl rfl)
theorem dX1_fraction_24 : decode cX1_fraction 24 = .ok (.invokevirtual 93, 3) := dk_182 0 93 (dk_at dksX1_fraction_1 0 rfl rfl)
theorem dX1_fraction_27 : decode cX1_fraction 27 = .ok (.istore_n 1, 1) := dk_60 (dk_at dksX1_fraction_1 3 rfl rfl)
theorem dX1_fraction_28 : decode cX1_fraction 28 = .ok (.aload_n 0, 1) := dk_42 (dk_at dksX1_fraction_1 4 rfl rfl)
theorem dX1_fraction_29 : decode cX1_fraction 29 = .ok (.iload_n 1, 1) := dk_27 (dk_at dksX1_fraction_1 5 rfl rfl)
theorem dX1_fraction_30 : decode cX1_fraction 30 = .ok (.ifCond .lt 7, 3) := dk_155 0 7 (dk_at dksX1_fraction_1 6 rfl rfl)
theorem dX1_fraction_33 : decode cX1_fraction 33 = .ok (.iconst 1, 1) := dk_4 (dk_at dksX1_fraction_1 9 rfl rfl)
theorem dX1_fraction_34 : decode cX1_fraction 34 = .ok (.goto 4, 3) := dk_167 0 4 (dk_at dksX1_fraction_1 10 rfl rfl)
theorem dX1_fraction_37 : decode cX1_fraction 37 = .ok (.iconst 0, 1) := dk_3 (dk_at dksX1_fraction_1 13 rfl rfl)
theorem dX1_fraction_38 : decode cX1_fraction 38 = .ok (.iconst 1, 1) := dk_4 (dk_at dksX1_fraction_1 14 rfl rfl)
theorem dX1_fraction_39 : decode cX1_fraction 39 = .ok (.invokevirtual 69, 3) := dk_182 0 69 (dk_at dksX1_fraction_1 15 rfl rfl)
theorem dX1_fraction_42 : decode cX1_fraction 42 = .ok (.aload_n 0, 1) := dk_42 (dk_at dksX1_fraction_1 18 rfl rfl)
theorem dX1_fraction_43 : decode cX1_fraction 43 = .ok (.iload_n 1, 1) := dk_27 (dk_at dksX1_fraction_1 19 rfl rfl)
theorem dX1_fraction_44 : decode cX1_fraction 44 = .ok (.bipush 32, 2) := dk_16 32 (dk_at dksX1_fraction_1 20 rfl rfl)
theorem dX1_fraction_46 : decode cX1_fraction 46 = .ok (.if_icmp .lt 7, 3) := dk_161 0 7 (dk_at dksX1_fraction_2 0 rfl rfl)
theorem dX1_fraction_49 : decode cX1_fraction 49 = .ok (.iconst 1, 1) := dk_4 (dk_at dksX1_fraction_2 3 rfl rfl)
theorem dX1_fraction_50 : decode cX1_fraction 50 = .ok (.goto 4, 3) := dk_167 0 4 (dk_at dksX1_fraction_2 4 rfl rfl)
theorem dX1_fraction_53 : decode cX1_fraction 53 = .ok (.iconst 0, 1) := dk_3 (dk_at dksX1_fraction_2 7 rfl rfl)
theorem dX1_fraction_54 : decode cX1_fraction 54 = .ok (.iconst 3, 1) := dk_6 (dk_at dksX1_fraction_2 8 rfl rfl)
theorem dX1_fraction_55 : decode cX1_fraction 55 = .ok (.invokevirtual 69, 3) := dk_182 0 69 (dk_at dksX1_fraction_2 9 rfl rfl)
theorem dX1_fraction_58 : decode cX1_fraction 58 = .ok (.aload_n 0, 1) := dk_42 (dk_at dksX1_fraction_2 12 rfl rfl)
theorem dX1_fraction_59 : decode cX1_fraction 59 = .ok (.dup, 1) := dk_89 (dk_at dksX1_fraction_2 13 rfl rfl)
theorem dX1_fraction_60 : decode cX1_fraction 60 = .ok (.getfield 48, 3) := dk_180 0 48 (dk_at dksX1_fraction_2 14 rfl rfl)
theorem dX1_fraction_63 : decode cX1_fraction 63 = .ok (.aload_n 0, 1) := dk_42 (dk_at dksX1_fraction_2 17 rfl rfl)
theorem dX1_fraction_64 : decode cX1_fraction 64 = .ok (.getfield 103, 3) := dk_180 0 103 (dk_at dksX1_fraction_2 18 rfl rfl)
theorem dX1_fraction_67 : decode cX1_fraction 67 = .ok (.iadd, 1) := dk_96 (dk_at dksX1_fraction_2 21 rfl rfl)
theorem dX1_fraction_68 : decode cX1_fraction 68 = .ok (.putfield 48, 3) := dk_181 0 48 (dk_at dksX1_fraction_3 0 rfl rfl)
theorem dX1_fraction_71 : decode cX1_fraction 71 = .ok (.aload_n 0, 1) := dk_42 (dk_at dksX1_fraction_3 3 rfl rfl)
theorem dX1_fraction_72 : decode cX1_fraction 72 = .ok (.invokevirtual 59, 3) := dk_182 0 59 (dk_at dksX1_fraction_3 4 rfl rfl)
theorem dX1_fraction_75 : decode cX1_fraction 75 = .ok (.iload_n 1, 1) := dk_27 (dk_at dksX1_fraction_3 7 rfl rfl)
theorem dX1_fraction_76 : decode cX1_fraction 76 = .ok (.bipush 32, 2) := dk_16 32 (dk_at dksX1_fraction_3 8 rfl rfl)
theorem dX1_fraction_78 : decode cX1_fraction 78 = .ok (.isub, 1) := dk_100 (dk_at dksX1_fraction_3 10 rfl rfl)
theorem dX1_fraction_79 : decode cX1_fraction 79 = .ok (.ireturn, 1) := dk_172 (dk_at dksX1_fraction_3 11 rfl rfl)
abbrev cX1_memory : ByteArray := prog_1_method_53_code
def yX1_memory : MethodName := ⟨RX1, "memory", "(II)V"⟩
def dkwX1_memory_5 : List UInt8 := [21, 5, 28, 29, 182, 1, 103, 177]
abbrev dktX1_memory_5 : List UInt8 := dkwX1_memory_5 ++ []
def dkwX1_memory_4 : List UInt8 := [182, 0, 135, 42, 182, 1, 72, 54, 5, 42, 16, 41, 182, 0, 135, 42, 21, 4, 181, 0, 187, 42, 27]
abbrev dktX1_memory_4 : List UInt8 := dkwX1_memory_4 ++ dktX1_memory_5
def dkwX1_memory_3 : List UInt8 := [159, 0, 15, 42, 20, 1, 93, 20, 1, 95, 3, 182, 1, 97, 62, 42, 180, 0, 187, 54, 4, 42, 16, 40]
abbrev dktX1_memory_3 : List UInt8 := dkwX1_memory_3 ++ dktX1_memory_4
def dkwX1_memory_2 : List UInt8 := [27, 4, 28, 3, 182, 1, 103, 177, 3, 62, 42, 3, 181, 0, 187, 42, 3, 182, 0, 51, 16, 40]
abbrev dktX1_memory_2 : List UInt8 := dkwX1_memory_2 ++ dktX1_memory_3
def dkwX1_memory_1 : List UInt8 := [181, 0, 187, 42, 16, 15, 3, 4, 3, 182, 1, 103, 42, 29, 181, 0, 180, 42, 16, 6, 181, 0, 187, 42]
abbrev dktX1_memory_1 : List UInt8 := dkwX1_memory_1 ++ dktX1_memory_2
def dkwX1_memory_0 : List UInt8 := [42, 3, 182, 0, 51, 184, 0, 73, 153, 0, 47, 42, 4, 182, 0, 195, 42, 180, 0, 180, 62, 42, 8]
abbrev dktX1_memory_0 : List UInt8 := dkwX1_memory_0 ++ dktX1_memory_1
theorem dksX1_memory_0 : cX1_memory.data.toList.drop 0 = dktX1_memory_0 := by decide +kernel
theorem dksX1_memory_1 : cX1_memory.data.toList.drop 23 = dktX1_memory_1 := dk_seg dksX1_memory_0 23 rfl rfl
theorem dksX1_memory_2 : cX1_memory.data.toList.drop 47 = dktX1_memory_2 := dk_seg dksX1_memory_1 24 rfl rfl
theorem dksX1_memory_3 : cX1_memory.data.toList.drop 69 = dktX1_memory_3 := dk_seg dksX1_memory_2 22 rfl rfl
theorem dksX1_memory_4 : cX1_memory.data.toList.drop 93 = dktX1_memory_4 := dk_seg dksX1_memory_3 24 rfl rfl
theorem dksX1_memory_5 : cX1_memory.data.toList.drop 116 = dktX1_memory_5 := dk_seg dksX1_memory_4 23 rfl rfl
theorem dX1_memory_0 : decode cX1_memory 0 = .ok (.aload_n 0, 1) := dk_42 (dk_at dksX1_memory_0 0 rfl rfl)
theorem dX1_memory_1 : decode cX1_memory 1 = .ok (.iconst 0, 1) := dk_3 (dk_at dksX1_memory_0 1 rfl rfl)
theorem dX1_memory_2 : decode cX1_memory 2 = .ok (.invokevirtual 51, 3) := dk_182 0 51 (dk_at dksX1_memory_0 2 rfl rfl)
theorem dX1_memory_5 : decode cX1_memory 5 = .ok (.invokestatic 73, 3) := dk_184 0 73 (dk_at dksX1_memory_0 5 rfl rfl)
theorem dX1_memory_8 : decode cX1_memory 8 = .ok (.ifCond .eq 47, 3) := dk_153 0 47 (dk_at dksX1_memory_0 8 rfl rfl)
theorem dX1_memory_11 : decode cX1_memory 11 = .ok (.aload_n 0, 1) := dk_42 (dk_at dksX1_memory_0 11 rfl rfl)
theorem dX1_memory_12 : decode cX1_memory 12 = .ok (.iconst 1, 1) := dk_4 (dk_at dksX1_memory_0 12 rfl rfl)
theorem dX1_memory_13 : decode cX1_memory 13 = .ok (.invokevirtual 195, 3) := dk_182 0 195 (dk_at dksX1_memory_0 13 rfl rfl)
theorem dX1_memory_16 : decode cX1_memory 16 = .ok (.aload_n 0, 1) := dk_42 (dk_at dksX1_memory_0 16 rfl rfl)
theorem dX1_memory_17 : decode cX1_memory 17 = .ok (.getfield 180, 3) := dk_180 0 180 (dk_at dksX1_memory_0 17 rfl rfl)
theorem dX1_memory_20 : decode cX1_memory 20 = .ok (.istore_n 3, 1) := dk_62 (dk_at dksX1_memory_0 20 rfl rfl)
theorem dX1_memory_21 : decode cX1_memory 21 = .ok (.aload_n 0, 1) := dk_42 (dk_at dksX1_memory_0 21 rfl rfl)
theorem dX1_memory_22 : decode cX1_memory 22 = .ok (.iconst 5, 1) := dk_8 (dk_at dksX1_memory_0 22 rfl rfl)
theorem dX1_memory_23 : decode cX1_memory 23 = .ok (.putfield 187, 3) := dk_181 0 187 (dk_at dksX1_memory_1 0 rfl rfl)
theorem dX1_memory_26 : decode cX1_memory 26 = .ok (.aload_n 0, 1) := dk_42 (dk_at dksX1_memory_1 3 rfl rfl)
theorem dX1_memory_27 : decode cX1_memory 27 = .ok (.bipush 15, 2) := dk_16 15 (dk_at dksX1_memory_1 4 rfl rfl)
theorem dX1_memory_29 : decode cX1_memory 29 = .ok (.iconst 0, 1) := dk_3 (dk_at dksX1_memory_1 6 rfl rfl)
theorem dX1_memory_30 : decode cX1_memory 30 = .ok (.iconst 1, 1) := dk_4 (dk_at dksX1_memory_1 7 rfl rfl)
theorem dX1_memory_31 : decode cX1_memory 31 = .ok (.iconst 0, 1) := dk_3 (dk_at dksX1_memory_1 8 rfl rfl)
theorem dX1_memory_32 : decode cX1_memory 32 = .ok (.invokevirtual 359, 3) := dk_182 1 103 (dk_at dksX1_memory_1 9 rfl rfl)
theorem dX1_memory_35 : decode cX1_memory 35 = .ok (.aload_n 0, 1) := dk_42 (dk_at dksX1_memory_1 12 rfl rfl)
theorem dX1_memory_36 : decode cX1_memory 36 = .ok (.iload_n 3, 1) := dk_29 (dk_at dksX1_memory_1 13 rfl rfl)
theorem dX1_memory_37 : decode cX1_memory 37 = .ok (.putfield 180, 3) := dk_181 0 180 (dk_at dksX1_memory_1 14 rfl rfl)
theorem dX1_memory_40 : decode cX1_memory 40 = .ok (.aload_n 0, 1) := dk_42 (dk_at dksX1_memory_1 17 rfl rfl)
theorem dX1_memory_41 : decode cX1_memory 41 = .ok (.bipush 6, 2) := dk_16 6 (dk_at dksX1_memory_1 18 rfl rfl)
theorem dX1_memory_43 : decode cX1_memory 43 = .ok (.putfield 187, 3) := dk_181 0 187 (dk_at dksX1_memory_1 20 rfl rfl)
theorem dX1_memory_46 : decode cX1_memory 46 = .ok (.aload_n 0, 1) := dk_42 (dk_at dksX1_memory_1 23 rfl rfl)
theorem dX1_memory_47 : decode cX1_memory 47 = .ok (.iload_n 1, 1) := dk_27 (dk_at dksX1_memory_2 0 rfl rfl)
theorem dX1_memory_48 : decode cX1_memory 48 = .ok (.iconst 1, 1) := dk_4 (dk_at dksX1_memory_2 1 rfl rfl)
theorem dX1_memory_49 : decode cX1_memory 49 = .ok (.iload_n 2, 1) := dk_28 (dk_at dksX1_memory_2 2 rfl rfl)
theorem dX1_memory_50 : decode cX1_memory 50 = .ok (.iconst 0, 1) := dk_3 (dk_at dksX1_memory_2 3 rfl rfl)
theorem dX1_memory_51 : decode cX1_memory 51 = .ok (.invokevirtual 359, 3) := dk_182 1 103 (dk_at dksX1_memory_2 4 rfl rfl)
theorem dX1_memory_54 : decode cX1_memory 54 = .ok (.return_, 1) := dk_177 (dk_at dksX1_memory_2 7 rfl rfl)
theorem dX1_memory_55 : decode cX1_memory 55 = .ok (.iconst 0, 1) := dk_3 (dk_at dksX1_memory_2 8 rfl rfl)
theorem dX1_memory_56 : decode cX1_memory 56 = .ok (.istore_n 3, 1) := dk_62 (dk_at dksX1_memory_2 9 rfl rfl)
theorem dX1_memory_57 : decode cX1_memory 57 = .ok (.aload_n 0, 1) := dk_42 (dk_at dksX1_memory_2 10 rfl rfl)
theorem dX1_memory_58 : decode cX1_memory 58 = .ok (.iconst 0, 1) := dk_3 (dk_at dksX1_memory_2 11 rfl rfl)
theorem dX1_memory_59 : decode cX1_memory 59 = .ok (.putfield 187, 3) := dk_181 0 187 (dk_at dksX1_memory_2 12 rfl rfl)
theorem dX1_memory_62 : decode cX1_memory 62 = .ok (.aload_n 0, 1) := dk_42 (dk_at dksX1_memory_2 15 rfl rfl)
theorem dX1_memory_63 : decode cX1_memory 63 = .ok (.iconst 0, 1) := dk_3 (dk_at dksX1_memory_2 16 rfl rfl)
theorem dX1_memory_64 : decode cX1_memory 64 = .ok (.invokevirtual 51, 3) := dk_182 0 51 (dk_at dksX1_memory_2 17 rfl rfl)
theorem dX1_memory_67 : decode cX1_memory 67 = .ok (.bipush 40, 2) := dk_16 40 (dk_at dksX1_memory_2 20 rfl rfl)
theorem dX1_memory_69 : decode cX1_memory 69 = .ok (.if_icmp .eq 15, 3) := dk_159 0 15 (dk_at dksX1_memory_3 0 rfl rfl)
theorem dX1_memory_72 : decode cX1_memory 72 = .ok (.aload_n 0, 1) := dk_42 (dk_at dksX1_memory_3 3 rfl rfl)
theorem dX1_memory_73 : decode cX1_memory 73 = .ok (.ldc2_w 349, 3) := dk_20 1 93 (dk_at dksX1_memory_3 4 rfl rfl)
theorem dX1_memory_76 : decode cX1_memory 76 = .ok (.ldc2_w 351, 3) := dk_20 1 95 (dk_at dksX1_memory_3 7 rfl rfl)
theorem dX1_memory_79 : decode cX1_memory 79 = .ok (.iconst 0, 1) := dk_3 (dk_at dksX1_memory_3 10 rfl rfl)
theorem dX1_memory_80 : decode cX1_memory 80 = .ok (.invokevirtual 353, 3) := dk_182 1 97 (dk_at dksX1_memory_3 11 rfl rfl)
theorem dX1_memory_83 : decode cX1_memory 83 = .ok (.istore_n 3, 1) := dk_62 (dk_at dksX1_memory_3 14 rfl rfl)
theorem dX1_memory_84 : decode cX1_memory 84 = .ok (.aload_n 0, 1) := dk_42 (dk_at dksX1_memory_3 15 rfl rfl)
theorem dX1_memory_85 : decode cX1_memory 85 = .ok (.getfield 187, 3) := dk_180 0 187 (dk_at dksX1_memory_3 16 rfl rfl)
theorem dX1_memory_88 : decode cX1_memory 88 = .ok (.istore 4, 2) := dk_54 4 (dk_at dksX1_memory_3 19 rfl rfl)
theorem dX1_memory_90 : decode cX1_memory 90 = .ok (.aload_n 0, 1) := dk_42 (dk_at dksX1_memory_3 21 rfl rfl)
theorem dX1_memory_91 : decode cX1_memory 91 = .ok (.bipush 40, 2) := dk_16 40 (dk_at dksX1_memory_3 22 rfl rfl)
theorem dX1_memory_93 : decode cX1_memory 93 = .ok (.invokevirtual 135, 3) := dk_182 0 135 (dk_at dksX1_memory_4 0 rfl rfl)
theorem dX1_memory_96 : decode cX1_memory 96 = .ok (.aload_n 0, 1) := dk_42 (dk_at dksX1_memory_4 3 rfl rfl)
theorem dX1_memory_97 : decode cX1_memory 97 = .ok (.invokevirtual 328, 3) := dk_182 1 72 (dk_at dksX1_memory_4 4 rfl rfl)
theorem dX1_memory_100 : decode cX1_memory 100 = .ok (.istore 5, 2) := dk_54 5 (dk_at dksX1_memory_4 7 rfl rfl)
theorem dX1_memory_102 : decode cX1_memory 102 = .ok (.aload_n 0, 1) := dk_42 (dk_at dksX1_memory_4 9 rfl rfl)
theorem dX1_memory_103 : decode cX1_memory 103 = .ok (.bipush 41, 2) := dk_16 41 (dk_at dksX1_memory_4 10 rfl rfl)
theorem dX1_memory_105 : decode cX1_memory 105 = .ok (.invokevirtual 135, 3) := dk_182 0 135 (dk_at dksX1_memory_4 12 rfl rfl)
theorem dX1_memory_108 : decode cX1_memory 108 = .ok (.aload_n 0, 1) := dk_42 (dk_at dksX1_memory_4 15 rfl rfl)
theorem dX1_memory_109 : decode cX1_memory 109 = .ok (.iload 4, 2) := dk_21 4 (dk_at dksX1_memory_4 16 rfl rfl)
theorem dX1_memory_111 : decode cX1_memory 111 = .ok (.putfield 187, 3) := dk_181 0 187 (dk_at dksX1_memory_4 18 rfl rfl)
theorem dX1_memory_114 : decode cX1_memory 114 = .ok (.aload_n 0, 1) := dk_42 (dk_at dksX1_memory_4 21 rfl rfl)
theorem dX1_memory_115 : decode cX1_memory 115 = .ok (.iload_n 1, 1) := dk_27 (dk_at dksX1_memory_4 22 rfl rfl)
theorem dX1_memory_116 : decode cX1_memory 116 = .ok (.iload 5, 2) := dk_21 5 (dk_at dksX1_memory_5 0 rfl rfl)
theorem dX1_memory_118 : decode cX1_memory 118 = .ok (.iload_n 2, 1) := dk_28 (dk_at dksX1_memory_5 2 rfl rfl)
theorem dX1_memory_119 : decode cX1_memory 119 = .ok (.iload_n 3, 1) := dk_29 (dk_at dksX1_memory_5 3 rfl rfl)
theorem dX1_memory_120 : decode cX1_memory 120 = .ok (.invokevirtual 359, 3) := dk_182 1 103 (dk_at dksX1_memory_5 4 rfl rfl)
theorem dX1_memory_123 : decode cX1_memory 123 = .ok (.return_, 1) := dk_177 (dk_at dksX1_memory_5 7 rfl rfl)
abbrev cX1_load : ByteArray := prog_1_method_54_code
def yX1_load : MethodName := ⟨RX1, "load", "(I)V"⟩
def dkwX1_load_6 : List UInt8 := [16, 13, 28, 28, 29, 182, 1, 103, 177]
abbrev dktX1_load_6 : List UInt8 := dkwX1_load_6 ++ []
def dkwX1_load_5 : List UInt8 := [167, 0, 31, 42, 16, 15, 3, 28, 29, 16, 16, 124, 182, 1, 103, 29, 18, 194, 126, 153, 0, 12, 42]
abbrev dktX1_load_5 : List UInt8 := dkwX1_load_5 ++ dktX1_load_6
def dkwX1_load_4 : List UInt8 := [182, 1, 103, 167, 0, 50, 29, 16, 16, 124, 154, 0, 15, 42, 16, 13, 3, 28, 29, 182, 1, 103]
abbrev dktX1_load_4 : List UInt8 := dkwX1_load_4 ++ dktX1_load_5
def dkwX1_load_3 : List UInt8 := [42, 20, 1, 131, 20, 1, 133, 182, 0, 190, 136, 62, 29, 29, 147, 160, 0, 15, 42, 16, 9, 3, 28, 29]
abbrev dktX1_load_3 : List UInt8 := dkwX1_load_3 ++ dktX1_load_4
def dkwX1_load_2 : List UInt8 := [16, 15, 3, 28, 3, 182, 1, 103, 42, 16, 6, 181, 0, 187, 42, 16, 9, 28, 28, 3, 182, 1, 103, 177]
abbrev dktX1_load_2 : List UInt8 := dkwX1_load_2 ++ dktX1_load_3
def dkwX1_load_1 : List UInt8 := [4, 182, 1, 97, 182, 1, 103, 177, 27, 4, 160, 0, 38, 42, 4, 182, 0, 195, 42, 8, 181, 0, 187, 42]
abbrev dktX1_load_1 : List UInt8 := dkwX1_load_1 ++ dktX1_load_2
def dkwX1_load_0 : List UInt8 := [42, 182, 1, 72, 61, 42, 182, 1, 75, 27, 5, 160, 0, 21, 42, 16, 15, 3, 28, 42, 9, 20, 1, 101]
abbrev dktX1_load_0 : List UInt8 := dkwX1_load_0 ++ dktX1_load_1
theorem dksX1_load_0 : cX1_load.data.toList.drop 0 = dktX1_load_0 := by decide +kernel
theorem dksX1_load_1 : cX1_load.data.toList.drop 24 = dktX1_load_1 := dk_seg dksX1_load_0 24 rfl rfl
theorem dksX1_load_2 : cX1_load.data.toList.drop 48 = dktX1_load_2 := dk_seg dksX1_load_1 24 rfl rfl
theorem dksX1_load_3 : cX1_load.data.toList.drop 72 = dktX1_load_3 := dk_seg dksX1_load_2 24 rfl rfl
theorem dksX1_load_4 : cX1_load.data.toList.drop 96 = dktX1_load_4 := dk_seg dksX1_load_3 24 rfl rfl
theorem dksX1_load_5 : cX1_load.data.toList.drop 118 = dktX1_load_5 := dk_seg dksX1_load_4 22 rfl rfl
theorem dksX1_load_6 : cX1_load.data.toList.drop 141 = dktX1_load_6 := dk_seg dksX1_load_5 23 rfl rfl
theorem dX1_load_0 : decode cX1_load 0 = .ok (.aload_n 0, 1) := dk_42 (dk_at dksX1_load_0 0 rfl rfl)
theorem dX1_load_1 : decode cX1_load 1 = .ok (.invokevirtual 328, 3) := dk_182 1 72 (dk_at dksX1_load_0 1 rfl rfl)
theorem dX1_load_4 : decode cX1_load 4 = .ok (.istore_n 2, 1) := dk_61 (dk_at dksX1_load_0 4 rfl rfl)
theorem dX1_load_5 : decode cX1_load 5 = .ok (.aload_n 0, 1) := dk_42 (dk_at dksX1_load_0 5 rfl rfl)
theorem dX1_load_6 : decode cX1_load 6 = .ok (.invokevirtual 331, 3) := dk_182 1 75 (dk_at dksX1_load_0 6 rfl rfl)
theorem dX1_load_9 : decode cX1_load 9 = .ok (.iload_n 1, 1) := dk_27 (dk_at dksX1_load_0 9 rfl rfl)
theorem dX1_load_10 : decode cX1_load 10 = .ok (.iconst 2, 1) := dk_5 (dk_at dksX1_load_0 10 rfl rfl)
theorem dX1_load_11 : decode cX1_load 11 = .ok (.if_icmp .ne 21, 3) := dk_160 0 21 (dk_at dksX1_load_0 11 rfl rfl)
theorem dX1_load_14 : decode cX1_load 14 = .ok (.aload_n 0, 1) := dk_42 (dk_at dksX1_load_0 14 rfl rfl)
theorem dX1_load_15 : decode cX1_load 15 = .ok (.bipush 15, 2) := dk_16 15 (dk_at dksX1_load_0 15 rfl rfl)
theorem dX1_load_17 : decode cX1_load 17 = .ok (.iconst 0, 1) := dk_3 (dk_at dksX1_load_0 17 rfl rfl)
theorem dX1_load_18 : decode cX1_load 18 = .ok (.iload_n 2, 1) := dk_28 (dk_at dksX1_load_0 18 rfl rfl)
theorem dX1_load_19 : decode cX1_load 19 = .ok (.aload_n 0, 1) := dk_42 (dk_at dksX1_load_0 19 rfl rfl)
theorem dX1_load_20 : decode cX1_load 20 = .ok (.lconst 0, 1) := dk_9 (dk_at dksX1_load_0 20 rfl rfl)
theorem dX1_load_21 : decode cX1_load 21 = .ok (.ldc2_w 357, 3) := dk_20 1 101 (dk_at dksX1_load_0 21 rfl rfl)
theorem dX1_load_24 : decode cX1_load 24 = .ok (.iconst 1, 1) := dk_4 (dk_at dksX1_load_1 0 rfl rfl)
theorem dX1_load_25 : decode cX1_load 25 = .ok (.invokevirtual 353, 3) := dk_182 1 97 (dk_at dksX1_load_1 1 rfl rfl)
theorem dX1_load_28 : decode cX1_load 28 = .ok (.invokevirtual 359, 3) := dk_182 1 103 (dk_at dksX1_load_1 4 rfl rfl)
theorem dX1_load_31 : decode cX1_load 31 = .ok (.return_, 1) := dk_177 (dk_at dksX1_load_1 7 rfl rfl)
theorem dX1_load_32 : decode cX1_load 32 = .ok (.iload_n 1, 1) := dk_27 (dk_at dksX1_load_1 8 rfl rfl)
theorem dX1_load_33 : decode cX1_load 33 = .ok (.iconst 1, 1) := dk_4 (dk_at dksX1_load_1 9 rfl rfl)
theorem dX1_load_34 : decode cX1_load 34 = .ok (.if_icmp .ne 38, 3) := dk_160 0 38 (dk_at dksX1_load_1 10 rfl rfl)
theorem dX1_load_37 : decode cX1_load 37 = .ok (.aload_n 0, 1) := dk_42 (dk_at dksX1_load_1 13 rfl rfl)
theorem dX1_load_38 : decode cX1_load 38 = .ok (.iconst 1, 1) := dk_4 (dk_at dksX1_load_1 14 rfl rfl)
theorem dX1_load_39 : decode cX1_load 39 = .ok (.invokevirtual 195, 3) := dk_182 0 195 (dk_at dksX1_load_1 15 rfl rfl)
theorem dX1_load_42 : decode cX1_load 42 = .ok (.aload_n 0, 1) := dk_42 (dk_at dksX1_load_1 18 rfl rfl)
theorem dX1_load_43 : decode cX1_load 43 = .ok (.iconst 5, 1) := dk_8 (dk_at dksX1_load_1 19 rfl rfl)
theorem dX1_load_44 : decode cX1_load 44 = .ok (.putfield 187, 3) := dk_181 0 187 (dk_at dksX1_load_1 20 rfl rfl)
theorem dX1_load_47 : decode cX1_load 47 = .ok (.aload_n 0, 1) := dk_42 (dk_at dksX1_load_1 23 rfl rfl)
theorem dX1_load_48 : decode cX1_load 48 = .ok (.bipush 15, 2) := dk_16 15 (dk_at dksX1_load_2 0 rfl rfl)
theorem dX1_load_50 : decode cX1_load 50 = .ok (.iconst 0, 1) := dk_3 (dk_at dksX1_load_2 2 rfl rfl)
theorem dX1_load_51 : decode cX1_load 51 = .ok (.iload_n 2, 1) := dk_28 (dk_at dksX1_load_2 3 rfl rfl)
theorem dX1_load_52 : decode cX1_load 52 = .ok (.iconst 0, 1) := dk_3 (dk_at dksX1_load_2 4 rfl rfl)
theorem dX1_load_53 : decode cX1_load 53 = .ok (.invokevirtual 359, 3) := dk_182 1 103 (dk_at dksX1_load_2 5 rfl rfl)
theorem dX1_load_56 : decode cX1_load 56 = .ok (.aload_n 0, 1) := dk_42 (dk_at dksX1_load_2 8 rfl rfl)
theorem dX1_load_57 : decode cX1_load 57 = .ok (.bipush 6, 2) := dk_16 6 (dk_at dksX1_load_2 9 rfl rfl)
theorem dX1_load_59 : decode cX1_load 59 = .ok (.putfield 187, 3) := dk_181 0 187 (dk_at dksX1_load_2 11 rfl rfl)
theorem dX1_load_62 : decode cX1_load 62 = .ok (.aload_n 0, 1) := dk_42 (dk_at dksX1_load_2 14 rfl rfl)
theorem dX1_load_63 : decode cX1_load 63 = .ok (.bipush 9, 2) := dk_16 9 (dk_at dksX1_load_2 15 rfl rfl)
theorem dX1_load_65 : decode cX1_load 65 = .ok (.iload_n 2, 1) := dk_28 (dk_at dksX1_load_2 17 rfl rfl)
theorem dX1_load_66 : decode cX1_load 66 = .ok (.iload_n 2, 1) := dk_28 (dk_at dksX1_load_2 18 rfl rfl)
theorem dX1_load_67 : decode cX1_load 67 = .ok (.iconst 0, 1) := dk_3 (dk_at dksX1_load_2 19 rfl rfl)
theorem dX1_load_68 : decode cX1_load 68 = .ok (.invokevirtual 359, 3) := dk_182 1 103 (dk_at dksX1_load_2 20 rfl rfl)
theorem dX1_load_71 : decode cX1_load 71 = .ok (.return_, 1) := dk_177 (dk_at dksX1_load_2 23 rfl rfl)
theorem dX1_load_72 : decode cX1_load 72 = .ok (.aload_n 0, 1) := dk_42 (dk_at dksX1_load_3 0 rfl rfl)
theorem dX1_load_73 : decode cX1_load 73 = .ok (.ldc2_w 387, 3) := dk_20 1 131 (dk_at dksX1_load_3 1 rfl rfl)
theorem dX1_load_76 : decode cX1_load 76 = .ok (.ldc2_w 389, 3) := dk_20 1 133 (dk_at dksX1_load_3 4 rfl rfl)
theorem dX1_load_79 : decode cX1_load 79 = .ok (.invokevirtual 190, 3) := dk_182 0 190 (dk_at dksX1_load_3 7 rfl rfl)
theorem dX1_load_82 : decode cX1_load 82 = .ok (.l2i, 1) := dk_136 (dk_at dksX1_load_3 10 rfl rfl)
theorem dX1_load_83 : decode cX1_load 83 = .ok (.istore_n 3, 1) := dk_62 (dk_at dksX1_load_3 11 rfl rfl)
theorem dX1_load_84 : decode cX1_load 84 = .ok (.iload_n 3, 1) := dk_29 (dk_at dksX1_load_3 12 rfl rfl)
theorem dX1_load_85 : decode cX1_load 85 = .ok (.iload_n 3, 1) := dk_29 (dk_at dksX1_load_3 13 rfl rfl)
theorem dX1_load_86 : decode cX1_load 86 = .ok (.i2s, 1) := dk_147 (dk_at dksX1_load_3 14 rfl rfl)
theorem dX1_load_87 : decode cX1_load 87 = .ok (.if_icmp .ne 15, 3) := dk_160 0 15 (dk_at dksX1_load_3 15 rfl rfl)
theorem dX1_load_90 : decode cX1_load 90 = .ok (.aload_n 0, 1) := dk_42 (dk_at dksX1_load_3 18 rfl rfl)
theorem dX1_load_91 : decode cX1_load 91 = .ok (.bipush 9, 2) := dk_16 9 (dk_at dksX1_load_3 19 rfl rfl)
theorem dX1_load_93 : decode cX1_load 93 = .ok (.iconst 0, 1) := dk_3 (dk_at dksX1_load_3 21 rfl rfl)
theorem dX1_load_94 : decode cX1_load 94 = .ok (.iload_n 2, 1) := dk_28 (dk_at dksX1_load_3 22 rfl rfl)
theorem dX1_load_95 : decode cX1_load 95 = .ok (.iload_n 3, 1) := dk_29 (dk_at dksX1_load_3 23 rfl rfl)
theorem dX1_load_96 : decode cX1_load 96 = .ok (.invokevirtual 359, 3) := dk_182 1 103 (dk_at dksX1_load_4 0 rfl rfl)
theorem dX1_load_99 : decode cX1_load 99 = .ok (.goto 50, 3) := dk_167 0 50 (dk_at dksX1_load_4 3 rfl rfl)
theorem dX1_load_102 : decode cX1_load 102 = .ok (.iload_n 3, 1) := dk_29 (dk_at dksX1_load_4 6 rfl rfl)
theorem dX1_load_103 : decode cX1_load 103 = .ok (.bipush 16, 2) := dk_16 16 (dk_at dksX1_load_4 7 rfl rfl)
theorem dX1_load_105 : decode cX1_load 105 = .ok (.iushr, 1) := dk_124 (dk_at dksX1_load_4 9 rfl rfl)
theorem dX1_load_106 : decode cX1_load 106 = .ok (.ifCond .ne 15, 3) := dk_154 0 15 (dk_at dksX1_load_4 10 rfl rfl)
theorem dX1_load_109 : decode cX1_load 109 = .ok (.aload_n 0, 1) := dk_42 (dk_at dksX1_load_4 13 rfl rfl)
theorem dX1_load_110 : decode cX1_load 110 = .ok (.bipush 13, 2) := dk_16 13 (dk_at dksX1_load_4 14 rfl rfl)
theorem dX1_load_112 : decode cX1_load 112 = .ok (.iconst 0, 1) := dk_3 (dk_at dksX1_load_4 16 rfl rfl)
theorem dX1_load_113 : decode cX1_load 113 = .ok (.iload_n 2, 1) := dk_28 (dk_at dksX1_load_4 17 rfl rfl)
theorem dX1_load_114 : decode cX1_load 114 = .ok (.iload_n 3, 1) := dk_29 (dk_at dksX1_load_4 18 rfl rfl)
theorem dX1_load_115 : decode cX1_load 115 = .ok (.invokevirtual 359, 3) := dk_182 1 103 (dk_at dksX1_load_4 19 rfl rfl)
theorem dX1_load_118 : decode cX1_load 118 = .ok (.goto 31, 3) := dk_167 0 31 (dk_at dksX1_load_5 0 rfl rfl)
theorem dX1_load_121 : decode cX1_load 121 = .ok (.aload_n 0, 1) := dk_42 (dk_at dksX1_load_5 3 rfl rfl)
theorem dX1_load_122 : decode cX1_load 122 = .ok (.bipush 15, 2) := dk_16 15 (dk_at dksX1_load_5 4 rfl rfl)
theorem dX1_load_124 : decode cX1_load 124 = .ok (.iconst 0, 1) := dk_3 (dk_at dksX1_load_5 6 rfl rfl)
theorem dX1_load_125 : decode cX1_load 125 = .ok (.iload_n 2, 1) := dk_28 (dk_at dksX1_load_5 7 rfl rfl)
theorem dX1_load_126 : decode cX1_load 126 = .ok (.iload_n 3, 1) := dk_29 (dk_at dksX1_load_5 8 rfl rfl)
theorem dX1_load_127 : decode cX1_load 127 = .ok (.bipush 16, 2) := dk_16 16 (dk_at dksX1_load_5 9 rfl rfl)
theorem dX1_load_129 : decode cX1_load 129 = .ok (.iushr, 1) := dk_124 (dk_at dksX1_load_5 11 rfl rfl)
theorem dX1_load_130 : decode cX1_load 130 = .ok (.invokevirtual 359, 3) := dk_182 1 103 (dk_at dksX1_load_5 12 rfl rfl)
theorem dX1_load_133 : decode cX1_load 133 = .ok (.iload_n 3, 1) := dk_29 (dk_at dksX1_load_5 15 rfl rfl)
theorem dX1_load_134 : decode cX1_load 134 = .ok (.ldc 194, 2) := dk_18 194 (dk_at dksX1_load_5 16 rfl rfl)
theorem dX1_load_136 : decode cX1_load 136 = .ok (.iand, 1) := dk_126 (dk_at dksX1_load_5 18 rfl rfl)
theorem dX1_load_137 : decode cX1_load 137 = .ok (.ifCond .eq 12, 3) := dk_153 0 12 (dk_at dksX1_load_5 19 rfl rfl)
theorem dX1_load_140 : decode cX1_load 140 = .ok (.aload_n 0, 1) := dk_42 (dk_at dksX1_load_5 22 rfl rfl)
theorem dX1_load_141 : decode cX1_load 141 = .ok (.bipush 13, 2) := dk_16 13 (dk_at dksX1_load_6 0 rfl rfl)
theorem dX1_load_143 : decode cX1_load 143 = .ok (.iload_n 2, 1) := dk_28 (dk_at dksX1_load_6 2 rfl rfl)
theorem dX1_load_144 : decode cX1_load 144 = .ok (.iload_n 2, 1) := dk_28 (dk_at dksX1_load_6 3 rfl rfl)
theorem dX1_load_145 : decode cX1_load 145 = .ok (.iload_n 3, 1) := dk_29 (dk_at dksX1_load_6 4 rfl rfl)
theorem dX1_load_146 : decode cX1_load 146 = .ok (.invokevirtual 359, 3) := dk_182 1 103 (dk_at dksX1_load_6 5 rfl rfl)
theorem dX1_load_149 : decode cX1_load 149 = .ok (.return_, 1) := dk_177 (dk_at dksX1_load_6 8 rfl rfl)
abbrev cX1_fractions : ByteArray := prog_1_method_55_code
def yX1_fractions : MethodName := ⟨RX1, "fractions", "(II)V"⟩
def dkwX1_fractions_12 : List UInt8 := [21, 5, 16, 8, 120, 128, 16, 48, 128, 29, 128, 182, 0, 245, 177]
abbrev dktX1_fractions_12 : List UInt8 := dkwX1_fractions_12 ++ []
def dkwX1_fractions_11 : List UInt8 := [19, 1, 125, 21, 4, 16, 21, 120, 128, 42, 182, 1, 119, 16, 16, 120, 128, 21, 6, 16, 11, 120, 128]
abbrev dktX1_fractions_11 : List UInt8 := dkwX1_fractions_11 ++ dktX1_fractions_12
def dkwX1_fractions_10 : List UInt8 := [7, 100, 182, 0, 117, 62, 42, 182, 1, 110, 54, 5, 42, 182, 1, 119, 54, 6, 42, 182, 1, 75, 42]
abbrev dktX1_fractions_10 : List UInt8 := dkwX1_fractions_10 ++ dktX1_fractions_11
def dkwX1_fractions_9 : List UInt8 := [16, 11, 120, 128, 21, 5, 16, 6, 120, 128, 29, 128, 182, 0, 245, 177, 42, 19, 1, 70, 27, 5, 96, 28]
abbrev dktX1_fractions_9 : List UInt8 := dkwX1_fractions_9 ++ dktX1_fractions_10
def dkwX1_fractions_8 : List UInt8 := [42, 182, 1, 119, 54, 5, 42, 182, 1, 75, 42, 19, 1, 125, 21, 4, 16, 21, 120, 128, 42, 182, 1, 119]
abbrev dktX1_fractions_8 : List UInt8 := dkwX1_fractions_8 ++ dktX1_fractions_9
def dkwX1_fractions_7 : List UInt8 := [120, 128, 29, 128, 182, 0, 245, 177, 42, 19, 1, 68, 27, 28, 5, 100, 182, 0, 117, 62, 29, 155, 0, 43]
abbrev dktX1_fractions_7 : List UInt8 := dkwX1_fractions_7 ++ dktX1_fractions_8
def dkwX1_fractions_6 : List UInt8 := [21, 4, 16, 21, 120, 128, 42, 182, 1, 119, 16, 16, 120, 128, 21, 6, 16, 11, 120, 128, 21, 5, 16, 6]
abbrev dktX1_fractions_6 : List UInt8 := dkwX1_fractions_6 ++ dktX1_fractions_7
def dkwX1_fractions_5 : List UInt8 := [42, 182, 1, 119, 54, 5, 42, 182, 1, 75, 42, 182, 1, 119, 54, 6, 42, 182, 1, 75, 42, 19, 1, 125]
abbrev dktX1_fractions_5 : List UInt8 := dkwX1_fractions_5 ++ dktX1_fractions_6
def dkwX1_fractions_4 : List UInt8 := [29, 4, 126, 128, 182, 0, 245, 177, 42, 19, 1, 66, 27, 28, 5, 100, 182, 0, 117, 62, 29, 155, 0, 59]
abbrev dktX1_fractions_4 : List UInt8 := dkwX1_fractions_4 ++ dktX1_fractions_5
def dkwX1_fractions_3 : List UInt8 := [19, 1, 125, 21, 7, 16, 21, 120, 128, 21, 6, 16, 11, 120, 128, 21, 5, 16, 6, 120, 128, 16, 32, 128]
abbrev dktX1_fractions_3 : List UInt8 := dkwX1_fractions_3 ++ dktX1_fractions_4
def dkwX1_fractions_2 : List UInt8 := [16, 20, 167, 0, 17, 29, 16, 32, 126, 153, 0, 8, 16, 17, 167, 0, 5, 16, 16, 54, 7, 42]
abbrev dktX1_fractions_2 : List UInt8 := dkwX1_fractions_2 ++ dktX1_fractions_3
def dkwX1_fractions_1 : List UInt8 := [182, 1, 119, 54, 5, 42, 182, 1, 75, 42, 182, 1, 119, 54, 6, 29, 17, 0, 128, 126, 153, 0, 8]
abbrev dktX1_fractions_1 : List UInt8 := dkwX1_fractions_1 ++ dktX1_fractions_2
def dkwX1_fractions_0 : List UInt8 := [42, 19, 1, 61, 27, 28, 182, 0, 117, 62, 42, 27, 28, 182, 1, 63, 54, 4, 29, 155, 0, 81, 42]
abbrev dktX1_fractions_0 : List UInt8 := dkwX1_fractions_0 ++ dktX1_fractions_1
theorem dksX1_fractions_0 : cX1_fractions.data.toList.drop 0 = dktX1_fractions_0 := by decide +kernel
theorem dksX1_fractions_1 : cX1_fractions.data.toList.drop 23 = dktX1_fractions_1 := dk_seg dksX1_fractions_0 23 rfl rfl
theorem dksX1_fractions_2 : cX1_fractions.data.toList.drop 46 = dktX1_fractions_2 := dk_seg dksX1_fractions_1 23 rfl rfl
theorem dksX1_fractions_3 : cX1_fractions.data.toList.drop 68 = dktX1_fractions_3 := dk_seg dksX1_fractions_2 22 rfl rfl
theorem dksX1_fractions_4 : cX1_fractions.data.toList.drop 92 = dktX1_fractions_4 := dk_seg dksX1_fractions_3 24 rfl rfl
theorem dksX1_fractions_5 : cX1_fractions.data.toList.drop 116 = dktX1_fractions_5 := dk_seg dksX1_fractions_4 24 rfl rfl
theorem dksX1_fractions_6 : cX1_fractions.data.toList.drop 140 = dktX1_fractions_6 := dk_seg dksX1_fractions_5 24 rfl rfl
theorem dksX1_fractions_7 : cX1_fractions.data.toList.drop 164 = dktX1_fractions_7 := dk_seg dksX1_fractions_6 24 rfl rfl
theorem dksX1_fractions_8 : cX1_fractions.data.toList.drop 188 = dktX1_fractions_8 := dk_seg dksX1_fractions_7 24 rfl rfl
theorem dksX1_fractions_9 : cX1_fractions.data.toList.drop 212 = dktX1_fractions_9 := dk_seg dksX1_fractions_8 24 rfl rfl
theorem dksX1_fractions_10 : cX1_fractions.data.toList.drop 236 = dktX1_fractions_10 := dk_seg dksX1_fractions_9 24 rfl rfl
theorem dksX1_fractions_11 : cX1_fractions.data.toList.drop 259 = dktX1_fractions_11 := dk_seg dksX1_fractions_10 23 rfl rfl
theorem dksX1_fractions_12 : cX1_fractions.data.toList.drop 282 = dktX1_fractions_12 := dk_seg dksX1_fractions_11 23 rfl rfl
theorem dX1_fractions_0 : decode cX1_fractions 0 = .ok (.aload_n 0, 1) := dk_42 (dk_at dksX1_fractions_0 0 rfl rfl)
theorem dX1_fractions_1 : decode cX1_fractions 1 = .ok (.ldc_w 317, 3) := dk_19 1 61 (dk_at dksX1_fractions_0 1 rfl rfl)
theorem dX1_fractions_4 : decode cX1_fractions 4 = .ok (.iload_n 1, 1) := dk_27 (dk_at dksX1_fractions_0 4 rfl rfl)
theorem dX1_fractions_5 : decode cX1_fractions 5 = .ok (.iload_n 2, 1) := dk_28 (dk_at dksX1_fractions_0 5 rfl rfl)
theorem dX1_fractions_6 : decode cX1_fractions 6 = .ok (.invokevirtual 117, 3) := dk_182 0 117 (dk_at dksX1_fractions_0 6 rfl rfl)
theorem dX1_fractions_9 : decode cX1_fractions 9 = .ok (.istore_n 3, 1) := dk_62 (dk_at dksX1_fractions_0 9 rfl rfl)
theorem dX1_fractions_10 : decode cX1_fractions 10 = .ok (.aload_n 0, 1) := dk_42 (dk_at dksX1_fractions_0 10 rfl rfl)
theorem dX1_fractions_11 : decode cX1_fractions 11 = .ok (.iload_n 1, 1) := dk_27 (dk_at dksX1_fractions_0 11 rfl rfl)
theorem dX1_fractions_12 : decode cX1_fractions 12 = .ok (.iload_n 2, 1) := dk_28 (dk_at dksX1_fractions_0 12 rfl rfl)
theorem dX1_fractions_13 : decode cX1_fractions 13 = .ok (.invokevirtual 319, 3) := dk_182 1 63 (dk_at dksX1_fractions_0 13 rfl rfl)
theorem dX1_fractions_16 : decode cX1_fractions 16 = .ok (.istore 4, 2) := dk_54 4 (dk_at dksX1_fractions_0 16 rfl rfl)
theorem dX1_fractions_18 : decode cX1_fractions 18 = .ok (.iload_n 3, 1) := dk_29 (dk_at dksX1_fractions_0 18 rfl rfl)
theorem dX1_fractions_19 : decode cX1_fractions 19 = .ok (.ifCond .lt 81, 3) := dk_155 0 81 (dk_at dksX1_fractions_0 19 rfl rfl)
theorem dX1_fractions_22 : decode cX1_fractions 22 = .ok (.aload_n 0, 1) := dk_42 (dk_at dksX1_fractions_0 22 rfl rfl)
theorem dX1_fractions_23 : decode cX1_fractions 23 = .ok (.invokevirtual 375, 3) := dk_182 1 119 (dk_at dksX1_fractions_1 0 rfl rfl)
theorem dX1_fractions_26 : decode cX1_fractions 26 = .ok (.istore 5, 2) := dk_54 5 (dk_at dksX1_fractions_1 3 rfl rfl)
theorem dX1_fractions_28 : decode cX1_fractions 28 = .ok (.aload_n 0, 1) := dk_42 (dk_at dksX1_fractions_1 5 rfl rfl)
theorem dX1_fractions_29 : decode cX1_fractions 29 = .ok (.invokevirtual 331, 3) := dk_182 1 75 (dk_at dksX1_fractions_1 6 rfl rfl)
theorem dX1_fractions_32 : decode cX1_fractions 32 = .ok (.aload_n 0, 1) := dk_42 (dk_at dksX1_fractions_1 9 rfl rfl)
theorem dX1_fractions_33 : decode cX1_fractions 33 = .ok (.invokevirtual 375, 3) := dk_182 1 119 (dk_at dksX1_fractions_1 10 rfl rfl)
theorem dX1_fractions_36 : decode cX1_fractions 36 = .ok (.istore 6, 2) := dk_54 6 (dk_at dksX1_fractions_1 13 rfl rfl)
theorem dX1_fractions_38 : decode cX1_fractions 38 = .ok (.iload_n 3, 1) := dk_29 (dk_at dksX1_fractions_1 15 rfl rfl)
theorem dX1_fractions_39 : decode cX1_fractions 39 = .ok (.sipush 128, 3) := dk_17 0 128 (dk_at dksX1_fractions_1 16 rfl rfl)
theorem dX1_fractions_42 : decode cX1_fractions 42 = .ok (.iand, 1) := dk_126 (dk_at dksX1_fractions_1 19 rfl rfl)
theorem dX1_fractions_43 : decode cX1_fractions 43 = .ok (.ifCond .eq 8, 3) := dk_153 0 8 (dk_at dksX1_fractions_1 20 rfl rfl)
theorem dX1_fractions_46 : decode cX1_fractions 46 = .ok (.bipush 20, 2) := dk_16 20 (dk_at dksX1_fractions_2 0 rfl rfl)
theorem dX1_fractions_48 : decode cX1_fractions 48 = .ok (.goto 17, 3) := dk_167 0 17 (dk_at dksX1_fractions_2 2 rfl rfl)
theorem dX1_fractions_51 : decode cX1_fractions 51 = .ok (.iload_n 3, 1) := dk_29 (dk_at dksX1_fractions_2 5 rfl rfl)
theorem dX1_fractions_52 : decode cX1_fractions 52 = .ok (.bipush 32, 2) := dk_16 32 (dk_at dksX1_fractions_2 6 rfl rfl)
theorem dX1_fractions_54 : decode cX1_fractions 54 = .ok (.iand, 1) := dk_126 (dk_at dksX1_fractions_2 8 rfl rfl)
theorem dX1_fractions_55 : decode cX1_fractions 55 = .ok (.ifCond .eq 8, 3) := dk_153 0 8 (dk_at dksX1_fractions_2 9 rfl rfl)
theorem dX1_fractions_58 : decode cX1_fractions 58 = .ok (.bipush 17, 2) := dk_16 17 (dk_at dksX1_fractions_2 12 rfl rfl)
theorem dX1_fractions_60 : decode cX1_fractions 60 = .ok (.goto 5, 3) := dk_167 0 5 (dk_at dksX1_fractions_2 14 rfl rfl)
theorem dX1_fractions_63 : decode cX1_fractions 63 = .ok (.bipush 16, 2) := dk_16 16 (dk_at dksX1_fractions_2 17 rfl rfl)
theorem dX1_fractions_65 : decode cX1_fractions 65 = .ok (.istore 7, 2) := dk_54 7 (dk_at dksX1_fractions_2 19 rfl rfl)
theorem dX1_fractions_67 : decode cX1_fractions 67 = .ok (.aload_n 0, 1) := dk_42 (dk_at dksX1_fractions_2 21 rfl rfl)
theorem dX1_fractions_68 : decode cX1_fractions 68 = .ok (.ldc_w 381, 3) := dk_19 1 125 (dk_at dksX1_fractions_3 0 rfl rfl)
theorem dX1_fractions_71 : decode cX1_fractions 71 = .ok (.iload 7, 2) := dk_21 7 (dk_at dksX1_fractions_3 3 rfl rfl)
theorem dX1_fractions_73 : decode cX1_fractions 73 = .ok (.bipush 21, 2) := dk_16 21 (dk_at dksX1_fractions_3 5 rfl rfl)
theorem dX1_fractions_75 : decode cX1_fractions 75 = .ok (.ishl, 1) := dk_120 (dk_at dksX1_fractions_3 7 rfl rfl)
theorem dX1_fractions_76 : decode cX1_fractions 76 = .ok (.ior, 1) := dk_128 (dk_at dksX1_fractions_3 8 rfl rfl)
theorem dX1_fractions_77 : decode cX1_fractions 77 = .ok (.iload 6, 2) := dk_21 6 (dk_at dksX1_fractions_3 9 rfl rfl)
theorem dX1_fractions_79 : decode cX1_fractions 79 = .ok (.bipush 11, 2) := dk_16 11 (dk_at dksX1_fractions_3 11 rfl rfl)
theorem dX1_fractions_81 : decode cX1_fractions 81 = .ok (.ishl, 1) := dk_120 (dk_at dksX1_fractions_3 13 rfl rfl)
theorem dX1_fractions_82 : decode cX1_fractions 82 = .ok (.ior, 1) := dk_128 (dk_at dksX1_fractions_3 14 rfl rfl)
theorem dX1_fractions_83 : decode cX1_fractions 83 = .ok (.iload 5, 2) := dk_21 5 (dk_at dksX1_fractions_3 15 rfl rfl)
theorem dX1_fractions_85 : decode cX1_fractions 85 = .ok (.bipush 6, 2) := dk_16 6 (dk_at dksX1_fractions_3 17 rfl rfl)
theorem dX1_fractions_87 : decode cX1_fractions 87 = .ok (.ishl, 1) := dk_120 (dk_at dksX1_fractions_3 19 rfl rfl)
theorem dX1_fractions_88 : decode cX1_fractions 88 = .ok (.ior, 1) := dk_128 (dk_at dksX1_fractions_3 20 rfl rfl)
theorem dX1_fractions_89 : decode cX1_fractions 89 = .ok (.bipush 32, 2) := dk_16 32 (dk_at dksX1_fractions_3 21 rfl rfl)
theorem dX1_fractions_91 : decode cX1_fractions 91 = .ok (.ior, 1) := dk_128 (dk_at dksX1_fractions_3 23 rfl rfl)
theorem dX1_fractions_92 : decode cX1_fractions 92 = .ok (.iload_n 3, 1) := dk_29 (dk_at dksX1_fractions_4 0 rfl rfl)
theorem dX1_fractions_93 : decode cX1_fractions 93 = .ok (.iconst 1, 1) := dk_4 (dk_at dksX1_fractions_4 1 rfl rfl)
theorem dX1_fractions_94 : decode cX1_fractions 94 = .ok (.iand, 1) := dk_126 (dk_at dksX1_fractions_4 2 rfl rfl)
theorem dX1_fractions_95 : decode cX1_fractions 95 = .ok (.ior, 1) := dk_128 (dk_at dksX1_fractions_4 3 rfl rfl)
theorem dX1_fractions_96 : decode cX1_fractions 96 = .ok (.invokevirtual 245, 3) := dk_182 0 245 (dk_at dksX1_fractions_4 4 rfl rfl)
theorem dX1_fractions_99 : decode cX1_fractions 99 = .ok (.return_, 1) := dk_177 (dk_at dksX1_fractions_4 7 rfl rfl)
theorem dX1_fractions_100 : decode cX1_fractions 100 = .ok (.aload_n 0, 1) := dk_42 (dk_at dksX1_fractions_4 8 rfl rfl)
theorem dX1_fractions_101 : decode cX1_fractions 101 = .ok (.ldc_w 322, 3) := dk_19 1 66 (dk_at dksX1_fractions_4 9 rfl rfl)
theorem dX1_fractions_104 : decode cX1_fractions 104 = .ok (.iload_n 1, 1) := dk_27 (dk_at dksX1_fractions_4 12 rfl rfl)
theorem dX1_fractions_105 : decode cX1_fractions 105 = .ok (.iload_n 2, 1) := dk_28 (dk_at dksX1_fractions_4 13 rfl rfl)
theorem dX1_fractions_106 : decode cX1_fractions 106 = .ok (.iconst 2, 1) := dk_5 (dk_at dksX1_fractions_4 14 rfl rfl)
theorem dX1_fractions_107 : decode cX1_fractions 107 = .ok (.isub, 1) := dk_100 (dk_at dksX1_fractions_4 15 rfl rfl)
theorem dX1_fractions_108 : decode cX1_fractions 108 = .ok (.invokevirtual 117, 3) := dk_182 0 117 (dk_at dksX1_fractions_4 16 rfl rfl)
theorem dX1_fractions_111 : decode cX1_fractions 111 = .ok (.istore_n 3, 1) := dk_62 (dk_at dksX1_fractions_4 19 rfl rfl)
theorem dX1_fractions_112 : decode cX1_fractions 112 = .ok (.iload_n 3, 1) := dk_29 (dk_at dksX1_fractions_4 20 rfl rfl)
theorem dX1_fractions_113 : decode cX1_fractions 113 = .ok (.ifCond .lt 59, 3) := dk_155 0 59 (dk_at dksX1_fractions_4 21 rfl rfl)
theorem dX1_fractions_116 : decode cX1_fractions 116 = .ok (.aload_n 0, 1) := dk_42 (dk_at dksX1_fractions_5 0 rfl rfl)
theorem dX1_fractions_117 : decode cX1_fractions 117 = .ok (.invokevirtual 375, 3) := dk_182 1 119 (dk_at dksX1_fractions_5 1 rfl rfl)
theorem dX1_fractions_120 : decode cX1_fractions 120 = .ok (.istore 5, 2) := dk_54 5 (dk_at dksX1_fractions_5 4 rfl rfl)
theorem dX1_fractions_122 : decode cX1_fractions 122 = .ok (.aload_n 0, 1) := dk_42 (dk_at dksX1_fractions_5 6 rfl rfl)
theorem dX1_fractions_123 : decode cX1_fractions 123 = .ok (.invokevirtual 331, 3) := dk_182 1 75 (dk_at dksX1_fractions_5 7 rfl rfl)
theorem dX1_fractions_126 : decode cX1_fractions 126 = .ok (.aload_n 0, 1) := dk_42 (dk_at dksX1_fractions_5 10 rfl rfl)
theorem dX1_fractions_127 : decode cX1_fractions 127 = .ok (.invokevirtual 375, 3) := dk_182 1 119 (dk_at dksX1_fractions_5 11 rfl rfl)
theorem dX1_fractions_130 : decode cX1_fractions 130 = .ok (.istore 6, 2) := dk_54 6 (dk_at dksX1_fractions_5 14 rfl rfl)
theorem dX1_fractions_132 : decode cX1_fractions 132 = .ok (.aload_n 0, 1) := dk_42 (dk_at dksX1_fractions_5 16 rfl rfl)
theorem dX1_fractions_133 : decode cX1_fractions 133 = .ok (.invokevirtual 331, 3) := dk_182 1 75 (dk_at dksX1_fractions_5 17 rfl rfl)
theorem dX1_fractions_136 : decode cX1_fractions 136 = .ok (.aload_n 0, 1) := dk_42 (dk_at dksX1_fractions_5 20 rfl rfl)
theorem dX1_fractions_137 : decode cX1_fractions 137 = .ok (.ldc_w 381, 3) := dk_19 1 125 (dk_at dksX1_fractions_5 21 rfl rfl)
theorem dX1_fractions_140 : decode cX1_fractions 140 = .ok (.iload 4, 2) := dk_21 4 (dk_at dksX1_fractions_6 0 rfl rfl)
theorem dX1_fractions_142 : decode cX1_fractions 142 = .ok (.bipush 21, 2) := dk_16 21 (dk_at dksX1_fractions_6 2 rfl rfl)
theorem dX1_fractions_144 : decode cX1_fractions 144 = .ok (.ishl, 1) := dk_120 (dk_at dksX1_fractions_6 4 rfl rfl)
theorem dX1_fractions_145 : decode cX1_fractions 145 = .ok (.ior, 1) := dk_128 (dk_at dksX1_fractions_6 5 rfl rfl)
theorem dX1_fractions_146 : decode cX1_fractions 146 = .ok (.aload_n 0, 1) := dk_42 (dk_at dksX1_fractions_6 6 rfl rfl)
theorem dX1_fractions_147 : decode cX1_fractions 147 = .ok (.invokevirtual 375, 3) := dk_182 1 119 (dk_at dksX1_fractions_6 7 rfl rfl)
theorem dX1_fractions_150 : decode cX1_fractions 150 = .ok (.bipush 16, 2) := dk_16 16 (dk_at dksX1_fractions_6 10 rfl rfl)
theorem dX1_fractions_152 : decode cX1_fractions 152 = .ok (.ishl, 1) := dk_120 (dk_at dksX1_fractions_6 12 rfl rfl)
theorem dX1_fractions_153 : decode cX1_fractions 153 = .ok (.ior, 1) := dk_128 (dk_at dksX1_fractions_6 13 rfl rfl)
theorem dX1_fractions_154 : decode cX1_fractions 154 = .ok (.iload 6, 2) := dk_21 6 (dk_at dksX1_fractions_6 14 rfl rfl)
theorem dX1_fractions_156 : decode cX1_fractions 156 = .ok (.bipush 11, 2) := dk_16 11 (dk_at dksX1_fractions_6 16 rfl rfl)
theorem dX1_fractions_158 : decode cX1_fractions 158 = .ok (.ishl, 1) := dk_120 (dk_at dksX1_fractions_6 18 rfl rfl)
theorem dX1_fractions_159 : decode cX1_fractions 159 = .ok (.ior, 1) := dk_128 (dk_at dksX1_fractions_6 19 rfl rfl)
theorem dX1_fractions_160 : decode cX1_fractions 160 = .ok (.iload 5, 2) := dk_21 5 (dk_at dksX1_fractions_6 20 rfl rfl)
theorem dX1_fractions_162 : decode cX1_fractions 162 = .ok (.bipush 6, 2) := dk_16 6 (dk_at dksX1_fractions_6 22 rfl rfl)
theorem dX1_fractions_164 : decode cX1_fractions 164 = .ok (.ishl, 1) := dk_120 (dk_at dksX1_fractions_7 0 rfl rfl)
theorem dX1_fractions_165 : decode cX1_fractions 165 = .ok (.ior, 1) := dk_128 (dk_at dksX1_fractions_7 1 rfl rfl)
theorem dX1_fractions_166 : decode cX1_fractions 166 = .ok (.iload_n 3, 1) := dk_29 (dk_at dksX1_fractions_7 2 rfl rfl)
theorem dX1_fractions_167 : decode cX1_fractions 167 = .ok (.ior, 1) := dk_128 (dk_at dksX1_fractions_7 3 rfl rfl)
theorem dX1_fractions_168 : decode cX1_fractions 168 = .ok (.invokevirtual 245, 3) := dk_182 0 245 (dk_at dksX1_fractions_7 4 rfl rfl)
theorem dX1_fractions_171 : decode cX1_fractions 171 = .ok (.return_, 1) := dk_177 (dk_at dksX1_fractions_7 7 rfl rfl)
theorem dX1_fractions_172 : decode cX1_fractions 172 = .ok (.aload_n 0, 1) := dk_42 (dk_at dksX1_fractions_7 8 rfl rfl)
theorem dX1_fractions_173 : decode cX1_fractions 173 = .ok (.ldc_w 324, 3) := dk_19 1 68 (dk_at dksX1_fractions_7 9 rfl rfl)
theorem dX1_fractions_176 : decode cX1_fractions 176 = .ok (.iload_n 1, 1) := dk_27 (dk_at dksX1_fractions_7 12 rfl rfl)
theorem dX1_fractions_177 : decode cX1_fractions 177 = .ok (.iload_n 2, 1) := dk_28 (dk_at dksX1_fractions_7 13 rfl rfl)
theorem dX1_fractions_178 : decode cX1_fractions 178 = .ok (.iconst 2, 1) := dk_5 (dk_at dksX1_fractions_7 14 rfl rfl)
theorem dX1_fractions_179 : decode cX1_fractions 179 = .ok (.isub, 1) := dk_100 (dk_at dksX1_fractions_7 15 rfl rfl)
theorem dX1_fractions_180 : decode cX1_fractions 180 = .ok (.invokevirtual 117, 3) := dk_182 0 117 (dk_at dksX1_fractions_7 16 rfl rfl)
theorem dX1_fractions_183 : decode cX1_fractions 183 = .ok (.istore_n 3, 1) := dk_62 (dk_at dksX1_fractions_7 19 rfl rfl)
theorem dX1_fractions_184 : decode cX1_fractions 184 = .ok (.iload_n 3, 1) := dk_29 (dk_at dksX1_fractions_7 20 rfl rfl)
theorem dX1_fractions_185 : decode cX1_fractions 185 = .ok (.ifCond .lt 43, 3) := dk_155 0 43 (dk_at dksX1_fractions_7 21 rfl rfl)
theorem dX1_fractions_188 : decode cX1_fractions 188 = .ok (.aload_n 0, 1) := dk_42 (dk_at dksX1_fractions_8 0 rfl rfl)
theorem dX1_fractions_189 : decode cX1_fractions 189 = .ok (.invokevirtual 375, 3) := dk_182 1 119 (dk_at dksX1_fractions_8 1 rfl rfl)
theorem dX1_fractions_192 : decode cX1_fractions 192 = .ok (.istore 5, 2) := dk_54 5 (dk_at dksX1_fractions_8 4 rfl rfl)
theorem dX1_fractions_194 : decode cX1_fractions 194 = .ok (.aload_n 0, 1) := dk_42 (dk_at dksX1_fractions_8 6 rfl rfl)
theorem dX1_fractions_195 : decode cX1_fractions 195 = .ok (.invokevirtual 331, 3) := dk_182 1 75 (dk_at dksX1_fractions_8 7 rfl rfl)
theorem dX1_fractions_198 : decode cX1_fractions 198 = .ok (.aload_n 0, 1) := dk_42 (dk_at dksX1_fractions_8 10 rfl rfl)
theorem dX1_fractions_199 : decode cX1_fractions 199 = .ok (.ldc_w 381, 3) := dk_19 1 125 (dk_at dksX1_fractions_8 11 rfl rfl)
theorem dX1_fractions_202 : decode cX1_fractions 202 = .ok (.iload 4, 2) := dk_21 4 (dk_at dksX1_fractions_8 14 rfl rfl)
theorem dX1_fractions_204 : decode cX1_fractions 204 = .ok (.bipush 21, 2) := dk_16 21 (dk_at dksX1_fractions_8 16 rfl rfl)
theorem dX1_fractions_206 : decode cX1_fractions 206 = .ok (.ishl, 1) := dk_120 (dk_at dksX1_fractions_8 18 rfl rfl)
theorem dX1_fractions_207 : decode cX1_fractions 207 = .ok (.ior, 1) := dk_128 (dk_at dksX1_fractions_8 19 rfl rfl)
theorem dX1_fractions_208 : decode cX1_fractions 208 = .ok (.aload_n 0, 1) := dk_42 (dk_at dksX1_fractions_8 20 rfl rfl)
theorem dX1_fractions_209 : decode cX1_fractions 209 = .ok (.invokevirtual 375, 3) := dk_182 1 119 (dk_at dksX1_fractions_8 21 rfl rfl)
theorem dX1_fractions_212 : decode cX1_fractions 212 = .ok (.bipush 11, 2) := dk_16 11 (dk_at dksX1_fractions_9 0 rfl rfl)
theorem dX1_fractions_214 : decode cX1_fractions 214 = .ok (.ishl, 1) := dk_120 (dk_at dksX1_fractions_9 2 rfl rfl)
theorem dX1_fractions_215 : decode cX1_fractions 215 = .ok (.ior, 1) := dk_128 (dk_at dksX1_fractions_9 3 rfl rfl)
theorem dX1_fractions_216 : decode cX1_fractions 216 = .ok (.iload 5, 2) := dk_21 5 (dk_at dksX1_fractions_9 4 rfl rfl)
theorem dX1_fractions_218 : decode cX1_fractions 218 = .ok (.bipush 6, 2) := dk_16 6 (dk_at dksX1_fractions_9 6 rfl rfl)
theorem dX1_fractions_220 : decode cX1_fractions 220 = .ok (.ishl, 1) := dk_120 (dk_at dksX1_fractions_9 8 rfl rfl)
theorem dX1_fractions_221 : decode cX1_fractions 221 = .ok (.ior, 1) := dk_128 (dk_at dksX1_fractions_9 9 rfl rfl)
theorem dX1_fractions_222 : decode cX1_fractions 222 = .ok (.iload_n 3, 1) := dk_29 (dk_at dksX1_fractions_9 10 rfl rfl)
theorem dX1_fractions_223 : decode cX1_fractions 223 = .ok (.ior, 1) := dk_128 (dk_at dksX1_fractions_9 11 rfl rfl)
theorem dX1_fractions_224 : decode cX1_fractions 224 = .ok (.invokevirtual 245, 3) := dk_182 0 245 (dk_at dksX1_fractions_9 12 rfl rfl)
theorem dX1_fractions_227 : decode cX1_fractions 227 = .ok (.return_, 1) := dk_177 (dk_at dksX1_fractions_9 15 rfl rfl)
theorem dX1_fractions_228 : decode cX1_fractions 228 = .ok (.aload_n 0, 1) := dk_42 (dk_at dksX1_fractions_9 16 rfl rfl)
theorem dX1_fractions_229 : decode cX1_fractions 229 = .ok (.ldc_w 326, 3) := dk_19 1 70 (dk_at dksX1_fractions_9 17 rfl rfl)
theorem dX1_fractions_232 : decode cX1_fractions 232 = .ok (.iload_n 1, 1) := dk_27 (dk_at dksX1_fractions_9 20 rfl rfl)
theorem dX1_fractions_233 : decode cX1_fractions 233 = .ok (.iconst 2, 1) := dk_5 (dk_at dksX1_fractions_9 21 rfl rfl)
theorem dX1_fractions_234 : decode cX1_fractions 234 = .ok (.iadd, 1) := dk_96 (dk_at dksX1_fractions_9 22 rfl rfl)
theorem dX1_fractions_235 : decode cX1_fractions 235 = .ok (.iload_n 2, 1) := dk_28 (dk_at dksX1_fractions_9 23 rfl rfl)
theorem dX1_fractions_236 : decode cX1_fractions 236 = .ok (.iconst 4, 1) := dk_7 (dk_at dksX1_fractions_10 0 rfl rfl)
theorem dX1_fractions_237 : decode cX1_fractions 237 = .ok (.isub, 1) := dk_100 (dk_at dksX1_fractions_10 1 rfl rfl)
theorem dX1_fractions_238 : decode cX1_fractions 238 = .ok (.invokevirtual 117, 3) := dk_182 0 117 (dk_at dksX1_fractions_10 2 rfl rfl)
theorem dX1_fractions_241 : decode cX1_fractions 241 = .ok (.istore_n 3, 1) := dk_62 (dk_at dksX1_fractions_10 5 rfl rfl)
theorem dX1_fractions_242 : decode cX1_fractions 242 = .ok (.aload_n 0, 1) := dk_42 (dk_at dksX1_fractions_10 6 rfl rfl)
theorem dX1_fractions_243 : decode cX1_fractions 243 = .ok (.invokevirtual 366, 3) := dk_182 1 110 (dk_at dksX1_fractions_10 7 rfl rfl)
theorem dX1_fractions_246 : decode cX1_fractions 246 = .ok (.istore 5, 2) := dk_54 5 (dk_at dksX1_fractions_10 10 rfl rfl)
theorem dX1_fractions_248 : decode cX1_fractions 248 = .ok (.aload_n 0, 1) := dk_42 (dk_at dksX1_fractions_10 12 rfl rfl)
theorem dX1_fractions_249 : decode cX1_fractions 249 = .ok (.invokevirtual 375, 3) := dk_182 1 119 (dk_at dksX1_fractions_10 13 rfl rfl)
theorem dX1_fractions_252 : decode cX1_fractions 252 = .ok (.istore 6, 2) := dk_54 6 (dk_at dksX1_fractions_10 16 rfl rfl)
theorem dX1_fractions_254 : decode cX1_fractions 254 = .ok (.aload_n 0, 1) := dk_42 (dk_at dksX1_fractions_10 18 rfl rfl)
theorem dX1_fractions_255 : decode cX1_fractions 255 = .ok (.invokevirtual 331, 3) := dk_182 1 75 (dk_at dksX1_fractions_10 19 rfl rfl)
theorem dX1_fractions_258 : decode cX1_fractions 258 = .ok (.aload_n 0, 1) := dk_42 (dk_at dksX1_fractions_10 22 rfl rfl)
theorem dX1_fractions_259 : decode cX1_fractions 259 = .ok (.ldc_w 381, 3) := dk_19 1 125 (dk_at dksX1_fractions_11 0 rfl rfl)
theorem dX1_fractions_262 : decode cX1_fractions 262 = .ok (.iload 4, 2) := dk_21 4 (dk_at dksX1_fractions_11 3 rfl rfl)
theorem dX1_fractions_264 : decode cX1_fractions 264 = .ok (.bipush 21, 2) := dk_16 21 (dk_at dksX1_fractions_11 5 rfl rfl)
theorem dX1_fractions_266 : decode cX1_fractions 266 = .ok (.ishl, 1) := dk_120 (dk_at dksX1_fractions_11 7 rfl rfl)
theorem dX1_fractions_267 : decode cX1_fractions 267 = .ok (.ior, 1) := dk_128 (dk_at dksX1_fractions_11 8 rfl rfl)
theorem dX1_fractions_268 : decode cX1_fractions 268 = .ok (.aload_n 0, 1) := dk_42 (dk_at dksX1_fractions_11 9 rfl rfl)
theorem dX1_fractions_269 : decode cX1_fractions 269 = .ok (.invokevirtual 375, 3) := dk_182 1 119 (dk_at dksX1_fractions_11 10 rfl rfl)
theorem dX1_fractions_272 : decode cX1_fractions 272 = .ok (.bipush 16, 2) := dk_16 16 (dk_at dksX1_fractions_11 13 rfl rfl)
theorem dX1_fractions_274 : decode cX1_fractions 274 = .ok (.ishl, 1) := dk_120 (dk_at dksX1_fractions_11 15 rfl rfl)
theorem dX1_fractions_275 : decode cX1_fractions 275 = .ok (.ior, 1) := dk_128 (dk_at dksX1_fractions_11 16 rfl rfl)
theorem dX1_fractions_276 : decode cX1_fractions 276 = .ok (.iload 6, 2) := dk_21 6 (dk_at dksX1_fractions_11 17 rfl rfl)
theorem dX1_fractions_278 : decode cX1_fractions 278 = .ok (.bipush 11, 2) := dk_16 11 (dk_at dksX1_fractions_11 19 rfl rfl)
theorem dX1_fractions_280 : decode cX1_fractions 280 = .ok (.ishl, 1) := dk_120 (dk_at dksX1_fractions_11 21 rfl rfl)
theorem dX1_fractions_281 : decode cX1_fractions 281 = .ok (.ior, 1) := dk_128 (dk_at dksX1_fractions_11 22 rfl rfl)
theorem dX1_fractions_282 : decode cX1_fractions 282 = .ok (.iload 5, 2) := dk_21 5 (dk_at dksX1_fractions_12 0 rfl rfl)
theorem dX1_fractions_284 : decode cX1_fractions 284 = .ok (.bipush 8, 2) := dk_16 8 (dk_at dksX1_fractions_12 2 rfl rfl)
theorem dX1_fractions_286 : decode cX1_fractions 286 = .ok (.ishl, 1) := dk_120 (dk_at dksX1_fractions_12 4 rfl rfl)
theorem dX1_fractions_287 : decode cX1_fractions 287 = .ok (.ior, 1) := dk_128 (dk_at dksX1_fractions_12 5 rfl rfl)
theorem dX1_fractions_288 : decode cX1_fractions 288 = .ok (.bipush 48, 2) := dk_16 48 (dk_at dksX1_fractions_12 6 rfl rfl)
theorem dX1_fractions_290 : decode cX1_fractions 290 = .ok (.ior, 1) := dk_128 (dk_at dksX1_fractions_12 8 rfl rfl)
theorem dX1_fractions_291 : decode cX1_fractions 291 = .ok (.iload_n 3, 1) := dk_29 (dk_at dksX1_fractions_12 9 rfl rfl)
theorem dX1_fractions_292 : decode cX1_fractions 292 = .ok (.ior, 1) := dk_128 (dk_at dksX1_fractions_12 10 rfl rfl)
theorem dX1_fractions_293 : decode cX1_fractions 293 = .ok (.invokevirtual 245, 3) := dk_182 0 245 (dk_at dksX1_fractions_12 11 rfl rfl)
theorem dX1_fractions_296 : decode cX1_fractions 296 = .ok (.return_, 1) := dk_177 (dk_at dksX1_fractions_12 14 rfl rfl)
abbrev cX1_fault : ByteArray := prog_1_method_62_code
def yX1_fault : MethodName := ⟨RX1, "fault", "(I)I"⟩
def dkwX1_fault_2 : List UInt8 := [180, 1, 192, 167, 0, 19, 27, 6, 160, 0, 10, 42, 180, 0, 19, 167, 0, 7, 42, 180, 0, 23, 172]
abbrev dktX1_fault_2 : List UInt8 := dkwX1_fault_2 ++ []
def dkwX1_fault_1 : List UInt8 := [180, 1, 180, 167, 0, 43, 27, 4, 160, 0, 10, 42, 180, 1, 183, 167, 0, 31, 27, 5, 160, 0, 10, 42]
abbrev dktX1_fault_1 : List UInt8 := dkwX1_fault_1 ++ dktX1_fault_2
def dkwX1_fault_0 : List UInt8 := [27, 155, 0, 12, 27, 8, 162, 0, 7, 4, 167, 0, 4, 3, 184, 1, 189, 27, 154, 0, 10, 42]
abbrev dktX1_fault_0 : List UInt8 := dkwX1_fault_0 ++ dktX1_fault_1
theorem dksX1_fault_0 : cX1_fault.data.toList.drop 0 = dktX1_fault_0 := by decide +kernel
theorem dksX1_fault_1 : cX1_fault.data.toList.drop 22 = dktX1_fault_1 := dk_seg dksX1_fault_0 22 rfl rfl
theorem dksX1_fault_2 : cX1_fault.data.toList.drop 46 = dktX1_fault_2 := dk_seg dksX1_fault_1 24 rfl rfl
theorem dX1_fault_0 : decode cX1_fault 0 = .ok (.iload_n 1, 1) := dk_27 (dk_at dksX1_fault_0 0 rfl rfl)
theorem dX1_fault_1 : decode cX1_fault 1 = .ok (.ifCond .lt 12, 3) := dk_155 0 12 (dk_at dksX1_fault_0 1 rfl rfl)
theorem dX1_fault_4 : decode cX1_fault 4 = .ok (.iload_n 1, 1) := dk_27 (dk_at dksX1_fault_0 4 rfl rfl)
theorem dX1_fault_5 : decode cX1_fault 5 = .ok (.iconst 5, 1) := dk_8 (dk_at dksX1_fault_0 5 rfl rfl)
theorem dX1_fault_6 : decode cX1_fault 6 = .ok (.if_icmp .ge 7, 3) := dk_162 0 7 (dk_at dksX1_fault_0 6 rfl rfl)
theorem dX1_fault_9 : decode cX1_fault 9 = .ok (.iconst 1, 1) := dk_4 (dk_at dksX1_fault_0 9 rfl rfl)
theorem dX1_fault_10 : decode cX1_fault 10 = .ok (.goto 4, 3) := dk_167 0 4 (dk_at dksX1_fault_0 10 rfl rfl)
theorem dX1_fault_13 : decode cX1_fault 13 = .ok (.iconst 0, 1) := dk_3 (dk_at dksX1_fault_0 13 rfl rfl)
theorem dX1_fault_14 : decode cX1_fault 14 = .ok (.invokestatic 445, 3) := dk_184 1 189 (dk_at dksX1_fault_0 14 rfl rfl)
theorem dX1_fault_17 : decode cX1_fault 17 = .ok (.iload_n 1, 1) := dk_27 (dk_at dksX1_fault_0 17 rfl rfl)
theorem dX1_fault_18 : decode cX1_fault 18 = .ok (.ifCond .ne 10, 3) := dk_154 0 10 (dk_at dksX1_fault_0 18 rfl rfl)
theorem dX1_fault_21 : decode cX1_fault 21 = .ok (.aload_n 0, 1) := dk_42 (dk_at dksX1_fault_0 21 rfl rfl)
theorem dX1_fault_22 : decode cX1_fault 22 = .ok (.getfield 436, 3) := dk_180 1 180 (dk_at dksX1_fault_1 0 rfl rfl)
theorem dX1_fault_25 : decode cX1_fault 25 = .ok (.goto 43, 3) := dk_167 0 43 (dk_at dksX1_fault_1 3 rfl rfl)
theorem dX1_fault_28 : decode cX1_fault 28 = .ok (.iload_n 1, 1) := dk_27 (dk_at dksX1_fault_1 6 rfl rfl)
theorem dX1_fault_29 : decode cX1_fault 29 = .ok (.iconst 1, 1) := dk_4 (dk_at dksX1_fault_1 7 rfl rfl)
theorem dX1_fault_30 : decode cX1_fault 30 = .ok (.if_icmp .ne 10, 3) := dk_160 0 10 (dk_at dksX1_fault_1 8 rfl rfl)
theorem dX1_fault_33 : decode cX1_fault 33 = .ok (.aload_n 0, 1) := dk_42 (dk_at dksX1_fault_1 11 rfl rfl)
theorem dX1_fault_34 : decode cX1_fault 34 = .ok (.getfield 439, 3) := dk_180 1 183 (dk_at dksX1_fault_1 12 rfl rfl)
theorem dX1_fault_37 : decode cX1_fault 37 = .ok (.goto 31, 3) := dk_167 0 31 (dk_at dksX1_fault_1 15 rfl rfl)
theorem dX1_fault_40 : decode cX1_fault 40 = .ok (.iload_n 1, 1) := dk_27 (dk_at dksX1_fault_1 18 rfl rfl)
theorem dX1_fault_41 : decode cX1_fault 41 = .ok (.iconst 2, 1) := dk_5 (dk_at dksX1_fault_1 19 rfl rfl)
theorem dX1_fault_42 : decode cX1_fault 42 = .ok (.if_icmp .ne 10, 3) := dk_160 0 10 (dk_at dksX1_fault_1 20 rfl rfl)
theorem dX1_fault_45 : decode cX1_fault 45 = .ok (.aload_n 0, 1) := dk_42 (dk_at dksX1_fault_1 23 rfl rfl)
theorem dX1_fault_46 : decode cX1_fault 46 = .ok (.getfield 448, 3) := dk_180 1 192 (dk_at dksX1_fault_2 0 rfl rfl)
theorem dX1_fault_49 : decode cX1_fault 49 = .ok (.goto 19, 3) := dk_167 0 19 (dk_at dksX1_fault_2 3 rfl rfl)
theorem dX1_fault_52 : decode cX1_fault 52 = .ok (.iload_n 1, 1) := dk_27 (dk_at dksX1_fault_2 6 rfl rfl)
theorem dX1_fault_53 : decode cX1_fault 53 = .ok (.iconst 3, 1) := dk_6 (dk_at dksX1_fault_2 7 rfl rfl)
theorem dX1_fault_54 : decode cX1_fault 54 = .ok (.if_icmp .ne 10, 3) := dk_160 0 10 (dk_at dksX1_fault_2 8 rfl rfl)
theorem dX1_fault_57 : decode cX1_fault 57 = .ok (.aload_n 0, 1) := dk_42 (dk_at dksX1_fault_2 11 rfl rfl)
theorem dX1_fault_58 : decode cX1_fault 58 = .ok (.getfield 19, 3) := dk_180 0 19 (dk_at dksX1_fault_2 12 rfl rfl)
theorem dX1_fault_61 : decode cX1_fault 61 = .ok (.goto 7, 3) := dk_167 0 7 (dk_at dksX1_fault_2 15 rfl rfl)
theorem dX1_fault_64 : decode cX1_fault 64 = .ok (.aload_n 0, 1) := dk_42 (dk_at dksX1_fault_2 18 rfl rfl)
theorem dX1_fault_65 : decode cX1_fault 65 = .ok (.getfield 23, 3) := dk_180 0 23 (dk_at dksX1_fault_2 19 rfl rfl)
theorem dX1_fault_68 : decode cX1_fault 68 = .ok (.ireturn, 1) := dk_172 (dk_at dksX1_fault_2 22 rfl rfl)
abbrev cX1_there : ByteArray := prog_1_method_2_code
def yX1_there : MethodName := ⟨RX1, "there", "(Z)V"⟩
def dkwX1_there_0 : List UInt8 := [26, 154, 0, 11, 187, 0, 33, 89, 183, 0, 35, 191, 177]
abbrev dktX1_there_0 : List UInt8 := dkwX1_there_0 ++ []
theorem dksX1_there_0 : cX1_there.data.toList.drop 0 = dktX1_there_0 := by decide +kernel
theorem dX1_there_0 : decode cX1_there 0 = .ok (.iload_n 0, 1) := dk_26 (dk_at dksX1_there_0 0 rfl rfl)
theorem dX1_there_1 : decode cX1_there 1 = .ok (.ifCond .ne 11, 3) := dk_154 0 11 (dk_at dksX1_there_0 1 rfl rfl)
theorem dX1_there_4 : decode cX1_there 4 = .ok (.new 33, 3) := dk_187 0 33 (dk_at dksX1_there_0 4 rfl rfl)
theorem dX1_there_7 : decode cX1_there 7 = .ok (.dup, 1) := dk_89 (dk_at dksX1_there_0 7 rfl rfl)
theorem dX1_there_8 : decode cX1_there 8 = .ok (.invokespecial 35, 3) := dk_183 0 35 (dk_at dksX1_there_0 8 rfl rfl)
theorem dX1_there_11 : decode cX1_there 11 = .ok (.athrow, 1) := dk_191 (dk_at dksX1_there_0 11 rfl rfl)
theorem dX1_there_12 : decode cX1_there 12 = .ok (.return_, 1) := dk_177 (dk_at dksX1_there_0 12 rfl rfl)
abbrev cX1_size : ByteArray := prog_1_method_64_code
def yX1_size : MethodName := ⟨RX1, "size", "(II)I"⟩
def dkwX1_size_1 : List UInt8 := [180, 0, 201, 28, 46, 172]
abbrev dktX1_size_1 : List UInt8 := dkwX1_size_1 ++ []
def dkwX1_size_0 : List UInt8 := [28, 155, 0, 12, 28, 6, 162, 0, 7, 4, 167, 0, 4, 3, 184, 1, 189, 42, 27, 182, 1, 195]
abbrev dktX1_size_0 : List UInt8 := dkwX1_size_0 ++ dktX1_size_1
theorem dksX1_size_0 : cX1_size.data.toList.drop 0 = dktX1_size_0 := by decide +kernel
theorem dksX1_size_1 : cX1_size.data.toList.drop 22 = dktX1_size_1 := dk_seg dksX1_size_0 22 rfl rfl
theorem dX1_size_0 : decode cX1_size 0 = .ok (.iload_n 2, 1) := dk_28 (dk_at dksX1_size_0 0 rfl rfl)
theorem dX1_size_1 : decode cX1_size 1 = .ok (.ifCond .lt 12, 3) := dk_155 0 12 (dk_at dksX1_size_0 1 rfl rfl)
theorem dX1_size_4 : decode cX1_size 4 = .ok (.iload_n 2, 1) := dk_28 (dk_at dksX1_size_0 4 rfl rfl)
theorem dX1_size_5 : decode cX1_size 5 = .ok (.iconst 3, 1) := dk_6 (dk_at dksX1_size_0 5 rfl rfl)
theorem dX1_size_6 : decode cX1_size 6 = .ok (.if_icmp .ge 7, 3) := dk_162 0 7 (dk_at dksX1_size_0 6 rfl rfl)
theorem dX1_size_9 : decode cX1_size 9 = .ok (.iconst 1, 1) := dk_4 (dk_at dksX1_size_0 9 rfl rfl)
theorem dX1_size_10 : decode cX1_size 10 = .ok (.goto 4, 3) := dk_167 0 4 (dk_at dksX1_size_0 10 rfl rfl)
theorem dX1_size_13 : decode cX1_size 13 = .ok (.iconst 0, 1) := dk_3 (dk_at dksX1_size_0 13 rfl rfl)
theorem dX1_size_14 : decode cX1_size 14 = .ok (.invokestatic 445, 3) := dk_184 1 189 (dk_at dksX1_size_0 14 rfl rfl)
theorem dX1_size_17 : decode cX1_size 17 = .ok (.aload_n 0, 1) := dk_42 (dk_at dksX1_size_0 17 rfl rfl)
theorem dX1_size_18 : decode cX1_size 18 = .ok (.iload_n 1, 1) := dk_27 (dk_at dksX1_size_0 18 rfl rfl)
theorem dX1_size_19 : decode cX1_size 19 = .ok (.invokevirtual 451, 3) := dk_182 1 195 (dk_at dksX1_size_0 19 rfl rfl)
theorem dX1_size_22 : decode cX1_size 22 = .ok (.getfield 201, 3) := dk_180 0 201 (dk_at dksX1_size_1 0 rfl rfl)
theorem dX1_size_25 : decode cX1_size 25 = .ok (.iload_n 2, 1) := dk_28 (dk_at dksX1_size_1 3 rfl rfl)
theorem dX1_size_26 : decode cX1_size 26 = .ok (.iaload, 1) := dk_46 (dk_at dksX1_size_1 4 rfl rfl)
theorem dX1_size_27 : decode cX1_size 27 = .ok (.ireturn, 1) := dk_172 (dk_at dksX1_size_1 5 rfl rfl)
abbrev cX1_unitOf : ByteArray := prog_1_method_63_code
def yX1_unitOf : MethodName := ⟨RX1, "unitOf", "(I)LObjectForge$Unit;"⟩
def dkwX1_unitOf_1 : List UInt8 := [27, 50, 176]
abbrev dktX1_unitOf_1 : List UInt8 := dkwX1_unitOf_1 ++ []
def dkwX1_unitOf_0 : List UInt8 := [27, 155, 0, 15, 27, 42, 180, 1, 173, 162, 0, 7, 4, 167, 0, 4, 3, 184, 1, 189, 42, 180, 0, 15]
abbrev dktX1_unitOf_0 : List UInt8 := dkwX1_unitOf_0 ++ dktX1_unitOf_1
theorem dksX1_unitOf_0 : cX1_unitOf.data.toList.drop 0 = dktX1_unitOf_0 := by decide +kernel
theorem dksX1_unitOf_1 : cX1_unitOf.data.toList.drop 24 = dktX1_unitOf_1 := dk_seg dksX1_unitOf_0 24 rfl rfl
theorem dX1_unitOf_0 : decode cX1_unitOf 0 = .ok (.iload_n 1, 1) := dk_27 (dk_at dksX1_unitOf_0 0 rfl rfl)
theorem dX1_unitOf_1 : decode cX1_unitOf 1 = .ok (.ifCond .lt 15, 3) := dk_155 0 15 (dk_at dksX1_unitOf_0 1 rfl rfl)
theorem dX1_unitOf_4 : decode cX1_unitOf 4 = .ok (.iload_n 1, 1) := dk_27 (dk_at dksX1_unitOf_0 4 rfl rfl)
theorem dX1_unitOf_5 : decode cX1_unitOf 5 = .ok (.aload_n 0, 1) := dk_42 (dk_at dksX1_unitOf_0 5 rfl rfl)
theorem dX1_unitOf_6 : decode cX1_unitOf 6 = .ok (.getfield 429, 3) := dk_180 1 173 (dk_at dksX1_unitOf_0 6 rfl rfl)
theorem dX1_unitOf_9 : decode cX1_unitOf 9 = .ok (.if_icmp .ge 7, 3) := dk_162 0 7 (dk_at dksX1_unitOf_0 9 rfl rfl)
theorem dX1_unitOf_12 : decode cX1_unitOf 12 = .ok (.iconst 1, 1) := dk_4 (dk_at dksX1_unitOf_0 12 rfl rfl)
theorem dX1_unitOf_13 : decode cX1_unitOf 13 = .ok (.goto 4, 3) := dk_167 0 4 (dk_at dksX1_unitOf_0 13 rfl rfl)
theorem dX1_unitOf_16 : decode cX1_unitOf 16 = .ok (.iconst 0, 1) := dk_3 (dk_at dksX1_unitOf_0 16 rfl rfl)
theorem dX1_unitOf_17 : decode cX1_unitOf 17 = .ok (.invokestatic 445, 3) := dk_184 1 189 (dk_at dksX1_unitOf_0 17 rfl rfl)
theorem dX1_unitOf_20 : decode cX1_unitOf 20 = .ok (.aload_n 0, 1) := dk_42 (dk_at dksX1_unitOf_0 20 rfl rfl)
theorem dX1_unitOf_21 : decode cX1_unitOf 21 = .ok (.getfield 15, 3) := dk_180 0 15 (dk_at dksX1_unitOf_0 21 rfl rfl)
theorem dX1_unitOf_24 : decode cX1_unitOf 24 = .ok (.iload_n 1, 1) := dk_27 (dk_at dksX1_unitOf_1 0 rfl rfl)
theorem dX1_unitOf_25 : decode cX1_unitOf 25 = .ok (.aaload, 1) := dk_50 (dk_at dksX1_unitOf_1 1 rfl rfl)
theorem dX1_unitOf_26 : decode cX1_unitOf 26 = .ok (.areturn, 1) := dk_176 (dk_at dksX1_unitOf_1 2 rfl rfl)
abbrev cX1_byteAt : ByteArray := prog_1_method_65_code
def yX1_byteAt : MethodName := ⟨RX1, "byteAt", "(III)I"⟩
def dkwX1_byteAt_2 : List UInt8 := [25, 4, 28, 182, 0, 210, 29, 51, 17, 0, 255, 126, 172]
abbrev dktX1_byteAt_2 : List UInt8 := dkwX1_byteAt_2 ++ []
def dkwX1_byteAt_1 : List UInt8 := [29, 155, 0, 18, 29, 25, 4, 180, 0, 201, 28, 46, 162, 0, 7, 4, 167, 0, 4, 3, 184, 1, 189]
abbrev dktX1_byteAt_1 : List UInt8 := dkwX1_byteAt_1 ++ dktX1_byteAt_2
def dkwX1_byteAt_0 : List UInt8 := [28, 153, 0, 8, 28, 4, 160, 0, 7, 4, 167, 0, 4, 3, 184, 1, 189, 42, 27, 182, 1, 195, 58, 4]
abbrev dktX1_byteAt_0 : List UInt8 := dkwX1_byteAt_0 ++ dktX1_byteAt_1
theorem dksX1_byteAt_0 : cX1_byteAt.data.toList.drop 0 = dktX1_byteAt_0 := by decide +kernel
theorem dksX1_byteAt_1 : cX1_byteAt.data.toList.drop 24 = dktX1_byteAt_1 := dk_seg dksX1_byteAt_0 24 rfl rfl
theorem dksX1_byteAt_2 : cX1_byteAt.data.toList.drop 47 = dktX1_byteAt_2 := dk_seg dksX1_byteAt_1 23 rfl rfl
theorem dX1_byteAt_0 : decode cX1_byteAt 0 = .ok (.iload_n 2, 1) := dk_28 (dk_at dksX1_byteAt_0 0 rfl rfl)
theorem dX1_byteAt_1 : decode cX1_byteAt 1 = .ok (.ifCond .eq 8, 3) := dk_153 0 8 (dk_at dksX1_byteAt_0 1 rfl rfl)
theorem dX1_byteAt_4 : decode cX1_byteAt 4 = .ok (.iload_n 2, 1) := dk_28 (dk_at dksX1_byteAt_0 4 rfl rfl)
theorem dX1_byteAt_5 : decode cX1_byteAt 5 = .ok (.iconst 1, 1) := dk_4 (dk_at dksX1_byteAt_0 5 rfl rfl)
theorem dX1_byteAt_6 : decode cX1_byteAt 6 = .ok (.if_icmp .ne 7, 3) := dk_160 0 7 (dk_at dksX1_byteAt_0 6 rfl rfl)
theorem dX1_byteAt_9 : decode cX1_byteAt 9 = .ok (.iconst 1, 1) := dk_4 (dk_at dksX1_byteAt_0 9 rfl rfl)
theorem dX1_byteAt_10 : decode cX1_byteAt 10 = .ok (.goto 4, 3) := dk_167 0 4 (dk_at dksX1_byteAt_0 10 rfl rfl)
theorem dX1_byteAt_13 : decode cX1_byteAt 13 = .ok (.iconst 0, 1) := dk_3 (dk_at dksX1_byteAt_0 13 rfl rfl)
theorem dX1_byteAt_14 : decode cX1_byteAt 14 = .ok (.invokestatic 445, 3) := dk_184 1 189 (dk_at dksX1_byteAt_0 14 rfl rfl)
theorem dX1_byteAt_17 : decode cX1_byteAt 17 = .ok (.aload_n 0, 1) := dk_42 (dk_at dksX1_byteAt_0 17 rfl rfl)
theorem dX1_byteAt_18 : decode cX1_byteAt 18 = .ok (.iload_n 1, 1) := dk_27 (dk_at dksX1_byteAt_0 18 rfl rfl)
theorem dX1_byteAt_19 : decode cX1_byteAt 19 = .ok (.invokevirtual 451, 3) := dk_182 1 195 (dk_at dksX1_byteAt_0 19 rfl rfl)
theorem dX1_byteAt_22 : decode cX1_byteAt 22 = .ok (.astore 4, 2) := dk_58 4 (dk_at dksX1_byteAt_0 22 rfl rfl)
theorem dX1_byteAt_24 : decode cX1_byteAt 24 = .ok (.iload_n 3, 1) := dk_29 (dk_at dksX1_byteAt_1 0 rfl rfl)
theorem dX1_byteAt_25 : decode cX1_byteAt 25 = .ok (.ifCond .lt 18, 3) := dk_155 0 18 (dk_at dksX1_byteAt_1 1 rfl rfl)
theorem dX1_byteAt_28 : decode cX1_byteAt 28 = .ok (.iload_n 3, 1) := dk_29 (dk_at dksX1_byteAt_1 4 rfl rfl)
theorem dX1_byteAt_29 : decode cX1_byteAt 29 = .ok (.aload 4, 2) := dk_25 4 (dk_at dksX1_byteAt_1 5 rfl rfl)
theorem dX1_byteAt_31 : decode cX1_byteAt 31 = .ok (.getfield 201, 3) := dk_180 0 201 (dk_at dksX1_byteAt_1 7 rfl rfl)
theorem dX1_byteAt_34 : decode cX1_byteAt 34 = .ok (.iload_n 2, 1) := dk_28 (dk_at dksX1_byteAt_1 10 rfl rfl)
theorem dX1_byteAt_35 : decode cX1_byteAt 35 = .ok (.iaload, 1) := dk_46 (dk_at dksX1_byteAt_1 11 rfl rfl)
theorem dX1_byteAt_36 : decode cX1_byteAt 36 = .ok (.if_icmp .ge 7, 3) := dk_162 0 7 (dk_at dksX1_byteAt_1 12 rfl rfl)
theorem dX1_byteAt_39 : decode cX1_byteAt 39 = .ok (.iconst 1, 1) := dk_4 (dk_at dksX1_byteAt_1 15 rfl rfl)
theorem dX1_byteAt_40 : decode cX1_byteAt 40 = .ok (.goto 4, 3) := dk_167 0 4 (dk_at dksX1_byteAt_1 16 rfl rfl)
theorem dX1_byteAt_43 : decode cX1_byteAt 43 = .ok (.iconst 0, 1) := dk_3 (dk_at dksX1_byteAt_1 19 rfl rfl)
theorem dX1_byteAt_44 : decode cX1_byteAt 44 = .ok (.invokestatic 445, 3) := dk_184 1 189 (dk_at dksX1_byteAt_1 20 rfl rfl)
theorem dX1_byteAt_47 : decode cX1_byteAt 47 = .ok (.aload 4, 2) := dk_25 4 (dk_at dksX1_byteAt_2 0 rfl rfl)
theorem dX1_byteAt_49 : decode cX1_byteAt 49 = .ok (.iload_n 2, 1) := dk_28 (dk_at dksX1_byteAt_2 2 rfl rfl)
theorem dX1_byteAt_50 : decode cX1_byteAt 50 = .ok (.invokevirtual 210, 3) := dk_182 0 210 (dk_at dksX1_byteAt_2 3 rfl rfl)
theorem dX1_byteAt_53 : decode cX1_byteAt 53 = .ok (.iload_n 3, 1) := dk_29 (dk_at dksX1_byteAt_2 6 rfl rfl)
theorem dX1_byteAt_54 : decode cX1_byteAt 54 = .ok (.baload, 1) := dk_51 (dk_at dksX1_byteAt_2 7 rfl rfl)
theorem dX1_byteAt_55 : decode cX1_byteAt 55 = .ok (.sipush 255, 3) := dk_17 0 255 (dk_at dksX1_byteAt_2 8 rfl rfl)
theorem dX1_byteAt_58 : decode cX1_byteAt 58 = .ok (.iand, 1) := dk_126 (dk_at dksX1_byteAt_2 11 rfl rfl)
theorem dX1_byteAt_59 : decode cX1_byteAt 59 = .ok (.ireturn, 1) := dk_172 (dk_at dksX1_byteAt_2 12 rfl rfl)
abbrev cX1_symbol : ByteArray := prog_1_method_66_code
def yX1_symbol : MethodName := ⟨RX1, "symbol", "(III)I"⟩
def dkwX1_symbol_4 : List UInt8 := [46, 172]
abbrev dktX1_symbol_4 : List UInt8 := dkwX1_symbol_4 ++ []
def dkwX1_symbol_3 : List UInt8 := [25, 4, 180, 0, 170, 28, 51, 153, 0, 7, 4, 167, 0, 14, 3, 167, 0, 10, 25, 4, 180, 0, 157, 28]
abbrev dktX1_symbol_3 : List UInt8 := dkwX1_symbol_3 ++ dktX1_symbol_4
def dkwX1_symbol_2 : List UInt8 := [167, 0, 48, 29, 4, 160, 0, 13, 25, 4, 180, 0, 167, 28, 46, 167, 0, 33, 29, 5, 160, 0, 21]
abbrev dktX1_symbol_2 : List UInt8 := dkwX1_symbol_2 ++ dktX1_symbol_3
def dkwX1_symbol_1 : List UInt8 := [29, 7, 162, 0, 7, 4, 167, 0, 4, 3, 184, 1, 189, 29, 154, 0, 13, 25, 4, 180, 0, 164, 28, 46]
abbrev dktX1_symbol_1 : List UInt8 := dkwX1_symbol_1 ++ dktX1_symbol_2
def dkwX1_symbol_0 : List UInt8 := [42, 27, 182, 1, 195, 58, 4, 28, 155, 0, 25, 28, 25, 4, 180, 0, 154, 162, 0, 16, 29, 155, 0, 12]
abbrev dktX1_symbol_0 : List UInt8 := dkwX1_symbol_0 ++ dktX1_symbol_1
theorem dksX1_symbol_0 : cX1_symbol.data.toList.drop 0 = dktX1_symbol_0 := by decide +kernel
theorem dksX1_symbol_1 : cX1_symbol.data.toList.drop 24 = dktX1_symbol_1 := dk_seg dksX1_symbol_0 24 rfl rfl
theorem dksX1_symbol_2 : cX1_symbol.data.toList.drop 48 = dktX1_symbol_2 := dk_seg dksX1_symbol_1 24 rfl rfl
theorem dksX1_symbol_3 : cX1_symbol.data.toList.drop 71 = dktX1_symbol_3 := dk_seg dksX1_symbol_2 23 rfl rfl
theorem dksX1_symbol_4 : cX1_symbol.data.toList.drop 95 = dktX1_symbol_4 := dk_seg dksX1_symbol_3 24 rfl rfl
theorem dX1_symbol_0 : decode cX1_symbol 0 = .ok (.aload_n 0, 1) := dk_42 (dk_at dksX1_symbol_0 0 rfl rfl)
theorem dX1_symbol_1 : decode cX1_symbol 1 = .ok (.iload_n 1, 1) := dk_27 (dk_at dksX1_symbol_0 1 rfl rfl)
theorem dX1_symbol_2 : decode cX1_symbol 2 = .ok (.invokevirtual 451, 3) := dk_182 1 195 (dk_at dksX1_symbol_0 2 rfl rfl)
theorem dX1_symbol_5 : decode cX1_symbol 5 = .ok (.astore 4, 2) := dk_58 4 (dk_at dksX1_symbol_0 5 rfl rfl)
theorem dX1_symbol_7 : decode cX1_symbol 7 = .ok (.iload_n 2, 1) := dk_28 (dk_at dksX1_symbol_0 7 rfl rfl)
theorem dX1_symbol_8 : decode cX1_symbol 8 = .ok (.ifCond .lt 25, 3) := dk_155 0 25 (dk_at dksX1_symbol_0 8 rfl rfl)
theorem dX1_symbol_11 : decode cX1_symbol 11 = .ok (.iload_n 2, 1) := dk_28 (dk_at dksX1_symbol_0 11 rfl rfl)
theorem dX1_symbol_12 : decode cX1_symbol 12 = .ok (.aload 4, 2) := dk_25 4 (dk_at dksX1_symbol_0 12 rfl rfl)
theorem dX1_symbol_14 : decode cX1_symbol 14 = .ok (.getfield 154, 3) := dk_180 0 154 (dk_at dksX1_symbol_0 14 rfl rfl)
theorem dX1_symbol_17 : decode cX1_symbol 17 = .ok (.if_icmp .ge 16, 3) := dk_162 0 16 (dk_at dksX1_symbol_0 17 rfl rfl)
theorem dX1_symbol_20 : decode cX1_symbol 20 = .ok (.iload_n 3, 1) := dk_29 (dk_at dksX1_symbol_0 20 rfl rfl)
theorem dX1_symbol_21 : decode cX1_symbol 21 = .ok (.ifCond .lt 12, 3) := dk_155 0 12 (dk_at dksX1_symbol_0 21 rfl rfl)
theorem dX1_symbol_24 : decode cX1_symbol 24 = .ok (.iload_n 3, 1) := dk_29 (dk_at dksX1_symbol_1 0 rfl rfl)
theorem dX1_symbol_25 : decode cX1_symbol 25 = .ok (.iconst 4, 1) := dk_7 (dk_at dksX1_symbol_1 1 rfl rfl)
theorem dX1_symbol_26 : decode cX1_symbol 26 = .ok (.if_icmp .ge 7, 3) := dk_162 0 7 (dk_at dksX1_symbol_1 2 rfl rfl)
theorem dX1_symbol_29 : decode cX1_symbol 29 = .ok (.iconst 1, 1) := dk_4 (dk_at dksX1_symbol_1 5 rfl rfl)
theorem dX1_symbol_30 : decode cX1_symbol 30 = .ok (.goto 4, 3) := dk_167 0 4 (dk_at dksX1_symbol_1 6 rfl rfl)
theorem dX1_symbol_33 : decode cX1_symbol 33 = .ok (.iconst 0, 1) := dk_3 (dk_at dksX1_symbol_1 9 rfl rfl)
theorem dX1_symbol_34 : decode cX1_symbol 34 = .ok (.invokestatic 445, 3) := dk_184 1 189 (dk_at dksX1_symbol_1 10 rfl rfl)
theorem dX1_symbol_37 : decode cX1_symbol 37 = .ok (.iload_n 3, 1) := dk_29 (dk_at dksX1_symbol_1 13 rfl rfl)
theorem dX1_symbol_38 : decode cX1_symbol 38 = .ok (.ifCond .ne 13, 3) := dk_154 0 13 (dk_at dksX1_symbol_1 14 rfl rfl)
theorem dX1_symbol_41 : decode cX1_symbol 41 = .ok (.aload 4, 2) := dk_25 4 (dk_at dksX1_symbol_1 17 rfl rfl)
theorem dX1_symbol_43 : decode cX1_symbol 43 = .ok (.getfield 164, 3) := dk_180 0 164 (dk_at dksX1_symbol_1 19 rfl rfl)
theorem dX1_symbol_46 : decode cX1_symbol 46 = .ok (.iload_n 2, 1) := dk_28 (dk_at dksX1_symbol_1 22 rfl rfl)
theorem dX1_symbol_47 : decode cX1_symbol 47 = .ok (.iaload, 1) := dk_46 (dk_at dksX1_symbol_1 23 rfl rfl)
theorem dX1_symbol_48 : decode cX1_symbol 48 = .ok (.goto 48, 3) := dk_167 0 48 (dk_at dksX1_symbol_2 0 rfl rfl)
theorem dX1_symbol_51 : decode cX1_symbol 51 = .ok (.iload_n 3, 1) := dk_29 (dk_at dksX1_symbol_2 3 rfl rfl)
theorem dX1_symbol_52 : decode cX1_symbol 52 = .ok (.iconst 1, 1) := dk_4 (dk_at dksX1_symbol_2 4 rfl rfl)
theorem dX1_symbol_53 : decode cX1_symbol 53 = .ok (.if_icmp .ne 13, 3) := dk_160 0 13 (dk_at dksX1_symbol_2 5 rfl rfl)
theorem dX1_symbol_56 : decode cX1_symbol 56 = .ok (.aload 4, 2) := dk_25 4 (dk_at dksX1_symbol_2 8 rfl rfl)
theorem dX1_symbol_58 : decode cX1_symbol 58 = .ok (.getfield 167, 3) := dk_180 0 167 (dk_at dksX1_symbol_2 10 rfl rfl)
theorem dX1_symbol_61 : decode cX1_symbol 61 = .ok (.iload_n 2, 1) := dk_28 (dk_at dksX1_symbol_2 13 rfl rfl)
theorem dX1_symbol_62 : decode cX1_symbol 62 = .ok (.iaload, 1) := dk_46 (dk_at dksX1_symbol_2 14 rfl rfl)
theorem dX1_symbol_63 : decode cX1_symbol 63 = .ok (.goto 33, 3) := dk_167 0 33 (dk_at dksX1_symbol_2 15 rfl rfl)
theorem dX1_symbol_66 : decode cX1_symbol 66 = .ok (.iload_n 3, 1) := dk_29 (dk_at dksX1_symbol_2 18 rfl rfl)
theorem dX1_symbol_67 : decode cX1_symbol 67 = .ok (.iconst 2, 1) := dk_5 (dk_at dksX1_symbol_2 19 rfl rfl)
theorem dX1_symbol_68 : decode cX1_symbol 68 = .ok (.if_icmp .ne 21, 3) := dk_160 0 21 (dk_at dksX1_symbol_2 20 rfl rfl)
theorem dX1_symbol_71 : decode cX1_symbol 71 = .ok (.aload 4, 2) := dk_25 4 (dk_at dksX1_symbol_3 0 rfl rfl)
theorem dX1_symbol_73 : decode cX1_symbol 73 = .ok (.getfield 170, 3) := dk_180 0 170 (dk_at dksX1_symbol_3 2 rfl rfl)
theorem dX1_symbol_76 : decode cX1_symbol 76 = .ok (.iload_n 2, 1) := dk_28 (dk_at dksX1_symbol_3 5 rfl rfl)
theorem dX1_symbol_77 : decode cX1_symbol 77 = .ok (.baload, 1) := dk_51 (dk_at dksX1_symbol_3 6 rfl rfl)
theorem dX1_symbol_78 : decode cX1_symbol 78 = .ok (.ifCond .eq 7, 3) := dk_153 0 7 (dk_at dksX1_symbol_3 7 rfl rfl)
theorem dX1_symbol_81 : decode cX1_symbol 81 = .ok (.iconst 1, 1) := dk_4 (dk_at dksX1_symbol_3 10 rfl rfl)
theorem dX1_symbol_82 : decode cX1_symbol 82 = .ok (.goto 14, 3) := dk_167 0 14 (dk_at dksX1_symbol_3 11 rfl rfl)
theorem dX1_symbol_85 : decode cX1_symbol 85 = .ok (.iconst 0, 1) := dk_3 (dk_at dksX1_symbol_3 14 rfl rfl)
theorem dX1_symbol_86 : decode cX1_symbol 86 = .ok (.goto 10, 3) := dk_167 0 10 (dk_at dksX1_symbol_3 15 rfl rfl)
theorem dX1_symbol_89 : decode cX1_symbol 89 = .ok (.aload 4, 2) := dk_25 4 (dk_at dksX1_symbol_3 18 rfl rfl)
theorem dX1_symbol_91 : decode cX1_symbol 91 = .ok (.getfield 157, 3) := dk_180 0 157 (dk_at dksX1_symbol_3 20 rfl rfl)
theorem dX1_symbol_94 : decode cX1_symbol 94 = .ok (.iload_n 2, 1) := dk_28 (dk_at dksX1_symbol_3 23 rfl rfl)
theorem dX1_symbol_95 : decode cX1_symbol 95 = .ok (.iaload, 1) := dk_46 (dk_at dksX1_symbol_4 0 rfl rfl)
theorem dX1_symbol_96 : decode cX1_symbol 96 = .ok (.ireturn, 1) := dk_172 (dk_at dksX1_symbol_4 1 rfl rfl)
abbrev cX1_letter : ByteArray := prog_1_method_67_code
def yX1_letter : MethodName := ⟨RX1, "letter", "(III)I"⟩
def dkwX1_letter_2 : List UInt8 := [16, 24, 28, 104, 29, 96, 51, 17, 0, 255, 126, 172]
abbrev dktX1_letter_2 : List UInt8 := dkwX1_letter_2 ++ []
def dkwX1_letter_1 : List UInt8 := [29, 25, 4, 180, 0, 157, 28, 46, 162, 0, 7, 4, 167, 0, 4, 3, 184, 1, 189, 25, 4, 180, 0, 161]
abbrev dktX1_letter_1 : List UInt8 := dkwX1_letter_1 ++ dktX1_letter_2
def dkwX1_letter_0 : List UInt8 := [42, 27, 182, 1, 195, 58, 4, 28, 155, 0, 31, 28, 25, 4, 180, 0, 154, 162, 0, 22, 29, 155, 0, 18]
abbrev dktX1_letter_0 : List UInt8 := dkwX1_letter_0 ++ dktX1_letter_1
theorem dksX1_letter_0 : cX1_letter.data.toList.drop 0 = dktX1_letter_0 := by decide +kernel
theorem dksX1_letter_1 : cX1_letter.data.toList.drop 24 = dktX1_letter_1 := dk_seg dksX1_letter_0 24 rfl rfl
theorem dksX1_letter_2 : cX1_letter.data.toList.drop 48 = dktX1_letter_2 := dk_seg dksX1_letter_1 24 rfl rfl
theorem dX1_letter_0 : decode cX1_letter 0 = .ok (.aload_n 0, 1) := dk_42 (dk_at dksX1_letter_0 0 rfl rfl)
theorem dX1_letter_1 : decode cX1_letter 1 = .ok (.iload_n 1, 1) := dk_27 (dk_at dksX1_letter_0 1 rfl rfl)
theorem dX1_letter_2 : decode cX1_letter 2 = .ok (.invokevirtual 451, 3) := dk_182 1 195 (dk_at dksX1_letter_0 2 rfl rfl)
theorem dX1_letter_5 : decode cX1_letter 5 = .ok (.astore 4, 2) := dk_58 4 (dk_at dksX1_letter_0 5 rfl rfl)
theorem dX1_letter_7 : decode cX1_letter 7 = .ok (.iload_n 2, 1) := dk_28 (dk_at dksX1_letter_0 7 rfl rfl)
theorem dX1_letter_8 : decode cX1_letter 8 = .ok (.ifCond .lt 31, 3) := dk_155 0 31 (dk_at dksX1_letter_0 8 rfl rfl)
theorem dX1_letter_11 : decode cX1_letter 11 = .ok (.iload_n 2, 1) := dk_28 (dk_at dksX1_letter_0 11 rfl rfl)
theorem dX1_letter_12 : decode cX1_letter 12 = .ok (.aload 4, 2) := dk_25 4 (dk_at dksX1_letter_0 12 rfl rfl)
theorem dX1_letter_14 : decode cX1_letter 14 = .ok (.getfield 154, 3) := dk_180 0 154 (dk_at dksX1_letter_0 14 rfl rfl)
theorem dX1_letter_17 : decode cX1_letter 17 = .ok (.if_icmp .ge 22, 3) := dk_162 0 22 (dk_at dksX1_letter_0 17 rfl rfl)
theorem dX1_letter_20 : decode cX1_letter 20 = .ok (.iload_n 3, 1) := dk_29 (dk_at dksX1_letter_0 20 rfl rfl)
theorem dX1_letter_21 : decode cX1_letter 21 = .ok (.ifCond .lt 18, 3) := dk_155 0 18 (dk_at dksX1_letter_0 21 rfl rfl)
theorem dX1_letter_24 : decode cX1_letter 24 = .ok (.iload_n 3, 1) := dk_29 (dk_at dksX1_letter_1 0 rfl rfl)
theorem dX1_letter_25 : decode cX1_letter 25 = .ok (.aload 4, 2) := dk_25 4 (dk_at dksX1_letter_1 1 rfl rfl)
theorem dX1_letter_27 : decode cX1_letter 27 = .ok (.getfield 157, 3) := dk_180 0 157 (dk_at dksX1_letter_1 3 rfl rfl)
theorem dX1_letter_30 : decode cX1_letter 30 = .ok (.iload_n 2, 1) := dk_28 (dk_at dksX1_letter_1 6 rfl rfl)
theorem dX1_letter_31 : decode cX1_letter 31 = .ok (.iaload, 1) := dk_46 (dk_at dksX1_letter_1 7 rfl rfl)
theorem dX1_letter_32 : decode cX1_letter 32 = .ok (.if_icmp .ge 7, 3) := dk_162 0 7 (dk_at dksX1_letter_1 8 rfl rfl)
theorem dX1_letter_35 : decode cX1_letter 35 = .ok (.iconst 1, 1) := dk_4 (dk_at dksX1_letter_1 11 rfl rfl)
theorem dX1_letter_36 : decode cX1_letter 36 = .ok (.goto 4, 3) := dk_167 0 4 (dk_at dksX1_letter_1 12 rfl rfl)
theorem dX1_letter_39 : decode cX1_letter 39 = .ok (.iconst 0, 1) := dk_3 (dk_at dksX1_letter_1 15 rfl rfl)
theorem dX1_letter_40 : decode cX1_letter 40 = .ok (.invokestatic 445, 3) := dk_184 1 189 (dk_at dksX1_letter_1 16 rfl rfl)
theorem dX1_letter_43 : decode cX1_letter 43 = .ok (.aload 4, 2) := dk_25 4 (dk_at dksX1_letter_1 19 rfl rfl)
theorem dX1_letter_45 : decode cX1_letter 45 = .ok (.getfield 161, 3) := dk_180 0 161 (dk_at dksX1_letter_1 21 rfl rfl)
theorem dX1_letter_48 : decode cX1_letter 48 = .ok (.bipush 24, 2) := dk_16 24 (dk_at dksX1_letter_2 0 rfl rfl)
theorem dX1_letter_50 : decode cX1_letter 50 = .ok (.iload_n 2, 1) := dk_28 (dk_at dksX1_letter_2 2 rfl rfl)
theorem dX1_letter_51 : decode cX1_letter 51 = .ok (.imul, 1) := dk_104 (dk_at dksX1_letter_2 3 rfl rfl)
theorem dX1_letter_52 : decode cX1_letter 52 = .ok (.iload_n 3, 1) := dk_29 (dk_at dksX1_letter_2 4 rfl rfl)
theorem dX1_letter_53 : decode cX1_letter 53 = .ok (.iadd, 1) := dk_96 (dk_at dksX1_letter_2 5 rfl rfl)
theorem dX1_letter_54 : decode cX1_letter 54 = .ok (.baload, 1) := dk_51 (dk_at dksX1_letter_2 6 rfl rfl)
theorem dX1_letter_55 : decode cX1_letter 55 = .ok (.sipush 255, 3) := dk_17 0 255 (dk_at dksX1_letter_2 7 rfl rfl)
theorem dX1_letter_58 : decode cX1_letter 58 = .ok (.iand, 1) := dk_126 (dk_at dksX1_letter_2 10 rfl rfl)
theorem dX1_letter_59 : decode cX1_letter 59 = .ok (.ireturn, 1) := dk_172 (dk_at dksX1_letter_2 11 rfl rfl)
abbrev cX1_relocation : ByteArray := prog_1_method_68_code
def yX1_relocation : MethodName := ⟨RX1, "relocation", "(III)I"⟩
def dkwX1_relocation_4 : List UInt8 := [167, 0, 10, 25, 4, 180, 0, 229, 28, 46, 172]
abbrev dktX1_relocation_4 : List UInt8 := dkwX1_relocation_4 ++ []
def dkwX1_relocation_3 : List UInt8 := [25, 4, 180, 0, 223, 28, 46, 167, 0, 25, 29, 6, 160, 0, 13, 25, 4, 180, 0, 226, 28, 46]
abbrev dktX1_relocation_3 : List UInt8 := dkwX1_relocation_3 ++ dktX1_relocation_4
def dkwX1_relocation_2 : List UInt8 := [167, 0, 55, 29, 4, 160, 0, 13, 25, 4, 180, 0, 220, 28, 46, 167, 0, 40, 29, 5, 160, 0, 13]
abbrev dktX1_relocation_2 : List UInt8 := dkwX1_relocation_2 ++ dktX1_relocation_3
def dkwX1_relocation_1 : List UInt8 := [29, 8, 162, 0, 7, 4, 167, 0, 4, 3, 184, 1, 189, 29, 154, 0, 13, 25, 4, 180, 0, 217, 28, 46]
abbrev dktX1_relocation_1 : List UInt8 := dkwX1_relocation_1 ++ dktX1_relocation_2
def dkwX1_relocation_0 : List UInt8 := [42, 27, 182, 1, 195, 58, 4, 28, 155, 0, 25, 28, 25, 4, 180, 0, 214, 162, 0, 16, 29, 155, 0, 12]
abbrev dktX1_relocation_0 : List UInt8 := dkwX1_relocation_0 ++ dktX1_relocation_1
theorem dksX1_relocation_0 : cX1_relocation.data.toList.drop 0 = dktX1_relocation_0 := by decide +kernel
theorem dksX1_relocation_1 : cX1_relocation.data.toList.drop 24 = dktX1_relocation_1 := dk_seg dksX1_relocation_0 24 rfl rfl
theorem dksX1_relocation_2 : cX1_relocation.data.toList.drop 48 = dktX1_relocation_2 := dk_seg dksX1_relocation_1 24 rfl rfl
theorem dksX1_relocation_3 : cX1_relocation.data.toList.drop 71 = dktX1_relocation_3 := dk_seg dksX1_relocation_2 23 rfl rfl
theorem dksX1_relocation_4 : cX1_relocation.data.toList.drop 93 = dktX1_relocation_4 := dk_seg dksX1_relocation_3 22 rfl rfl
theorem dX1_relocation_0 : decode cX1_relocation 0 = .ok (.aload_n 0, 1) := dk_42 (dk_at dksX1_relocation_0 0 rfl rfl)
theorem dX1_relocation_1 : decode cX1_relocation 1 = .ok (.iload_n 1, 1) := dk_27 (dk_at dksX1_relocation_0 1 rfl rfl)
theorem dX1_relocation_2 : decode cX1_relocation 2 = .ok (.invokevirtual 451, 3) := dk_182 1 195 (dk_at dksX1_relocation_0 2 rfl rfl)
theorem dX1_relocation_5 : decode cX1_relocation 5 = .ok (.astore 4, 2) := dk_58 4 (dk_at dksX1_relocation_0 5 rfl rfl)
theorem dX1_relocation_7 : decode cX1_relocation 7 = .ok (.iload_n 2, 1) := dk_28 (dk_at dksX1_relocation_0 7 rfl rfl)
theorem dX1_relocation_8 : decode cX1_relocation 8 = .ok (.ifCond .lt 25, 3) := dk_155 0 25 (dk_at dksX1_relocation_0 8 rfl rfl)
theorem dX1_relocation_11 : decode cX1_relocation 11 = .ok (.iload_n 2, 1) := dk_28 (dk_at dksX1_relocation_0 11 rfl rfl)
theorem dX1_relocation_12 : decode cX1_relocation 12 = .ok (.aload 4, 2) := dk_25 4 (dk_at dksX1_relocation_0 12 rfl rfl)
theorem dX1_relocation_14 : decode cX1_relocation 14 = .ok (.getfield 214, 3) := dk_180 0 214 (dk_at dksX1_relocation_0 14 rfl rfl)
theorem dX1_relocation_17 : decode cX1_relocation 17 = .ok (.if_icmp .ge 16, 3) := dk_162 0 16 (dk_at dksX1_relocation_0 17 rfl rfl)
theorem dX1_relocation_20 : decode cX1_relocation 20 = .ok (.iload_n 3, 1) := dk_29 (dk_at dksX1_relocation_0 20 rfl rfl)
theorem dX1_relocation_21 : decode cX1_relocation 21 = .ok (.ifCond .lt 12, 3) := dk_155 0 12 (dk_at dksX1_relocation_0 21 rfl rfl)
theorem dX1_relocation_24 : decode cX1_relocation 24 = .ok (.iload_n 3, 1) := dk_29 (dk_at dksX1_relocation_1 0 rfl rfl)
theorem dX1_relocation_25 : decode cX1_relocation 25 = .ok (.iconst 5, 1) := dk_8 (dk_at dksX1_relocation_1 1 rfl rfl)
theorem dX1_relocation_26 : decode cX1_relocation 26 = .ok (.if_icmp .ge 7, 3) := dk_162 0 7 (dk_at dksX1_relocation_1 2 rfl rfl)
theorem dX1_relocation_29 : decode cX1_relocation 29 = .ok (.iconst 1, 1) := dk_4 (dk_at dksX1_relocation_1 5 rfl rfl)
theorem dX1_relocation_30 : decode cX1_relocation 30 = .ok (.goto 4, 3) := dk_167 0 4 (dk_at dksX1_relocation_1 6 rfl rfl)
theorem dX1_relocation_33 : decode cX1_relocation 33 = .ok (.iconst 0, 1) := dk_3 (dk_at dksX1_relocation_1 9 rfl rfl)
theorem dX1_relocation_34 : decode cX1_relocation 34 = .ok (.invokestatic 445, 3) := dk_184 1 189 (dk_at dksX1_relocation_1 10 rfl rfl)
theorem dX1_relocation_37 : decode cX1_relocation 37 = .ok (.iload_n 3, 1) := dk_29 (dk_at dksX1_relocation_1 13 rfl rfl)
theorem dX1_relocation_38 : decode cX1_relocation 38 = .ok (.ifCond .ne 13, 3) := dk_154 0 13 (dk_at dksX1_relocation_1 14 rfl rfl)
theorem dX1_relocation_41 : decode cX1_relocation 41 = .ok (.aload 4, 2) := dk_25 4 (dk_at dksX1_relocation_1 17 rfl rfl)
theorem dX1_relocation_43 : decode cX1_relocation 43 = .ok (.getfield 217, 3) := dk_180 0 217 (dk_at dksX1_relocation_1 19 rfl rfl)
theorem dX1_relocation_46 : decode cX1_relocation 46 = .ok (.iload_n 2, 1) := dk_28 (dk_at dksX1_relocation_1 22 rfl rfl)
theorem dX1_relocation_47 : decode cX1_relocation 47 = .ok (.iaload, 1) := dk_46 (dk_at dksX1_relocation_1 23 rfl rfl)
theorem dX1_relocation_48 : decode cX1_relocation 48 = .ok (.goto 55, 3) := dk_167 0 55 (dk_at dksX1_relocation_2 0 rfl rfl)
theorem dX1_relocation_51 : decode cX1_relocation 51 = .ok (.iload_n 3, 1) := dk_29 (dk_at dksX1_relocation_2 3 rfl rfl)
theorem dX1_relocation_52 : decode cX1_relocation 52 = .ok (.iconst 1, 1) := dk_4 (dk_at dksX1_relocation_2 4 rfl rfl)
theorem dX1_relocation_53 : decode cX1_relocation 53 = .ok (.if_icmp .ne 13, 3) := dk_160 0 13 (dk_at dksX1_relocation_2 5 rfl rfl)
theorem dX1_relocation_56 : decode cX1_relocation 56 = .ok (.aload 4, 2) := dk_25 4 (dk_at dksX1_relocation_2 8 rfl rfl)
theorem dX1_relocation_58 : decode cX1_relocation 58 = .ok (.getfield 220, 3) := dk_180 0 220 (dk_at dksX1_relocation_2 10 rfl rfl)
theorem dX1_relocation_61 : decode cX1_relocation 61 = .ok (.iload_n 2, 1) := dk_28 (dk_at dksX1_relocation_2 13 rfl rfl)
theorem dX1_relocation_62 : decode cX1_relocation 62 = .ok (.iaload, 1) := dk_46 (dk_at dksX1_relocation_2 14 rfl rfl)
theorem dX1_relocation_63 : decode cX1_relocation 63 = .ok (.goto 40, 3) := dk_167 0 40 (dk_at dksX1_relocation_2 15 rfl rfl)
theorem dX1_relocation_66 : decode cX1_relocation 66 = .ok (.iload_n 3, 1) := dk_29 (dk_at dksX1_relocation_2 18 rfl rfl)
theorem dX1_relocation_67 : decode cX1_relocation 67 = .ok (.iconst 2, 1) := dk_5 (dk_at dksX1_relocation_2 19 rfl rfl)
theorem dX1_relocation_68 : decode cX1_relocation 68 = .ok (.if_icmp .ne 13, 3) := dk_160 0 13 (dk_at dksX1_relocation_2 20 rfl rfl)
theorem dX1_relocation_71 : decode cX1_relocation 71 = .ok (.aload 4, 2) := dk_25 4 (dk_at dksX1_relocation_3 0 rfl rfl)
theorem dX1_relocation_73 : decode cX1_relocation 73 = .ok (.getfield 223, 3) := dk_180 0 223 (dk_at dksX1_relocation_3 2 rfl rfl)
theorem dX1_relocation_76 : decode cX1_relocation 76 = .ok (.iload_n 2, 1) := dk_28 (dk_at dksX1_relocation_3 5 rfl rfl)
theorem dX1_relocation_77 : decode cX1_relocation 77 = .ok (.iaload, 1) := dk_46 (dk_at dksX1_relocation_3 6 rfl rfl)
theorem dX1_relocation_78 : decode cX1_relocation 78 = .ok (.goto 25, 3) := dk_167 0 25 (dk_at dksX1_relocation_3 7 rfl rfl)
theorem dX1_relocation_81 : decode cX1_relocation 81 = .ok (.iload_n 3, 1) := dk_29 (dk_at dksX1_relocation_3 10 rfl rfl)
theorem dX1_relocation_82 : decode cX1_relocation 82 = .ok (.iconst 3, 1) := dk_6 (dk_at dksX1_relocation_3 11 rfl rfl)
theorem dX1_relocation_83 : decode cX1_relocation 83 = .ok (.if_icmp .ne 13, 3) := dk_160 0 13 (dk_at dksX1_relocation_3 12 rfl rfl)
theorem dX1_relocation_86 : decode cX1_relocation 86 = .ok (.aload 4, 2) := dk_25 4 (dk_at dksX1_relocation_3 15 rfl rfl)
theorem dX1_relocation_88 : decode cX1_relocation 88 = .ok (.getfield 226, 3) := dk_180 0 226 (dk_at dksX1_relocation_3 17 rfl rfl)
theorem dX1_relocation_91 : decode cX1_relocation 91 = .ok (.iload_n 2, 1) := dk_28 (dk_at dksX1_relocation_3 20 rfl rfl)
theorem dX1_relocation_92 : decode cX1_relocation 92 = .ok (.iaload, 1) := dk_46 (dk_at dksX1_relocation_3 21 rfl rfl)
theorem dX1_relocation_93 : decode cX1_relocation 93 = .ok (.goto 10, 3) := dk_167 0 10 (dk_at dksX1_relocation_4 0 rfl rfl)
theorem dX1_relocation_96 : decode cX1_relocation 96 = .ok (.aload 4, 2) := dk_25 4 (dk_at dksX1_relocation_4 3 rfl rfl)
theorem dX1_relocation_98 : decode cX1_relocation 98 = .ok (.getfield 229, 3) := dk_180 0 229 (dk_at dksX1_relocation_4 5 rfl rfl)
theorem dX1_relocation_101 : decode cX1_relocation 101 = .ok (.iload_n 2, 1) := dk_28 (dk_at dksX1_relocation_4 8 rfl rfl)
theorem dX1_relocation_102 : decode cX1_relocation 102 = .ok (.iaload, 1) := dk_46 (dk_at dksX1_relocation_4 9 rfl rfl)
theorem dX1_relocation_103 : decode cX1_relocation 103 = .ok (.ireturn, 1) := dk_172 (dk_at dksX1_relocation_4 10 rfl rfl)
abbrev cX1_link : ByteArray := prog_1_method_76_code
def yX1_link : MethodName := ⟨RX1, "link", "(I)I"⟩
def dkwX1_link_9 : List UInt8 := [181, 1, 242, 28, 172]
abbrev dktX1_link_9 : List UInt8 := dkwX1_link_9 ++ []
def dkwX1_link_8 : List UInt8 := [167, 255, 170, 42, 182, 1, 239, 154, 0, 5, 2, 172, 42, 28, 181, 0, 30, 42, 42, 180, 1, 173]
abbrev dktX1_link_8 : List UInt8 := dkwX1_link_8 ++ dktX1_link_9
def dkwX1_link_7 : List UInt8 := [21, 4, 182, 0, 210, 21, 5, 51, 84, 132, 5, 1, 167, 255, 202, 132, 4, 1, 167, 255, 187, 132, 3, 1]
abbrev dktX1_link_7 : List UInt8 := dkwX1_link_7 ++ dktX1_link_8
def dkwX1_link_6 : List UInt8 := [180, 0, 27, 42, 180, 0, 15, 29, 50, 180, 1, 199, 21, 4, 46, 21, 5, 96, 42, 180, 0, 15, 29, 50]
abbrev dktX1_link_6 : List UInt8 := dkwX1_link_6 ++ dktX1_link_7
def dkwX1_link_5 : List UInt8 := [162, 0, 69, 3, 54, 5, 21, 5, 42, 180, 0, 15, 29, 50, 180, 0, 201, 21, 4, 46, 162, 0, 43, 42]
abbrev dktX1_link_5 : List UInt8 := dkwX1_link_5 ++ dktX1_link_6
def dkwX1_link_4 : List UInt8 := [132, 3, 1, 167, 255, 241, 3, 62, 29, 42, 180, 1, 173, 162, 0, 84, 3, 54, 4, 21, 4, 5]
abbrev dktX1_link_4 : List UInt8 := dkwX1_link_4 ++ dktX1_link_5
def dkwX1_link_3 : List UInt8 := [172, 42, 182, 1, 236, 154, 0, 5, 2, 172, 3, 62, 29, 28, 162, 0, 16, 42, 180, 0, 27, 29, 3, 84]
abbrev dktX1_link_3 : List UInt8 := dkwX1_link_3 ++ dktX1_link_4
def dkwX1_link_2 : List UInt8 := [182, 1, 213, 87, 42, 182, 1, 233, 61, 28, 18, 26, 164, 0, 13, 42, 7, 2, 2, 182, 1, 213, 87, 2]
abbrev dktX1_link_2 : List UInt8 := dkwX1_link_2 ++ dktX1_link_3
def dkwX1_link_1 : List UInt8 := [187, 0, 39, 89, 183, 0, 41, 191, 42, 27, 181, 1, 220, 42, 2, 181, 0, 30, 42, 3, 2, 2]
abbrev dktX1_link_1 : List UInt8 := dkwX1_link_1 ++ dktX1_link_2
def dkwX1_link_0 : List UInt8 := [27, 16, 7, 126, 153, 0, 11, 187, 0, 42, 89, 183, 0, 44, 191, 42, 180, 1, 173, 154, 0, 11]
abbrev dktX1_link_0 : List UInt8 := dkwX1_link_0 ++ dktX1_link_1
theorem dksX1_link_0 : cX1_link.data.toList.drop 0 = dktX1_link_0 := by decide +kernel
theorem dksX1_link_1 : cX1_link.data.toList.drop 22 = dktX1_link_1 := dk_seg dksX1_link_0 22 rfl rfl
theorem dksX1_link_2 : cX1_link.data.toList.drop 44 = dktX1_link_2 := dk_seg dksX1_link_1 22 rfl rfl
theorem dksX1_link_3 : cX1_link.data.toList.drop 68 = dktX1_link_3 := dk_seg dksX1_link_2 24 rfl rfl
theorem dksX1_link_4 : cX1_link.data.toList.drop 92 = dktX1_link_4 := dk_seg dksX1_link_3 24 rfl rfl
theorem dksX1_link_5 : cX1_link.data.toList.drop 114 = dktX1_link_5 := dk_seg dksX1_link_4 22 rfl rfl
theorem dksX1_link_6 : cX1_link.data.toList.drop 138 = dktX1_link_6 := dk_seg dksX1_link_5 24 rfl rfl
theorem dksX1_link_7 : cX1_link.data.toList.drop 162 = dktX1_link_7 := dk_seg dksX1_link_6 24 rfl rfl
theorem dksX1_link_8 : cX1_link.data.toList.drop 186 = dktX1_link_8 := dk_seg dksX1_link_7 24 rfl rfl
theorem dksX1_link_9 : cX1_link.data.toList.drop 208 = dktX1_link_9 := dk_seg dksX1_link_8 22 rfl rfl
theorem dX1_link_0 : decode cX1_link 0 = .ok (.iload_n 1, 1) := dk_27 (dk_at dksX1_link_0 0 rfl rfl)
theorem dX1_link_1 : decode cX1_link 1 = .ok (.bipush 7, 2) := dk_16 7 (dk_at dksX1_link_0 1 rfl rfl)
theorem dX1_link_3 : decode cX1_link 3 = .ok (.iand, 1) := dk_126 (dk_at dksX1_link_0 3 rfl rfl)
theorem dX1_link_4 : decode cX1_link 4 = .ok (.ifCond .eq 11, 3) := dk_153 0 11 (dk_at dksX1_link_0 4 rfl rfl)
theorem dX1_link_7 : decode cX1_link 7 = .ok (.new 42, 3) := dk_187 0 42 (dk_at dksX1_link_0 7 rfl rfl)
theorem dX1_link_10 : decode cX1_link 10 = .ok (.dup, 1) := dk_89 (dk_at dksX1_link_0 10 rfl rfl)
theorem dX1_link_11 : decode cX1_link 11 = .ok (.invokespecial 44, 3) := dk_183 0 44 (dk_at dksX1_link_0 11 rfl rfl)
theorem dX1_link_14 : decode cX1_link 14 = .ok (.athrow, 1) := dk_191 (dk_at dksX1_link_0 14 rfl rfl)
theorem dX1_link_15 : decode cX1_link 15 = .ok (.aload_n 0, 1) := dk_42 (dk_at dksX1_link_0 15 rfl rfl)
theorem dX1_link_16 : decode cX1_link 16 = .ok (.getfield 429, 3) := dk_180 1 173 (dk_at dksX1_link_0 16 rfl rfl)
theorem dX1_link_19 : decode cX1_link 19 = .ok (.ifCond .ne 11, 3) := dk_154 0 11 (dk_at dksX1_link_0 19 rfl rfl)
theorem dX1_link_22 : decode cX1_link 22 = .ok (.new 39, 3) := dk_187 0 39 (dk_at dksX1_link_1 0 rfl rfl)
theorem dX1_link_25 : decode cX1_link 25 = .ok (.dup, 1) := dk_89 (dk_at dksX1_link_1 3 rfl rfl)
theorem dX1_link_26 : decode cX1_link 26 = .ok (.invokespecial 41, 3) := dk_183 0 41 (dk_at dksX1_link_1 4 rfl rfl)
theorem dX1_link_29 : decode cX1_link 29 = .ok (.athrow, 1) := dk_191 (dk_at dksX1_link_1 7 rfl rfl)
theorem dX1_link_30 : decode cX1_link 30 = .ok (.aload_n 0, 1) := dk_42 (dk_at dksX1_link_1 8 rfl rfl)
theorem dX1_link_31 : decode cX1_link 31 = .ok (.iload_n 1, 1) := dk_27 (dk_at dksX1_link_1 9 rfl rfl)
theorem dX1_link_32 : decode cX1_link 32 = .ok (.putfield 476, 3) := dk_181 1 220 (dk_at dksX1_link_1 10 rfl rfl)
theorem dX1_link_35 : decode cX1_link 35 = .ok (.aload_n 0, 1) := dk_42 (dk_at dksX1_link_1 13 rfl rfl)
theorem dX1_link_36 : decode cX1_link 36 = .ok (.iconst (-1), 1) := dk_2 (dk_at dksX1_link_1 14 rfl rfl)
theorem dX1_link_37 : decode cX1_link 37 = .ok (.putfield 30, 3) := dk_181 0 30 (dk_at dksX1_link_1 15 rfl rfl)
theorem dX1_link_40 : decode cX1_link 40 = .ok (.aload_n 0, 1) := dk_42 (dk_at dksX1_link_1 18 rfl rfl)
theorem dX1_link_41 : decode cX1_link 41 = .ok (.iconst 0, 1) := dk_3 (dk_at dksX1_link_1 19 rfl rfl)
theorem dX1_link_42 : decode cX1_link 42 = .ok (.iconst (-1), 1) := dk_2 (dk_at dksX1_link_1 20 rfl rfl)
theorem dX1_link_43 : decode cX1_link 43 = .ok (.iconst (-1), 1) := dk_2 (dk_at dksX1_link_1 21 rfl rfl)
theorem dX1_link_44 : decode cX1_link 44 = .ok (.invokevirtual 469, 3) := dk_182 1 213 (dk_at dksX1_link_2 0 rfl rfl)
theorem dX1_link_47 : decode cX1_link 47 = .ok (.pop, 1) := dk_87 (dk_at dksX1_link_2 3 rfl rfl)
theorem dX1_link_48 : decode cX1_link 48 = .ok (.aload_n 0, 1) := dk_42 (dk_at dksX1_link_2 4 rfl rfl)
theorem dX1_link_49 : decode cX1_link 49 = .ok (.invokevirtual 489, 3) := dk_182 1 233 (dk_at dksX1_link_2 5 rfl rfl)
theorem dX1_link_52 : decode cX1_link 52 = .ok (.istore_n 2, 1) := dk_61 (dk_at dksX1_link_2 8 rfl rfl)
theorem dX1_link_53 : decode cX1_link 53 = .ok (.iload_n 2, 1) := dk_28 (dk_at dksX1_link_2 9 rfl rfl)
theorem dX1_link_54 : decode cX1_link 54 = .ok (.ldc 26, 2) := dk_18 26 (dk_at dksX1_link_2 10 rfl rfl)
theorem dX1_link_56 : decode cX1_link 56 = .ok (.if_icmp .le 13, 3) := dk_164 0 13 (dk_at dksX1_link_2 12 rfl rfl)
theorem dX1_link_59 : decode cX1_link 59 = .ok (.aload_n 0, 1) := dk_42 (dk_at dksX1_link_2 15 rfl rfl)
theorem dX1_link_60 : decode cX1_link 60 = .ok (.iconst 4, 1) := dk_7 (dk_at dksX1_link_2 16 rfl rfl)
theorem dX1_link_61 : decode cX1_link 61 = .ok (.iconst (-1), 1) := dk_2 (dk_at dksX1_link_2 17 rfl rfl)
theorem dX1_link_62 : decode cX1_link 62 = .ok (.iconst (-1), 1) := dk_2 (dk_at dksX1_link_2 18 rfl rfl)
theorem dX1_link_63 : decode cX1_link 63 = .ok (.invokevirtual 469, 3) := dk_182 1 213 (dk_at dksX1_link_2 19 rfl rfl)
theorem dX1_link_66 : decode cX1_link 66 = .ok (.pop, 1) := dk_87 (dk_at dksX1_link_2 22 rfl rfl)
theorem dX1_link_67 : decode cX1_link 67 = .ok (.iconst (-1), 1) := dk_2 (dk_at dksX1_link_2 23 rfl rfl)
theorem dX1_link_68 : decode cX1_link 68 = .ok (.ireturn, 1) := dk_172 (dk_at dksX1_link_3 0 rfl rfl)
theorem dX1_link_69 : decode cX1_link 69 = .ok (.aload_n 0, 1) := dk_42 (dk_at dksX1_link_3 1 rfl rfl)
theorem dX1_link_70 : decode cX1_link 70 = .ok (.invokevirtual 492, 3) := dk_182 1 236 (dk_at dksX1_link_3 2 rfl rfl)
theorem dX1_link_73 : decode cX1_link 73 = .ok (.ifCond .ne 5, 3) := dk_154 0 5 (dk_at dksX1_link_3 5 rfl rfl)
theorem dX1_link_76 : decode cX1_link 76 = .ok (.iconst (-1), 1) := dk_2 (dk_at dksX1_link_3 8 rfl rfl)
theorem dX1_link_77 : decode cX1_link 77 = .ok (.ireturn, 1) := dk_172 (dk_at dksX1_link_3 9 rfl rfl)
theorem dX1_link_78 : decode cX1_link 78 = .ok (.iconst 0, 1) := dk_3 (dk_at dksX1_link_3 10 rfl rfl)
theorem dX1_link_79 : decode cX1_link 79 = .ok (.istore_n 3, 1) := dk_62 (dk_at dksX1_link_3 11 rfl rfl)
theorem dX1_link_80 : decode cX1_link 80 = .ok (.iload_n 3, 1) := dk_29 (dk_at dksX1_link_3 12 rfl rfl)
theorem dX1_link_81 : decode cX1_link 81 = .ok (.iload_n 2, 1) := dk_28 (dk_at dksX1_link_3 13 rfl rfl)
theorem dX1_link_82 : decode cX1_link 82 = .ok (.if_icmp .ge 16, 3) := dk_162 0 16 (dk_at dksX1_link_3 14 rfl rfl)
theorem dX1_link_85 : decode cX1_link 85 = .ok (.aload_n 0, 1) := dk_42 (dk_at dksX1_link_3 17 rfl rfl)
theorem dX1_link_86 : decode cX1_link 86 = .ok (.getfield 27, 3) := dk_180 0 27 (dk_at dksX1_link_3 18 rfl rfl)
theorem dX1_link_89 : decode cX1_link 89 = .ok (.iload_n 3, 1) := dk_29 (dk_at dksX1_link_3 21 rfl rfl)
theorem dX1_link_90 : decode cX1_link 90 = .ok (.iconst 0, 1) := dk_3 (dk_at dksX1_link_3 22 rfl rfl)
theorem dX1_link_91 : decode cX1_link 91 = .ok (.bastore, 1) := dk_84 (dk_at dksX1_link_3 23 rfl rfl)
theorem dX1_link_92 : decode cX1_link 92 = .ok (.iinc 3 1, 3) := dk_132 3 1 (dk_at dksX1_link_4 0 rfl rfl)
theorem dX1_link_95 : decode cX1_link 95 = .ok (.goto (-15), 3) := dk_167 255 241 (dk_at dksX1_link_4 3 rfl rfl)
theorem dX1_link_98 : decode cX1_link 98 = .ok (.iconst 0, 1) := dk_3 (dk_at dksX1_link_4 6 rfl rfl)
theorem dX1_link_99 : decode cX1_link 99 = .ok (.istore_n 3, 1) := dk_62 (dk_at dksX1_link_4 7 rfl rfl)
theorem dX1_link_100 : decode cX1_link 100 = .ok (.iload_n 3, 1) := dk_29 (dk_at dksX1_link_4 8 rfl rfl)
theorem dX1_link_101 : decode cX1_link 101 = .ok (.aload_n 0, 1) := dk_42 (dk_at dksX1_link_4 9 rfl rfl)
theorem dX1_link_102 : decode cX1_link 102 = .ok (.getfield 429, 3) := dk_180 1 173 (dk_at dksX1_link_4 10 rfl rfl)
theorem dX1_link_105 : decode cX1_link 105 = .ok (.if_icmp .ge 84, 3) := dk_162 0 84 (dk_at dksX1_link_4 13 rfl rfl)
theorem dX1_link_108 : decode cX1_link 108 = .ok (.iconst 0, 1) := dk_3 (dk_at dksX1_link_4 16 rfl rfl)
theorem dX1_link_109 : decode cX1_link 109 = .ok (.istore 4, 2) := dk_54 4 (dk_at dksX1_link_4 17 rfl rfl)
theorem dX1_link_111 : decode cX1_link 111 = .ok (.iload 4, 2) := dk_21 4 (dk_at dksX1_link_4 19 rfl rfl)
theorem dX1_link_113 : decode cX1_link 113 = .ok (.iconst 2, 1) := dk_5 (dk_at dksX1_link_4 21 rfl rfl)
theorem dX1_link_114 : decode cX1_link 114 = .ok (.if_icmp .ge 69, 3) := dk_162 0 69 (dk_at dksX1_link_5 0 rfl rfl)
theorem dX1_link_117 : decode cX1_link 117 = .ok (.iconst 0, 1) := dk_3 (dk_at dksX1_link_5 3 rfl rfl)
theorem dX1_link_118 : decode cX1_link 118 = .ok (.istore 5, 2) := dk_54 5 (dk_at dksX1_link_5 4 rfl rfl)
theorem dX1_link_120 : decode cX1_link 120 = .ok (.iload 5, 2) := dk_21 5 (dk_at dksX1_link_5 6 rfl rfl)
theorem dX1_link_122 : decode cX1_link 122 = .ok (.aload_n 0, 1) := dk_42 (dk_at dksX1_link_5 8 rfl rfl)
theorem dX1_link_123 : decode cX1_link 123 = .ok (.getfield 15, 3) := dk_180 0 15 (dk_at dksX1_link_5 9 rfl rfl)
theorem dX1_link_126 : decode cX1_link 126 = .ok (.iload_n 3, 1) := dk_29 (dk_at dksX1_link_5 12 rfl rfl)
theorem dX1_link_127 : decode cX1_link 127 = .ok (.aaload, 1) := dk_50 (dk_at dksX1_link_5 13 rfl rfl)
theorem dX1_link_128 : decode cX1_link 128 = .ok (.getfield 201, 3) := dk_180 0 201 (dk_at dksX1_link_5 14 rfl rfl)
theorem dX1_link_131 : decode cX1_link 131 = .ok (.iload 4, 2) := dk_21 4 (dk_at dksX1_link_5 17 rfl rfl)
theorem dX1_link_133 : decode cX1_link 133 = .ok (.iaload, 1) := dk_46 (dk_at dksX1_link_5 19 rfl rfl)
theorem dX1_link_134 : decode cX1_link 134 = .ok (.if_icmp .ge 43, 3) := dk_162 0 43 (dk_at dksX1_link_5 20 rfl rfl)
theorem dX1_link_137 : decode cX1_link 137 = .ok (.aload_n 0, 1) := dk_42 (dk_at dksX1_link_5 23 rfl rfl)
theorem dX1_link_138 : decode cX1_link 138 = .ok (.getfield 27, 3) := dk_180 0 27 (dk_at dksX1_link_6 0 rfl rfl)
theorem dX1_link_141 : decode cX1_link 141 = .ok (.aload_n 0, 1) := dk_42 (dk_at dksX1_link_6 3 rfl rfl)
theorem dX1_link_142 : decode cX1_link 142 = .ok (.getfield 15, 3) := dk_180 0 15 (dk_at dksX1_link_6 4 rfl rfl)
theorem dX1_link_145 : decode cX1_link 145 = .ok (.iload_n 3, 1) := dk_29 (dk_at dksX1_link_6 7 rfl rfl)
theorem dX1_link_146 : decode cX1_link 146 = .ok (.aaload, 1) := dk_50 (dk_at dksX1_link_6 8 rfl rfl)
theorem dX1_link_147 : decode cX1_link 147 = .ok (.getfield 455, 3) := dk_180 1 199 (dk_at dksX1_link_6 9 rfl rfl)
theorem dX1_link_150 : decode cX1_link 150 = .ok (.iload 4, 2) := dk_21 4 (dk_at dksX1_link_6 12 rfl rfl)
theorem dX1_link_152 : decode cX1_link 152 = .ok (.iaload, 1) := dk_46 (dk_at dksX1_link_6 14 rfl rfl)
theorem dX1_link_153 : decode cX1_link 153 = .ok (.iload 5, 2) := dk_21 5 (dk_at dksX1_link_6 15 rfl rfl)
theorem dX1_link_155 : decode cX1_link 155 = .ok (.iadd, 1) := dk_96 (dk_at dksX1_link_6 17 rfl rfl)
theorem dX1_link_156 : decode cX1_link 156 = .ok (.aload_n 0, 1) := dk_42 (dk_at dksX1_link_6 18 rfl rfl)
theorem dX1_link_157 : decode cX1_link 157 = .ok (.getfield 15, 3) := dk_180 0 15 (dk_at dksX1_link_6 19 rfl rfl)
theorem dX1_link_160 : decode cX1_link 160 = .ok (.iload_n 3, 1) := dk_29 (dk_at dksX1_link_6 22 rfl rfl)
theorem dX1_link_161 : decode cX1_link 161 = .ok (.aaload, 1) := dk_50 (dk_at dksX1_link_6 23 rfl rfl)
theorem dX1_link_162 : decode cX1_link 162 = .ok (.iload 4, 2) := dk_21 4 (dk_at dksX1_link_7 0 rfl rfl)
theorem dX1_link_164 : decode cX1_link 164 = .ok (.invokevirtual 210, 3) := dk_182 0 210 (dk_at dksX1_link_7 2 rfl rfl)
theorem dX1_link_167 : decode cX1_link 167 = .ok (.iload 5, 2) := dk_21 5 (dk_at dksX1_link_7 5 rfl rfl)
theorem dX1_link_169 : decode cX1_link 169 = .ok (.baload, 1) := dk_51 (dk_at dksX1_link_7 7 rfl rfl)
theorem dX1_link_170 : decode cX1_link 170 = .ok (.bastore, 1) := dk_84 (dk_at dksX1_link_7 8 rfl rfl)
theorem dX1_link_171 : decode cX1_link 171 = .ok (.iinc 5 1, 3) := dk_132 5 1 (dk_at dksX1_link_7 9 rfl rfl)
theorem dX1_link_174 : decode cX1_link 174 = .ok (.goto (-54), 3) := dk_167 255 202 (dk_at dksX1_link_7 12 rfl rfl)
theorem dX1_link_177 : decode cX1_link 177 = .ok (.iinc 4 1, 3) := dk_132 4 1 (dk_at dksX1_link_7 15 rfl rfl)
theorem dX1_link_180 : decode cX1_link 180 = .ok (.goto (-69), 3) := dk_167 255 187 (dk_at dksX1_link_7 18 rfl rfl)
theorem dX1_link_183 : decode cX1_link 183 = .ok (.iinc 3 1, 3) := dk_132 3 1 (dk_at dksX1_link_7 21 rfl rfl)
theorem dX1_link_186 : decode cX1_link 186 = .ok (.goto (-86), 3) := dk_167 255 170 (dk_at dksX1_link_8 0 rfl rfl)
theorem dX1_link_189 : decode cX1_link 189 = .ok (.aload_n 0, 1) := dk_42 (dk_at dksX1_link_8 3 rfl rfl)
theorem dX1_link_190 : decode cX1_link 190 = .ok (.invokevirtual 495, 3) := dk_182 1 239 (dk_at dksX1_link_8 4 rfl rfl)
theorem dX1_link_193 : decode cX1_link 193 = .ok (.ifCond .ne 5, 3) := dk_154 0 5 (dk_at dksX1_link_8 7 rfl rfl)
theorem dX1_link_196 : decode cX1_link 196 = .ok (.iconst (-1), 1) := dk_2 (dk_at dksX1_link_8 10 rfl rfl)
theorem dX1_link_197 : decode cX1_link 197 = .ok (.ireturn, 1) := dk_172 (dk_at dksX1_link_8 11 rfl rfl)
theorem dX1_link_198 : decode cX1_link 198 = .ok (.aload_n 0, 1) := dk_42 (dk_at dksX1_link_8 12 rfl rfl)
theorem dX1_link_199 : decode cX1_link 199 = .ok (.iload_n 2, 1) := dk_28 (dk_at dksX1_link_8 13 rfl rfl)
theorem dX1_link_200 : decode cX1_link 200 = .ok (.putfield 30, 3) := dk_181 0 30 (dk_at dksX1_link_8 14 rfl rfl)
theorem dX1_link_203 : decode cX1_link 203 = .ok (.aload_n 0, 1) := dk_42 (dk_at dksX1_link_8 17 rfl rfl)
theorem dX1_link_204 : decode cX1_link 204 = .ok (.aload_n 0, 1) := dk_42 (dk_at dksX1_link_8 18 rfl rfl)
theorem dX1_link_205 : decode cX1_link 205 = .ok (.getfield 429, 3) := dk_180 1 173 (dk_at dksX1_link_8 19 rfl rfl)
theorem dX1_link_208 : decode cX1_link 208 = .ok (.putfield 498, 3) := dk_181 1 242 (dk_at dksX1_link_9 0 rfl rfl)
theorem dX1_link_211 : decode cX1_link 211 = .ok (.iload_n 2, 1) := dk_28 (dk_at dksX1_link_9 3 rfl rfl)
theorem dX1_link_212 : decode cX1_link 212 = .ok (.ireturn, 1) := dk_172 (dk_at dksX1_link_9 4 rfl rfl)
abbrev cX1_failed : ByteArray := prog_1_method_69_code
def yX1_failed : MethodName := ⟨RX1, "failed", "(III)Z"⟩
def dkwX1_failed_0 : List UInt8 := [42, 27, 181, 1, 192, 42, 28, 181, 0, 19, 42, 29, 181, 0, 23, 3, 172]
abbrev dktX1_failed_0 : List UInt8 := dkwX1_failed_0 ++ []
theorem dksX1_failed_0 : cX1_failed.data.toList.drop 0 = dktX1_failed_0 := by decide +kernel
theorem dX1_failed_0 : decode cX1_failed 0 = .ok (.aload_n 0, 1) := dk_42 (dk_at dksX1_failed_0 0 rfl rfl)
theorem dX1_failed_1 : decode cX1_failed 1 = .ok (.iload_n 1, 1) := dk_27 (dk_at dksX1_failed_0 1 rfl rfl)
theorem dX1_failed_2 : decode cX1_failed 2 = .ok (.putfield 448, 3) := dk_181 1 192 (dk_at dksX1_failed_0 2 rfl rfl)
theorem dX1_failed_5 : decode cX1_failed 5 = .ok (.aload_n 0, 1) := dk_42 (dk_at dksX1_failed_0 5 rfl rfl)
theorem dX1_failed_6 : decode cX1_failed 6 = .ok (.iload_n 2, 1) := dk_28 (dk_at dksX1_failed_0 6 rfl rfl)
theorem dX1_failed_7 : decode cX1_failed 7 = .ok (.putfield 19, 3) := dk_181 0 19 (dk_at dksX1_failed_0 7 rfl rfl)
theorem dX1_failed_10 : decode cX1_failed 10 = .ok (.aload_n 0, 1) := dk_42 (dk_at dksX1_failed_0 10 rfl rfl)
theorem dX1_failed_11 : decode cX1_failed 11 = .ok (.iload_n 3, 1) := dk_29 (dk_at dksX1_failed_0 11 rfl rfl)
theorem dX1_failed_12 : decode cX1_failed 12 = .ok (.putfield 23, 3) := dk_181 0 23 (dk_at dksX1_failed_0 12 rfl rfl)
theorem dX1_failed_15 : decode cX1_failed 15 = .ok (.iconst 0, 1) := dk_3 (dk_at dksX1_failed_0 15 rfl rfl)
theorem dX1_failed_16 : decode cX1_failed 16 = .ok (.ireturn, 1) := dk_172 (dk_at dksX1_failed_0 16 rfl rfl)
abbrev cX1_layOut : ByteArray := prog_1_method_70_code
def yX1_layOut : MethodName := ⟨RX1, "layOut", "()I"⟩
def dkwX1_layOut_2 : List UInt8 := [29, 50, 180, 0, 201, 28, 46, 96, 60, 132, 3, 1, 167, 255, 207, 132, 2, 1, 167, 255, 194, 27, 172]
abbrev dktX1_layOut_2 : List UInt8 := dkwX1_layOut_2 ++ []
def dkwX1_layOut_1 : List UInt8 := [16, 7, 96, 16, 248, 126, 60, 42, 180, 0, 15, 29, 50, 180, 1, 199, 28, 27, 79, 27, 42, 180, 0, 15]
abbrev dktX1_layOut_1 : List UInt8 := dkwX1_layOut_1 ++ dktX1_layOut_2
def dkwX1_layOut_0 : List UInt8 := [3, 60, 3, 61, 28, 6, 162, 0, 63, 3, 62, 29, 42, 180, 1, 173, 162, 0, 47, 28, 158, 0, 11, 27]
abbrev dktX1_layOut_0 : List UInt8 := dkwX1_layOut_0 ++ dktX1_layOut_1
theorem dksX1_layOut_0 : cX1_layOut.data.toList.drop 0 = dktX1_layOut_0 := by decide +kernel
theorem dksX1_layOut_1 : cX1_layOut.data.toList.drop 24 = dktX1_layOut_1 := dk_seg dksX1_layOut_0 24 rfl rfl
theorem dksX1_layOut_2 : cX1_layOut.data.toList.drop 48 = dktX1_layOut_2 := dk_seg dksX1_layOut_1 24 rfl rfl
theorem dX1_layOut_0 : decode cX1_layOut 0 = .ok (.iconst 0, 1) := dk_3 (dk_at dksX1_layOut_0 0 rfl rfl)
theorem dX1_layOut_1 : decode cX1_layOut 1 = .ok (.istore_n 1, 1) := dk_60 (dk_at dksX1_layOut_0 1 rfl rfl)
theorem dX1_layOut_2 : decode cX1_layOut 2 = .ok (.iconst 0, 1) := dk_3 (dk_at dksX1_layOut_0 2 rfl rfl)
theorem dX1_layOut_3 : decode cX1_layOut 3 = .ok (.istore_n 2, 1) := dk_61 (dk_at dksX1_layOut_0 3 rfl rfl)
theorem dX1_layOut_4 : decode cX1_layOut 4 = .ok (.iload_n 2, 1) := dk_28 (dk_at dksX1_layOut_0 4 rfl rfl)
theorem dX1_layOut_5 : decode cX1_layOut 5 = .ok (.iconst 3, 1) := dk_6 (dk_at dksX1_layOut_0 5 rfl rfl)
theorem dX1_layOut_6 : decode cX1_layOut 6 = .ok (.if_icmp .ge 63, 3) := dk_162 0 63 (dk_at dksX1_layOut_0 6 rfl rfl)
theorem dX1_layOut_9 : decode cX1_layOut 9 = .ok (.iconst 0, 1) := dk_3 (dk_at dksX1_layOut_0 9 rfl rfl)
theorem dX1_layOut_10 : decode cX1_layOut 10 = .ok (.istore_n 3, 1) := dk_62 (dk_at dksX1_layOut_0 10 rfl rfl)
theorem dX1_layOut_11 : decode cX1_layOut 11 = .ok (.iload_n 3, 1) := dk_29 (dk_at dksX1_layOut_0 11 rfl rfl)
theorem dX1_layOut_12 : decode cX1_layOut 12 = .ok (.aload_n 0, 1) := dk_42 (dk_at dksX1_layOut_0 12 rfl rfl)
theorem dX1_layOut_13 : decode cX1_layOut 13 = .ok (.getfield 429, 3) := dk_180 1 173 (dk_at dksX1_layOut_0 13 rfl rfl)
theorem dX1_layOut_16 : decode cX1_layOut 16 = .ok (.if_icmp .ge 47, 3) := dk_162 0 47 (dk_at dksX1_layOut_0 16 rfl rfl)
theorem dX1_layOut_19 : decode cX1_layOut 19 = .ok (.iload_n 2, 1) := dk_28 (dk_at dksX1_layOut_0 19 rfl rfl)
theorem dX1_layOut_20 : decode cX1_layOut 20 = .ok (.ifCond .le 11, 3) := dk_158 0 11 (dk_at dksX1_layOut_0 20 rfl rfl)
theorem dX1_layOut_23 : decode cX1_layOut 23 = .ok (.iload_n 1, 1) := dk_27 (dk_at dksX1_layOut_0 23 rfl rfl)
theorem dX1_layOut_24 : decode cX1_layOut 24 = .ok (.bipush 7, 2) := dk_16 7 (dk_at dksX1_layOut_1 0 rfl rfl)
theorem dX1_layOut_26 : decode cX1_layOut 26 = .ok (.iadd, 1) := dk_96 (dk_at dksX1_layOut_1 2 rfl rfl)
theorem dX1_layOut_27 : decode cX1_layOut 27 = .ok (.bipush (-8), 2) := dk_16 248 (dk_at dksX1_layOut_1 3 rfl rfl)
theorem dX1_layOut_29 : decode cX1_layOut 29 = .ok (.iand, 1) := dk_126 (dk_at dksX1_layOut_1 5 rfl rfl)
theorem dX1_layOut_30 : decode cX1_layOut 30 = .ok (.istore_n 1, 1) := dk_60 (dk_at dksX1_layOut_1 6 rfl rfl)
theorem dX1_layOut_31 : decode cX1_layOut 31 = .ok (.aload_n 0, 1) := dk_42 (dk_at dksX1_layOut_1 7 rfl rfl)
theorem dX1_layOut_32 : decode cX1_layOut 32 = .ok (.getfield 15, 3) := dk_180 0 15 (dk_at dksX1_layOut_1 8 rfl rfl)
theorem dX1_layOut_35 : decode cX1_layOut 35 = .ok (.iload_n 3, 1) := dk_29 (dk_at dksX1_layOut_1 11 rfl rfl)
theorem dX1_layOut_36 : decode cX1_layOut 36 = .ok (.aaload, 1) := dk_50 (dk_at dksX1_layOut_1 12 rfl rfl)
theorem dX1_layOut_37 : decode cX1_layOut 37 = .ok (.getfield 455, 3) := dk_180 1 199 (dk_at dksX1_layOut_1 13 rfl rfl)
theorem dX1_layOut_40 : decode cX1_layOut 40 = .ok (.iload_n 2, 1) := dk_28 (dk_at dksX1_layOut_1 16 rfl rfl)
theorem dX1_layOut_41 : decode cX1_layOut 41 = .ok (.iload_n 1, 1) := dk_27 (dk_at dksX1_layOut_1 17 rfl rfl)
theorem dX1_layOut_42 : decode cX1_layOut 42 = .ok (.iastore, 1) := dk_79 (dk_at dksX1_layOut_1 18 rfl rfl)
theorem dX1_layOut_43 : decode cX1_layOut 43 = .ok (.iload_n 1, 1) := dk_27 (dk_at dksX1_layOut_1 19 rfl rfl)
theorem dX1_layOut_44 : decode cX1_layOut 44 = .ok (.aload_n 0, 1) := dk_42 (dk_at dksX1_layOut_1 20 rfl rfl)
theorem dX1_layOut_45 : decode cX1_layOut 45 = .ok (.getfield 15, 3) := dk_180 0 15 (dk_at dksX1_layOut_1 21 rfl rfl)
theorem dX1_layOut_48 : decode cX1_layOut 48 = .ok (.iload_n 3, 1) := dk_29 (dk_at dksX1_layOut_2 0 rfl rfl)
theorem dX1_layOut_49 : decode cX1_layOut 49 = .ok (.aaload, 1) := dk_50 (dk_at dksX1_layOut_2 1 rfl rfl)
theorem dX1_layOut_50 : decode cX1_layOut 50 = .ok (.getfield 201, 3) := dk_180 0 201 (dk_at dksX1_layOut_2 2 rfl rfl)
theorem dX1_layOut_53 : decode cX1_layOut 53 = .ok (.iload_n 2, 1) := dk_28 (dk_at dksX1_layOut_2 5 rfl rfl)
theorem dX1_layOut_54 : decode cX1_layOut 54 = .ok (.iaload, 1) := dk_46 (dk_at dksX1_layOut_2 6 rfl rfl)
theorem dX1_layOut_55 : decode cX1_layOut 55 = .ok (.iadd, 1) := dk_96 (dk_at dksX1_layOut_2 7 rfl rfl)
theorem dX1_layOut_56 : decode cX1_layOut 56 = .ok (.istore_n 1, 1) := dk_60 (dk_at dksX1_layOut_2 8 rfl rfl)
theorem dX1_layOut_57 : decode cX1_layOut 57 = .ok (.iinc 3 1, 3) := dk_132 3 1 (dk_at dksX1_layOut_2 9 rfl rfl)
theorem dX1_layOut_60 : decode cX1_layOut 60 = .ok (.goto (-49), 3) := dk_167 255 207 (dk_at dksX1_layOut_2 12 rfl rfl)
theorem dX1_layOut_63 : decode cX1_layOut 63 = .ok (.iinc 2 1, 3) := dk_132 2 1 (dk_at dksX1_layOut_2 15 rfl rfl)
theorem dX1_layOut_66 : decode cX1_layOut 66 = .ok (.goto (-62), 3) := dk_167 255 194 (dk_at dksX1_layOut_2 18 rfl rfl)
theorem dX1_layOut_69 : decode cX1_layOut 69 = .ok (.iload_n 1, 1) := dk_27 (dk_at dksX1_layOut_2 21 rfl rfl)
theorem dX1_layOut_70 : decode cX1_layOut 70 = .ok (.ireturn, 1) := dk_172 (dk_at dksX1_layOut_2 22 rfl rfl)
abbrev cX1_resolves : ByteArray := prog_1_method_72_code
def yX1_resolves : MethodName := ⟨RX1, "resolves", "()Z"⟩
def dkwX1_resolves_8 : List UInt8 := [79, 132, 3, 1, 167, 255, 157, 132, 1, 1, 167, 255, 134, 4, 172]
abbrev dktX1_resolves_8 : List UInt8 := dkwX1_resolves_8 ++ []
def dkwX1_resolves_7 : List UInt8 := [25, 4, 180, 1, 199, 25, 4, 180, 0, 164, 21, 5, 46, 46, 96, 25, 4, 180, 0, 167, 21, 5, 46, 96]
abbrev dktX1_resolves_7 : List UInt8 := dkwX1_resolves_7 ++ dktX1_resolves_8
def dkwX1_resolves_6 : List UInt8 := [180, 0, 15, 21, 6, 50, 58, 4, 42, 180, 1, 206, 54, 5, 44, 180, 1, 217, 29, 42, 180, 1, 220]
abbrev dktX1_resolves_6 : List UInt8 := dkwX1_resolves_6 ++ dktX1_resolves_7
def dkwX1_resolves_5 : List UInt8 := [180, 1, 173, 182, 1, 209, 54, 6, 21, 6, 156, 0, 11, 42, 5, 27, 29, 182, 1, 213, 172, 42]
abbrev dktX1_resolves_5 : List UInt8 := dkwX1_resolves_5 ++ dktX1_resolves_6
def dkwX1_resolves_4 : List UInt8 := [180, 0, 154, 162, 0, 97, 44, 58, 4, 29, 54, 5, 44, 29, 182, 1, 152, 153, 0, 43, 42, 44, 29, 42]
abbrev dktX1_resolves_4 : List UInt8 := dkwX1_resolves_4 ++ dktX1_resolves_5
def dkwX1_resolves_3 : List UInt8 := [167, 255, 187, 3, 60, 27, 42, 180, 1, 173, 162, 0, 120, 42, 180, 0, 15, 27, 50, 77, 3, 62, 29, 44]
abbrev dktX1_resolves_3 : List UInt8 := dkwX1_resolves_3 ++ dktX1_resolves_4
def dkwX1_resolves_2 : List UInt8 := [182, 1, 209, 155, 0, 11, 42, 4, 27, 29, 182, 1, 213, 172, 132, 3, 1, 167, 255, 210, 132, 1, 1]
abbrev dktX1_resolves_2 : List UInt8 := dkwX1_resolves_2 ++ dktX1_resolves_3
def dkwX1_resolves_1 : List UInt8 := [162, 0, 44, 44, 180, 0, 170, 29, 51, 153, 0, 29, 44, 29, 182, 1, 152, 154, 0, 21, 42, 44, 29, 27]
abbrev dktX1_resolves_1 : List UInt8 := dkwX1_resolves_1 ++ dktX1_resolves_2
def dkwX1_resolves_0 : List UInt8 := [3, 60, 27, 42, 180, 1, 173, 162, 0, 67, 42, 180, 0, 15, 27, 50, 77, 3, 62, 29, 44, 180, 0, 154]
abbrev dktX1_resolves_0 : List UInt8 := dkwX1_resolves_0 ++ dktX1_resolves_1
theorem dksX1_resolves_0 : cX1_resolves.data.toList.drop 0 = dktX1_resolves_0 := by decide +kernel
theorem dksX1_resolves_1 : cX1_resolves.data.toList.drop 24 = dktX1_resolves_1 := dk_seg dksX1_resolves_0 24 rfl rfl
theorem dksX1_resolves_2 : cX1_resolves.data.toList.drop 48 = dktX1_resolves_2 := dk_seg dksX1_resolves_1 24 rfl rfl
theorem dksX1_resolves_3 : cX1_resolves.data.toList.drop 71 = dktX1_resolves_3 := dk_seg dksX1_resolves_2 23 rfl rfl
theorem dksX1_resolves_4 : cX1_resolves.data.toList.drop 95 = dktX1_resolves_4 := dk_seg dksX1_resolves_3 24 rfl rfl
theorem dksX1_resolves_5 : cX1_resolves.data.toList.drop 119 = dktX1_resolves_5 := dk_seg dksX1_resolves_4 24 rfl rfl
theorem dksX1_resolves_6 : cX1_resolves.data.toList.drop 141 = dktX1_resolves_6 := dk_seg dksX1_resolves_5 22 rfl rfl
theorem dksX1_resolves_7 : cX1_resolves.data.toList.drop 164 = dktX1_resolves_7 := dk_seg dksX1_resolves_6 23 rfl rfl
theorem dksX1_resolves_8 : cX1_resolves.data.toList.drop 188 = dktX1_resolves_8 := dk_seg dksX1_resolves_7 24 rfl rfl
theorem dX1_resolves_0 : decode cX1_resolves 0 = .ok (.iconst 0, 1) := dk_3 (dk_at dksX1_resolves_0 0 rfl rfl)
theorem dX1_resolves_1 : decode cX1_resolves 1 = .ok (.istore_n 1, 1) := dk_60 (dk_at dksX1_resolves_0 1 rfl rfl)
theorem dX1_resolves_2 : decode cX1_resolves 2 = .ok (.iload_n 1, 1) := dk_27 (dk_at dksX1_resolves_0 2 rfl rfl)
theorem dX1_resolves_3 : decode cX1_resolves 3 = .ok (.aload_n 0, 1) := dk_42 (dk_at dksX1_resolves_0 3 rfl rfl)
theorem dX1_resolves_4 : decode cX1_resolves 4 = .ok (.getfield 429, 3) := dk_180 1 173 (dk_at dksX1_resolves_0 4 rfl rfl)
theorem dX1_resolves_7 : decode cX1_resolves 7 = .ok (.if_icmp .ge 67, 3) := dk_162 0 67 (dk_at dksX1_resolves_0 7 rfl rfl)
theorem dX1_resolves_10 : decode cX1_resolves 10 = .ok (.aload_n 0, 1) := dk_42 (dk_at dksX1_resolves_0 10 rfl rfl)
theorem dX1_resolves_11 : decode cX1_resolves 11 = .ok (.getfield 15, 3) := dk_180 0 15 (dk_at dksX1_resolves_0 11 rfl rfl)
theorem dX1_resolves_14 : decode cX1_resolves 14 = .ok (.iload_n 1, 1) := dk_27 (dk_at dksX1_resolves_0 14 rfl rfl)
theorem dX1_resolves_15 : decode cX1_resolves 15 = .ok (.aaload, 1) := dk_50 (dk_at dksX1_resolves_0 15 rfl rfl)
theorem dX1_resolves_16 : decode cX1_resolves 16 = .ok (.astore_n 2, 1) := dk_77 (dk_at dksX1_resolves_0 16 rfl rfl)
theorem dX1_resolves_17 : decode cX1_resolves 17 = .ok (.iconst 0, 1) := dk_3 (dk_at dksX1_resolves_0 17 rfl rfl)
theorem dX1_resolves_18 : decode cX1_resolves 18 = .ok (.istore_n 3, 1) := dk_62 (dk_at dksX1_resolves_0 18 rfl rfl)
theorem dX1_resolves_19 : decode cX1_resolves 19 = .ok (.iload_n 3, 1) := dk_29 (dk_at dksX1_resolves_0 19 rfl rfl)
theorem dX1_resolves_20 : decode cX1_resolves 20 = .ok (.aload_n 2, 1) := dk_44 (dk_at dksX1_resolves_0 20 rfl rfl)
theorem dX1_resolves_21 : decode cX1_resolves 21 = .ok (.getfield 154, 3) := dk_180 0 154 (dk_at dksX1_resolves_0 21 rfl rfl)
theorem dX1_resolves_24 : decode cX1_resolves 24 = .ok (.if_icmp .ge 44, 3) := dk_162 0 44 (dk_at dksX1_resolves_1 0 rfl rfl)
theorem dX1_resolves_27 : decode cX1_resolves 27 = .ok (.aload_n 2, 1) := dk_44 (dk_at dksX1_resolves_1 3 rfl rfl)
theorem dX1_resolves_28 : decode cX1_resolves 28 = .ok (.getfield 170, 3) := dk_180 0 170 (dk_at dksX1_resolves_1 4 rfl rfl)
theorem dX1_resolves_31 : decode cX1_resolves 31 = .ok (.iload_n 3, 1) := dk_29 (dk_at dksX1_resolves_1 7 rfl rfl)
theorem dX1_resolves_32 : decode cX1_resolves 32 = .ok (.baload, 1) := dk_51 (dk_at dksX1_resolves_1 8 rfl rfl)
theorem dX1_resolves_33 : decode cX1_resolves 33 = .ok (.ifCond .eq 29, 3) := dk_153 0 29 (dk_at dksX1_resolves_1 9 rfl rfl)
theorem dX1_resolves_36 : decode cX1_resolves 36 = .ok (.aload_n 2, 1) := dk_44 (dk_at dksX1_resolves_1 12 rfl rfl)
theorem dX1_resolves_37 : decode cX1_resolves 37 = .ok (.iload_n 3, 1) := dk_29 (dk_at dksX1_resolves_1 13 rfl rfl)
theorem dX1_resolves_38 : decode cX1_resolves 38 = .ok (.invokevirtual 408, 3) := dk_182 1 152 (dk_at dksX1_resolves_1 14 rfl rfl)
theorem dX1_resolves_41 : decode cX1_resolves 41 = .ok (.ifCond .ne 21, 3) := dk_154 0 21 (dk_at dksX1_resolves_1 17 rfl rfl)
theorem dX1_resolves_44 : decode cX1_resolves 44 = .ok (.aload_n 0, 1) := dk_42 (dk_at dksX1_resolves_1 20 rfl rfl)
theorem dX1_resolves_45 : decode cX1_resolves 45 = .ok (.aload_n 2, 1) := dk_44 (dk_at dksX1_resolves_1 21 rfl rfl)
theorem dX1_resolves_46 : decode cX1_resolves 46 = .ok (.iload_n 3, 1) := dk_29 (dk_at dksX1_resolves_1 22 rfl rfl)
theorem dX1_resolves_47 : decode cX1_resolves 47 = .ok (.iload_n 1, 1) := dk_27 (dk_at dksX1_resolves_1 23 rfl rfl)
theorem dX1_resolves_48 : decode cX1_resolves 48 = .ok (.invokevirtual 465, 3) := dk_182 1 209 (dk_at dksX1_resolves_2 0 rfl rfl)
theorem dX1_resolves_51 : decode cX1_resolves 51 = .ok (.ifCond .lt 11, 3) := dk_155 0 11 (dk_at dksX1_resolves_2 3 rfl rfl)
theorem dX1_resolves_54 : decode cX1_resolves 54 = .ok (.aload_n 0, 1) := dk_42 (dk_at dksX1_resolves_2 6 rfl rfl)
theorem dX1_resolves_55 : decode cX1_resolves 55 = .ok (.iconst 1, 1) := dk_4 (dk_at dksX1_resolves_2 7 rfl rfl)
theorem dX1_resolves_56 : decode cX1_resolves 56 = .ok (.iload_n 1, 1) := dk_27 (dk_at dksX1_resolves_2 8 rfl rfl)
theorem dX1_resolves_57 : decode cX1_resolves 57 = .ok (.iload_n 3, 1) := dk_29 (dk_at dksX1_resolves_2 9 rfl rfl)
theorem dX1_resolves_58 : decode cX1_resolves 58 = .ok (.invokevirtual 469, 3) := dk_182 1 213 (dk_at dksX1_resolves_2 10 rfl rfl)
theorem dX1_resolves_61 : decode cX1_resolves 61 = .ok (.ireturn, 1) := dk_172 (dk_at dksX1_resolves_2 13 rfl rfl)
theorem dX1_resolves_62 : decode cX1_resolves 62 = .ok (.iinc 3 1, 3) := dk_132 3 1 (dk_at dksX1_resolves_2 14 rfl rfl)
theorem dX1_resolves_65 : decode cX1_resolves 65 = .ok (.goto (-46), 3) := dk_167 255 210 (dk_at dksX1_resolves_2 17 rfl rfl)
theorem dX1_resolves_68 : decode cX1_resolves 68 = .ok (.iinc 1 1, 3) := dk_132 1 1 (dk_at dksX1_resolves_2 20 rfl rfl)
theorem dX1_resolves_71 : decode cX1_resolves 71 = .ok (.goto (-69), 3) := dk_167 255 187 (dk_at dksX1_resolves_3 0 rfl rfl)
theorem dX1_resolves_74 : decode cX1_resolves 74 = .ok (.iconst 0, 1) := dk_3 (dk_at dksX1_resolves_3 3 rfl rfl)
theorem dX1_resolves_75 : decode cX1_resolves 75 = .ok (.istore_n 1, 1) := dk_60 (dk_at dksX1_resolves_3 4 rfl rfl)
theorem dX1_resolves_76 : decode cX1_resolves 76 = .ok (.iload_n 1, 1) := dk_27 (dk_at dksX1_resolves_3 5 rfl rfl)
theorem dX1_resolves_77 : decode cX1_resolves 77 = .ok (.aload_n 0, 1) := dk_42 (dk_at dksX1_resolves_3 6 rfl rfl)
theorem dX1_resolves_78 : decode cX1_resolves 78 = .ok (.getfield 429, 3) := dk_180 1 173 (dk_at dksX1_resolves_3 7 rfl rfl)
theorem dX1_resolves_81 : decode cX1_resolves 81 = .ok (.if_icmp .ge 120, 3) := dk_162 0 120 (dk_at dksX1_resolves_3 10 rfl rfl)
theorem dX1_resolves_84 : decode cX1_resolves 84 = .ok (.aload_n 0, 1) := dk_42 (dk_at dksX1_resolves_3 13 rfl rfl)
theorem dX1_resolves_85 : decode cX1_resolves 85 = .ok (.getfield 15, 3) := dk_180 0 15 (dk_at dksX1_resolves_3 14 rfl rfl)
theorem dX1_resolves_88 : decode cX1_resolves 88 = .ok (.iload_n 1, 1) := dk_27 (dk_at dksX1_resolves_3 17 rfl rfl)
theorem dX1_resolves_89 : decode cX1_resolves 89 = .ok (.aaload, 1) := dk_50 (dk_at dksX1_resolves_3 18 rfl rfl)
theorem dX1_resolves_90 : decode cX1_resolves 90 = .ok (.astore_n 2, 1) := dk_77 (dk_at dksX1_resolves_3 19 rfl rfl)
theorem dX1_resolves_91 : decode cX1_resolves 91 = .ok (.iconst 0, 1) := dk_3 (dk_at dksX1_resolves_3 20 rfl rfl)
theorem dX1_resolves_92 : decode cX1_resolves 92 = .ok (.istore_n 3, 1) := dk_62 (dk_at dksX1_resolves_3 21 rfl rfl)
theorem dX1_resolves_93 : decode cX1_resolves 93 = .ok (.iload_n 3, 1) := dk_29 (dk_at dksX1_resolves_3 22 rfl rfl)
theorem dX1_resolves_94 : decode cX1_resolves 94 = .ok (.aload_n 2, 1) := dk_44 (dk_at dksX1_resolves_3 23 rfl rfl)
theorem dX1_resolves_95 : decode cX1_resolves 95 = .ok (.getfield 154, 3) := dk_180 0 154 (dk_at dksX1_resolves_4 0 rfl rfl)
theorem dX1_resolves_98 : decode cX1_resolves 98 = .ok (.if_icmp .ge 97, 3) := dk_162 0 97 (dk_at dksX1_resolves_4 3 rfl rfl)
theorem dX1_resolves_101 : decode cX1_resolves 101 = .ok (.aload_n 2, 1) := dk_44 (dk_at dksX1_resolves_4 6 rfl rfl)
theorem dX1_resolves_102 : decode cX1_resolves 102 = .ok (.astore 4, 2) := dk_58 4 (dk_at dksX1_resolves_4 7 rfl rfl)
theorem dX1_resolves_104 : decode cX1_resolves 104 = .ok (.iload_n 3, 1) := dk_29 (dk_at dksX1_resolves_4 9 rfl rfl)
theorem dX1_resolves_105 : decode cX1_resolves 105 = .ok (.istore 5, 2) := dk_54 5 (dk_at dksX1_resolves_4 10 rfl rfl)
theorem dX1_resolves_107 : decode cX1_resolves 107 = .ok (.aload_n 2, 1) := dk_44 (dk_at dksX1_resolves_4 12 rfl rfl)
theorem dX1_resolves_108 : decode cX1_resolves 108 = .ok (.iload_n 3, 1) := dk_29 (dk_at dksX1_resolves_4 13 rfl rfl)
theorem dX1_resolves_109 : decode cX1_resolves 109 = .ok (.invokevirtual 408, 3) := dk_182 1 152 (dk_at dksX1_resolves_4 14 rfl rfl)
theorem dX1_resolves_112 : decode cX1_resolves 112 = .ok (.ifCond .eq 43, 3) := dk_153 0 43 (dk_at dksX1_resolves_4 17 rfl rfl)
theorem dX1_resolves_115 : decode cX1_resolves 115 = .ok (.aload_n 0, 1) := dk_42 (dk_at dksX1_resolves_4 20 rfl rfl)
theorem dX1_resolves_116 : decode cX1_resolves 116 = .ok (.aload_n 2, 1) := dk_44 (dk_at dksX1_resolves_4 21 rfl rfl)
theorem dX1_resolves_117 : decode cX1_resolves 117 = .ok (.iload_n 3, 1) := dk_29 (dk_at dksX1_resolves_4 22 rfl rfl)
theorem dX1_resolves_118 : decode cX1_resolves 118 = .ok (.aload_n 0, 1) := dk_42 (dk_at dksX1_resolves_4 23 rfl rfl)
theorem dX1_resolves_119 : decode cX1_resolves 119 = .ok (.getfield 429, 3) := dk_180 1 173 (dk_at dksX1_resolves_5 0 rfl rfl)
theorem dX1_resolves_122 : decode cX1_resolves 122 = .ok (.invokevirtual 465, 3) := dk_182 1 209 (dk_at dksX1_resolves_5 3 rfl rfl)
theorem dX1_resolves_125 : decode cX1_resolves 125 = .ok (.istore 6, 2) := dk_54 6 (dk_at dksX1_resolves_5 6 rfl rfl)
theorem dX1_resolves_127 : decode cX1_resolves 127 = .ok (.iload 6, 2) := dk_21 6 (dk_at dksX1_resolves_5 8 rfl rfl)
theorem dX1_resolves_129 : decode cX1_resolves 129 = .ok (.ifCond .ge 11, 3) := dk_156 0 11 (dk_at dksX1_resolves_5 10 rfl rfl)
theorem dX1_resolves_132 : decode cX1_resolves 132 = .ok (.aload_n 0, 1) := dk_42 (dk_at dksX1_resolves_5 13 rfl rfl)
theorem dX1_resolves_133 : decode cX1_resolves 133 = .ok (.iconst 2, 1) := dk_5 (dk_at dksX1_resolves_5 14 rfl rfl)
theorem dX1_resolves_134 : decode cX1_resolves 134 = .ok (.iload_n 1, 1) := dk_27 (dk_at dksX1_resolves_5 15 rfl rfl)
theorem dX1_resolves_135 : decode cX1_resolves 135 = .ok (.iload_n 3, 1) := dk_29 (dk_at dksX1_resolves_5 16 rfl rfl)
theorem dX1_resolves_136 : decode cX1_resolves 136 = .ok (.invokevirtual 469, 3) := dk_182 1 213 (dk_at dksX1_resolves_5 17 rfl rfl)
theorem dX1_resolves_139 : decode cX1_resolves 139 = .ok (.ireturn, 1) := dk_172 (dk_at dksX1_resolves_5 20 rfl rfl)
theorem dX1_resolves_140 : decode cX1_resolves 140 = .ok (.aload_n 0, 1) := dk_42 (dk_at dksX1_resolves_5 21 rfl rfl)
theorem dX1_resolves_141 : decode cX1_resolves 141 = .ok (.getfield 15, 3) := dk_180 0 15 (dk_at dksX1_resolves_6 0 rfl rfl)
theorem dX1_resolves_144 : decode cX1_resolves 144 = .ok (.iload 6, 2) := dk_21 6 (dk_at dksX1_resolves_6 3 rfl rfl)
theorem dX1_resolves_146 : decode cX1_resolves 146 = .ok (.aaload, 1) := dk_50 (dk_at dksX1_resolves_6 5 rfl rfl)
theorem dX1_resolves_147 : decode cX1_resolves 147 = .ok (.astore 4, 2) := dk_58 4 (dk_at dksX1_resolves_6 6 rfl rfl)
theorem dX1_resolves_149 : decode cX1_resolves 149 = .ok (.aload_n 0, 1) := dk_42 (dk_at dksX1_resolves_6 8 rfl rfl)
theorem dX1_resolves_150 : decode cX1_resolves 150 = .ok (.getfield 462, 3) := dk_180 1 206 (dk_at dksX1_resolves_6 9 rfl rfl)
theorem dX1_resolves_153 : decode cX1_resolves 153 = .ok (.istore 5, 2) := dk_54 5 (dk_at dksX1_resolves_6 12 rfl rfl)
theorem dX1_resolves_155 : decode cX1_resolves 155 = .ok (.aload_n 2, 1) := dk_44 (dk_at dksX1_resolves_6 14 rfl rfl)
theorem dX1_resolves_156 : decode cX1_resolves 156 = .ok (.getfield 473, 3) := dk_180 1 217 (dk_at dksX1_resolves_6 15 rfl rfl)
theorem dX1_resolves_159 : decode cX1_resolves 159 = .ok (.iload_n 3, 1) := dk_29 (dk_at dksX1_resolves_6 18 rfl rfl)
theorem dX1_resolves_160 : decode cX1_resolves 160 = .ok (.aload_n 0, 1) := dk_42 (dk_at dksX1_resolves_6 19 rfl rfl)
theorem dX1_resolves_161 : decode cX1_resolves 161 = .ok (.getfield 476, 3) := dk_180 1 220 (dk_at dksX1_resolves_6 20 rfl rfl)
theorem dX1_resolves_164 : decode cX1_resolves 164 = .ok (.aload 4, 2) := dk_25 4 (dk_at dksX1_resolves_7 0 rfl rfl)
theorem dX1_resolves_166 : decode cX1_resolves 166 = .ok (.getfield 455, 3) := dk_180 1 199 (dk_at dksX1_resolves_7 2 rfl rfl)
theorem dX1_resolves_169 : decode cX1_resolves 169 = .ok (.aload 4, 2) := dk_25 4 (dk_at dksX1_resolves_7 5 rfl rfl)
theorem dX1_resolves_171 : decode cX1_resolves 171 = .ok (.getfield 164, 3) := dk_180 0 164 (dk_at dksX1_resolves_7 7 rfl rfl)
theorem dX1_resolves_174 : decode cX1_resolves 174 = .ok (.iload 5, 2) := dk_21 5 (dk_at dksX1_resolves_7 10 rfl rfl)
theorem dX1_resolves_176 : decode cX1_resolves 176 = .ok (.iaload, 1) := dk_46 (dk_at dksX1_resolves_7 12 rfl rfl)
theorem dX1_resolves_177 : decode cX1_resolves 177 = .ok (.iaload, 1) := dk_46 (dk_at dksX1_resolves_7 13 rfl rfl)
theorem dX1_resolves_178 : decode cX1_resolves 178 = .ok (.iadd, 1) := dk_96 (dk_at dksX1_resolves_7 14 rfl rfl)
theorem dX1_resolves_179 : decode cX1_resolves 179 = .ok (.aload 4, 2) := dk_25 4 (dk_at dksX1_resolves_7 15 rfl rfl)
theorem dX1_resolves_181 : decode cX1_resolves 181 = .ok (.getfield 167, 3) := dk_180 0 167 (dk_at dksX1_resolves_7 17 rfl rfl)
theorem dX1_resolves_184 : decode cX1_resolves 184 = .ok (.iload 5, 2) := dk_21 5 (dk_at dksX1_resolves_7 20 rfl rfl)
theorem dX1_resolves_186 : decode cX1_resolves 186 = .ok (.iaload, 1) := dk_46 (dk_at dksX1_resolves_7 22 rfl rfl)
theorem dX1_resolves_187 : decode cX1_resolves 187 = .ok (.iadd, 1) := dk_96 (dk_at dksX1_resolves_7 23 rfl rfl)
theorem dX1_resolves_188 : decode cX1_resolves 188 = .ok (.iastore, 1) := dk_79 (dk_at dksX1_resolves_8 0 rfl rfl)
theorem dX1_resolves_189 : decode cX1_resolves 189 = .ok (.iinc 3 1, 3) := dk_132 3 1 (dk_at dksX1_resolves_8 1 rfl rfl)
theorem dX1_resolves_192 : decode cX1_resolves 192 = .ok (.goto (-99), 3) := dk_167 255 157 (dk_at dksX1_resolves_8 4 rfl rfl)
theorem dX1_resolves_195 : decode cX1_resolves 195 = .ok (.iinc 1 1, 3) := dk_132 1 1 (dk_at dksX1_resolves_8 7 rfl rfl)
theorem dX1_resolves_198 : decode cX1_resolves 198 = .ok (.goto (-122), 3) := dk_167 255 134 (dk_at dksX1_resolves_8 10 rfl rfl)
theorem dX1_resolves_201 : decode cX1_resolves 201 = .ok (.iconst 1, 1) := dk_4 (dk_at dksX1_resolves_8 13 rfl rfl)
theorem dX1_resolves_202 : decode cX1_resolves 202 = .ok (.ireturn, 1) := dk_172 (dk_at dksX1_resolves_8 14 rfl rfl)
abbrev cX1_owner : ByteArray := prog_1_method_71_code
def yX1_owner : MethodName := ⟨RX1, "owner", "(LObjectForge$Unit;II)I"⟩
def dkwX1_owner_4 : List UInt8 := [2, 172]
abbrev dktX1_owner_4 : List UInt8 := dkwX1_owner_4 ++ []
def dkwX1_owner_3 : List UInt8 := [153, 0, 12, 42, 21, 6, 181, 1, 206, 21, 4, 172, 132, 6, 1, 167, 255, 195, 132, 4, 1, 167, 255, 171]
abbrev dktX1_owner_3 : List UInt8 := dkwX1_owner_3 ++ dktX1_owner_4
def dkwX1_owner_2 : List UInt8 := [153, 0, 34, 25, 5, 21, 6, 182, 1, 152, 154, 0, 24, 25, 5, 21, 6, 43, 28, 182, 1, 202]
abbrev dktX1_owner_2 : List UInt8 := dkwX1_owner_2 ++ dktX1_owner_3
def dkwX1_owner_1 : List UInt8 := [25, 5, 180, 0, 154, 162, 0, 57, 25, 5, 43, 165, 0, 51, 25, 5, 180, 0, 170, 21, 6, 51]
abbrev dktX1_owner_1 : List UInt8 := dkwX1_owner_1 ++ dktX1_owner_2
def dkwX1_owner_0 : List UInt8 := [3, 54, 4, 21, 4, 29, 162, 0, 85, 42, 180, 0, 15, 21, 4, 50, 58, 5, 3, 54, 6, 21, 6]
abbrev dktX1_owner_0 : List UInt8 := dkwX1_owner_0 ++ dktX1_owner_1
theorem dksX1_owner_0 : cX1_owner.data.toList.drop 0 = dktX1_owner_0 := by decide +kernel
theorem dksX1_owner_1 : cX1_owner.data.toList.drop 23 = dktX1_owner_1 := dk_seg dksX1_owner_0 23 rfl rfl
theorem dksX1_owner_2 : cX1_owner.data.toList.drop 45 = dktX1_owner_2 := dk_seg dksX1_owner_1 22 rfl rfl
theorem dksX1_owner_3 : cX1_owner.data.toList.drop 67 = dktX1_owner_3 := dk_seg dksX1_owner_2 22 rfl rfl
theorem dksX1_owner_4 : cX1_owner.data.toList.drop 91 = dktX1_owner_4 := dk_seg dksX1_owner_3 24 rfl rfl
theorem dX1_owner_0 : decode cX1_owner 0 = .ok (.iconst 0, 1) := dk_3 (dk_at dksX1_owner_0 0 rfl rfl)
theorem dX1_owner_1 : decode cX1_owner 1 = .ok (.istore 4, 2) := dk_54 4 (dk_at dksX1_owner_0 1 rfl rfl)
theorem dX1_owner_3 : decode cX1_owner 3 = .ok (.iload 4, 2) := dk_21 4 (dk_at dksX1_owner_0 3 rfl rfl)
theorem dX1_owner_5 : decode cX1_owner 5 = .ok (.iload_n 3, 1) := dk_29 (dk_at dksX1_owner_0 5 rfl rfl)
theorem dX1_owner_6 : decode cX1_owner 6 = .ok (.if_icmp .ge 85, 3) := dk_162 0 85 (dk_at dksX1_owner_0 6 rfl rfl)
theorem dX1_owner_9 : decode cX1_owner 9 = .ok (.aload_n 0, 1) := dk_42 (dk_at dksX1_owner_0 9 rfl rfl)
theorem dX1_owner_10 : decode cX1_owner 10 = .ok (.getfield 15, 3) := dk_180 0 15 (dk_at dksX1_owner_0 10 rfl rfl)
theorem dX1_owner_13 : decode cX1_owner 13 = .ok (.iload 4, 2) := dk_21 4 (dk_at dksX1_owner_0 13 rfl rfl)
theorem dX1_owner_15 : decode cX1_owner 15 = .ok (.aaload, 1) := dk_50 (dk_at dksX1_owner_0 15 rfl rfl)
theorem dX1_owner_16 : decode cX1_owner 16 = .ok (.astore 5, 2) := dk_58 5 (dk_at dksX1_owner_0 16 rfl rfl)
theorem dX1_owner_18 : decode cX1_owner 18 = .ok (.iconst 0, 1) := dk_3 (dk_at dksX1_owner_0 18 rfl rfl)
theorem dX1_owner_19 : decode cX1_owner 19 = .ok (.istore 6, 2) := dk_54 6 (dk_at dksX1_owner_0 19 rfl rfl)
theorem dX1_owner_21 : decode cX1_owner 21 = .ok (.iload 6, 2) := dk_21 6 (dk_at dksX1_owner_0 21 rfl rfl)
theorem dX1_owner_23 : decode cX1_owner 23 = .ok (.aload 5, 2) := dk_25 5 (dk_at dksX1_owner_1 0 rfl rfl)
theorem dX1_owner_25 : decode cX1_owner 25 = .ok (.getfield 154, 3) := dk_180 0 154 (dk_at dksX1_owner_1 2 rfl rfl)
theorem dX1_owner_28 : decode cX1_owner 28 = .ok (.if_icmp .ge 57, 3) := dk_162 0 57 (dk_at dksX1_owner_1 5 rfl rfl)
theorem dX1_owner_31 : decode cX1_owner 31 = .ok (.aload 5, 2) := dk_25 5 (dk_at dksX1_owner_1 8 rfl rfl)
theorem dX1_owner_33 : decode cX1_owner 33 = .ok (.aload_n 1, 1) := dk_43 (dk_at dksX1_owner_1 10 rfl rfl)
theorem dX1_owner_34 : decode cX1_owner 34 = .ok (.if_acmp .eq 51, 3) := dk_165 0 51 (dk_at dksX1_owner_1 11 rfl rfl)
theorem dX1_owner_37 : decode cX1_owner 37 = .ok (.aload 5, 2) := dk_25 5 (dk_at dksX1_owner_1 14 rfl rfl)
theorem dX1_owner_39 : decode cX1_owner 39 = .ok (.getfield 170, 3) := dk_180 0 170 (dk_at dksX1_owner_1 16 rfl rfl)
theorem dX1_owner_42 : decode cX1_owner 42 = .ok (.iload 6, 2) := dk_21 6 (dk_at dksX1_owner_1 19 rfl rfl)
theorem dX1_owner_44 : decode cX1_owner 44 = .ok (.baload, 1) := dk_51 (dk_at dksX1_owner_1 21 rfl rfl)
theorem dX1_owner_45 : decode cX1_owner 45 = .ok (.ifCond .eq 34, 3) := dk_153 0 34 (dk_at dksX1_owner_2 0 rfl rfl)
theorem dX1_owner_48 : decode cX1_owner 48 = .ok (.aload 5, 2) := dk_25 5 (dk_at dksX1_owner_2 3 rfl rfl)
theorem dX1_owner_50 : decode cX1_owner 50 = .ok (.iload 6, 2) := dk_21 6 (dk_at dksX1_owner_2 5 rfl rfl)
theorem dX1_owner_52 : decode cX1_owner 52 = .ok (.invokevirtual 408, 3) := dk_182 1 152 (dk_at dksX1_owner_2 7 rfl rfl)
theorem dX1_owner_55 : decode cX1_owner 55 = .ok (.ifCond .ne 24, 3) := dk_154 0 24 (dk_at dksX1_owner_2 10 rfl rfl)
theorem dX1_owner_58 : decode cX1_owner 58 = .ok (.aload 5, 2) := dk_25 5 (dk_at dksX1_owner_2 13 rfl rfl)
theorem dX1_owner_60 : decode cX1_owner 60 = .ok (.iload 6, 2) := dk_21 6 (dk_at dksX1_owner_2 15 rfl rfl)
theorem dX1_owner_62 : decode cX1_owner 62 = .ok (.aload_n 1, 1) := dk_43 (dk_at dksX1_owner_2 17 rfl rfl)
theorem dX1_owner_63 : decode cX1_owner 63 = .ok (.iload_n 2, 1) := dk_28 (dk_at dksX1_owner_2 18 rfl rfl)
theorem dX1_owner_64 : decode cX1_owner 64 = .ok (.invokevirtual 458, 3) := dk_182 1 202 (dk_at dksX1_owner_2 19 rfl rfl)
theorem dX1_owner_67 : decode cX1_owner 67 = .ok (.ifCond .eq 12, 3) := dk_153 0 12 (dk_at dksX1_owner_3 0 rfl rfl)
theorem dX1_owner_70 : decode cX1_owner 70 = .ok (.aload_n 0, 1) := dk_42 (dk_at dksX1_owner_3 3 rfl rfl)
theorem dX1_owner_71 : decode cX1_owner 71 = .ok (.iload 6, 2) := dk_21 6 (dk_at dksX1_owner_3 4 rfl rfl)
theorem dX1_owner_73 : decode cX1_owner 73 = .ok (.putfield 462, 3) := dk_181 1 206 (dk_at dksX1_owner_3 6 rfl rfl)
theorem dX1_owner_76 : decode cX1_owner 76 = .ok (.iload 4, 2) := dk_21 4 (dk_at dksX1_owner_3 9 rfl rfl)
theorem dX1_owner_78 : decode cX1_owner 78 = .ok (.ireturn, 1) := dk_172 (dk_at dksX1_owner_3 11 rfl rfl)
theorem dX1_owner_79 : decode cX1_owner 79 = .ok (.iinc 6 1, 3) := dk_132 6 1 (dk_at dksX1_owner_3 12 rfl rfl)
theorem dX1_owner_82 : decode cX1_owner 82 = .ok (.goto (-61), 3) := dk_167 255 195 (dk_at dksX1_owner_3 15 rfl rfl)
theorem dX1_owner_85 : decode cX1_owner 85 = .ok (.iinc 4 1, 3) := dk_132 4 1 (dk_at dksX1_owner_3 18 rfl rfl)
theorem dX1_owner_88 : decode cX1_owner 88 = .ok (.goto (-85), 3) := dk_167 255 171 (dk_at dksX1_owner_3 21 rfl rfl)
theorem dX1_owner_91 : decode cX1_owner 91 = .ok (.iconst (-1), 1) := dk_2 (dk_at dksX1_owner_4 0 rfl rfl)
theorem dX1_owner_92 : decode cX1_owner 92 = .ok (.ireturn, 1) := dk_172 (dk_at dksX1_owner_4 1 rfl rfl)
abbrev cX1_fills : ByteArray := prog_1_method_75_code
def yX1_fills : MethodName := ⟨RX1, "fills", "()Z"⟩
def dkwX1_fills_11 : List UInt8 := [132, 1, 1, 167, 254, 240, 4, 172]
abbrev dktX1_fills_11 : List UInt8 := dkwX1_fills_11 ++ []
def dkwX1_fills_10 : List UInt8 := [122, 18, 194, 126, 128, 54, 7, 167, 0, 3, 42, 21, 4, 21, 7, 182, 1, 230, 132, 3, 1, 167, 255, 7]
abbrev dktX1_fills_10 : List UInt8 := dkwX1_fills_10 ++ dktX1_fills_11
def dkwX1_fills_9 : List UInt8 := [161, 0, 11, 21, 8, 19, 1, 229, 161, 0, 11, 42, 6, 27, 29, 182, 1, 213, 172, 21, 7, 21, 8, 5]
abbrev dktX1_fills_9 : List UInt8 := dkwX1_fills_9 ++ dktX1_fills_10
def dkwX1_fills_8 : List UInt8 := [54, 7, 167, 0, 56, 21, 5, 21, 6, 100, 54, 8, 21, 8, 6, 126, 154, 0, 19, 21, 8, 19, 1, 228]
abbrev dktX1_fills_8 : List UInt8 := dkwX1_fills_8 ++ dktX1_fills_9
def dkwX1_fills_7 : List UInt8 := [6, 126, 159, 0, 11, 42, 6, 27, 29, 182, 1, 213, 172, 21, 7, 21, 5, 5, 124, 19, 1, 227, 126, 128]
abbrev dktX1_fills_7 : List UInt8 := dkwX1_fills_7 ++ dktX1_fills_8
def dkwX1_fills_6 : List UInt8 := [21, 7, 21, 5, 18, 194, 126, 128, 54, 7, 167, 0, 96, 21, 5, 21, 6, 130, 19, 1, 226, 126, 21, 6]
abbrev dktX1_fills_6 : List UInt8 := dkwX1_fills_6 ++ dktX1_fills_7
def dkwX1_fills_5 : List UInt8 := [21, 5, 54, 7, 167, 0, 125, 21, 7, 21, 5, 18, 26, 96, 16, 16, 124, 128, 54, 7, 167, 0, 109]
abbrev dktX1_fills_5 : List UInt8 := dkwX1_fills_5 ++ dktX1_fills_6
def dkwX1_fills_4 : List UInt8 := [170, 0, 0, 0, 0, 0, 0, 112, 0, 0, 0, 2, 0, 0, 0, 6, 0, 0, 0, 36, 0, 0, 0, 112, 0, 0, 0, 72, 0, 0, 0, 43, 0, 0, 0, 59]
abbrev dktX1_fills_4 : List UInt8 := dkwX1_fills_4 ++ dktX1_fills_5
def dkwX1_fills_3 : List UInt8 := [21, 4, 96, 7, 96, 54, 6, 42, 21, 4, 182, 1, 223, 54, 7, 44, 180, 0, 223, 29, 46]
abbrev dktX1_fills_3 : List UInt8 := dkwX1_fills_3 ++ dktX1_fills_4
def dkwX1_fills_2 : List UInt8 := [180, 1, 217, 44, 180, 0, 226, 29, 46, 46, 44, 180, 0, 229, 29, 46, 96, 54, 5, 42, 180, 1, 220]
abbrev dktX1_fills_2 : List UInt8 := dkwX1_fills_2 ++ dktX1_fills_3
def dkwX1_fills_1 : List UInt8 := [162, 0, 247, 44, 180, 1, 199, 44, 180, 0, 217, 29, 46, 46, 44, 180, 0, 220, 29, 46, 96, 54, 4, 44]
abbrev dktX1_fills_1 : List UInt8 := dkwX1_fills_1 ++ dktX1_fills_2
def dkwX1_fills_0 : List UInt8 := [3, 60, 27, 42, 180, 1, 173, 162, 1, 14, 42, 180, 0, 15, 27, 50, 77, 3, 62, 29, 44, 180, 0, 214]
abbrev dktX1_fills_0 : List UInt8 := dkwX1_fills_0 ++ dktX1_fills_1
theorem dksX1_fills_0 : cX1_fills.data.toList.drop 0 = dktX1_fills_0 := by decide +kernel
theorem dksX1_fills_1 : cX1_fills.data.toList.drop 24 = dktX1_fills_1 := dk_seg dksX1_fills_0 24 rfl rfl
theorem dksX1_fills_2 : cX1_fills.data.toList.drop 48 = dktX1_fills_2 := dk_seg dksX1_fills_1 24 rfl rfl
theorem dksX1_fills_3 : cX1_fills.data.toList.drop 71 = dktX1_fills_3 := dk_seg dksX1_fills_2 23 rfl rfl
theorem dksX1_fills_4 : cX1_fills.data.toList.drop 92 = dktX1_fills_4 := dk_seg dksX1_fills_3 21 rfl rfl
theorem dksX1_fills_5 : cX1_fills.data.toList.drop 128 = dktX1_fills_5 := dk_seg dksX1_fills_4 36 rfl rfl
theorem dksX1_fills_6 : cX1_fills.data.toList.drop 151 = dktX1_fills_6 := dk_seg dksX1_fills_5 23 rfl rfl
theorem dksX1_fills_7 : cX1_fills.data.toList.drop 175 = dktX1_fills_7 := dk_seg dksX1_fills_6 24 rfl rfl
theorem dksX1_fills_8 : cX1_fills.data.toList.drop 199 = dktX1_fills_8 := dk_seg dksX1_fills_7 24 rfl rfl
theorem dksX1_fills_9 : cX1_fills.data.toList.drop 223 = dktX1_fills_9 := dk_seg dksX1_fills_8 24 rfl rfl
theorem dksX1_fills_10 : cX1_fills.data.toList.drop 247 = dktX1_fills_10 := dk_seg dksX1_fills_9 24 rfl rfl
theorem dksX1_fills_11 : cX1_fills.data.toList.drop 271 = dktX1_fills_11 := dk_seg dksX1_fills_10 24 rfl rfl
theorem dX1_fills_0 : decode cX1_fills 0 = .ok (.iconst 0, 1) := dk_3 (dk_at dksX1_fills_0 0 rfl rfl)
theorem dX1_fills_1 : decode cX1_fills 1 = .ok (.istore_n 1, 1) := dk_60 (dk_at dksX1_fills_0 1 rfl rfl)
theorem dX1_fills_2 : decode cX1_fills 2 = .ok (.iload_n 1, 1) := dk_27 (dk_at dksX1_fills_0 2 rfl rfl)
theorem dX1_fills_3 : decode cX1_fills 3 = .ok (.aload_n 0, 1) := dk_42 (dk_at dksX1_fills_0 3 rfl rfl)
theorem dX1_fills_4 : decode cX1_fills 4 = .ok (.getfield 429, 3) := dk_180 1 173 (dk_at dksX1_fills_0 4 rfl rfl)
theorem dX1_fills_7 : decode cX1_fills 7 = .ok (.if_icmp .ge 270, 3) := dk_162 1 14 (dk_at dksX1_fills_0 7 rfl rfl)
theorem dX1_fills_10 : decode cX1_fills 10 = .ok (.aload_n 0, 1) := dk_42 (dk_at dksX1_fills_0 10 rfl rfl)
theorem dX1_fills_11 : decode cX1_fills 11 = .ok (.getfield 15, 3) := dk_180 0 15 (dk_at dksX1_fills_0 11 rfl rfl)
theorem dX1_fills_14 : decode cX1_fills 14 = .ok (.iload_n 1, 1) := dk_27 (dk_at dksX1_fills_0 14 rfl rfl)
theorem dX1_fills_15 : decode cX1_fills 15 = .ok (.aaload, 1) := dk_50 (dk_at dksX1_fills_0 15 rfl rfl)
theorem dX1_fills_16 : decode cX1_fills 16 = .ok (.astore_n 2, 1) := dk_77 (dk_at dksX1_fills_0 16 rfl rfl)
theorem dX1_fills_17 : decode cX1_fills 17 = .ok (.iconst 0, 1) := dk_3 (dk_at dksX1_fills_0 17 rfl rfl)
theorem dX1_fills_18 : decode cX1_fills 18 = .ok (.istore_n 3, 1) := dk_62 (dk_at dksX1_fills_0 18 rfl rfl)
theorem dX1_fills_19 : decode cX1_fills 19 = .ok (.iload_n 3, 1) := dk_29 (dk_at dksX1_fills_0 19 rfl rfl)
theorem dX1_fills_20 : decode cX1_fills 20 = .ok (.aload_n 2, 1) := dk_44 (dk_at dksX1_fills_0 20 rfl rfl)
theorem dX1_fills_21 : decode cX1_fills 21 = .ok (.getfield 214, 3) := dk_180 0 214 (dk_at dksX1_fills_0 21 rfl rfl)
theorem dX1_fills_24 : decode cX1_fills 24 = .ok (.if_icmp .ge 247, 3) := dk_162 0 247 (dk_at dksX1_fills_1 0 rfl rfl)
theorem dX1_fills_27 : decode cX1_fills 27 = .ok (.aload_n 2, 1) := dk_44 (dk_at dksX1_fills_1 3 rfl rfl)
theorem dX1_fills_28 : decode cX1_fills 28 = .ok (.getfield 455, 3) := dk_180 1 199 (dk_at dksX1_fills_1 4 rfl rfl)
theorem dX1_fills_31 : decode cX1_fills 31 = .ok (.aload_n 2, 1) := dk_44 (dk_at dksX1_fills_1 7 rfl rfl)
theorem dX1_fills_32 : decode cX1_fills 32 = .ok (.getfield 217, 3) := dk_180 0 217 (dk_at dksX1_fills_1 8 rfl rfl)
theorem dX1_fills_35 : decode cX1_fills 35 = .ok (.iload_n 3, 1) := dk_29 (dk_at dksX1_fills_1 11 rfl rfl)
theorem dX1_fills_36 : decode cX1_fills 36 = .ok (.iaload, 1) := dk_46 (dk_at dksX1_fills_1 12 rfl rfl)
theorem dX1_fills_37 : decode cX1_fills 37 = .ok (.iaload, 1) := dk_46 (dk_at dksX1_fills_1 13 rfl rfl)
theorem dX1_fills_38 : decode cX1_fills 38 = .ok (.aload_n 2, 1) := dk_44 (dk_at dksX1_fills_1 14 rfl rfl)
theorem dX1_fills_39 : decode cX1_fills 39 = .ok (.getfield 220, 3) := dk_180 0 220 (dk_at dksX1_fills_1 15 rfl rfl)
theorem dX1_fills_42 : decode cX1_fills 42 = .ok (.iload_n 3, 1) := dk_29 (dk_at dksX1_fills_1 18 rfl rfl)
theorem dX1_fills_43 : decode cX1_fills 43 = .ok (.iaload, 1) := dk_46 (dk_at dksX1_fills_1 19 rfl rfl)
theorem dX1_fills_44 : decode cX1_fills 44 = .ok (.iadd, 1) := dk_96 (dk_at dksX1_fills_1 20 rfl rfl)
theorem dX1_fills_45 : decode cX1_fills 45 = .ok (.istore 4, 2) := dk_54 4 (dk_at dksX1_fills_1 21 rfl rfl)
theorem dX1_fills_47 : decode cX1_fills 47 = .ok (.aload_n 2, 1) := dk_44 (dk_at dksX1_fills_1 23 rfl rfl)
theorem dX1_fills_48 : decode cX1_fills 48 = .ok (.getfield 473, 3) := dk_180 1 217 (dk_at dksX1_fills_2 0 rfl rfl)
theorem dX1_fills_51 : decode cX1_fills 51 = .ok (.aload_n 2, 1) := dk_44 (dk_at dksX1_fills_2 3 rfl rfl)
theorem dX1_fills_52 : decode cX1_fills 52 = .ok (.getfield 226, 3) := dk_180 0 226 (dk_at dksX1_fills_2 4 rfl rfl)
theorem dX1_fills_55 : decode cX1_fills 55 = .ok (.iload_n 3, 1) := dk_29 (dk_at dksX1_fills_2 7 rfl rfl)
theorem dX1_fills_56 : decode cX1_fills 56 = .ok (.iaload, 1) := dk_46 (dk_at dksX1_fills_2 8 rfl rfl)
theorem dX1_fills_57 : decode cX1_fills 57 = .ok (.iaload, 1) := dk_46 (dk_at dksX1_fills_2 9 rfl rfl)
theorem dX1_fills_58 : decode cX1_fills 58 = .ok (.aload_n 2, 1) := dk_44 (dk_at dksX1_fills_2 10 rfl rfl)
theorem dX1_fills_59 : decode cX1_fills 59 = .ok (.getfield 229, 3) := dk_180 0 229 (dk_at dksX1_fills_2 11 rfl rfl)
theorem dX1_fills_62 : decode cX1_fills 62 = .ok (.iload_n 3, 1) := dk_29 (dk_at dksX1_fills_2 14 rfl rfl)
theorem dX1_fills_63 : decode cX1_fills 63 = .ok (.iaload, 1) := dk_46 (dk_at dksX1_fills_2 15 rfl rfl)
theorem dX1_fills_64 : decode cX1_fills 64 = .ok (.iadd, 1) := dk_96 (dk_at dksX1_fills_2 16 rfl rfl)
theorem dX1_fills_65 : decode cX1_fills 65 = .ok (.istore 5, 2) := dk_54 5 (dk_at dksX1_fills_2 17 rfl rfl)
theorem dX1_fills_67 : decode cX1_fills 67 = .ok (.aload_n 0, 1) := dk_42 (dk_at dksX1_fills_2 19 rfl rfl)
theorem dX1_fills_68 : decode cX1_fills 68 = .ok (.getfield 476, 3) := dk_180 1 220 (dk_at dksX1_fills_2 20 rfl rfl)
theorem dX1_fills_71 : decode cX1_fills 71 = .ok (.iload 4, 2) := dk_21 4 (dk_at dksX1_fills_3 0 rfl rfl)
theorem dX1_fills_73 : decode cX1_fills 73 = .ok (.iadd, 1) := dk_96 (dk_at dksX1_fills_3 2 rfl rfl)
theorem dX1_fills_74 : decode cX1_fills 74 = .ok (.iconst 4, 1) := dk_7 (dk_at dksX1_fills_3 3 rfl rfl)
theorem dX1_fills_75 : decode cX1_fills 75 = .ok (.iadd, 1) := dk_96 (dk_at dksX1_fills_3 4 rfl rfl)
theorem dX1_fills_76 : decode cX1_fills 76 = .ok (.istore 6, 2) := dk_54 6 (dk_at dksX1_fills_3 5 rfl rfl)
theorem dX1_fills_78 : decode cX1_fills 78 = .ok (.aload_n 0, 1) := dk_42 (dk_at dksX1_fills_3 7 rfl rfl)
theorem dX1_fills_79 : decode cX1_fills 79 = .ok (.iload 4, 2) := dk_21 4 (dk_at dksX1_fills_3 8 rfl rfl)
theorem dX1_fills_81 : decode cX1_fills 81 = .ok (.invokevirtual 479, 3) := dk_182 1 223 (dk_at dksX1_fills_3 10 rfl rfl)
theorem dX1_fills_84 : decode cX1_fills 84 = .ok (.istore 7, 2) := dk_54 7 (dk_at dksX1_fills_3 13 rfl rfl)
theorem dX1_fills_86 : decode cX1_fills 86 = .ok (.aload_n 2, 1) := dk_44 (dk_at dksX1_fills_3 15 rfl rfl)
theorem dX1_fills_87 : decode cX1_fills 87 = .ok (.getfield 223, 3) := dk_180 0 223 (dk_at dksX1_fills_3 16 rfl rfl)
theorem dX1_fills_90 : decode cX1_fills 90 = .ok (.iload_n 3, 1) := dk_29 (dk_at dksX1_fills_3 19 rfl rfl)
theorem dX1_fills_91 : decode cX1_fills 91 = .ok (.iaload, 1) := dk_46 (dk_at dksX1_fills_3 20 rfl rfl)
theorem dX1_fills_92 : decode cX1_fills 92 = .ok (.tableswitch 112 2 6 #[36, 112, 72, 43, 59], 36) := by decide +kernel
theorem dX1_fills_128 : decode cX1_fills 128 = .ok (.iload 5, 2) := dk_21 5 (dk_at dksX1_fills_5 0 rfl rfl)
theorem dX1_fills_130 : decode cX1_fills 130 = .ok (.istore 7, 2) := dk_54 7 (dk_at dksX1_fills_5 2 rfl rfl)
theorem dX1_fills_132 : decode cX1_fills 132 = .ok (.goto 125, 3) := dk_167 0 125 (dk_at dksX1_fills_5 4 rfl rfl)
theorem dX1_fills_135 : decode cX1_fills 135 = .ok (.iload 7, 2) := dk_21 7 (dk_at dksX1_fills_5 7 rfl rfl)
theorem dX1_fills_137 : decode cX1_fills 137 = .ok (.iload 5, 2) := dk_21 5 (dk_at dksX1_fills_5 9 rfl rfl)
theorem dX1_fills_139 : decode cX1_fills 139 = .ok (.ldc 26, 2) := dk_18 26 (dk_at dksX1_fills_5 11 rfl rfl)
theorem dX1_fills_141 : decode cX1_fills 141 = .ok (.iadd, 1) := dk_96 (dk_at dksX1_fills_5 13 rfl rfl)
theorem dX1_fills_142 : decode cX1_fills 142 = .ok (.bipush 16, 2) := dk_16 16 (dk_at dksX1_fills_5 14 rfl rfl)
theorem dX1_fills_144 : decode cX1_fills 144 = .ok (.iushr, 1) := dk_124 (dk_at dksX1_fills_5 16 rfl rfl)
theorem dX1_fills_145 : decode cX1_fills 145 = .ok (.ior, 1) := dk_128 (dk_at dksX1_fills_5 17 rfl rfl)
theorem dX1_fills_146 : decode cX1_fills 146 = .ok (.istore 7, 2) := dk_54 7 (dk_at dksX1_fills_5 18 rfl rfl)
theorem dX1_fills_148 : decode cX1_fills 148 = .ok (.goto 109, 3) := dk_167 0 109 (dk_at dksX1_fills_5 20 rfl rfl)
theorem dX1_fills_151 : decode cX1_fills 151 = .ok (.iload 7, 2) := dk_21 7 (dk_at dksX1_fills_6 0 rfl rfl)
theorem dX1_fills_153 : decode cX1_fills 153 = .ok (.iload 5, 2) := dk_21 5 (dk_at dksX1_fills_6 2 rfl rfl)
theorem dX1_fills_155 : decode cX1_fills 155 = .ok (.ldc 194, 2) := dk_18 194 (dk_at dksX1_fills_6 4 rfl rfl)
theorem dX1_fills_157 : decode cX1_fills 157 = .ok (.iand, 1) := dk_126 (dk_at dksX1_fills_6 6 rfl rfl)
theorem dX1_fills_158 : decode cX1_fills 158 = .ok (.ior, 1) := dk_128 (dk_at dksX1_fills_6 7 rfl rfl)
theorem dX1_fills_159 : decode cX1_fills 159 = .ok (.istore 7, 2) := dk_54 7 (dk_at dksX1_fills_6 8 rfl rfl)
theorem dX1_fills_161 : decode cX1_fills 161 = .ok (.goto 96, 3) := dk_167 0 96 (dk_at dksX1_fills_6 10 rfl rfl)
theorem dX1_fills_164 : decode cX1_fills 164 = .ok (.iload 5, 2) := dk_21 5 (dk_at dksX1_fills_6 13 rfl rfl)
theorem dX1_fills_166 : decode cX1_fills 166 = .ok (.iload 6, 2) := dk_21 6 (dk_at dksX1_fills_6 15 rfl rfl)
theorem dX1_fills_168 : decode cX1_fills 168 = .ok (.ixor, 1) := dk_130 (dk_at dksX1_fills_6 17 rfl rfl)
theorem dX1_fills_169 : decode cX1_fills 169 = .ok (.ldc_w 482, 3) := dk_19 1 226 (dk_at dksX1_fills_6 18 rfl rfl)
theorem dX1_fills_172 : decode cX1_fills 172 = .ok (.iand, 1) := dk_126 (dk_at dksX1_fills_6 21 rfl rfl)
theorem dX1_fills_173 : decode cX1_fills 173 = .ok (.iload 6, 2) := dk_21 6 (dk_at dksX1_fills_6 22 rfl rfl)
theorem dX1_fills_175 : decode cX1_fills 175 = .ok (.iconst 3, 1) := dk_6 (dk_at dksX1_fills_7 0 rfl rfl)
theorem dX1_fills_176 : decode cX1_fills 176 = .ok (.iand, 1) := dk_126 (dk_at dksX1_fills_7 1 rfl rfl)
theorem dX1_fills_177 : decode cX1_fills 177 = .ok (.if_icmp .eq 11, 3) := dk_159 0 11 (dk_at dksX1_fills_7 2 rfl rfl)
theorem dX1_fills_180 : decode cX1_fills 180 = .ok (.aload_n 0, 1) := dk_42 (dk_at dksX1_fills_7 5 rfl rfl)
theorem dX1_fills_181 : decode cX1_fills 181 = .ok (.iconst 3, 1) := dk_6 (dk_at dksX1_fills_7 6 rfl rfl)
theorem dX1_fills_182 : decode cX1_fills 182 = .ok (.iload_n 1, 1) := dk_27 (dk_at dksX1_fills_7 7 rfl rfl)
theorem dX1_fills_183 : decode cX1_fills 183 = .ok (.iload_n 3, 1) := dk_29 (dk_at dksX1_fills_7 8 rfl rfl)
theorem dX1_fills_184 : decode cX1_fills 184 = .ok (.invokevirtual 469, 3) := dk_182 1 213 (dk_at dksX1_fills_7 9 rfl rfl)
theorem dX1_fills_187 : decode cX1_fills 187 = .ok (.ireturn, 1) := dk_172 (dk_at dksX1_fills_7 12 rfl rfl)
theorem dX1_fills_188 : decode cX1_fills 188 = .ok (.iload 7, 2) := dk_21 7 (dk_at dksX1_fills_7 13 rfl rfl)
theorem dX1_fills_190 : decode cX1_fills 190 = .ok (.iload 5, 2) := dk_21 5 (dk_at dksX1_fills_7 15 rfl rfl)
theorem dX1_fills_192 : decode cX1_fills 192 = .ok (.iconst 2, 1) := dk_5 (dk_at dksX1_fills_7 17 rfl rfl)
theorem dX1_fills_193 : decode cX1_fills 193 = .ok (.iushr, 1) := dk_124 (dk_at dksX1_fills_7 18 rfl rfl)
theorem dX1_fills_194 : decode cX1_fills 194 = .ok (.ldc_w 483, 3) := dk_19 1 227 (dk_at dksX1_fills_7 19 rfl rfl)
theorem dX1_fills_197 : decode cX1_fills 197 = .ok (.iand, 1) := dk_126 (dk_at dksX1_fills_7 22 rfl rfl)
theorem dX1_fills_198 : decode cX1_fills 198 = .ok (.ior, 1) := dk_128 (dk_at dksX1_fills_7 23 rfl rfl)
theorem dX1_fills_199 : decode cX1_fills 199 = .ok (.istore 7, 2) := dk_54 7 (dk_at dksX1_fills_8 0 rfl rfl)
theorem dX1_fills_201 : decode cX1_fills 201 = .ok (.goto 56, 3) := dk_167 0 56 (dk_at dksX1_fills_8 2 rfl rfl)
theorem dX1_fills_204 : decode cX1_fills 204 = .ok (.iload 5, 2) := dk_21 5 (dk_at dksX1_fills_8 5 rfl rfl)
theorem dX1_fills_206 : decode cX1_fills 206 = .ok (.iload 6, 2) := dk_21 6 (dk_at dksX1_fills_8 7 rfl rfl)
theorem dX1_fills_208 : decode cX1_fills 208 = .ok (.isub, 1) := dk_100 (dk_at dksX1_fills_8 9 rfl rfl)
theorem dX1_fills_209 : decode cX1_fills 209 = .ok (.istore 8, 2) := dk_54 8 (dk_at dksX1_fills_8 10 rfl rfl)
theorem dX1_fills_211 : decode cX1_fills 211 = .ok (.iload 8, 2) := dk_21 8 (dk_at dksX1_fills_8 12 rfl rfl)
theorem dX1_fills_213 : decode cX1_fills 213 = .ok (.iconst 3, 1) := dk_6 (dk_at dksX1_fills_8 14 rfl rfl)
theorem dX1_fills_214 : decode cX1_fills 214 = .ok (.iand, 1) := dk_126 (dk_at dksX1_fills_8 15 rfl rfl)
theorem dX1_fills_215 : decode cX1_fills 215 = .ok (.ifCond .ne 19, 3) := dk_154 0 19 (dk_at dksX1_fills_8 16 rfl rfl)
theorem dX1_fills_218 : decode cX1_fills 218 = .ok (.iload 8, 2) := dk_21 8 (dk_at dksX1_fills_8 19 rfl rfl)
theorem dX1_fills_220 : decode cX1_fills 220 = .ok (.ldc_w 484, 3) := dk_19 1 228 (dk_at dksX1_fills_8 21 rfl rfl)
theorem dX1_fills_223 : decode cX1_fills 223 = .ok (.if_icmp .lt 11, 3) := dk_161 0 11 (dk_at dksX1_fills_9 0 rfl rfl)
theorem dX1_fills_226 : decode cX1_fills 226 = .ok (.iload 8, 2) := dk_21 8 (dk_at dksX1_fills_9 3 rfl rfl)
theorem dX1_fills_228 : decode cX1_fills 228 = .ok (.ldc_w 485, 3) := dk_19 1 229 (dk_at dksX1_fills_9 5 rfl rfl)
theorem dX1_fills_231 : decode cX1_fills 231 = .ok (.if_icmp .lt 11, 3) := dk_161 0 11 (dk_at dksX1_fills_9 8 rfl rfl)
theorem dX1_fills_234 : decode cX1_fills 234 = .ok (.aload_n 0, 1) := dk_42 (dk_at dksX1_fills_9 11 rfl rfl)
theorem dX1_fills_235 : decode cX1_fills 235 = .ok (.iconst 3, 1) := dk_6 (dk_at dksX1_fills_9 12 rfl rfl)
theorem dX1_fills_236 : decode cX1_fills 236 = .ok (.iload_n 1, 1) := dk_27 (dk_at dksX1_fills_9 13 rfl rfl)
theorem dX1_fills_237 : decode cX1_fills 237 = .ok (.iload_n 3, 1) := dk_29 (dk_at dksX1_fills_9 14 rfl rfl)
theorem dX1_fills_238 : decode cX1_fills 238 = .ok (.invokevirtual 469, 3) := dk_182 1 213 (dk_at dksX1_fills_9 15 rfl rfl)
theorem dX1_fills_241 : decode cX1_fills 241 = .ok (.ireturn, 1) := dk_172 (dk_at dksX1_fills_9 18 rfl rfl)
theorem dX1_fills_242 : decode cX1_fills 242 = .ok (.iload 7, 2) := dk_21 7 (dk_at dksX1_fills_9 19 rfl rfl)
theorem dX1_fills_244 : decode cX1_fills 244 = .ok (.iload 8, 2) := dk_21 8 (dk_at dksX1_fills_9 21 rfl rfl)
theorem dX1_fills_246 : decode cX1_fills 246 = .ok (.iconst 2, 1) := dk_5 (dk_at dksX1_fills_9 23 rfl rfl)
theorem dX1_fills_247 : decode cX1_fills 247 = .ok (.ishr, 1) := dk_122 (dk_at dksX1_fills_10 0 rfl rfl)
theorem dX1_fills_248 : decode cX1_fills 248 = .ok (.ldc 194, 2) := dk_18 194 (dk_at dksX1_fills_10 1 rfl rfl)
theorem dX1_fills_250 : decode cX1_fills 250 = .ok (.iand, 1) := dk_126 (dk_at dksX1_fills_10 3 rfl rfl)
theorem dX1_fills_251 : decode cX1_fills 251 = .ok (.ior, 1) := dk_128 (dk_at dksX1_fills_10 4 rfl rfl)
theorem dX1_fills_252 : decode cX1_fills 252 = .ok (.istore 7, 2) := dk_54 7 (dk_at dksX1_fills_10 5 rfl rfl)
theorem dX1_fills_254 : decode cX1_fills 254 = .ok (.goto 3, 3) := dk_167 0 3 (dk_at dksX1_fills_10 7 rfl rfl)
theorem dX1_fills_257 : decode cX1_fills 257 = .ok (.aload_n 0, 1) := dk_42 (dk_at dksX1_fills_10 10 rfl rfl)
theorem dX1_fills_258 : decode cX1_fills 258 = .ok (.iload 4, 2) := dk_21 4 (dk_at dksX1_fills_10 11 rfl rfl)
theorem dX1_fills_260 : decode cX1_fills 260 = .ok (.iload 7, 2) := dk_21 7 (dk_at dksX1_fills_10 13 rfl rfl)
theorem dX1_fills_262 : decode cX1_fills 262 = .ok (.invokevirtual 486, 3) := dk_182 1 230 (dk_at dksX1_fills_10 15 rfl rfl)
theorem dX1_fills_265 : decode cX1_fills 265 = .ok (.iinc 3 1, 3) := dk_132 3 1 (dk_at dksX1_fills_10 18 rfl rfl)
theorem dX1_fills_268 : decode cX1_fills 268 = .ok (.goto (-249), 3) := dk_167 255 7 (dk_at dksX1_fills_10 21 rfl rfl)
theorem dX1_fills_271 : decode cX1_fills 271 = .ok (.iinc 1 1, 3) := dk_132 1 1 (dk_at dksX1_fills_11 0 rfl rfl)
theorem dX1_fills_274 : decode cX1_fills 274 = .ok (.goto (-272), 3) := dk_167 254 240 (dk_at dksX1_fills_11 3 rfl rfl)
theorem dX1_fills_277 : decode cX1_fills 277 = .ok (.iconst 1, 1) := dk_4 (dk_at dksX1_fills_11 6 rfl rfl)
theorem dX1_fills_278 : decode cX1_fills 278 = .ok (.ireturn, 1) := dk_172 (dk_at dksX1_fills_11 7 rfl rfl)
abbrev cX1_imageWord : ByteArray := prog_1_method_73_code
def yX1_imageWord : MethodName := ⟨RX1, "imageWord", "(I)I"⟩
def dkwX1_imageWord_2 : List UInt8 := [51, 17, 0, 255, 126, 128, 172]
abbrev dktX1_imageWord_2 : List UInt8 := dkwX1_imageWord_2 ++ []
def dkwX1_imageWord_1 : List UInt8 := [128, 42, 180, 0, 27, 27, 5, 96, 51, 17, 0, 255, 126, 16, 8, 120, 128, 42, 180, 0, 27, 27, 6, 96]
abbrev dktX1_imageWord_1 : List UInt8 := dkwX1_imageWord_1 ++ dktX1_imageWord_2
def dkwX1_imageWord_0 : List UInt8 := [42, 180, 0, 27, 27, 51, 16, 24, 120, 42, 180, 0, 27, 27, 4, 96, 51, 17, 0, 255, 126, 16, 16, 120]
abbrev dktX1_imageWord_0 : List UInt8 := dkwX1_imageWord_0 ++ dktX1_imageWord_1
theorem dksX1_imageWord_0 : cX1_imageWord.data.toList.drop 0 = dktX1_imageWord_0 := by decide +kernel
theorem dksX1_imageWord_1 : cX1_imageWord.data.toList.drop 24 = dktX1_imageWord_1 := dk_seg dksX1_imageWord_0 24 rfl rfl
theorem dksX1_imageWord_2 : cX1_imageWord.data.toList.drop 48 = dktX1_imageWord_2 := dk_seg dksX1_imageWord_1 24 rfl rfl
theorem dX1_imageWord_0 : decode cX1_imageWord 0 = .ok (.aload_n 0, 1) := dk_42 (dk_at dksX1_imageWord_0 0 rfl rfl)
theorem dX1_imageWord_1 : decode cX1_imageWord 1 = .ok (.getfield 27, 3) := dk_180 0 27 (dk_at dksX1_imageWord_0 1 rfl rfl)
theorem dX1_imageWord_4 : decode cX1_imageWord 4 = .ok (.iload_n 1, 1) := dk_27 (dk_at dksX1_imageWord_0 4 rfl rfl)
theorem dX1_imageWord_5 : decode cX1_imageWord 5 = .ok (.baload, 1) := dk_51 (dk_at dksX1_imageWord_0 5 rfl rfl)
theorem dX1_imageWord_6 : decode cX1_imageWord 6 = .ok (.bipush 24, 2) := dk_16 24 (dk_at dksX1_imageWord_0 6 rfl rfl)
theorem dX1_imageWord_8 : decode cX1_imageWord 8 = .ok (.ishl, 1) := dk_120 (dk_at dksX1_imageWord_0 8 rfl rfl)
theorem dX1_imageWord_9 : decode cX1_imageWord 9 = .ok (.aload_n 0, 1) := dk_42 (dk_at dksX1_imageWord_0 9 rfl rfl)
theorem dX1_imageWord_10 : decode cX1_imageWord 10 = .ok (.getfield 27, 3) := dk_180 0 27 (dk_at dksX1_imageWord_0 10 rfl rfl)
theorem dX1_imageWord_13 : decode cX1_imageWord 13 = .ok (.iload_n 1, 1) := dk_27 (dk_at dksX1_imageWord_0 13 rfl rfl)
theorem dX1_imageWord_14 : decode cX1_imageWord 14 = .ok (.iconst 1, 1) := dk_4 (dk_at dksX1_imageWord_0 14 rfl rfl)
theorem dX1_imageWord_15 : decode cX1_imageWord 15 = .ok (.iadd, 1) := dk_96 (dk_at dksX1_imageWord_0 15 rfl rfl)
theorem dX1_imageWord_16 : decode cX1_imageWord 16 = .ok (.baload, 1) := dk_51 (dk_at dksX1_imageWord_0 16 rfl rfl)
theorem dX1_imageWord_17 : decode cX1_imageWord 17 = .ok (.sipush 255, 3) := dk_17 0 255 (dk_at dksX1_imageWord_0 17 rfl rfl)
theorem dX1_imageWord_20 : decode cX1_imageWord 20 = .ok (.iand, 1) := dk_126 (dk_at dksX1_imageWord_0 20 rfl rfl)
theorem dX1_imageWord_21 : decode cX1_imageWord 21 = .ok (.bipush 16, 2) := dk_16 16 (dk_at dksX1_imageWord_0 21 rfl rfl)
theorem dX1_imageWord_23 : decode cX1_imageWord 23 = .ok (.ishl, 1) := dk_120 (dk_at dksX1_imageWord_0 23 rfl rfl)
theorem dX1_imageWord_24 : decode cX1_imageWord 24 = .ok (.ior, 1) := dk_128 (dk_at dksX1_imageWord_1 0 rfl rfl)
theorem dX1_imageWord_25 : decode cX1_imageWord 25 = .ok (.aload_n 0, 1) := dk_42 (dk_at dksX1_imageWord_1 1 rfl rfl)
theorem dX1_imageWord_26 : decode cX1_imageWord 26 = .ok (.getfield 27, 3) := dk_180 0 27 (dk_at dksX1_imageWord_1 2 rfl rfl)
theorem dX1_imageWord_29 : decode cX1_imageWord 29 = .ok (.iload_n 1, 1) := dk_27 (dk_at dksX1_imageWord_1 5 rfl rfl)
theorem dX1_imageWord_30 : decode cX1_imageWord 30 = .ok (.iconst 2, 1) := dk_5 (dk_at dksX1_imageWord_1 6 rfl rfl)
theorem dX1_imageWord_31 : decode cX1_imageWord 31 = .ok (.iadd, 1) := dk_96 (dk_at dksX1_imageWord_1 7 rfl rfl)
theorem dX1_imageWord_32 : decode cX1_imageWord 32 = .ok (.baload, 1) := dk_51 (dk_at dksX1_imageWord_1 8 rfl rfl)
theorem dX1_imageWord_33 : decode cX1_imageWord 33 = .ok (.sipush 255, 3) := dk_17 0 255 (dk_at dksX1_imageWord_1 9 rfl rfl)
theorem dX1_imageWord_36 : decode cX1_imageWord 36 = .ok (.iand, 1) := dk_126 (dk_at dksX1_imageWord_1 12 rfl rfl)
theorem dX1_imageWord_37 : decode cX1_imageWord 37 = .ok (.bipush 8, 2) := dk_16 8 (dk_at dksX1_imageWord_1 13 rfl rfl)
theorem dX1_imageWord_39 : decode cX1_imageWord 39 = .ok (.ishl, 1) := dk_120 (dk_at dksX1_imageWord_1 15 rfl rfl)
theorem dX1_imageWord_40 : decode cX1_imageWord 40 = .ok (.ior, 1) := dk_128 (dk_at dksX1_imageWord_1 16 rfl rfl)
theorem dX1_imageWord_41 : decode cX1_imageWord 41 = .ok (.aload_n 0, 1) := dk_42 (dk_at dksX1_imageWord_1 17 rfl rfl)
theorem dX1_imageWord_42 : decode cX1_imageWord 42 = .ok (.getfield 27, 3) := dk_180 0 27 (dk_at dksX1_imageWord_1 18 rfl rfl)
theorem dX1_imageWord_45 : decode cX1_imageWord 45 = .ok (.iload_n 1, 1) := dk_27 (dk_at dksX1_imageWord_1 21 rfl rfl)
theorem dX1_imageWord_46 : decode cX1_imageWord 46 = .ok (.iconst 3, 1) := dk_6 (dk_at dksX1_imageWord_1 22 rfl rfl)
theorem dX1_imageWord_47 : decode cX1_imageWord 47 = .ok (.iadd, 1) := dk_96 (dk_at dksX1_imageWord_1 23 rfl rfl)
theorem dX1_imageWord_48 : decode cX1_imageWord 48 = .ok (.baload, 1) := dk_51 (dk_at dksX1_imageWord_2 0 rfl rfl)
theorem dX1_imageWord_49 : decode cX1_imageWord 49 = .ok (.sipush 255, 3) := dk_17 0 255 (dk_at dksX1_imageWord_2 1 rfl rfl)
theorem dX1_imageWord_52 : decode cX1_imageWord 52 = .ok (.iand, 1) := dk_126 (dk_at dksX1_imageWord_2 4 rfl rfl)
theorem dX1_imageWord_53 : decode cX1_imageWord 53 = .ok (.ior, 1) := dk_128 (dk_at dksX1_imageWord_2 5 rfl rfl)
theorem dX1_imageWord_54 : decode cX1_imageWord 54 = .ok (.ireturn, 1) := dk_172 (dk_at dksX1_imageWord_2 6 rfl rfl)
abbrev cX1_setImage : ByteArray := prog_1_method_74_code
def yX1_setImage : MethodName := ⟨RX1, "setImage", "(II)V"⟩
def dkwX1_setImage_1 : List UInt8 := [84, 132, 3, 1, 167, 255, 230, 177]
abbrev dktX1_setImage_1 : List UInt8 := dkwX1_setImage_1 ++ []
def dkwX1_setImage_0 : List UInt8 := [3, 62, 29, 7, 162, 0, 27, 42, 180, 0, 27, 27, 29, 96, 28, 16, 24, 16, 8, 29, 104, 100, 122, 145]
abbrev dktX1_setImage_0 : List UInt8 := dkwX1_setImage_0 ++ dktX1_setImage_1
theorem dksX1_setImage_0 : cX1_setImage.data.toList.drop 0 = dktX1_setImage_0 := by decide +kernel
theorem dksX1_setImage_1 : cX1_setImage.data.toList.drop 24 = dktX1_setImage_1 := dk_seg dksX1_setImage_0 24 rfl rfl
theorem dX1_setImage_0 : decode cX1_setImage 0 = .ok (.iconst 0, 1) := dk_3 (dk_at dksX1_setImage_0 0 rfl rfl)
theorem dX1_setImage_1 : decode cX1_setImage 1 = .ok (.istore_n 3, 1) := dk_62 (dk_at dksX1_setImage_0 1 rfl rfl)
theorem dX1_setImage_2 : decode cX1_setImage 2 = .ok (.iload_n 3, 1) := dk_29 (dk_at dksX1_setImage_0 2 rfl rfl)
theorem dX1_setImage_3 : decode cX1_setImage 3 = .ok (.iconst 4, 1) := dk_7 (dk_at dksX1_setImage_0 3 rfl rfl)
theorem dX1_setImage_4 : decode cX1_setImage 4 = .ok (.if_icmp .ge 27, 3) := dk_162 0 27 (dk_at dksX1_setImage_0 4 rfl rfl)
theorem dX1_setImage_7 : decode cX1_setImage 7 = .ok (.aload_n 0, 1) := dk_42 (dk_at dksX1_setImage_0 7 rfl rfl)
theorem dX1_setImage_8 : decode cX1_setImage 8 = .ok (.getfield 27, 3) := dk_180 0 27 (dk_at dksX1_setImage_0 8 rfl rfl)
theorem dX1_setImage_11 : decode cX1_setImage 11 = .ok (.iload_n 1, 1) := dk_27 (dk_at dksX1_setImage_0 11 rfl rfl)
theorem dX1_setImage_12 : decode cX1_setImage 12 = .ok (.iload_n 3, 1) := dk_29 (dk_at dksX1_setImage_0 12 rfl rfl)
theorem dX1_setImage_13 : decode cX1_setImage 13 = .ok (.iadd, 1) := dk_96 (dk_at dksX1_setImage_0 13 rfl rfl)
theorem dX1_setImage_14 : decode cX1_setImage 14 = .ok (.iload_n 2, 1) := dk_28 (dk_at dksX1_setImage_0 14 rfl rfl)
theorem dX1_setImage_15 : decode cX1_setImage 15 = .ok (.bipush 24, 2) := dk_16 24 (dk_at dksX1_setImage_0 15 rfl rfl)
theorem dX1_setImage_17 : decode cX1_setImage 17 = .ok (.bipush 8, 2) := dk_16 8 (dk_at dksX1_setImage_0 17 rfl rfl)
theorem dX1_setImage_19 : decode cX1_setImage 19 = .ok (.iload_n 3, 1) := dk_29 (dk_at dksX1_setImage_0 19 rfl rfl)
theorem dX1_setImage_20 : decode cX1_setImage 20 = .ok (.imul, 1) := dk_104 (dk_at dksX1_setImage_0 20 rfl rfl)
theorem dX1_setImage_21 : decode cX1_setImage 21 = .ok (.isub, 1) := dk_100 (dk_at dksX1_setImage_0 21 rfl rfl)
theorem dX1_setImage_22 : decode cX1_setImage 22 = .ok (.ishr, 1) := dk_122 (dk_at dksX1_setImage_0 22 rfl rfl)
theorem dX1_setImage_23 : decode cX1_setImage 23 = .ok (.i2b, 1) := dk_145 (dk_at dksX1_setImage_0 23 rfl rfl)
theorem dX1_setImage_24 : decode cX1_setImage 24 = .ok (.bastore, 1) := dk_84 (dk_at dksX1_setImage_1 0 rfl rfl)
theorem dX1_setImage_25 : decode cX1_setImage 25 = .ok (.iinc 3 1, 3) := dk_132 3 1 (dk_at dksX1_setImage_1 1 rfl rfl)
theorem dX1_setImage_28 : decode cX1_setImage 28 = .ok (.goto (-26), 3) := dk_167 255 230 (dk_at dksX1_setImage_1 4 rfl rfl)
theorem dX1_setImage_31 : decode cX1_setImage 31 = .ok (.return_, 1) := dk_177 (dk_at dksX1_setImage_1 7 rfl rfl)
abbrev cX1_word : ByteArray := prog_1_method_77_code
def yX1_word : MethodName := ⟨RX1, "word", "(I)I"⟩
def dkwX1_word_1 : List UInt8 := [163, 0, 7, 4, 167, 0, 4, 3, 184, 1, 189, 42, 28, 182, 1, 223, 172]
abbrev dktX1_word_1 : List UInt8 := dkwX1_word_1 ++ []
def dkwX1_word_0 : List UInt8 := [27, 42, 180, 1, 220, 100, 61, 27, 6, 126, 154, 0, 21, 28, 155, 0, 17, 28, 42, 180, 0, 30, 7, 100]
abbrev dktX1_word_0 : List UInt8 := dkwX1_word_0 ++ dktX1_word_1
theorem dksX1_word_0 : cX1_word.data.toList.drop 0 = dktX1_word_0 := by decide +kernel
theorem dksX1_word_1 : cX1_word.data.toList.drop 24 = dktX1_word_1 := dk_seg dksX1_word_0 24 rfl rfl
theorem dX1_word_0 : decode cX1_word 0 = .ok (.iload_n 1, 1) := dk_27 (dk_at dksX1_word_0 0 rfl rfl)
theorem dX1_word_1 : decode cX1_word 1 = .ok (.aload_n 0, 1) := dk_42 (dk_at dksX1_word_0 1 rfl rfl)
theorem dX1_word_2 : decode cX1_word 2 = .ok (.getfield 476, 3) := dk_180 1 220 (dk_at dksX1_word_0 2 rfl rfl)
theorem dX1_word_5 : decode cX1_word 5 = .ok (.isub, 1) := dk_100 (dk_at dksX1_word_0 5 rfl rfl)
theorem dX1_word_6 : decode cX1_word 6 = .ok (.istore_n 2, 1) := dk_61 (dk_at dksX1_word_0 6 rfl rfl)
theorem dX1_word_7 : decode cX1_word 7 = .ok (.iload_n 1, 1) := dk_27 (dk_at dksX1_word_0 7 rfl rfl)
theorem dX1_word_8 : decode cX1_word 8 = .ok (.iconst 3, 1) := dk_6 (dk_at dksX1_word_0 8 rfl rfl)
theorem dX1_word_9 : decode cX1_word 9 = .ok (.iand, 1) := dk_126 (dk_at dksX1_word_0 9 rfl rfl)
theorem dX1_word_10 : decode cX1_word 10 = .ok (.ifCond .ne 21, 3) := dk_154 0 21 (dk_at dksX1_word_0 10 rfl rfl)
theorem dX1_word_13 : decode cX1_word 13 = .ok (.iload_n 2, 1) := dk_28 (dk_at dksX1_word_0 13 rfl rfl)
theorem dX1_word_14 : decode cX1_word 14 = .ok (.ifCond .lt 17, 3) := dk_155 0 17 (dk_at dksX1_word_0 14 rfl rfl)
theorem dX1_word_17 : decode cX1_word 17 = .ok (.iload_n 2, 1) := dk_28 (dk_at dksX1_word_0 17 rfl rfl)
theorem dX1_word_18 : decode cX1_word 18 = .ok (.aload_n 0, 1) := dk_42 (dk_at dksX1_word_0 18 rfl rfl)
theorem dX1_word_19 : decode cX1_word 19 = .ok (.getfield 30, 3) := dk_180 0 30 (dk_at dksX1_word_0 19 rfl rfl)
theorem dX1_word_22 : decode cX1_word 22 = .ok (.iconst 4, 1) := dk_7 (dk_at dksX1_word_0 22 rfl rfl)
theorem dX1_word_23 : decode cX1_word 23 = .ok (.isub, 1) := dk_100 (dk_at dksX1_word_0 23 rfl rfl)
theorem dX1_word_24 : decode cX1_word 24 = .ok (.if_icmp .gt 7, 3) := dk_163 0 7 (dk_at dksX1_word_1 0 rfl rfl)
theorem dX1_word_27 : decode cX1_word 27 = .ok (.iconst 1, 1) := dk_4 (dk_at dksX1_word_1 3 rfl rfl)
theorem dX1_word_28 : decode cX1_word 28 = .ok (.goto 4, 3) := dk_167 0 4 (dk_at dksX1_word_1 4 rfl rfl)
theorem dX1_word_31 : decode cX1_word 31 = .ok (.iconst 0, 1) := dk_3 (dk_at dksX1_word_1 7 rfl rfl)
theorem dX1_word_32 : decode cX1_word 32 = .ok (.invokestatic 445, 3) := dk_184 1 189 (dk_at dksX1_word_1 8 rfl rfl)
theorem dX1_word_35 : decode cX1_word 35 = .ok (.aload_n 0, 1) := dk_42 (dk_at dksX1_word_1 11 rfl rfl)
theorem dX1_word_36 : decode cX1_word 36 = .ok (.iload_n 2, 1) := dk_28 (dk_at dksX1_word_1 12 rfl rfl)
theorem dX1_word_37 : decode cX1_word 37 = .ok (.invokevirtual 479, 3) := dk_182 1 223 (dk_at dksX1_word_1 13 rfl rfl)
theorem dX1_word_40 : decode cX1_word 40 = .ok (.ireturn, 1) := dk_172 (dk_at dksX1_word_1 16 rfl rfl)
abbrev cX1_address : ByteArray := prog_1_method_78_code
def yX1_address : MethodName := ⟨RX1, "address", "(II)I"⟩
def dkwX1_address_2 : List UInt8 := [183, 0, 41, 191, 45, 180, 1, 217, 28, 46, 172]
abbrev dktX1_address_2 : List UInt8 := dkwX1_address_2 ++ []
def dkwX1_address_1 : List UInt8 := [184, 1, 189, 42, 180, 0, 30, 155, 0, 11, 27, 42, 180, 1, 242, 161, 0, 11, 187, 0, 39, 89]
abbrev dktX1_address_1 : List UInt8 := dkwX1_address_1 ++ dktX1_address_2
def dkwX1_address_0 : List UInt8 := [42, 27, 182, 1, 195, 78, 28, 155, 0, 15, 28, 45, 180, 0, 154, 162, 0, 7, 4, 167, 0, 4, 3]
abbrev dktX1_address_0 : List UInt8 := dkwX1_address_0 ++ dktX1_address_1
theorem dksX1_address_0 : cX1_address.data.toList.drop 0 = dktX1_address_0 := by decide +kernel
theorem dksX1_address_1 : cX1_address.data.toList.drop 23 = dktX1_address_1 := dk_seg dksX1_address_0 23 rfl rfl
theorem dksX1_address_2 : cX1_address.data.toList.drop 45 = dktX1_address_2 := dk_seg dksX1_address_1 22 rfl rfl
theorem dX1_address_0 : decode cX1_address 0 = .ok (.aload_n 0, 1) := dk_42 (dk_at dksX1_address_0 0 rfl rfl)
theorem dX1_address_1 : decode cX1_address 1 = .ok (.iload_n 1, 1) := dk_27 (dk_at dksX1_address_0 1 rfl rfl)
theorem dX1_address_2 : decode cX1_address 2 = .ok (.invokevirtual 451, 3) := dk_182 1 195 (dk_at dksX1_address_0 2 rfl rfl)
theorem dX1_address_5 : decode cX1_address 5 = .ok (.astore_n 3, 1) := dk_78 (dk_at dksX1_address_0 5 rfl rfl)
theorem dX1_address_6 : decode cX1_address 6 = .ok (.iload_n 2, 1) := dk_28 (dk_at dksX1_address_0 6 rfl rfl)
theorem dX1_address_7 : decode cX1_address 7 = .ok (.ifCond .lt 15, 3) := dk_155 0 15 (dk_at dksX1_address_0 7 rfl rfl)
theorem dX1_address_10 : decode cX1_address 10 = .ok (.iload_n 2, 1) := dk_28 (dk_at dksX1_address_0 10 rfl rfl)
theorem dX1_address_11 : decode cX1_address 11 = .ok (.aload_n 3, 1) := dk_45 (dk_at dksX1_address_0 11 rfl rfl)
theorem dX1_address_12 : decode cX1_address 12 = .ok (.getfield 154, 3) := dk_180 0 154 (dk_at dksX1_address_0 12 rfl rfl)
theorem dX1_address_15 : decode cX1_address 15 = .ok (.if_icmp .ge 7, 3) := dk_162 0 7 (dk_at dksX1_address_0 15 rfl rfl)
theorem dX1_address_18 : decode cX1_address 18 = .ok (.iconst 1, 1) := dk_4 (dk_at dksX1_address_0 18 rfl rfl)
theorem dX1_address_19 : decode cX1_address 19 = .ok (.goto 4, 3) := dk_167 0 4 (dk_at dksX1_address_0 19 rfl rfl)
theorem dX1_address_22 : decode cX1_address 22 = .ok (.iconst 0, 1) := dk_3 (dk_at dksX1_address_0 22 rfl rfl)
theorem dX1_address_23 : decode cX1_address 23 = .ok (.invokestatic 445, 3) := dk_184 1 189 (dk_at dksX1_address_1 0 rfl rfl)
theorem dX1_address_26 : decode cX1_address 26 = .ok (.aload_n 0, 1) := dk_42 (dk_at dksX1_address_1 3 rfl rfl)
theorem dX1_address_27 : decode cX1_address 27 = .ok (.getfield 30, 3) := dk_180 0 30 (dk_at dksX1_address_1 4 rfl rfl)
theorem dX1_address_30 : decode cX1_address 30 = .ok (.ifCond .lt 11, 3) := dk_155 0 11 (dk_at dksX1_address_1 7 rfl rfl)
theorem dX1_address_33 : decode cX1_address 33 = .ok (.iload_n 1, 1) := dk_27 (dk_at dksX1_address_1 10 rfl rfl)
theorem dX1_address_34 : decode cX1_address 34 = .ok (.aload_n 0, 1) := dk_42 (dk_at dksX1_address_1 11 rfl rfl)
theorem dX1_address_35 : decode cX1_address 35 = .ok (.getfield 498, 3) := dk_180 1 242 (dk_at dksX1_address_1 12 rfl rfl)
theorem dX1_address_38 : decode cX1_address 38 = .ok (.if_icmp .lt 11, 3) := dk_161 0 11 (dk_at dksX1_address_1 15 rfl rfl)
theorem dX1_address_41 : decode cX1_address 41 = .ok (.new 39, 3) := dk_187 0 39 (dk_at dksX1_address_1 18 rfl rfl)
theorem dX1_address_44 : decode cX1_address 44 = .ok (.dup, 1) := dk_89 (dk_at dksX1_address_1 21 rfl rfl)
theorem dX1_address_45 : decode cX1_address 45 = .ok (.invokespecial 41, 3) := dk_183 0 41 (dk_at dksX1_address_2 0 rfl rfl)
theorem dX1_address_48 : decode cX1_address 48 = .ok (.athrow, 1) := dk_191 (dk_at dksX1_address_2 3 rfl rfl)
theorem dX1_address_49 : decode cX1_address 49 = .ok (.aload_n 3, 1) := dk_45 (dk_at dksX1_address_2 4 rfl rfl)
theorem dX1_address_50 : decode cX1_address 50 = .ok (.getfield 473, 3) := dk_180 1 217 (dk_at dksX1_address_2 5 rfl rfl)
theorem dX1_address_53 : decode cX1_address 53 = .ok (.iload_n 2, 1) := dk_28 (dk_at dksX1_address_2 8 rfl rfl)
theorem dX1_address_54 : decode cX1_address 54 = .ok (.iaload, 1) := dk_46 (dk_at dksX1_address_2 9 rfl rfl)
theorem dX1_address_55 : decode cX1_address 55 = .ok (.ireturn, 1) := dk_172 (dk_at dksX1_address_2 10 rfl rfl)
abbrev cX1_count : ByteArray := prog_1_method_80_code
def yX1_count : MethodName := ⟨RX1, "count", "(II)I"⟩
def dkwX1_count_2 : List UInt8 := [160, 0, 10, 45, 180, 0, 154, 167, 0, 7, 45, 180, 0, 214, 172]
abbrev dktX1_count_2 : List UInt8 := dkwX1_count_2 ++ []
def dkwX1_count_1 : List UInt8 := [180, 0, 36, 172, 27, 4, 160, 0, 8, 42, 180, 1, 173, 172, 42, 28, 182, 1, 195, 78, 27, 5]
abbrev dktX1_count_1 : List UInt8 := dkwX1_count_1 ++ dktX1_count_2
def dkwX1_count_0 : List UInt8 := [27, 155, 0, 12, 27, 7, 162, 0, 7, 4, 167, 0, 4, 3, 184, 1, 189, 27, 154, 0, 8, 42]
abbrev dktX1_count_0 : List UInt8 := dkwX1_count_0 ++ dktX1_count_1
theorem dksX1_count_0 : cX1_count.data.toList.drop 0 = dktX1_count_0 := by decide +kernel
theorem dksX1_count_1 : cX1_count.data.toList.drop 22 = dktX1_count_1 := dk_seg dksX1_count_0 22 rfl rfl
theorem dksX1_count_2 : cX1_count.data.toList.drop 44 = dktX1_count_2 := dk_seg dksX1_count_1 22 rfl rfl
theorem dX1_count_0 : decode cX1_count 0 = .ok (.iload_n 1, 1) := dk_27 (dk_at dksX1_count_0 0 rfl rfl)
theorem dX1_count_1 : decode cX1_count 1 = .ok (.ifCond .lt 12, 3) := dk_155 0 12 (dk_at dksX1_count_0 1 rfl rfl)
theorem dX1_count_4 : decode cX1_count 4 = .ok (.iload_n 1, 1) := dk_27 (dk_at dksX1_count_0 4 rfl rfl)
theorem dX1_count_5 : decode cX1_count 5 = .ok (.iconst 4, 1) := dk_7 (dk_at dksX1_count_0 5 rfl rfl)
theorem dX1_count_6 : decode cX1_count 6 = .ok (.if_icmp .ge 7, 3) := dk_162 0 7 (dk_at dksX1_count_0 6 rfl rfl)
theorem dX1_count_9 : decode cX1_count 9 = .ok (.iconst 1, 1) := dk_4 (dk_at dksX1_count_0 9 rfl rfl)
theorem dX1_count_10 : decode cX1_count 10 = .ok (.goto 4, 3) := dk_167 0 4 (dk_at dksX1_count_0 10 rfl rfl)
theorem dX1_count_13 : decode cX1_count 13 = .ok (.iconst 0, 1) := dk_3 (dk_at dksX1_count_0 13 rfl rfl)
theorem dX1_count_14 : decode cX1_count 14 = .ok (.invokestatic 445, 3) := dk_184 1 189 (dk_at dksX1_count_0 14 rfl rfl)
theorem dX1_count_17 : decode cX1_count 17 = .ok (.iload_n 1, 1) := dk_27 (dk_at dksX1_count_0 17 rfl rfl)
theorem dX1_count_18 : decode cX1_count 18 = .ok (.ifCond .ne 8, 3) := dk_154 0 8 (dk_at dksX1_count_0 18 rfl rfl)
theorem dX1_count_21 : decode cX1_count 21 = .ok (.aload_n 0, 1) := dk_42 (dk_at dksX1_count_0 21 rfl rfl)
theorem dX1_count_22 : decode cX1_count 22 = .ok (.getfield 36, 3) := dk_180 0 36 (dk_at dksX1_count_1 0 rfl rfl)
theorem dX1_count_25 : decode cX1_count 25 = .ok (.ireturn, 1) := dk_172 (dk_at dksX1_count_1 3 rfl rfl)
theorem dX1_count_26 : decode cX1_count 26 = .ok (.iload_n 1, 1) := dk_27 (dk_at dksX1_count_1 4 rfl rfl)
theorem dX1_count_27 : decode cX1_count 27 = .ok (.iconst 1, 1) := dk_4 (dk_at dksX1_count_1 5 rfl rfl)
theorem dX1_count_28 : decode cX1_count 28 = .ok (.if_icmp .ne 8, 3) := dk_160 0 8 (dk_at dksX1_count_1 6 rfl rfl)
theorem dX1_count_31 : decode cX1_count 31 = .ok (.aload_n 0, 1) := dk_42 (dk_at dksX1_count_1 9 rfl rfl)
theorem dX1_count_32 : decode cX1_count 32 = .ok (.getfield 429, 3) := dk_180 1 173 (dk_at dksX1_count_1 10 rfl rfl)
theorem dX1_count_35 : decode cX1_count 35 = .ok (.ireturn, 1) := dk_172 (dk_at dksX1_count_1 13 rfl rfl)
theorem dX1_count_36 : decode cX1_count 36 = .ok (.aload_n 0, 1) := dk_42 (dk_at dksX1_count_1 14 rfl rfl)
theorem dX1_count_37 : decode cX1_count 37 = .ok (.iload_n 2, 1) := dk_28 (dk_at dksX1_count_1 15 rfl rfl)
theorem dX1_count_38 : decode cX1_count 38 = .ok (.invokevirtual 451, 3) := dk_182 1 195 (dk_at dksX1_count_1 16 rfl rfl)
theorem dX1_count_41 : decode cX1_count 41 = .ok (.astore_n 3, 1) := dk_78 (dk_at dksX1_count_1 19 rfl rfl)
theorem dX1_count_42 : decode cX1_count 42 = .ok (.iload_n 1, 1) := dk_27 (dk_at dksX1_count_1 20 rfl rfl)
theorem dX1_count_43 : decode cX1_count 43 = .ok (.iconst 2, 1) := dk_5 (dk_at dksX1_count_1 21 rfl rfl)
theorem dX1_count_44 : decode cX1_count 44 = .ok (.if_icmp .ne 10, 3) := dk_160 0 10 (dk_at dksX1_count_2 0 rfl rfl)
theorem dX1_count_47 : decode cX1_count 47 = .ok (.aload_n 3, 1) := dk_45 (dk_at dksX1_count_2 3 rfl rfl)
theorem dX1_count_48 : decode cX1_count 48 = .ok (.getfield 154, 3) := dk_180 0 154 (dk_at dksX1_count_2 4 rfl rfl)
theorem dX1_count_51 : decode cX1_count 51 = .ok (.goto 7, 3) := dk_167 0 7 (dk_at dksX1_count_2 7 rfl rfl)
theorem dX1_count_54 : decode cX1_count 54 = .ok (.aload_n 3, 1) := dk_45 (dk_at dksX1_count_2 10 rfl rfl)
theorem dX1_count_55 : decode cX1_count 55 = .ok (.getfield 214, 3) := dk_180 0 214 (dk_at dksX1_count_2 11 rfl rfl)
theorem dX1_count_58 : decode cX1_count 58 = .ok (.ireturn, 1) := dk_172 (dk_at dksX1_count_2 14 rfl rfl)
theorem q119 : (Jvm.Cond.initialized "ObjectForge") ∈ lw_all := lw_g (lw_at lw_m1 1 rfl) rfl
theorem q134 : (Jvm.Cond.instantiable "ObjectForge" (25 : Nat)) ∈ lw_all := lw_g (lw_at lw_m1 16 rfl) rfl
theorem q136 : (Jvm.Cond.instanceMethod ({ cls := "ObjectForge", name := "<init>", desc := "()V" } : Jvm.MethodName)) ∈ lw_all := lw_g (lw_at lw_m1 18 rfl) rfl
theorem q137 : (Jvm.Cond.code ({ cls := "ObjectForge", name := "<init>", desc := "()V" } : Jvm.MethodName) prog_1_method_1_code (1 : Nat) (Option.none : Option Jvm.ClassFile.FieldType)) ∈ lw_all := lw_g (lw_at lw_m1 19 rfl) rfl
theorem q138 : (Jvm.Cond.methodLink "ObjectForge" (1 : Nat) ({ cls := "java/lang/Object", name := "<init>", desc := "()V" } : Jvm.MethodName)) ∈ lw_all := lw_g (lw_at lw_m1 20 rfl) rfl
theorem q141 : (Jvm.Cond.classLink "ObjectForge" (13 : Nat) "ObjectForge$Unit") ∈ lw_all := lw_g (lw_at lw_m1 23 rfl) rfl
theorem q143 : (Jvm.Cond.constant "ObjectForge" (26 : Nat) (32768 : Int32)) ∈ lw_all := lw_g (lw_at lw_m1 25 rfl) rfl
theorem q144 : (Jvm.Cond.fieldLink "ObjectForge" (9 : Nat) "ObjectForge" "text" "[B") ∈ lw_all := lw_g (lw_at lw_m1 26 rfl) rfl
theorem q145 : (Jvm.Cond.fieldLink "ObjectForge" (36 : Nat) "ObjectForge" "size" "I") ∈ lw_all := lw_g (lw_at lw_m1 27 rfl) rfl
theorem q146 : (Jvm.Cond.fieldLink "ObjectForge" (48 : Nat) "ObjectForge" "at" "I") ∈ lw_all := lw_g (lw_at lw_m1 28 rfl) rfl
theorem q147 : (Jvm.Cond.fieldLink "ObjectForge" (235 : Nat) "ObjectForge" "lineNumber" "I") ∈ lw_all := lw_g (lw_at lw_m1 29 rfl) rfl
theorem q148 : (Jvm.Cond.fieldLink "ObjectForge" (45 : Nat) "ObjectForge" "code" "I") ∈ lw_all := lw_g (lw_at lw_m1 30 rfl) rfl
theorem q149 : (Jvm.Cond.fieldLink "ObjectForge" (15 : Nat) "ObjectForge" "units" "[LObjectForge$Unit;") ∈ lw_all := lw_g (lw_at lw_m1 31 rfl) rfl
theorem q150 : (Jvm.Cond.fieldLink "ObjectForge" (429 : Nat) "ObjectForge" "many" "I") ∈ lw_all := lw_g (lw_at lw_m1 32 rfl) rfl
theorem q151 : (Jvm.Cond.fieldLink "ObjectForge" (150 : Nat) "ObjectForge" "unit" "LObjectForge$Unit;") ∈ lw_all := lw_g (lw_at lw_m1 33 rfl) rfl
theorem q152 : (Jvm.Cond.fieldLink "ObjectForge" (204 : Nat) "ObjectForge" "section" "I") ∈ lw_all := lw_g (lw_at lw_m1 34 rfl) rfl
theorem q153 : (Jvm.Cond.fieldLink "ObjectForge" (121 : Nat) "ObjectForge" "from" "I") ∈ lw_all := lw_g (lw_at lw_m1 35 rfl) rfl
theorem q154 : (Jvm.Cond.fieldLink "ObjectForge" (124 : Nat) "ObjectForge" "length" "I") ∈ lw_all := lw_g (lw_at lw_m1 36 rfl) rfl
theorem q155 : (Jvm.Cond.fieldLink "ObjectForge" (180 : Nat) "ObjectForge" "named" "I") ∈ lw_all := lw_g (lw_at lw_m1 37 rfl) rfl
theorem q156 : (Jvm.Cond.fieldLink "ObjectForge" (183 : Nat) "ObjectForge" "number" "J") ∈ lw_all := lw_g (lw_at lw_m1 38 rfl) rfl
theorem q157 : (Jvm.Cond.fieldLink "ObjectForge" (436 : Nat) "ObjectForge" "fault" "I") ∈ lw_all := lw_g (lw_at lw_m1 39 rfl) rfl
theorem q158 : (Jvm.Cond.fieldLink "ObjectForge" (439 : Nat) "ObjectForge" "faultLine" "I") ∈ lw_all := lw_g (lw_at lw_m1 40 rfl) rfl
theorem q159 : (Jvm.Cond.fieldLink "ObjectForge" (448 : Nat) "ObjectForge" "linkFault" "I") ∈ lw_all := lw_g (lw_at lw_m1 41 rfl) rfl
theorem q160 : (Jvm.Cond.fieldLink "ObjectForge" (19 : Nat) "ObjectForge" "linkObject" "I") ∈ lw_all := lw_g (lw_at lw_m1 42 rfl) rfl
theorem q161 : (Jvm.Cond.fieldLink "ObjectForge" (23 : Nat) "ObjectForge" "linkThing" "I") ∈ lw_all := lw_g (lw_at lw_m1 43 rfl) rfl
theorem q162 : (Jvm.Cond.fieldLink "ObjectForge" (27 : Nat) "ObjectForge" "image" "[B") ∈ lw_all := lw_g (lw_at lw_m1 44 rfl) rfl
theorem q163 : (Jvm.Cond.fieldLink "ObjectForge" (30 : Nat) "ObjectForge" "imageSize" "I") ∈ lw_all := lw_g (lw_at lw_m1 45 rfl) rfl
theorem q164 : (Jvm.Cond.fieldLink "ObjectForge" (476 : Nat) "ObjectForge" "base" "I") ∈ lw_all := lw_g (lw_at lw_m1 46 rfl) rfl
theorem q165 : (Jvm.Cond.fieldLink "ObjectForge" (498 : Nat) "ObjectForge" "linked" "I") ∈ lw_all := lw_g (lw_at lw_m1 47 rfl) rfl
theorem q166 : (Jvm.Cond.fieldLink "ObjectForge" (103 : Nat) "ObjectForge" "span" "I") ∈ lw_all := lw_g (lw_at lw_m1 48 rfl) rfl
theorem q167 : (Jvm.Cond.fieldLink "ObjectForge" (187 : Nat) "ObjectForge" "waiting" "I") ∈ lw_all := lw_g (lw_at lw_m1 49 rfl) rfl
theorem q168 : (Jvm.Cond.fieldLink "ObjectForge" (462 : Nat) "ObjectForge" "ownSymbol" "I") ∈ lw_all := lw_g (lw_at lw_m1 50 rfl) rfl
theorem q169 : (Jvm.Cond.laysFinal "ObjectForge" "ObjectForge" "text" "[B") ∈ lw_all := lw_g (lw_at lw_m1 51 rfl) rfl
theorem q170 : (Jvm.Cond.soleField "ObjectForge" "text") ∈ lw_all := lw_g (lw_at lw_m1 52 rfl) rfl
theorem q171 : (Jvm.Cond.lays "ObjectForge" "ObjectForge" "size" "I") ∈ lw_all := lw_g (lw_at lw_m1 53 rfl) rfl
theorem q172 : (Jvm.Cond.soleField "ObjectForge" "size") ∈ lw_all := lw_g (lw_at lw_m1 54 rfl) rfl
theorem q173 : (Jvm.Cond.lays "ObjectForge" "ObjectForge" "at" "I") ∈ lw_all := lw_g (lw_at lw_m1 55 rfl) rfl
theorem q174 : (Jvm.Cond.soleField "ObjectForge" "at") ∈ lw_all := lw_g (lw_at lw_m1 56 rfl) rfl
theorem q175 : (Jvm.Cond.lays "ObjectForge" "ObjectForge" "lineNumber" "I") ∈ lw_all := lw_g (lw_at lw_m1 57 rfl) rfl
theorem q176 : (Jvm.Cond.soleField "ObjectForge" "lineNumber") ∈ lw_all := lw_g (lw_at lw_m1 58 rfl) rfl
theorem q177 : (Jvm.Cond.lays "ObjectForge" "ObjectForge" "code" "I") ∈ lw_all := lw_g (lw_at lw_m1 59 rfl) rfl
theorem q178 : (Jvm.Cond.soleField "ObjectForge" "code") ∈ lw_all := lw_g (lw_at lw_m1 60 rfl) rfl
theorem q179 : (Jvm.Cond.laysFinal "ObjectForge" "ObjectForge" "units" "[LObjectForge$Unit;") ∈ lw_all := lw_g (lw_at lw_m1 61 rfl) rfl
theorem q180 : (Jvm.Cond.soleField "ObjectForge" "units") ∈ lw_all := lw_g (lw_at lw_m1 62 rfl) rfl
theorem q181 : (Jvm.Cond.lays "ObjectForge" "ObjectForge" "many" "I") ∈ lw_all := lw_g (lw_at lw_m1 63 rfl) rfl
theorem q182 : (Jvm.Cond.soleField "ObjectForge" "many") ∈ lw_all := lw_g (lw_at lw_m1 64 rfl) rfl
theorem q183 : (Jvm.Cond.lays "ObjectForge" "ObjectForge" "unit" "LObjectForge$Unit;") ∈ lw_all := lw_g (lw_at lw_m1 65 rfl) rfl
theorem q184 : (Jvm.Cond.soleField "ObjectForge" "unit") ∈ lw_all := lw_g (lw_at lw_m1 66 rfl) rfl
theorem q185 : (Jvm.Cond.lays "ObjectForge" "ObjectForge" "section" "I") ∈ lw_all := lw_g (lw_at lw_m1 67 rfl) rfl
theorem q186 : (Jvm.Cond.soleField "ObjectForge" "section") ∈ lw_all := lw_g (lw_at lw_m1 68 rfl) rfl
theorem q187 : (Jvm.Cond.lays "ObjectForge" "ObjectForge" "from" "I") ∈ lw_all := lw_g (lw_at lw_m1 69 rfl) rfl
theorem q188 : (Jvm.Cond.soleField "ObjectForge" "from") ∈ lw_all := lw_g (lw_at lw_m1 70 rfl) rfl
theorem q189 : (Jvm.Cond.lays "ObjectForge" "ObjectForge" "length" "I") ∈ lw_all := lw_g (lw_at lw_m1 71 rfl) rfl
theorem q190 : (Jvm.Cond.soleField "ObjectForge" "length") ∈ lw_all := lw_g (lw_at lw_m1 72 rfl) rfl
theorem q191 : (Jvm.Cond.lays "ObjectForge" "ObjectForge" "named" "I") ∈ lw_all := lw_g (lw_at lw_m1 73 rfl) rfl
theorem q192 : (Jvm.Cond.soleField "ObjectForge" "named") ∈ lw_all := lw_g (lw_at lw_m1 74 rfl) rfl
theorem q193 : (Jvm.Cond.lays "ObjectForge" "ObjectForge" "number" "J") ∈ lw_all := lw_g (lw_at lw_m1 75 rfl) rfl
theorem q194 : (Jvm.Cond.soleField "ObjectForge" "number") ∈ lw_all := lw_g (lw_at lw_m1 76 rfl) rfl
theorem q195 : (Jvm.Cond.lays "ObjectForge" "ObjectForge" "fault" "I") ∈ lw_all := lw_g (lw_at lw_m1 77 rfl) rfl
theorem q196 : (Jvm.Cond.soleField "ObjectForge" "fault") ∈ lw_all := lw_g (lw_at lw_m1 78 rfl) rfl
theorem q197 : (Jvm.Cond.lays "ObjectForge" "ObjectForge" "faultLine" "I") ∈ lw_all := lw_g (lw_at lw_m1 79 rfl) rfl
theorem q198 : (Jvm.Cond.soleField "ObjectForge" "faultLine") ∈ lw_all := lw_g (lw_at lw_m1 80 rfl) rfl
theorem q199 : (Jvm.Cond.lays "ObjectForge" "ObjectForge" "linkFault" "I") ∈ lw_all := lw_g (lw_at lw_m1 81 rfl) rfl
theorem q200 : (Jvm.Cond.soleField "ObjectForge" "linkFault") ∈ lw_all := lw_g (lw_at lw_m1 82 rfl) rfl
theorem q201 : (Jvm.Cond.lays "ObjectForge" "ObjectForge" "linkObject" "I") ∈ lw_all := lw_g (lw_at lw_m1 83 rfl) rfl
theorem q202 : (Jvm.Cond.soleField "ObjectForge" "linkObject") ∈ lw_all := lw_g (lw_at lw_m1 84 rfl) rfl
theorem q203 : (Jvm.Cond.lays "ObjectForge" "ObjectForge" "linkThing" "I") ∈ lw_all := lw_g (lw_at lw_m1 85 rfl) rfl
theorem q204 : (Jvm.Cond.soleField "ObjectForge" "linkThing") ∈ lw_all := lw_g (lw_at lw_m1 86 rfl) rfl
theorem q205 : (Jvm.Cond.laysFinal "ObjectForge" "ObjectForge" "image" "[B") ∈ lw_all := lw_g (lw_at lw_m1 87 rfl) rfl
theorem q206 : (Jvm.Cond.soleField "ObjectForge" "image") ∈ lw_all := lw_g (lw_at lw_m1 88 rfl) rfl
theorem q207 : (Jvm.Cond.lays "ObjectForge" "ObjectForge" "imageSize" "I") ∈ lw_all := lw_g (lw_at lw_m1 89 rfl) rfl
theorem q208 : (Jvm.Cond.soleField "ObjectForge" "imageSize") ∈ lw_all := lw_g (lw_at lw_m1 90 rfl) rfl
theorem q209 : (Jvm.Cond.lays "ObjectForge" "ObjectForge" "base" "I") ∈ lw_all := lw_g (lw_at lw_m1 91 rfl) rfl
theorem q210 : (Jvm.Cond.soleField "ObjectForge" "base") ∈ lw_all := lw_g (lw_at lw_m1 92 rfl) rfl
theorem q211 : (Jvm.Cond.lays "ObjectForge" "ObjectForge" "linked" "I") ∈ lw_all := lw_g (lw_at lw_m1 93 rfl) rfl
theorem q212 : (Jvm.Cond.soleField "ObjectForge" "linked") ∈ lw_all := lw_g (lw_at lw_m1 94 rfl) rfl
theorem q213 : (Jvm.Cond.lays "ObjectForge" "ObjectForge" "span" "I") ∈ lw_all := lw_g (lw_at lw_m1 95 rfl) rfl
theorem q214 : (Jvm.Cond.soleField "ObjectForge" "span") ∈ lw_all := lw_g (lw_at lw_m1 96 rfl) rfl
theorem q215 : (Jvm.Cond.lays "ObjectForge" "ObjectForge" "waiting" "I") ∈ lw_all := lw_g (lw_at lw_m1 97 rfl) rfl
theorem q216 : (Jvm.Cond.soleField "ObjectForge" "waiting") ∈ lw_all := lw_g (lw_at lw_m1 98 rfl) rfl
theorem q217 : (Jvm.Cond.lays "ObjectForge" "ObjectForge" "ownSymbol" "I") ∈ lw_all := lw_g (lw_at lw_m1 99 rfl) rfl
theorem q218 : (Jvm.Cond.soleField "ObjectForge" "ownSymbol") ∈ lw_all := lw_g (lw_at lw_m1 100 rfl) rfl
theorem q219 : (Jvm.Cond.superclass "ObjectForge" "java/lang/Object") ∈ lw_all := lw_g (lw_at lw_m1 101 rfl) rfl
theorem q222 : (Jvm.Cond.instanceMethod ({ cls := "ObjectForge", name := "clear", desc := "()I" } : Jvm.MethodName)) ∈ lw_all := lw_g (lw_at lw_m1 104 rfl) rfl
theorem q223 : (Jvm.Cond.selects "ObjectForge" ({ cls := "ObjectForge", name := "clear", desc := "()I" } : Jvm.MethodName) ({ cls := "ObjectForge", name := "clear", desc := "()I" } : Jvm.MethodName)) ∈ lw_all := lw_g (lw_at lw_m1 105 rfl) rfl
theorem q224 : (Jvm.Cond.code ({ cls := "ObjectForge", name := "clear", desc := "()I" } : Jvm.MethodName) prog_1_method_79_code (2 : Nat) (Option.some Jvm.ClassFile.FieldType.int)) ∈ lw_all := lw_g (lw_at lw_m1 106 rfl) rfl
theorem q230 : (Jvm.Cond.instanceMethod ({ cls := "ObjectForge", name := "feed", desc := "(IIII)I" } : Jvm.MethodName)) ∈ lw_all := lw_g (lw_at lw_m1 112 rfl) rfl
theorem q231 : (Jvm.Cond.selects "ObjectForge" ({ cls := "ObjectForge", name := "feed", desc := "(IIII)I" } : Jvm.MethodName) ({ cls := "ObjectForge", name := "feed", desc := "(IIII)I" } : Jvm.MethodName)) ∈ lw_all := lw_g (lw_at lw_m1 113 rfl) rfl
theorem q232 : (Jvm.Cond.code ({ cls := "ObjectForge", name := "feed", desc := "(IIII)I" } : Jvm.MethodName) prog_1_method_3_code (7 : Nat) (Option.some Jvm.ClassFile.FieldType.int)) ∈ lw_all := lw_g (lw_at lw_m1 114 rfl) rfl
theorem q233 : (Jvm.Cond.classLink "ObjectForge" (39 : Nat) "java/lang/IllegalStateException") ∈ lw_all := lw_g (lw_at lw_m1 115 rfl) rfl
theorem q275 : (Jvm.Cond.methodLink "ObjectForge" (41 : Nat) ({ cls := "java/lang/IllegalStateException", name := "<init>", desc := "()V" } : Jvm.MethodName)) ∈ lw_all := lw_g (lw_at lw_m1 157 rfl) rfl
theorem q303 : (Jvm.Cond.instanceMethod ({ cls := "ObjectForge", name := "end", desc := "(I)I" } : Jvm.MethodName)) ∈ lw_all := lw_g (lw_at lw_m1 185 rfl) rfl
theorem q304 : (Jvm.Cond.selects "ObjectForge" ({ cls := "ObjectForge", name := "end", desc := "(I)I" } : Jvm.MethodName) ({ cls := "ObjectForge", name := "end", desc := "(I)I" } : Jvm.MethodName)) ∈ lw_all := lw_g (lw_at lw_m1 186 rfl) rfl
theorem q305 : (Jvm.Cond.code ({ cls := "ObjectForge", name := "end", desc := "(I)I" } : Jvm.MethodName) prog_1_method_4_code (2 : Nat) (Option.some Jvm.ClassFile.FieldType.int)) ∈ lw_all := lw_g (lw_at lw_m1 187 rfl) rfl
theorem q306 : (Jvm.Cond.classLink "ObjectForge" (42 : Nat) "java/lang/IllegalArgumentException") ∈ lw_all := lw_g (lw_at lw_m1 188 rfl) rfl
theorem q315 : (Jvm.Cond.methodLink "ObjectForge" (44 : Nat) ({ cls := "java/lang/IllegalArgumentException", name := "<init>", desc := "()V" } : Jvm.MethodName)) ∈ lw_all := lw_g (lw_at lw_m1 197 rfl) rfl
theorem q325 : (Jvm.Cond.instanceMethod ({ cls := "ObjectForge", name := "assemble", desc := "()I" } : Jvm.MethodName)) ∈ lw_all := lw_g (lw_at lw_m1 207 rfl) rfl
theorem q326 : (Jvm.Cond.selects "ObjectForge" ({ cls := "ObjectForge", name := "assemble", desc := "()I" } : Jvm.MethodName) ({ cls := "ObjectForge", name := "assemble", desc := "()I" } : Jvm.MethodName)) ∈ lw_all := lw_g (lw_at lw_m1 208 rfl) rfl
theorem q327 : (Jvm.Cond.codeWith ({ cls := "ObjectForge", name := "assemble", desc := "()I" } : Jvm.MethodName) prog_1_method_61_code (2 : Nat) (Option.some Jvm.ClassFile.FieldType.int) [((95 : Nat), (109 : Nat), (112 : Nat), (42 : Nat))]) ∈ lw_all := lw_g (lw_at lw_m1 209 rfl) rfl
theorem q329 : (Jvm.Cond.methodLinkNest "ObjectForge" (432 : Nat) ({ cls := "ObjectForge$Unit", name := "<init>", desc := "()V" } : Jvm.MethodName) "ObjectForge") ∈ lw_tbl := lw_at lw_m1 211 rfl
theorem q336 : (Jvm.Cond.fieldLinkNest "ObjectForge" (201 : Nat) "ObjectForge$Unit" "sizes" "[I" "ObjectForge") ∈ lw_tbl := lw_at lw_m1 218 rfl
theorem q338 : (Jvm.Cond.fieldLinkNest "ObjectForge" (161 : Nat) "ObjectForge$Unit" "letters" "[B" "ObjectForge") ∈ lw_tbl := lw_at lw_m1 220 rfl
theorem q340 : (Jvm.Cond.fieldLinkNest "ObjectForge" (157 : Nat) "ObjectForge$Unit" "lengths" "[I" "ObjectForge") ∈ lw_tbl := lw_at lw_m1 222 rfl
theorem q342 : (Jvm.Cond.fieldLinkNest "ObjectForge" (164 : Nat) "ObjectForge$Unit" "sections" "[I" "ObjectForge") ∈ lw_tbl := lw_at lw_m1 224 rfl
theorem q344 : (Jvm.Cond.fieldLinkNest "ObjectForge" (167 : Nat) "ObjectForge$Unit" "values" "[I" "ObjectForge") ∈ lw_tbl := lw_at lw_m1 226 rfl
theorem q346 : (Jvm.Cond.fieldLinkNest "ObjectForge" (170 : Nat) "ObjectForge$Unit" "global" "[Z" "ObjectForge") ∈ lw_tbl := lw_at lw_m1 228 rfl
theorem q348 : (Jvm.Cond.fieldLinkNest "ObjectForge" (473 : Nat) "ObjectForge$Unit" "addresses" "[I" "ObjectForge") ∈ lw_tbl := lw_at lw_m1 230 rfl
theorem q350 : (Jvm.Cond.fieldLinkNest "ObjectForge" (455 : Nat) "ObjectForge$Unit" "begins" "[I" "ObjectForge") ∈ lw_tbl := lw_at lw_m1 232 rfl
theorem q352 : (Jvm.Cond.fieldLinkNest "ObjectForge" (154 : Nat) "ObjectForge$Unit" "symbols" "I" "ObjectForge") ∈ lw_tbl := lw_at lw_m1 234 rfl
theorem q354 : (Jvm.Cond.fieldLinkNest "ObjectForge" (217 : Nat) "ObjectForge$Unit" "where" "[I" "ObjectForge") ∈ lw_tbl := lw_at lw_m1 236 rfl
theorem q356 : (Jvm.Cond.fieldLinkNest "ObjectForge" (220 : Nat) "ObjectForge$Unit" "place" "[I" "ObjectForge") ∈ lw_tbl := lw_at lw_m1 238 rfl
theorem q358 : (Jvm.Cond.fieldLinkNest "ObjectForge" (223 : Nat) "ObjectForge$Unit" "kind" "[I" "ObjectForge") ∈ lw_tbl := lw_at lw_m2 0 rfl
theorem q360 : (Jvm.Cond.fieldLinkNest "ObjectForge" (226 : Nat) "ObjectForge$Unit" "symbol" "[I" "ObjectForge") ∈ lw_tbl := lw_at lw_m2 2 rfl
theorem q362 : (Jvm.Cond.fieldLinkNest "ObjectForge" (229 : Nat) "ObjectForge$Unit" "addend" "[I" "ObjectForge") ∈ lw_tbl := lw_at lw_m2 4 rfl
theorem q364 : (Jvm.Cond.fieldLinkNest "ObjectForge" (232 : Nat) "ObjectForge$Unit" "line" "[I" "ObjectForge") ∈ lw_tbl := lw_at lw_m2 6 rfl
theorem q366 : (Jvm.Cond.fieldLinkNest "ObjectForge" (214 : Nat) "ObjectForge$Unit" "relocations" "I" "ObjectForge") ∈ lw_tbl := lw_at lw_m2 8 rfl
theorem q406 : (Jvm.Cond.methodLink "ObjectForge" (433 : Nat) ({ cls := "ObjectForge$Unit", name := "clear", desc := "()V" } : Jvm.MethodName)) ∈ lw_all := lw_g (lw_at lw_m2 48 rfl) rfl
theorem q410 : (Jvm.Cond.methodLink "ObjectForge" (442 : Nat) ({ cls := "ObjectForge", name := "lines", desc := "()V" } : Jvm.MethodName)) ∈ lw_all := lw_g (lw_at lw_m2 52 rfl) rfl
theorem q411 : (Jvm.Cond.privateMethod ({ cls := "ObjectForge", name := "lines", desc := "()V" } : Jvm.MethodName)) ∈ lw_tbl := lw_at lw_m2 53 rfl
theorem q412 : (Jvm.Cond.instanceMethod ({ cls := "ObjectForge", name := "lines", desc := "()V" } : Jvm.MethodName)) ∈ lw_all := lw_g (lw_at lw_m2 54 rfl) rfl
theorem q413 : (Jvm.Cond.code ({ cls := "ObjectForge", name := "lines", desc := "()V" } : Jvm.MethodName) prog_1_method_60_code (4 : Nat) (Option.none : Option Jvm.ClassFile.FieldType)) ∈ lw_all := lw_g (lw_at lw_m2 55 rfl) rfl
theorem q414 : (Jvm.Cond.methodLink "ObjectForge" (411 : Nat) ({ cls := "ObjectForge", name := "line", desc := "()V" } : Jvm.MethodName)) ∈ lw_all := lw_g (lw_at lw_m2 56 rfl) rfl
theorem q415 : (Jvm.Cond.privateMethod ({ cls := "ObjectForge", name := "line", desc := "()V" } : Jvm.MethodName)) ∈ lw_tbl := lw_at lw_m2 57 rfl
theorem q416 : (Jvm.Cond.instanceMethod ({ cls := "ObjectForge", name := "line", desc := "()V" } : Jvm.MethodName)) ∈ lw_all := lw_g (lw_at lw_m2 58 rfl) rfl
theorem q417 : (Jvm.Cond.code ({ cls := "ObjectForge", name := "line", desc := "()V" } : Jvm.MethodName) prog_1_method_59_code (2 : Nat) (Option.none : Option Jvm.ClassFile.FieldType)) ∈ lw_all := lw_g (lw_at lw_m2 59 rfl) rfl
theorem q418 : (Jvm.Cond.methodLink "ObjectForge" (59 : Nat) ({ cls := "ObjectForge", name := "blanks", desc := "()V" } : Jvm.MethodName)) ∈ lw_all := lw_g (lw_at lw_m2 60 rfl) rfl
theorem q419 : (Jvm.Cond.privateMethod ({ cls := "ObjectForge", name := "blanks", desc := "()V" } : Jvm.MethodName)) ∈ lw_tbl := lw_at lw_m2 61 rfl
theorem q420 : (Jvm.Cond.instanceMethod ({ cls := "ObjectForge", name := "blanks", desc := "()V" } : Jvm.MethodName)) ∈ lw_all := lw_g (lw_at lw_m2 62 rfl) rfl
theorem q421 : (Jvm.Cond.code ({ cls := "ObjectForge", name := "blanks", desc := "()V" } : Jvm.MethodName) prog_1_method_7_code (1 : Nat) (Option.none : Option Jvm.ClassFile.FieldType)) ∈ lw_all := lw_g (lw_at lw_m2 63 rfl) rfl
theorem q422 : (Jvm.Cond.methodLink "ObjectForge" (51 : Nat) ({ cls := "ObjectForge", name := "look", desc := "(I)I" } : Jvm.MethodName)) ∈ lw_all := lw_g (lw_at lw_m2 64 rfl) rfl
theorem q423 : (Jvm.Cond.privateMethod ({ cls := "ObjectForge", name := "look", desc := "(I)I" } : Jvm.MethodName)) ∈ lw_tbl := lw_at lw_m2 65 rfl
theorem q424 : (Jvm.Cond.instanceMethod ({ cls := "ObjectForge", name := "look", desc := "(I)I" } : Jvm.MethodName)) ∈ lw_all := lw_g (lw_at lw_m2 66 rfl) rfl
theorem q425 : (Jvm.Cond.code ({ cls := "ObjectForge", name := "look", desc := "(I)I" } : Jvm.MethodName) prog_1_method_6_code (2 : Nat) (Option.some Jvm.ClassFile.FieldType.int)) ∈ lw_all := lw_g (lw_at lw_m2 67 rfl) rfl
theorem q426 : (Jvm.Cond.methodLink "ObjectForge" (73 : Nat) ({ cls := "ObjectForge", name := "isLetter", desc := "(I)Z" } : Jvm.MethodName)) ∈ lw_all := lw_g (lw_at lw_m2 68 rfl) rfl
theorem q427 : (Jvm.Cond.static ({ cls := "ObjectForge", name := "isLetter", desc := "(I)Z" } : Jvm.MethodName)) ∈ lw_all := lw_g (lw_at lw_m2 69 rfl) rfl
theorem q428 : (Jvm.Cond.code ({ cls := "ObjectForge", name := "isLetter", desc := "(I)Z" } : Jvm.MethodName) prog_1_method_9_code (1 : Nat) (Option.some Jvm.ClassFile.FieldType.boolean)) ∈ lw_all := lw_g (lw_at lw_m2 70 rfl) rfl
theorem q429 : (Jvm.Cond.methodLink "ObjectForge" (174 : Nat) ({ cls := "ObjectForge", name := "name", desc := "()V" } : Jvm.MethodName)) ∈ lw_all := lw_g (lw_at lw_m2 71 rfl) rfl
theorem q430 : (Jvm.Cond.privateMethod ({ cls := "ObjectForge", name := "name", desc := "()V" } : Jvm.MethodName)) ∈ lw_tbl := lw_at lw_m2 72 rfl
theorem q431 : (Jvm.Cond.instanceMethod ({ cls := "ObjectForge", name := "name", desc := "()V" } : Jvm.MethodName)) ∈ lw_all := lw_g (lw_at lw_m2 73 rfl) rfl
theorem q432 : (Jvm.Cond.code ({ cls := "ObjectForge", name := "name", desc := "()V" } : Jvm.MethodName) prog_1_method_21_code (1 : Nat) (Option.none : Option Jvm.ClassFile.FieldType)) ∈ lw_all := lw_g (lw_at lw_m2 74 rfl) rfl
theorem q433 : (Jvm.Cond.methodLink "ObjectForge" (55 : Nat) ({ cls := "ObjectForge", name := "isDigit", desc := "(I)Z" } : Jvm.MethodName)) ∈ lw_all := lw_g (lw_at lw_m2 75 rfl) rfl
theorem q434 : (Jvm.Cond.static ({ cls := "ObjectForge", name := "isDigit", desc := "(I)Z" } : Jvm.MethodName)) ∈ lw_all := lw_g (lw_at lw_m2 76 rfl) rfl
theorem q435 : (Jvm.Cond.code ({ cls := "ObjectForge", name := "isDigit", desc := "(I)Z" } : Jvm.MethodName) prog_1_method_10_code (1 : Nat) (Option.some Jvm.ClassFile.FieldType.boolean)) ∈ lw_all := lw_g (lw_at lw_m2 77 rfl) rfl
theorem q436 : (Jvm.Cond.methodLink "ObjectForge" (69 : Nat) ({ cls := "ObjectForge", name := "must", desc := "(ZI)V" } : Jvm.MethodName)) ∈ lw_all := lw_g (lw_at lw_m2 78 rfl) rfl
theorem q437 : (Jvm.Cond.privateMethod ({ cls := "ObjectForge", name := "must", desc := "(ZI)V" } : Jvm.MethodName)) ∈ lw_tbl := lw_at lw_m2 79 rfl
theorem q438 : (Jvm.Cond.instanceMethod ({ cls := "ObjectForge", name := "must", desc := "(ZI)V" } : Jvm.MethodName)) ∈ lw_all := lw_g (lw_at lw_m2 80 rfl) rfl
theorem q439 : (Jvm.Cond.code ({ cls := "ObjectForge", name := "must", desc := "(ZI)V" } : Jvm.MethodName) prog_1_method_5_code (3 : Nat) (Option.none : Option Jvm.ClassFile.FieldType)) ∈ lw_all := lw_g (lw_at lw_m2 81 rfl) rfl
theorem q440 : (Jvm.Cond.methodLink "ObjectForge" (62 : Nat) ({ cls := "ObjectForge", name := "sign", desc := "(I)Z" } : Jvm.MethodName)) ∈ lw_all := lw_g (lw_at lw_m2 82 rfl) rfl
theorem q441 : (Jvm.Cond.privateMethod ({ cls := "ObjectForge", name := "sign", desc := "(I)Z" } : Jvm.MethodName)) ∈ lw_tbl := lw_at lw_m2 83 rfl
theorem q442 : (Jvm.Cond.instanceMethod ({ cls := "ObjectForge", name := "sign", desc := "(I)Z" } : Jvm.MethodName)) ∈ lw_all := lw_g (lw_at lw_m2 84 rfl) rfl
theorem q443 : (Jvm.Cond.code ({ cls := "ObjectForge", name := "sign", desc := "(I)Z" } : Jvm.MethodName) prog_1_method_12_code (2 : Nat) (Option.some Jvm.ClassFile.FieldType.boolean)) ∈ lw_all := lw_g (lw_at lw_m2 85 rfl) rfl
theorem q444 : (Jvm.Cond.methodLink "ObjectForge" (405 : Nat) ({ cls := "ObjectForge", name := "operation", desc := "()V" } : Jvm.MethodName)) ∈ lw_all := lw_g (lw_at lw_m2 86 rfl) rfl
theorem q445 : (Jvm.Cond.privateMethod ({ cls := "ObjectForge", name := "operation", desc := "()V" } : Jvm.MethodName)) ∈ lw_tbl := lw_at lw_m2 87 rfl
theorem q446 : (Jvm.Cond.instanceMethod ({ cls := "ObjectForge", name := "operation", desc := "()V" } : Jvm.MethodName)) ∈ lw_all := lw_g (lw_at lw_m2 88 rfl) rfl
theorem q447 : (Jvm.Cond.code ({ cls := "ObjectForge", name := "operation", desc := "()V" } : Jvm.MethodName) prog_1_method_42_code (4 : Nat) (Option.none : Option Jvm.ClassFile.FieldType)) ∈ lw_all := lw_g (lw_at lw_m2 89 rfl) rfl
theorem q448 : (Jvm.Cond.stringRef "ObjectForge" (248 : Nat) " .text 0 .data 1 .bss 2 .globl 3 .word 4 .half 5 .byte 6 .space 7 .align 8 .ascii 9 .asciiz 10 ") ∈ lw_tbl := lw_at lw_m2 90 rfl
theorem q449 : (Jvm.Cond.methodLink "ObjectForge" (250 : Nat) ({ cls := "ObjectForge", name := "findHere", desc := "(Ljava/lang/String;)I" } : Jvm.MethodName)) ∈ lw_all := lw_g (lw_at lw_m2 91 rfl) rfl
theorem q450 : (Jvm.Cond.privateMethod ({ cls := "ObjectForge", name := "findHere", desc := "(Ljava/lang/String;)I" } : Jvm.MethodName)) ∈ lw_tbl := lw_at lw_m2 92 rfl
theorem q451 : (Jvm.Cond.instanceMethod ({ cls := "ObjectForge", name := "findHere", desc := "(Ljava/lang/String;)I" } : Jvm.MethodName)) ∈ lw_all := lw_g (lw_at lw_m2 93 rfl) rfl
theorem q452 : (Jvm.Cond.code ({ cls := "ObjectForge", name := "findHere", desc := "(Ljava/lang/String;)I" } : Jvm.MethodName) prog_1_method_23_code (2 : Nat) (Option.some Jvm.ClassFile.FieldType.int)) ∈ lw_all := lw_g (lw_at lw_m2 94 rfl) rfl
theorem q453 : (Jvm.Cond.methodLink "ObjectForge" (117 : Nat) ({ cls := "ObjectForge", name := "find", desc := "(Ljava/lang/String;II)I" } : Jvm.MethodName)) ∈ lw_all := lw_g (lw_at lw_m2 95 rfl) rfl
theorem q454 : (Jvm.Cond.privateMethod ({ cls := "ObjectForge", name := "find", desc := "(Ljava/lang/String;II)I" } : Jvm.MethodName)) ∈ lw_tbl := lw_at lw_m2 96 rfl
theorem q455 : (Jvm.Cond.instanceMethod ({ cls := "ObjectForge", name := "find", desc := "(Ljava/lang/String;II)I" } : Jvm.MethodName)) ∈ lw_all := lw_g (lw_at lw_m2 97 rfl) rfl
theorem q456 : (Jvm.Cond.code ({ cls := "ObjectForge", name := "find", desc := "(Ljava/lang/String;II)I" } : Jvm.MethodName) prog_1_method_22_code (9 : Nat) (Option.some Jvm.ClassFile.FieldType.int)) ∈ lw_all := lw_g (lw_at lw_m2 98 rfl) rfl
theorem q457 : (Jvm.Cond.methodLink "ObjectForge" (127 : Nat) ({ cls := "java/lang/String", name := "length", desc := "()I" } : Jvm.MethodName)) ∈ lw_all := lw_g (lw_at lw_m2 99 rfl) rfl
theorem q467 : (Jvm.Cond.methodLink "ObjectForge" (131 : Nat) ({ cls := "java/lang/String", name := "charAt", desc := "(I)C" } : Jvm.MethodName)) ∈ lw_all := lw_g (lw_at lw_m2 109 rfl) rfl
theorem q505 : (Jvm.Cond.methodLink "ObjectForge" (254 : Nat) ({ cls := "ObjectForge", name := "directive", desc := "(I)V" } : Jvm.MethodName)) ∈ lw_all := lw_g (lw_at lw_m2 147 rfl) rfl
theorem q506 : (Jvm.Cond.privateMethod ({ cls := "ObjectForge", name := "directive", desc := "(I)V" } : Jvm.MethodName)) ∈ lw_tbl := lw_at lw_m2 148 rfl
theorem q507 : (Jvm.Cond.instanceMethod ({ cls := "ObjectForge", name := "directive", desc := "(I)V" } : Jvm.MethodName)) ∈ lw_all := lw_g (lw_at lw_m2 149 rfl) rfl
theorem q508 : (Jvm.Cond.code ({ cls := "ObjectForge", name := "directive", desc := "(I)V" } : Jvm.MethodName) prog_1_method_56_code (6 : Nat) (Option.none : Option Jvm.ClassFile.FieldType)) ∈ lw_all := lw_g (lw_at lw_m2 150 rfl) rfl
theorem q509 : (Jvm.Cond.methodLink "ObjectForge" (65 : Nat) ({ cls := "ObjectForge", name := "blame", desc := "()I" } : Jvm.MethodName)) ∈ lw_all := lw_g (lw_at lw_m2 151 rfl) rfl
theorem q510 : (Jvm.Cond.privateMethod ({ cls := "ObjectForge", name := "blame", desc := "()I" } : Jvm.MethodName)) ∈ lw_tbl := lw_at lw_m2 152 rfl
theorem q511 : (Jvm.Cond.instanceMethod ({ cls := "ObjectForge", name := "blame", desc := "()I" } : Jvm.MethodName)) ∈ lw_all := lw_g (lw_at lw_m2 153 rfl) rfl
theorem q512 : (Jvm.Cond.code ({ cls := "ObjectForge", name := "blame", desc := "()I" } : Jvm.MethodName) prog_1_method_15_code (4 : Nat) (Option.some Jvm.ClassFile.FieldType.int)) ∈ lw_all := lw_g (lw_at lw_m2 154 rfl) rfl
theorem q513 : (Jvm.Cond.methodLink "ObjectForge" (76 : Nat) ({ cls := "ObjectForge", name := "isEnd", desc := "()Z" } : Jvm.MethodName)) ∈ lw_all := lw_g (lw_at lw_m2 155 rfl) rfl
theorem q514 : (Jvm.Cond.privateMethod ({ cls := "ObjectForge", name := "isEnd", desc := "()Z" } : Jvm.MethodName)) ∈ lw_tbl := lw_at lw_m2 156 rfl
theorem q515 : (Jvm.Cond.instanceMethod ({ cls := "ObjectForge", name := "isEnd", desc := "()Z" } : Jvm.MethodName)) ∈ lw_all := lw_g (lw_at lw_m2 157 rfl) rfl
theorem q516 : (Jvm.Cond.code ({ cls := "ObjectForge", name := "isEnd", desc := "()Z" } : Jvm.MethodName) prog_1_method_8_code (1 : Nat) (Option.some Jvm.ClassFile.FieldType.boolean)) ∈ lw_all := lw_g (lw_at lw_m2 158 rfl) rfl
theorem q517 : (Jvm.Cond.methodLink "ObjectForge" (80 : Nat) ({ cls := "ObjectForge", name := "isInName", desc := "(I)Z" } : Jvm.MethodName)) ∈ lw_all := lw_g (lw_at lw_m2 159 rfl) rfl
theorem q518 : (Jvm.Cond.privateMethod ({ cls := "ObjectForge", name := "isInName", desc := "(I)Z" } : Jvm.MethodName)) ∈ lw_tbl := lw_at lw_m2 160 rfl
theorem q519 : (Jvm.Cond.instanceMethod ({ cls := "ObjectForge", name := "isInName", desc := "(I)Z" } : Jvm.MethodName)) ∈ lw_all := lw_g (lw_at lw_m2 161 rfl) rfl
theorem q520 : (Jvm.Cond.code ({ cls := "ObjectForge", name := "isInName", desc := "(I)Z" } : Jvm.MethodName) prog_1_method_14_code (2 : Nat) (Option.some Jvm.ClassFile.FieldType.boolean)) ∈ lw_all := lw_g (lw_at lw_m2 162 rfl) rfl
theorem q521 : (Jvm.Cond.methodLink "ObjectForge" (83 : Nat) ({ cls := "ObjectForge", name := "numeral", desc := "()J" } : Jvm.MethodName)) ∈ lw_all := lw_g (lw_at lw_m2 163 rfl) rfl
theorem q522 : (Jvm.Cond.privateMethod ({ cls := "ObjectForge", name := "numeral", desc := "()J" } : Jvm.MethodName)) ∈ lw_tbl := lw_at lw_m2 164 rfl
theorem q523 : (Jvm.Cond.instanceMethod ({ cls := "ObjectForge", name := "numeral", desc := "()J" } : Jvm.MethodName)) ∈ lw_all := lw_g (lw_at lw_m2 165 rfl) rfl
theorem q524 : (Jvm.Cond.code ({ cls := "ObjectForge", name := "numeral", desc := "()J" } : Jvm.MethodName) prog_1_method_16_code (7 : Nat) (Option.some Jvm.ClassFile.FieldType.long)) ∈ lw_all := lw_g (lw_at lw_m2 166 rfl) rfl
theorem q525 : (Jvm.Cond.methodLink "ObjectForge" (96 : Nat) ({ cls := "ObjectForge", name := "digit", desc := "(I)I" } : Jvm.MethodName)) ∈ lw_all := lw_g (lw_at lw_m2 167 rfl) rfl
theorem q526 : (Jvm.Cond.static ({ cls := "ObjectForge", name := "digit", desc := "(I)I" } : Jvm.MethodName)) ∈ lw_all := lw_g (lw_at lw_m2 168 rfl) rfl
theorem q527 : (Jvm.Cond.code ({ cls := "ObjectForge", name := "digit", desc := "(I)I" } : Jvm.MethodName) prog_1_method_11_code (1 : Nat) (Option.some Jvm.ClassFile.FieldType.int)) ∈ lw_all := lw_g (lw_at lw_m2 169 rfl) rfl
theorem q528 : (Jvm.Cond.constantLong "ObjectForge" (99 : Nat) (16 : Int64)) ∈ lw_all := lw_g (lw_at lw_m2 170 rfl) rfl
theorem q529 : (Jvm.Cond.constantLong "ObjectForge" (101 : Nat) (10 : Int64)) ∈ lw_all := lw_g (lw_at lw_m2 171 rfl) rfl
theorem q530 : (Jvm.Cond.constantLong "ObjectForge" (106 : Nat) (-1 : Int64)) ∈ lw_all := lw_g (lw_at lw_m2 172 rfl) rfl
theorem q531 : (Jvm.Cond.methodLink "ObjectForge" (87 : Nat) ({ cls := "ObjectForge", name := "character", desc := "()I" } : Jvm.MethodName)) ∈ lw_all := lw_g (lw_at lw_m2 173 rfl) rfl
theorem q532 : (Jvm.Cond.privateMethod ({ cls := "ObjectForge", name := "character", desc := "()I" } : Jvm.MethodName)) ∈ lw_tbl := lw_at lw_m2 174 rfl
theorem q533 : (Jvm.Cond.instanceMethod ({ cls := "ObjectForge", name := "character", desc := "()I" } : Jvm.MethodName)) ∈ lw_all := lw_g (lw_at lw_m2 175 rfl) rfl
theorem q534 : (Jvm.Cond.code ({ cls := "ObjectForge", name := "character", desc := "()I" } : Jvm.MethodName) prog_1_method_17_code (3 : Nat) (Option.some Jvm.ClassFile.FieldType.int)) ∈ lw_all := lw_g (lw_at lw_m2 176 rfl) rfl
theorem q535 : (Jvm.Cond.methodLink "ObjectForge" (108 : Nat) ({ cls := "ObjectForge", name := "escaped", desc := "(I)I" } : Jvm.MethodName)) ∈ lw_all := lw_g (lw_at lw_m2 177 rfl) rfl
theorem q536 : (Jvm.Cond.static ({ cls := "ObjectForge", name := "escaped", desc := "(I)I" } : Jvm.MethodName)) ∈ lw_all := lw_g (lw_at lw_m2 178 rfl) rfl
theorem q537 : (Jvm.Cond.code ({ cls := "ObjectForge", name := "escaped", desc := "(I)I" } : Jvm.MethodName) prog_1_method_28_code (1 : Nat) (Option.some Jvm.ClassFile.FieldType.int)) ∈ lw_all := lw_g (lw_at lw_m2 179 rfl) rfl
theorem q538 : (Jvm.Cond.methodLink "ObjectForge" (90 : Nat) ({ cls := "ObjectForge", name := "isString", desc := "()Z" } : Jvm.MethodName)) ∈ lw_all := lw_g (lw_at lw_m2 180 rfl) rfl
theorem q539 : (Jvm.Cond.privateMethod ({ cls := "ObjectForge", name := "isString", desc := "()Z" } : Jvm.MethodName)) ∈ lw_tbl := lw_at lw_m2 181 rfl
theorem q540 : (Jvm.Cond.instanceMethod ({ cls := "ObjectForge", name := "isString", desc := "()Z" } : Jvm.MethodName)) ∈ lw_all := lw_g (lw_at lw_m2 182 rfl) rfl
theorem q541 : (Jvm.Cond.code ({ cls := "ObjectForge", name := "isString", desc := "()Z" } : Jvm.MethodName) prog_1_method_18_code (3 : Nat) (Option.some Jvm.ClassFile.FieldType.boolean)) ∈ lw_all := lw_g (lw_at lw_m2 183 rfl) rfl
theorem q542 : (Jvm.Cond.methodLink "ObjectForge" (93 : Nat) ({ cls := "ObjectForge", name := "told", desc := "()I" } : Jvm.MethodName)) ∈ lw_all := lw_g (lw_at lw_m2 184 rfl) rfl
theorem q543 : (Jvm.Cond.privateMethod ({ cls := "ObjectForge", name := "told", desc := "()I" } : Jvm.MethodName)) ∈ lw_tbl := lw_at lw_m2 185 rfl
theorem q544 : (Jvm.Cond.instanceMethod ({ cls := "ObjectForge", name := "told", desc := "()I" } : Jvm.MethodName)) ∈ lw_all := lw_g (lw_at lw_m2 186 rfl) rfl
theorem q545 : (Jvm.Cond.code ({ cls := "ObjectForge", name := "told", desc := "()I" } : Jvm.MethodName) prog_1_method_20_code (4 : Nat) (Option.some Jvm.ClassFile.FieldType.int)) ∈ lw_all := lw_g (lw_at lw_m2 187 rfl) rfl
theorem q546 : (Jvm.Cond.methodLink "ObjectForge" (111 : Nat) ({ cls := "ObjectForge", name := "small", desc := "(II)I" } : Jvm.MethodName)) ∈ lw_all := lw_g (lw_at lw_m2 188 rfl) rfl
theorem q547 : (Jvm.Cond.privateMethod ({ cls := "ObjectForge", name := "small", desc := "(II)I" } : Jvm.MethodName)) ∈ lw_tbl := lw_at lw_m2 189 rfl
theorem q548 : (Jvm.Cond.instanceMethod ({ cls := "ObjectForge", name := "small", desc := "(II)I" } : Jvm.MethodName)) ∈ lw_all := lw_g (lw_at lw_m2 190 rfl) rfl
theorem q549 : (Jvm.Cond.code ({ cls := "ObjectForge", name := "small", desc := "(II)I" } : Jvm.MethodName) prog_1_method_19_code (5 : Nat) (Option.some Jvm.ClassFile.FieldType.int)) ∈ lw_all := lw_g (lw_at lw_m2 191 rfl) rfl
theorem q550 : (Jvm.Cond.stringRef "ObjectForge" (115 : Nat) " zero 0 at 1 v0 2 v1 3 a0 4 a1 5 a2 6 a3 7 t0 8 t1 9 t2 10 t3 11 t4 12 t5 13 t6 14 t7 15 s0 16 s1 17 s2 18 s3 19 s4 20 s5 21 s6 22 s7 23 t8 24 t9 25 k0 26 k1 27 gp 28 sp 29 fp 30 s8 30 ra 31 ") ∈ lw_tbl := lw_at lw_m2 192 rfl
theorem q551 : (Jvm.Cond.methodLink "ObjectForge" (177 : Nat) ({ cls := "ObjectForge", name := "symbolHere", desc := "()I" } : Jvm.MethodName)) ∈ lw_all := lw_g (lw_at lw_m2 193 rfl) rfl
theorem q552 : (Jvm.Cond.privateMethod ({ cls := "ObjectForge", name := "symbolHere", desc := "()I" } : Jvm.MethodName)) ∈ lw_tbl := lw_at lw_m2 194 rfl
theorem q553 : (Jvm.Cond.instanceMethod ({ cls := "ObjectForge", name := "symbolHere", desc := "()I" } : Jvm.MethodName)) ∈ lw_all := lw_g (lw_at lw_m2 195 rfl) rfl
theorem q554 : (Jvm.Cond.code ({ cls := "ObjectForge", name := "symbolHere", desc := "()I" } : Jvm.MethodName) prog_1_method_32_code (4 : Nat) (Option.some Jvm.ClassFile.FieldType.int)) ∈ lw_all := lw_g (lw_at lw_m2 196 rfl) rfl
theorem q555 : (Jvm.Cond.constantLong "ObjectForge" (391 : Nat) (4096 : Int64)) ∈ lw_all := lw_g (lw_at lw_m2 197 rfl) rfl
theorem q556 : (Jvm.Cond.constantLong "ObjectForge" (393 : Nat) (3 : Int64)) ∈ lw_all := lw_g (lw_at lw_m2 198 rfl) rfl
theorem q557 : (Jvm.Cond.methodLink "ObjectForge" (190 : Nat) ({ cls := "ObjectForge", name := "bounded", desc := "(JJ)J" } : Jvm.MethodName)) ∈ lw_all := lw_g (lw_at lw_m2 199 rfl) rfl
theorem q558 : (Jvm.Cond.privateMethod ({ cls := "ObjectForge", name := "bounded", desc := "(JJ)J" } : Jvm.MethodName)) ∈ lw_tbl := lw_at lw_m2 200 rfl
theorem q559 : (Jvm.Cond.instanceMethod ({ cls := "ObjectForge", name := "bounded", desc := "(JJ)J" } : Jvm.MethodName)) ∈ lw_all := lw_g (lw_at lw_m2 201 rfl) rfl
theorem q560 : (Jvm.Cond.code ({ cls := "ObjectForge", name := "bounded", desc := "(JJ)J" } : Jvm.MethodName) prog_1_method_31_code (7 : Nat) (Option.some Jvm.ClassFile.FieldType.long)) ∈ lw_all := lw_g (lw_at lw_m2 202 rfl) rfl
theorem q561 : (Jvm.Cond.methodLink "ObjectForge" (144 : Nat) ({ cls := "ObjectForge", name := "isNumber", desc := "()Z" } : Jvm.MethodName)) ∈ lw_all := lw_g (lw_at lw_m2 203 rfl) rfl
theorem q562 : (Jvm.Cond.privateMethod ({ cls := "ObjectForge", name := "isNumber", desc := "()Z" } : Jvm.MethodName)) ∈ lw_tbl := lw_at lw_m2 204 rfl
theorem q563 : (Jvm.Cond.instanceMethod ({ cls := "ObjectForge", name := "isNumber", desc := "()Z" } : Jvm.MethodName)) ∈ lw_all := lw_g (lw_at lw_m2 205 rfl) rfl
theorem q564 : (Jvm.Cond.code ({ cls := "ObjectForge", name := "isNumber", desc := "()Z" } : Jvm.MethodName) prog_1_method_27_code (1 : Nat) (Option.some Jvm.ClassFile.FieldType.boolean)) ∈ lw_all := lw_g (lw_at lw_m2 206 rfl) rfl
theorem q565 : (Jvm.Cond.methodLink "ObjectForge" (147 : Nat) ({ cls := "ObjectForge", name := "whole", desc := "()J" } : Jvm.MethodName)) ∈ lw_all := lw_g (lw_at lw_m2 207 rfl) rfl
theorem q566 : (Jvm.Cond.privateMethod ({ cls := "ObjectForge", name := "whole", desc := "()J" } : Jvm.MethodName)) ∈ lw_tbl := lw_at lw_m2 208 rfl
theorem q567 : (Jvm.Cond.instanceMethod ({ cls := "ObjectForge", name := "whole", desc := "()J" } : Jvm.MethodName)) ∈ lw_all := lw_g (lw_at lw_m2 209 rfl) rfl
theorem q568 : (Jvm.Cond.code ({ cls := "ObjectForge", name := "whole", desc := "()J" } : Jvm.MethodName) prog_1_method_30_code (4 : Nat) (Option.some Jvm.ClassFile.FieldType.long)) ∈ lw_all := lw_g (lw_at lw_m2 210 rfl) rfl
theorem q569 : (Jvm.Cond.methodLink "ObjectForge" (139 : Nat) ({ cls := "ObjectForge", name := "plain", desc := "()J" } : Jvm.MethodName)) ∈ lw_all := lw_g (lw_at lw_m2 211 rfl) rfl
theorem q570 : (Jvm.Cond.privateMethod ({ cls := "ObjectForge", name := "plain", desc := "()J" } : Jvm.MethodName)) ∈ lw_tbl := lw_at lw_m2 212 rfl
theorem q571 : (Jvm.Cond.instanceMethod ({ cls := "ObjectForge", name := "plain", desc := "()J" } : Jvm.MethodName)) ∈ lw_all := lw_g (lw_at lw_m2 213 rfl) rfl
theorem q572 : (Jvm.Cond.code ({ cls := "ObjectForge", name := "plain", desc := "()J" } : Jvm.MethodName) prog_1_method_29_code (3 : Nat) (Option.some Jvm.ClassFile.FieldType.long)) ∈ lw_all := lw_g (lw_at lw_m2 214 rfl) rfl
theorem q573 : (Jvm.Cond.constantLong "ObjectForge" (142 : Nat) (2147483648 : Int64)) ∈ lw_all := lw_g (lw_at lw_m2 215 rfl) rfl
theorem q574 : (Jvm.Cond.methodLink "ObjectForge" (207 : Nat) ({ cls := "ObjectForge", name := "grow", desc := "(I)V" } : Jvm.MethodName)) ∈ lw_all := lw_g (lw_at lw_m2 216 rfl) rfl
theorem q575 : (Jvm.Cond.privateMethod ({ cls := "ObjectForge", name := "grow", desc := "(I)V" } : Jvm.MethodName)) ∈ lw_tbl := lw_at lw_m2 217 rfl
theorem q576 : (Jvm.Cond.instanceMethod ({ cls := "ObjectForge", name := "grow", desc := "(I)V" } : Jvm.MethodName)) ∈ lw_all := lw_g (lw_at lw_m2 218 rfl) rfl
theorem q577 : (Jvm.Cond.code ({ cls := "ObjectForge", name := "grow", desc := "(I)V" } : Jvm.MethodName) prog_1_method_35_code (2 : Nat) (Option.none : Option Jvm.ClassFile.FieldType)) ∈ lw_all := lw_g (lw_at lw_m2 219 rfl) rfl
theorem q578 : (Jvm.Cond.methodLink "ObjectForge" (241 : Nat) ({ cls := "ObjectForge", name := "put", desc := "(I)V" } : Jvm.MethodName)) ∈ lw_all := lw_g (lw_at lw_m2 220 rfl) rfl
theorem q579 : (Jvm.Cond.privateMethod ({ cls := "ObjectForge", name := "put", desc := "(I)V" } : Jvm.MethodName)) ∈ lw_tbl := lw_at lw_m2 221 rfl
theorem q580 : (Jvm.Cond.instanceMethod ({ cls := "ObjectForge", name := "put", desc := "(I)V" } : Jvm.MethodName)) ∈ lw_all := lw_g (lw_at lw_m2 222 rfl) rfl
theorem q581 : (Jvm.Cond.code ({ cls := "ObjectForge", name := "put", desc := "(I)V" } : Jvm.MethodName) prog_1_method_36_code (2 : Nat) (Option.none : Option Jvm.ClassFile.FieldType)) ∈ lw_all := lw_g (lw_at lw_m2 223 rfl) rfl
theorem q582 : (Jvm.Cond.methodLink "ObjectForge" (210 : Nat) ({ cls := "ObjectForge$Unit", name := "bytes", desc := "(I)[B" } : Jvm.MethodName)) ∈ lw_all := lw_g (lw_at lw_m2 224 rfl) rfl
theorem q586 : (Jvm.Cond.methodLink "ObjectForge" (395 : Nat) ({ cls := "ObjectForge", name := "string", desc := "(Z)V" } : Jvm.MethodName)) ∈ lw_all := lw_g (lw_at lw_m2 228 rfl) rfl
theorem q587 : (Jvm.Cond.privateMethod ({ cls := "ObjectForge", name := "string", desc := "(Z)V" } : Jvm.MethodName)) ∈ lw_tbl := lw_at lw_m2 229 rfl
theorem q588 : (Jvm.Cond.instanceMethod ({ cls := "ObjectForge", name := "string", desc := "(Z)V" } : Jvm.MethodName)) ∈ lw_all := lw_g (lw_at lw_m2 230 rfl) rfl
theorem q589 : (Jvm.Cond.code ({ cls := "ObjectForge", name := "string", desc := "(Z)V" } : Jvm.MethodName) prog_1_method_58_code (3 : Nat) (Option.none : Option Jvm.ClassFile.FieldType)) ∈ lw_all := lw_g (lw_at lw_m2 231 rfl) rfl
theorem q590 : (Jvm.Cond.methodLink "ObjectForge" (398 : Nat) ({ cls := "ObjectForge", name := "value", desc := "(I)V" } : Jvm.MethodName)) ∈ lw_all := lw_g (lw_at lw_m2 232 rfl) rfl
theorem q591 : (Jvm.Cond.privateMethod ({ cls := "ObjectForge", name := "value", desc := "(I)V" } : Jvm.MethodName)) ∈ lw_tbl := lw_at lw_m2 233 rfl
theorem q592 : (Jvm.Cond.instanceMethod ({ cls := "ObjectForge", name := "value", desc := "(I)V" } : Jvm.MethodName)) ∈ lw_all := lw_g (lw_at lw_m2 234 rfl) rfl
theorem q593 : (Jvm.Cond.code ({ cls := "ObjectForge", name := "value", desc := "(I)V" } : Jvm.MethodName) prog_1_method_57_code (3 : Nat) (Option.none : Option Jvm.ClassFile.FieldType)) ∈ lw_all := lw_g (lw_at lw_m2 235 rfl) rfl
theorem q594 : (Jvm.Cond.methodLink "ObjectForge" (195 : Nat) ({ cls := "ObjectForge", name := "expression", desc := "(Z)V" } : Jvm.MethodName)) ∈ lw_all := lw_g (lw_at lw_m2 236 rfl) rfl
theorem q595 : (Jvm.Cond.privateMethod ({ cls := "ObjectForge", name := "expression", desc := "(Z)V" } : Jvm.MethodName)) ∈ lw_tbl := lw_at lw_m2 237 rfl
theorem q596 : (Jvm.Cond.instanceMethod ({ cls := "ObjectForge", name := "expression", desc := "(Z)V" } : Jvm.MethodName)) ∈ lw_all := lw_g (lw_at lw_m2 238 rfl) rfl
theorem q597 : (Jvm.Cond.code ({ cls := "ObjectForge", name := "expression", desc := "(Z)V" } : Jvm.MethodName) prog_1_method_33_code (3 : Nat) (Option.none : Option Jvm.ClassFile.FieldType)) ∈ lw_all := lw_g (lw_at lw_m2 239 rfl) rfl
theorem q598 : (Jvm.Cond.methodLink "ObjectForge" (245 : Nat) ({ cls := "ObjectForge", name := "instruction", desc := "(I)V" } : Jvm.MethodName)) ∈ lw_all := lw_g (lw_at lw_m3 0 rfl) rfl
theorem q599 : (Jvm.Cond.privateMethod ({ cls := "ObjectForge", name := "instruction", desc := "(I)V" } : Jvm.MethodName)) ∈ lw_tbl := lw_at lw_m3 1 rfl
theorem q600 : (Jvm.Cond.instanceMethod ({ cls := "ObjectForge", name := "instruction", desc := "(I)V" } : Jvm.MethodName)) ∈ lw_all := lw_g (lw_at lw_m3 2 rfl) rfl
theorem q601 : (Jvm.Cond.code ({ cls := "ObjectForge", name := "instruction", desc := "(I)V" } : Jvm.MethodName) prog_1_method_38_code (3 : Nat) (Option.none : Option Jvm.ClassFile.FieldType)) ∈ lw_all := lw_g (lw_at lw_m3 3 rfl) rfl
theorem q602 : (Jvm.Cond.methodLink "ObjectForge" (238 : Nat) ({ cls := "ObjectForge", name := "relocate", desc := "(I)V" } : Jvm.MethodName)) ∈ lw_all := lw_g (lw_at lw_m3 4 rfl) rfl
theorem q603 : (Jvm.Cond.privateMethod ({ cls := "ObjectForge", name := "relocate", desc := "(I)V" } : Jvm.MethodName)) ∈ lw_tbl := lw_at lw_m3 5 rfl
theorem q604 : (Jvm.Cond.instanceMethod ({ cls := "ObjectForge", name := "relocate", desc := "(I)V" } : Jvm.MethodName)) ∈ lw_all := lw_g (lw_at lw_m3 6 rfl) rfl
theorem q605 : (Jvm.Cond.code ({ cls := "ObjectForge", name := "relocate", desc := "(I)V" } : Jvm.MethodName) prog_1_method_37_code (3 : Nat) (Option.none : Option Jvm.ClassFile.FieldType)) ∈ lw_all := lw_g (lw_at lw_m3 7 rfl) rfl
theorem q606 : (Jvm.Cond.constantLong "ObjectForge" (349 : Nat) (-32768 : Int64)) ∈ lw_all := lw_g (lw_at lw_m3 8 rfl) rfl
theorem q607 : (Jvm.Cond.constantLong "ObjectForge" (357 : Nat) (65535 : Int64)) ∈ lw_all := lw_g (lw_at lw_m3 9 rfl) rfl
theorem q608 : (Jvm.Cond.constantLong "ObjectForge" (401 : Nat) (-128 : Int64)) ∈ lw_all := lw_g (lw_at lw_m3 10 rfl) rfl
theorem q609 : (Jvm.Cond.constantLong "ObjectForge" (403 : Nat) (255 : Int64)) ∈ lw_all := lw_g (lw_at lw_m3 11 rfl) rfl
theorem q610 : (Jvm.Cond.methodLink "ObjectForge" (257 : Nat) ({ cls := "ObjectForge", name := "isKnown", desc := "(II)Z" } : Jvm.MethodName)) ∈ lw_all := lw_g (lw_at lw_m3 12 rfl) rfl
theorem q611 : (Jvm.Cond.privateMethod ({ cls := "ObjectForge", name := "isKnown", desc := "(II)Z" } : Jvm.MethodName)) ∈ lw_tbl := lw_at lw_m3 13 rfl
theorem q612 : (Jvm.Cond.instanceMethod ({ cls := "ObjectForge", name := "isKnown", desc := "(II)Z" } : Jvm.MethodName)) ∈ lw_all := lw_g (lw_at lw_m3 14 rfl) rfl
theorem q613 : (Jvm.Cond.code ({ cls := "ObjectForge", name := "isKnown", desc := "(II)Z" } : Jvm.MethodName) prog_1_method_43_code (4 : Nat) (Option.some Jvm.ClassFile.FieldType.boolean)) ∈ lw_all := lw_g (lw_at lw_m3 15 rfl) rfl
theorem q614 : (Jvm.Cond.stringRef "ObjectForge" (274 : Nat) " addu 33 subu 35 add 32 sub 34 and 36 or 37 xor 38 nor 39 slt 42 sltu 43 movz 10 movn 11 mul 66 ") ∈ lw_tbl := lw_at lw_m3 16 rfl
theorem q615 : (Jvm.Cond.stringRef "ObjectForge" (276 : Nat) " sll 0 srl 2 sra 3 ") ∈ lw_tbl := lw_at lw_m3 17 rfl
theorem q616 : (Jvm.Cond.stringRef "ObjectForge" (278 : Nat) " sllv 4 srlv 6 srav 7 ") ∈ lw_tbl := lw_at lw_m3 18 rfl
theorem q617 : (Jvm.Cond.stringRef "ObjectForge" (280 : Nat) " mult 24 multu 25 madd 64 maddu 65 msub 68 msubu 69 teq 52 tne 54 tge 48 tgeu 49 tlt 50 tltu 51 ") ∈ lw_tbl := lw_at lw_m3 19 rfl
theorem q618 : (Jvm.Cond.stringRef "ObjectForge" (282 : Nat) " div 26 divu 27 rem 90 remu 91 ") ∈ lw_tbl := lw_at lw_m3 20 rfl
theorem q619 : (Jvm.Cond.stringRef "ObjectForge" (284 : Nat) " mfhi 16 mflo 18 ") ∈ lw_tbl := lw_at lw_m3 21 rfl
theorem q620 : (Jvm.Cond.stringRef "ObjectForge" (286 : Nat) " mthi 17 mtlo 19 jr 8 ") ∈ lw_tbl := lw_at lw_m3 22 rfl
theorem q621 : (Jvm.Cond.stringRef "ObjectForge" (288 : Nat) " clz 96 clo 97 jalr 9 move 33 not 39 neg 35 ") ∈ lw_tbl := lw_at lw_m3 23 rfl
theorem q622 : (Jvm.Cond.stringRef "ObjectForge" (290 : Nat) " addiu 9 addi 8 slti 10 sltiu 11 ") ∈ lw_tbl := lw_at lw_m3 24 rfl
theorem q623 : (Jvm.Cond.stringRef "ObjectForge" (292 : Nat) " andi 12 ori 13 xori 14 ") ∈ lw_tbl := lw_at lw_m3 25 rfl
theorem q624 : (Jvm.Cond.stringRef "ObjectForge" (294 : Nat) " lb 32 lbu 36 lh 33 lhu 37 lw 35 lwl 34 lwr 38 sb 40 sh 41 sw 43 swl 42 swr 46 ll 48 sc 56 ") ∈ lw_tbl := lw_at lw_m3 26 rfl
theorem q625 : (Jvm.Cond.stringRef "ObjectForge" (296 : Nat) " lwc1 49 swc1 57 ldc1 53 sdc1 61 ") ∈ lw_tbl := lw_at lw_m3 27 rfl
theorem q626 : (Jvm.Cond.stringRef "ObjectForge" (298 : Nat) " beq 4 bne 5 beql 20 bnel 21 ") ∈ lw_tbl := lw_at lw_m3 28 rfl
theorem q627 : (Jvm.Cond.stringRef "ObjectForge" (300 : Nat) " blez 6 bgtz 7 blezl 22 bgtzl 23 bltz 256 bgez 257 bltzl 258 bgezl 259 bltzal 272 bgezal 273 beqz 4 bnez 5 ") ∈ lw_tbl := lw_at lw_m3 29 rfl
theorem q628 : (Jvm.Cond.stringRef "ObjectForge" (302 : Nat) " bc1f 0 bc1t 1 bc1fl 2 bc1tl 3 ") ∈ lw_tbl := lw_at lw_m3 30 rfl
theorem q629 : (Jvm.Cond.stringRef "ObjectForge" (304 : Nat) " b 0 bal 1 j 2 jal 3 ") ∈ lw_tbl := lw_at lw_m3 31 rfl
theorem q630 : (Jvm.Cond.stringRef "ObjectForge" (306 : Nat) " blt 0 bge 1 bgt 2 ble 3 bltu 4 bgeu 5 bgtu 6 bleu 7 ") ∈ lw_tbl := lw_at lw_m3 32 rfl
theorem q631 : (Jvm.Cond.stringRef "ObjectForge" (308 : Nat) " mfc1 0 mtc1 4 ") ∈ lw_tbl := lw_at lw_m3 33 rfl
theorem q632 : (Jvm.Cond.stringRef "ObjectForge" (310 : Nat) " nop 0 sync 15 syscall 12 break 13 ") ∈ lw_tbl := lw_at lw_m3 34 rfl
theorem q633 : (Jvm.Cond.stringRef "ObjectForge" (312 : Nat) " li 0 la 1 lui 2 ") ∈ lw_tbl := lw_at lw_m3 35 rfl
theorem q634 : (Jvm.Cond.methodLink "ObjectForge" (314 : Nat) ({ cls := "ObjectForge", name := "isOfFractions", desc := "(II)Z" } : Jvm.MethodName)) ∈ lw_all := lw_g (lw_at lw_m3 36 rfl) rfl
theorem q635 : (Jvm.Cond.privateMethod ({ cls := "ObjectForge", name := "isOfFractions", desc := "(II)Z" } : Jvm.MethodName)) ∈ lw_tbl := lw_at lw_m3 37 rfl
theorem q636 : (Jvm.Cond.instanceMethod ({ cls := "ObjectForge", name := "isOfFractions", desc := "(II)Z" } : Jvm.MethodName)) ∈ lw_all := lw_g (lw_at lw_m3 38 rfl) rfl
theorem q637 : (Jvm.Cond.code ({ cls := "ObjectForge", name := "isOfFractions", desc := "(II)Z" } : Jvm.MethodName) prog_1_method_45_code (3 : Nat) (Option.some Jvm.ClassFile.FieldType.boolean)) ∈ lw_all := lw_g (lw_at lw_m3 39 rfl) rfl
theorem q638 : (Jvm.Cond.stringRef "ObjectForge" (317 : Nat) " cvt.s.d 544 cvt.s.w 640 cvt.d.s 513 cvt.d.w 641 ") ∈ lw_tbl := lw_at lw_m3 40 rfl
theorem q639 : (Jvm.Cond.methodLink "ObjectForge" (319 : Nat) ({ cls := "ObjectForge", name := "formatOf", desc := "(II)I" } : Jvm.MethodName)) ∈ lw_all := lw_g (lw_at lw_m3 41 rfl) rfl
theorem q640 : (Jvm.Cond.privateMethod ({ cls := "ObjectForge", name := "formatOf", desc := "(II)I" } : Jvm.MethodName)) ∈ lw_tbl := lw_at lw_m3 42 rfl
theorem q641 : (Jvm.Cond.instanceMethod ({ cls := "ObjectForge", name := "formatOf", desc := "(II)I" } : Jvm.MethodName)) ∈ lw_all := lw_g (lw_at lw_m3 43 rfl) rfl
theorem q642 : (Jvm.Cond.code ({ cls := "ObjectForge", name := "formatOf", desc := "(II)I" } : Jvm.MethodName) prog_1_method_44_code (3 : Nat) (Option.some Jvm.ClassFile.FieldType.int)) ∈ lw_all := lw_g (lw_at lw_m3 44 rfl) rfl
theorem q643 : (Jvm.Cond.stringRef "ObjectForge" (322 : Nat) " add 0 sub 1 mul 2 div 3 ") ∈ lw_tbl := lw_at lw_m3 45 rfl
theorem q644 : (Jvm.Cond.stringRef "ObjectForge" (324 : Nat) " abs 5 neg 7 mov 6 sqrt 4 trunc.w 13 round.w 12 ceil.w 14 floor.w 15 cvt.w 36 ") ∈ lw_tbl := lw_at lw_m3 46 rfl
theorem q645 : (Jvm.Cond.stringRef "ObjectForge" (326 : Nat) " f 0 un 1 eq 2 ueq 3 olt 4 ult 5 ole 6 ule 7 sf 8 ngle 9 seq 10 ngl 11 lt 12 nge 13 le 14 ngt 15 ") ∈ lw_tbl := lw_at lw_m3 47 rfl
theorem q646 : (Jvm.Cond.methodLink "ObjectForge" (261 : Nat) ({ cls := "ObjectForge", name := "arithmetic", desc := "(II)Z" } : Jvm.MethodName)) ∈ lw_all := lw_g (lw_at lw_m3 48 rfl) rfl
theorem q647 : (Jvm.Cond.privateMethod ({ cls := "ObjectForge", name := "arithmetic", desc := "(II)Z" } : Jvm.MethodName)) ∈ lw_tbl := lw_at lw_m3 49 rfl
theorem q648 : (Jvm.Cond.instanceMethod ({ cls := "ObjectForge", name := "arithmetic", desc := "(II)Z" } : Jvm.MethodName)) ∈ lw_all := lw_g (lw_at lw_m3 50 rfl) rfl
theorem q649 : (Jvm.Cond.code ({ cls := "ObjectForge", name := "arithmetic", desc := "(II)Z" } : Jvm.MethodName) prog_1_method_46_code (6 : Nat) (Option.some Jvm.ClassFile.FieldType.boolean)) ∈ lw_all := lw_g (lw_at lw_m3 51 rfl) rfl
theorem q650 : (Jvm.Cond.methodLink "ObjectForge" (328 : Nat) ({ cls := "ObjectForge", name := "general", desc := "()I" } : Jvm.MethodName)) ∈ lw_all := lw_g (lw_at lw_m3 52 rfl) rfl
theorem q651 : (Jvm.Cond.privateMethod ({ cls := "ObjectForge", name := "general", desc := "()I" } : Jvm.MethodName)) ∈ lw_tbl := lw_at lw_m3 53 rfl
theorem q652 : (Jvm.Cond.instanceMethod ({ cls := "ObjectForge", name := "general", desc := "()I" } : Jvm.MethodName)) ∈ lw_all := lw_g (lw_at lw_m3 54 rfl) rfl
theorem q653 : (Jvm.Cond.code ({ cls := "ObjectForge", name := "general", desc := "()I" } : Jvm.MethodName) prog_1_method_25_code (2 : Nat) (Option.some Jvm.ClassFile.FieldType.int)) ∈ lw_all := lw_g (lw_at lw_m3 55 rfl) rfl
theorem q654 : (Jvm.Cond.methodLink "ObjectForge" (331 : Nat) ({ cls := "ObjectForge", name := "comma", desc := "()V" } : Jvm.MethodName)) ∈ lw_all := lw_g (lw_at lw_m3 56 rfl) rfl
theorem q655 : (Jvm.Cond.privateMethod ({ cls := "ObjectForge", name := "comma", desc := "()V" } : Jvm.MethodName)) ∈ lw_tbl := lw_at lw_m3 57 rfl
theorem q656 : (Jvm.Cond.instanceMethod ({ cls := "ObjectForge", name := "comma", desc := "()V" } : Jvm.MethodName)) ∈ lw_all := lw_g (lw_at lw_m3 58 rfl) rfl
theorem q657 : (Jvm.Cond.code ({ cls := "ObjectForge", name := "comma", desc := "()V" } : Jvm.MethodName) prog_1_method_24_code (1 : Nat) (Option.none : Option Jvm.ClassFile.FieldType)) ∈ lw_all := lw_g (lw_at lw_m3 59 rfl) rfl
theorem q658 : (Jvm.Cond.methodLink "ObjectForge" (135 : Nat) ({ cls := "ObjectForge", name := "need", desc := "(I)V" } : Jvm.MethodName)) ∈ lw_all := lw_g (lw_at lw_m3 60 rfl) rfl
theorem q659 : (Jvm.Cond.privateMethod ({ cls := "ObjectForge", name := "need", desc := "(I)V" } : Jvm.MethodName)) ∈ lw_tbl := lw_at lw_m3 61 rfl
theorem q660 : (Jvm.Cond.instanceMethod ({ cls := "ObjectForge", name := "need", desc := "(I)V" } : Jvm.MethodName)) ∈ lw_all := lw_g (lw_at lw_m3 62 rfl) rfl
theorem q661 : (Jvm.Cond.code ({ cls := "ObjectForge", name := "need", desc := "(I)V" } : Jvm.MethodName) prog_1_method_13_code (2 : Nat) (Option.none : Option Jvm.ClassFile.FieldType)) ∈ lw_all := lw_g (lw_at lw_m3 63 rfl) rfl
theorem q662 : (Jvm.Cond.methodLink "ObjectForge" (334 : Nat) ({ cls := "ObjectForge", name := "special", desc := "(IIII)V" } : Jvm.MethodName)) ∈ lw_all := lw_g (lw_at lw_m3 64 rfl) rfl
theorem q663 : (Jvm.Cond.privateMethod ({ cls := "ObjectForge", name := "special", desc := "(IIII)V" } : Jvm.MethodName)) ∈ lw_tbl := lw_at lw_m3 65 rfl
theorem q664 : (Jvm.Cond.instanceMethod ({ cls := "ObjectForge", name := "special", desc := "(IIII)V" } : Jvm.MethodName)) ∈ lw_all := lw_g (lw_at lw_m3 66 rfl) rfl
theorem q665 : (Jvm.Cond.code ({ cls := "ObjectForge", name := "special", desc := "(IIII)V" } : Jvm.MethodName) prog_1_method_39_code (5 : Nat) (Option.none : Option Jvm.ClassFile.FieldType)) ∈ lw_all := lw_g (lw_at lw_m3 67 rfl) rfl
theorem q666 : (Jvm.Cond.constant "ObjectForge" (244 : Nat) (1879048192 : Int32)) ∈ lw_all := lw_g (lw_at lw_m3 68 rfl) rfl
theorem q667 : (Jvm.Cond.constantLong "ObjectForge" (338 : Nat) (31 : Int64)) ∈ lw_all := lw_g (lw_at lw_m3 69 rfl) rfl
theorem q668 : (Jvm.Cond.methodLink "ObjectForge" (340 : Nat) ({ cls := "ObjectForge", name := "divides", desc := "(I)Z" } : Jvm.MethodName)) ∈ lw_all := lw_g (lw_at lw_m3 70 rfl) rfl
theorem q669 : (Jvm.Cond.privateMethod ({ cls := "ObjectForge", name := "divides", desc := "(I)Z" } : Jvm.MethodName)) ∈ lw_tbl := lw_at lw_m3 71 rfl
theorem q670 : (Jvm.Cond.instanceMethod ({ cls := "ObjectForge", name := "divides", desc := "(I)Z" } : Jvm.MethodName)) ∈ lw_all := lw_g (lw_at lw_m3 72 rfl) rfl
theorem q671 : (Jvm.Cond.code ({ cls := "ObjectForge", name := "divides", desc := "(I)Z" } : Jvm.MethodName) prog_1_method_47_code (5 : Nat) (Option.some Jvm.ClassFile.FieldType.boolean)) ∈ lw_all := lw_g (lw_at lw_m3 73 rfl) rfl
theorem q672 : (Jvm.Cond.methodLink "ObjectForge" (343 : Nat) ({ cls := "ObjectForge", name := "numbers", desc := "(II)Z" } : Jvm.MethodName)) ∈ lw_all := lw_g (lw_at lw_m3 74 rfl) rfl
theorem q673 : (Jvm.Cond.privateMethod ({ cls := "ObjectForge", name := "numbers", desc := "(II)Z" } : Jvm.MethodName)) ∈ lw_tbl := lw_at lw_m3 75 rfl
theorem q674 : (Jvm.Cond.instanceMethod ({ cls := "ObjectForge", name := "numbers", desc := "(II)Z" } : Jvm.MethodName)) ∈ lw_all := lw_g (lw_at lw_m3 76 rfl) rfl
theorem q675 : (Jvm.Cond.code ({ cls := "ObjectForge", name := "numbers", desc := "(II)Z" } : Jvm.MethodName) prog_1_method_48_code (7 : Nat) (Option.some Jvm.ClassFile.FieldType.boolean)) ∈ lw_all := lw_g (lw_at lw_m3 77 rfl) rfl
theorem q676 : (Jvm.Cond.methodLink "ObjectForge" (346 : Nat) ({ cls := "ObjectForge", name := "two", desc := "(II)V" } : Jvm.MethodName)) ∈ lw_all := lw_g (lw_at lw_m3 78 rfl) rfl
theorem q677 : (Jvm.Cond.privateMethod ({ cls := "ObjectForge", name := "two", desc := "(II)V" } : Jvm.MethodName)) ∈ lw_tbl := lw_at lw_m3 79 rfl
theorem q678 : (Jvm.Cond.instanceMethod ({ cls := "ObjectForge", name := "two", desc := "(II)V" } : Jvm.MethodName)) ∈ lw_all := lw_g (lw_at lw_m3 80 rfl) rfl
theorem q679 : (Jvm.Cond.code ({ cls := "ObjectForge", name := "two", desc := "(II)V" } : Jvm.MethodName) prog_1_method_49_code (5 : Nat) (Option.none : Option Jvm.ClassFile.FieldType)) ∈ lw_all := lw_g (lw_at lw_m3 81 rfl) rfl
theorem q680 : (Jvm.Cond.constantLong "ObjectForge" (351 : Nat) (32767 : Int64)) ∈ lw_all := lw_g (lw_at lw_m3 82 rfl) rfl
theorem q681 : (Jvm.Cond.methodLink "ObjectForge" (353 : Nat) ({ cls := "ObjectForge", name := "half", desc := "(JJZ)I" } : Jvm.MethodName)) ∈ lw_all := lw_g (lw_at lw_m3 83 rfl) rfl
theorem q682 : (Jvm.Cond.privateMethod ({ cls := "ObjectForge", name := "half", desc := "(JJZ)I" } : Jvm.MethodName)) ∈ lw_tbl := lw_at lw_m3 84 rfl
theorem q683 : (Jvm.Cond.instanceMethod ({ cls := "ObjectForge", name := "half", desc := "(JJZ)I" } : Jvm.MethodName)) ∈ lw_all := lw_g (lw_at lw_m3 85 rfl) rfl
theorem q684 : (Jvm.Cond.code ({ cls := "ObjectForge", name := "half", desc := "(JJZ)I" } : Jvm.MethodName) prog_1_method_34_code (7 : Nat) (Option.some Jvm.ClassFile.FieldType.int)) ∈ lw_all := lw_g (lw_at lw_m3 86 rfl) rfl
theorem q685 : (Jvm.Cond.constant "ObjectForge" (194 : Nat) (65535 : Int32)) ∈ lw_all := lw_g (lw_at lw_m3 87 rfl) rfl
theorem q686 : (Jvm.Cond.constantLong "ObjectForge" (199 : Nat) (32768 : Int64)) ∈ lw_all := lw_g (lw_at lw_m3 88 rfl) rfl
theorem q687 : (Jvm.Cond.methodLink "ObjectForge" (359 : Nat) ({ cls := "ObjectForge", name := "immediate", desc := "(IIII)V" } : Jvm.MethodName)) ∈ lw_all := lw_g (lw_at lw_m3 89 rfl) rfl
theorem q688 : (Jvm.Cond.privateMethod ({ cls := "ObjectForge", name := "immediate", desc := "(IIII)V" } : Jvm.MethodName)) ∈ lw_tbl := lw_at lw_m3 90 rfl
theorem q689 : (Jvm.Cond.instanceMethod ({ cls := "ObjectForge", name := "immediate", desc := "(IIII)V" } : Jvm.MethodName)) ∈ lw_all := lw_g (lw_at lw_m3 91 rfl) rfl
theorem q690 : (Jvm.Cond.code ({ cls := "ObjectForge", name := "immediate", desc := "(IIII)V" } : Jvm.MethodName) prog_1_method_40_code (5 : Nat) (Option.none : Option Jvm.ClassFile.FieldType)) ∈ lw_all := lw_g (lw_at lw_m3 92 rfl) rfl
theorem q691 : (Jvm.Cond.methodLink "ObjectForge" (264 : Nat) ({ cls := "ObjectForge", name := "branches", desc := "(II)Z" } : Jvm.MethodName)) ∈ lw_all := lw_g (lw_at lw_m3 93 rfl) rfl
theorem q692 : (Jvm.Cond.privateMethod ({ cls := "ObjectForge", name := "branches", desc := "(II)Z" } : Jvm.MethodName)) ∈ lw_tbl := lw_at lw_m3 94 rfl
theorem q693 : (Jvm.Cond.instanceMethod ({ cls := "ObjectForge", name := "branches", desc := "(II)Z" } : Jvm.MethodName)) ∈ lw_all := lw_g (lw_at lw_m3 95 rfl) rfl
theorem q694 : (Jvm.Cond.code ({ cls := "ObjectForge", name := "branches", desc := "(II)Z" } : Jvm.MethodName) prog_1_method_50_code (7 : Nat) (Option.some Jvm.ClassFile.FieldType.boolean)) ∈ lw_all := lw_g (lw_at lw_m3 96 rfl) rfl
theorem q695 : (Jvm.Cond.methodLink "ObjectForge" (362 : Nat) ({ cls := "ObjectForge", name := "target", desc := "(I)V" } : Jvm.MethodName)) ∈ lw_all := lw_g (lw_at lw_m3 97 rfl) rfl
theorem q696 : (Jvm.Cond.privateMethod ({ cls := "ObjectForge", name := "target", desc := "(I)V" } : Jvm.MethodName)) ∈ lw_tbl := lw_at lw_m3 98 rfl
theorem q697 : (Jvm.Cond.instanceMethod ({ cls := "ObjectForge", name := "target", desc := "(I)V" } : Jvm.MethodName)) ∈ lw_all := lw_g (lw_at lw_m3 99 rfl) rfl
theorem q698 : (Jvm.Cond.code ({ cls := "ObjectForge", name := "target", desc := "(I)V" } : Jvm.MethodName) prog_1_method_41_code (2 : Nat) (Option.none : Option Jvm.ClassFile.FieldType)) ∈ lw_all := lw_g (lw_at lw_m3 100 rfl) rfl
theorem q699 : (Jvm.Cond.constant "ObjectForge" (365 : Nat) (67108864 : Int32)) ∈ lw_all := lw_g (lw_at lw_m3 101 rfl) rfl
theorem q700 : (Jvm.Cond.methodLink "ObjectForge" (366 : Nat) ({ cls := "ObjectForge", name := "condition", desc := "()I" } : Jvm.MethodName)) ∈ lw_all := lw_g (lw_at lw_m3 102 rfl) rfl
theorem q701 : (Jvm.Cond.privateMethod ({ cls := "ObjectForge", name := "condition", desc := "()I" } : Jvm.MethodName)) ∈ lw_tbl := lw_at lw_m3 103 rfl
theorem q702 : (Jvm.Cond.instanceMethod ({ cls := "ObjectForge", name := "condition", desc := "()I" } : Jvm.MethodName)) ∈ lw_all := lw_g (lw_at lw_m3 104 rfl) rfl
theorem q703 : (Jvm.Cond.code ({ cls := "ObjectForge", name := "condition", desc := "()I" } : Jvm.MethodName) prog_1_method_51_code (2 : Nat) (Option.some Jvm.ClassFile.FieldType.int)) ∈ lw_all := lw_g (lw_at lw_m3 105 rfl) rfl
theorem q704 : (Jvm.Cond.constantLong "ObjectForge" (373 : Nat) (7 : Int64)) ∈ lw_all := lw_g (lw_at lw_m3 106 rfl) rfl
theorem q705 : (Jvm.Cond.constant "ObjectForge" (369 : Nat) (1157627904 : Int32)) ∈ lw_all := lw_g (lw_at lw_m3 107 rfl) rfl
theorem q706 : (Jvm.Cond.constant "ObjectForge" (370 : Nat) (268435456 : Int32)) ∈ lw_all := lw_g (lw_at lw_m3 108 rfl) rfl
theorem q707 : (Jvm.Cond.constant "ObjectForge" (371 : Nat) (68222976 : Int32)) ∈ lw_all := lw_g (lw_at lw_m3 109 rfl) rfl
theorem q708 : (Jvm.Cond.constant "ObjectForge" (372 : Nat) (2097152 : Int32)) ∈ lw_all := lw_g (lw_at lw_m3 110 rfl) rfl
theorem q709 : (Jvm.Cond.methodLink "ObjectForge" (267 : Nat) ({ cls := "ObjectForge", name := "others", desc := "(II)Z" } : Jvm.MethodName)) ∈ lw_all := lw_g (lw_at lw_m3 111 rfl) rfl
theorem q710 : (Jvm.Cond.privateMethod ({ cls := "ObjectForge", name := "others", desc := "(II)Z" } : Jvm.MethodName)) ∈ lw_tbl := lw_at lw_m3 112 rfl
theorem q711 : (Jvm.Cond.instanceMethod ({ cls := "ObjectForge", name := "others", desc := "(II)Z" } : Jvm.MethodName)) ∈ lw_all := lw_g (lw_at lw_m3 113 rfl) rfl
theorem q712 : (Jvm.Cond.code ({ cls := "ObjectForge", name := "others", desc := "(II)Z" } : Jvm.MethodName) prog_1_method_52_code (6 : Nat) (Option.some Jvm.ClassFile.FieldType.boolean)) ∈ lw_all := lw_g (lw_at lw_m3 114 rfl) rfl
theorem q713 : (Jvm.Cond.methodLink "ObjectForge" (375 : Nat) ({ cls := "ObjectForge", name := "fraction", desc := "()I" } : Jvm.MethodName)) ∈ lw_all := lw_g (lw_at lw_m3 115 rfl) rfl
theorem q714 : (Jvm.Cond.privateMethod ({ cls := "ObjectForge", name := "fraction", desc := "()I" } : Jvm.MethodName)) ∈ lw_tbl := lw_at lw_m3 116 rfl
theorem q715 : (Jvm.Cond.instanceMethod ({ cls := "ObjectForge", name := "fraction", desc := "()I" } : Jvm.MethodName)) ∈ lw_all := lw_g (lw_at lw_m3 117 rfl) rfl
theorem q716 : (Jvm.Cond.code ({ cls := "ObjectForge", name := "fraction", desc := "()I" } : Jvm.MethodName) prog_1_method_26_code (2 : Nat) (Option.some Jvm.ClassFile.FieldType.int)) ∈ lw_all := lw_g (lw_at lw_m3 118 rfl) rfl
theorem q717 : (Jvm.Cond.methodLink "ObjectForge" (378 : Nat) ({ cls := "ObjectForge", name := "memory", desc := "(II)V" } : Jvm.MethodName)) ∈ lw_all := lw_g (lw_at lw_m3 119 rfl) rfl
theorem q718 : (Jvm.Cond.privateMethod ({ cls := "ObjectForge", name := "memory", desc := "(II)V" } : Jvm.MethodName)) ∈ lw_tbl := lw_at lw_m3 120 rfl
theorem q719 : (Jvm.Cond.instanceMethod ({ cls := "ObjectForge", name := "memory", desc := "(II)V" } : Jvm.MethodName)) ∈ lw_all := lw_g (lw_at lw_m3 121 rfl) rfl
theorem q720 : (Jvm.Cond.code ({ cls := "ObjectForge", name := "memory", desc := "(II)V" } : Jvm.MethodName) prog_1_method_53_code (6 : Nat) (Option.none : Option Jvm.ClassFile.FieldType)) ∈ lw_all := lw_g (lw_at lw_m3 122 rfl) rfl
theorem q721 : (Jvm.Cond.constant "ObjectForge" (381 : Nat) (1140850688 : Int32)) ∈ lw_all := lw_g (lw_at lw_m3 123 rfl) rfl
theorem q722 : (Jvm.Cond.constantLong "ObjectForge" (382 : Nat) (1048575 : Int64)) ∈ lw_all := lw_g (lw_at lw_m3 124 rfl) rfl
theorem q723 : (Jvm.Cond.methodLink "ObjectForge" (384 : Nat) ({ cls := "ObjectForge", name := "load", desc := "(I)V" } : Jvm.MethodName)) ∈ lw_all := lw_g (lw_at lw_m3 125 rfl) rfl
theorem q724 : (Jvm.Cond.privateMethod ({ cls := "ObjectForge", name := "load", desc := "(I)V" } : Jvm.MethodName)) ∈ lw_tbl := lw_at lw_m3 126 rfl
theorem q725 : (Jvm.Cond.instanceMethod ({ cls := "ObjectForge", name := "load", desc := "(I)V" } : Jvm.MethodName)) ∈ lw_all := lw_g (lw_at lw_m3 127 rfl) rfl
theorem q726 : (Jvm.Cond.code ({ cls := "ObjectForge", name := "load", desc := "(I)V" } : Jvm.MethodName) prog_1_method_54_code (4 : Nat) (Option.none : Option Jvm.ClassFile.FieldType)) ∈ lw_all := lw_g (lw_at lw_m3 128 rfl) rfl
theorem q727 : (Jvm.Cond.constantLong "ObjectForge" (387 : Nat) (-2147483648 : Int64)) ∈ lw_all := lw_g (lw_at lw_m3 129 rfl) rfl
theorem q728 : (Jvm.Cond.constantLong "ObjectForge" (389 : Nat) (4294967295 : Int64)) ∈ lw_all := lw_g (lw_at lw_m3 130 rfl) rfl
theorem q729 : (Jvm.Cond.methodLink "ObjectForge" (270 : Nat) ({ cls := "ObjectForge", name := "fractions", desc := "(II)V" } : Jvm.MethodName)) ∈ lw_all := lw_g (lw_at lw_m3 131 rfl) rfl
theorem q730 : (Jvm.Cond.privateMethod ({ cls := "ObjectForge", name := "fractions", desc := "(II)V" } : Jvm.MethodName)) ∈ lw_tbl := lw_at lw_m3 132 rfl
theorem q731 : (Jvm.Cond.instanceMethod ({ cls := "ObjectForge", name := "fractions", desc := "(II)V" } : Jvm.MethodName)) ∈ lw_all := lw_g (lw_at lw_m3 133 rfl) rfl
theorem q732 : (Jvm.Cond.code ({ cls := "ObjectForge", name := "fractions", desc := "(II)V" } : Jvm.MethodName) prog_1_method_55_code (8 : Nat) (Option.none : Option Jvm.ClassFile.FieldType)) ∈ lw_all := lw_g (lw_at lw_m3 134 rfl) rfl
theorem q733 : (Jvm.Cond.methodLink "ObjectForge" (408 : Nat) ({ cls := "ObjectForge$Unit", name := "isOpen", desc := "(I)Z" } : Jvm.MethodName)) ∈ lw_all := lw_g (lw_at lw_m3 135 rfl) rfl
theorem q737 : (Jvm.Cond.constantLong "ObjectForge" (413 : Nat) (4 : Int64)) ∈ lw_all := lw_g (lw_at lw_m3 139 rfl) rfl
theorem q738 : (Jvm.Cond.constantLong "ObjectForge" (415 : Nat) (-131072 : Int64)) ∈ lw_all := lw_g (lw_at lw_m3 140 rfl) rfl
theorem q739 : (Jvm.Cond.constantLong "ObjectForge" (417 : Nat) (131072 : Int64)) ∈ lw_all := lw_g (lw_at lw_m3 141 rfl) rfl
theorem q740 : (Jvm.Cond.methodLink "ObjectForge" (419 : Nat) ({ cls := "ObjectForge$Unit", name := "word", desc := "(II)I" } : Jvm.MethodName)) ∈ lw_all := lw_g (lw_at lw_m3 142 rfl) rfl
theorem q745 : (Jvm.Cond.methodLink "ObjectForge" (422 : Nat) ({ cls := "ObjectForge$Unit", name := "setWord", desc := "(III)V" } : Jvm.MethodName)) ∈ lw_all := lw_g (lw_at lw_m3 147 rfl) rfl
theorem q749 : (Jvm.Cond.methodLink "ObjectForge" (426 : Nat) ({ cls := "ObjectForge$Unit", name := "drop", desc := "(I)V" } : Jvm.MethodName)) ∈ lw_all := lw_g (lw_at lw_m3 151 rfl) rfl
theorem q789 : (Jvm.Cond.instanceMethod ({ cls := "ObjectForge", name := "fault", desc := "(I)I" } : Jvm.MethodName)) ∈ lw_all := lw_g (lw_at lw_m3 191 rfl) rfl
theorem q790 : (Jvm.Cond.selects "ObjectForge" ({ cls := "ObjectForge", name := "fault", desc := "(I)I" } : Jvm.MethodName) ({ cls := "ObjectForge", name := "fault", desc := "(I)I" } : Jvm.MethodName)) ∈ lw_all := lw_g (lw_at lw_m3 192 rfl) rfl
theorem q791 : (Jvm.Cond.code ({ cls := "ObjectForge", name := "fault", desc := "(I)I" } : Jvm.MethodName) prog_1_method_62_code (2 : Nat) (Option.some Jvm.ClassFile.FieldType.int)) ∈ lw_all := lw_g (lw_at lw_m3 193 rfl) rfl
theorem q792 : (Jvm.Cond.methodLink "ObjectForge" (445 : Nat) ({ cls := "ObjectForge", name := "there", desc := "(Z)V" } : Jvm.MethodName)) ∈ lw_all := lw_g (lw_at lw_m3 194 rfl) rfl
theorem q793 : (Jvm.Cond.static ({ cls := "ObjectForge", name := "there", desc := "(Z)V" } : Jvm.MethodName)) ∈ lw_all := lw_g (lw_at lw_m3 195 rfl) rfl
theorem q794 : (Jvm.Cond.code ({ cls := "ObjectForge", name := "there", desc := "(Z)V" } : Jvm.MethodName) prog_1_method_2_code (1 : Nat) (Option.none : Option Jvm.ClassFile.FieldType)) ∈ lw_all := lw_g (lw_at lw_m3 196 rfl) rfl
theorem q795 : (Jvm.Cond.classLink "ObjectForge" (33 : Nat) "java/lang/IndexOutOfBoundsException") ∈ lw_all := lw_g (lw_at lw_m3 197 rfl) rfl
theorem q804 : (Jvm.Cond.methodLink "ObjectForge" (35 : Nat) ({ cls := "java/lang/IndexOutOfBoundsException", name := "<init>", desc := "()V" } : Jvm.MethodName)) ∈ lw_all := lw_g (lw_at lw_m3 206 rfl) rfl
theorem q814 : (Jvm.Cond.instanceMethod ({ cls := "ObjectForge", name := "size", desc := "(II)I" } : Jvm.MethodName)) ∈ lw_all := lw_g (lw_at lw_m3 216 rfl) rfl
theorem q815 : (Jvm.Cond.selects "ObjectForge" ({ cls := "ObjectForge", name := "size", desc := "(II)I" } : Jvm.MethodName) ({ cls := "ObjectForge", name := "size", desc := "(II)I" } : Jvm.MethodName)) ∈ lw_all := lw_g (lw_at lw_m3 217 rfl) rfl
theorem q816 : (Jvm.Cond.code ({ cls := "ObjectForge", name := "size", desc := "(II)I" } : Jvm.MethodName) prog_1_method_64_code (3 : Nat) (Option.some Jvm.ClassFile.FieldType.int)) ∈ lw_all := lw_g (lw_at lw_m3 218 rfl) rfl
theorem q817 : (Jvm.Cond.methodLink "ObjectForge" (451 : Nat) ({ cls := "ObjectForge", name := "unitOf", desc := "(I)LObjectForge$Unit;" } : Jvm.MethodName)) ∈ lw_all := lw_g (lw_at lw_m3 219 rfl) rfl
theorem q818 : (Jvm.Cond.privateMethod ({ cls := "ObjectForge", name := "unitOf", desc := "(I)LObjectForge$Unit;" } : Jvm.MethodName)) ∈ lw_tbl := lw_at lw_m3 220 rfl
theorem q819 : (Jvm.Cond.instanceMethod ({ cls := "ObjectForge", name := "unitOf", desc := "(I)LObjectForge$Unit;" } : Jvm.MethodName)) ∈ lw_all := lw_g (lw_at lw_m3 221 rfl) rfl
theorem q820 : (Jvm.Cond.code ({ cls := "ObjectForge", name := "unitOf", desc := "(I)LObjectForge$Unit;" } : Jvm.MethodName) prog_1_method_63_code (2 : Nat) (Option.some (Jvm.ClassFile.FieldType.object "ObjectForge$Unit"))) ∈ lw_all := lw_g (lw_at lw_m3 222 rfl) rfl
theorem q825 : (Jvm.Cond.instanceMethod ({ cls := "ObjectForge", name := "byteAt", desc := "(III)I" } : Jvm.MethodName)) ∈ lw_all := lw_g (lw_at lw_m3 227 rfl) rfl
theorem q826 : (Jvm.Cond.selects "ObjectForge" ({ cls := "ObjectForge", name := "byteAt", desc := "(III)I" } : Jvm.MethodName) ({ cls := "ObjectForge", name := "byteAt", desc := "(III)I" } : Jvm.MethodName)) ∈ lw_all := lw_g (lw_at lw_m3 228 rfl) rfl
theorem q827 : (Jvm.Cond.code ({ cls := "ObjectForge", name := "byteAt", desc := "(III)I" } : Jvm.MethodName) prog_1_method_65_code (5 : Nat) (Option.some Jvm.ClassFile.FieldType.int)) ∈ lw_all := lw_g (lw_at lw_m3 229 rfl) rfl
theorem q832 : (Jvm.Cond.instanceMethod ({ cls := "ObjectForge", name := "symbol", desc := "(III)I" } : Jvm.MethodName)) ∈ lw_all := lw_g (lw_at lw_m3 234 rfl) rfl
theorem q833 : (Jvm.Cond.selects "ObjectForge" ({ cls := "ObjectForge", name := "symbol", desc := "(III)I" } : Jvm.MethodName) ({ cls := "ObjectForge", name := "symbol", desc := "(III)I" } : Jvm.MethodName)) ∈ lw_all := lw_g (lw_at lw_m3 235 rfl) rfl
theorem q834 : (Jvm.Cond.code ({ cls := "ObjectForge", name := "symbol", desc := "(III)I" } : Jvm.MethodName) prog_1_method_66_code (5 : Nat) (Option.some Jvm.ClassFile.FieldType.int)) ∈ lw_all := lw_g (lw_at lw_m3 236 rfl) rfl
theorem q839 : (Jvm.Cond.instanceMethod ({ cls := "ObjectForge", name := "letter", desc := "(III)I" } : Jvm.MethodName)) ∈ lw_all := lw_g (lw_at lw_m4 1 rfl) rfl
theorem q840 : (Jvm.Cond.selects "ObjectForge" ({ cls := "ObjectForge", name := "letter", desc := "(III)I" } : Jvm.MethodName) ({ cls := "ObjectForge", name := "letter", desc := "(III)I" } : Jvm.MethodName)) ∈ lw_all := lw_g (lw_at lw_m4 2 rfl) rfl
theorem q841 : (Jvm.Cond.code ({ cls := "ObjectForge", name := "letter", desc := "(III)I" } : Jvm.MethodName) prog_1_method_67_code (5 : Nat) (Option.some Jvm.ClassFile.FieldType.int)) ∈ lw_all := lw_g (lw_at lw_m4 3 rfl) rfl
theorem q846 : (Jvm.Cond.instanceMethod ({ cls := "ObjectForge", name := "relocation", desc := "(III)I" } : Jvm.MethodName)) ∈ lw_all := lw_g (lw_at lw_m4 8 rfl) rfl
theorem q847 : (Jvm.Cond.selects "ObjectForge" ({ cls := "ObjectForge", name := "relocation", desc := "(III)I" } : Jvm.MethodName) ({ cls := "ObjectForge", name := "relocation", desc := "(III)I" } : Jvm.MethodName)) ∈ lw_all := lw_g (lw_at lw_m4 9 rfl) rfl
theorem q848 : (Jvm.Cond.code ({ cls := "ObjectForge", name := "relocation", desc := "(III)I" } : Jvm.MethodName) prog_1_method_68_code (5 : Nat) (Option.some Jvm.ClassFile.FieldType.int)) ∈ lw_all := lw_g (lw_at lw_m4 10 rfl) rfl
theorem q853 : (Jvm.Cond.instanceMethod ({ cls := "ObjectForge", name := "link", desc := "(I)I" } : Jvm.MethodName)) ∈ lw_all := lw_g (lw_at lw_m4 15 rfl) rfl
theorem q854 : (Jvm.Cond.selects "ObjectForge" ({ cls := "ObjectForge", name := "link", desc := "(I)I" } : Jvm.MethodName) ({ cls := "ObjectForge", name := "link", desc := "(I)I" } : Jvm.MethodName)) ∈ lw_all := lw_g (lw_at lw_m4 16 rfl) rfl
theorem q855 : (Jvm.Cond.code ({ cls := "ObjectForge", name := "link", desc := "(I)I" } : Jvm.MethodName) prog_1_method_76_code (6 : Nat) (Option.some Jvm.ClassFile.FieldType.int)) ∈ lw_all := lw_g (lw_at lw_m4 17 rfl) rfl
theorem q856 : (Jvm.Cond.methodLink "ObjectForge" (469 : Nat) ({ cls := "ObjectForge", name := "failed", desc := "(III)Z" } : Jvm.MethodName)) ∈ lw_all := lw_g (lw_at lw_m4 18 rfl) rfl
theorem q857 : (Jvm.Cond.privateMethod ({ cls := "ObjectForge", name := "failed", desc := "(III)Z" } : Jvm.MethodName)) ∈ lw_tbl := lw_at lw_m4 19 rfl
theorem q858 : (Jvm.Cond.instanceMethod ({ cls := "ObjectForge", name := "failed", desc := "(III)Z" } : Jvm.MethodName)) ∈ lw_all := lw_g (lw_at lw_m4 20 rfl) rfl
theorem q859 : (Jvm.Cond.code ({ cls := "ObjectForge", name := "failed", desc := "(III)Z" } : Jvm.MethodName) prog_1_method_69_code (4 : Nat) (Option.some Jvm.ClassFile.FieldType.boolean)) ∈ lw_all := lw_g (lw_at lw_m4 21 rfl) rfl
theorem q860 : (Jvm.Cond.methodLink "ObjectForge" (489 : Nat) ({ cls := "ObjectForge", name := "layOut", desc := "()I" } : Jvm.MethodName)) ∈ lw_all := lw_g (lw_at lw_m4 22 rfl) rfl
theorem q861 : (Jvm.Cond.privateMethod ({ cls := "ObjectForge", name := "layOut", desc := "()I" } : Jvm.MethodName)) ∈ lw_tbl := lw_at lw_m4 23 rfl
theorem q862 : (Jvm.Cond.instanceMethod ({ cls := "ObjectForge", name := "layOut", desc := "()I" } : Jvm.MethodName)) ∈ lw_all := lw_g (lw_at lw_m4 24 rfl) rfl
theorem q863 : (Jvm.Cond.code ({ cls := "ObjectForge", name := "layOut", desc := "()I" } : Jvm.MethodName) prog_1_method_70_code (4 : Nat) (Option.some Jvm.ClassFile.FieldType.int)) ∈ lw_all := lw_g (lw_at lw_m4 25 rfl) rfl
theorem q864 : (Jvm.Cond.methodLink "ObjectForge" (492 : Nat) ({ cls := "ObjectForge", name := "resolves", desc := "()Z" } : Jvm.MethodName)) ∈ lw_all := lw_g (lw_at lw_m4 26 rfl) rfl
theorem q865 : (Jvm.Cond.privateMethod ({ cls := "ObjectForge", name := "resolves", desc := "()Z" } : Jvm.MethodName)) ∈ lw_tbl := lw_at lw_m4 27 rfl
theorem q866 : (Jvm.Cond.instanceMethod ({ cls := "ObjectForge", name := "resolves", desc := "()Z" } : Jvm.MethodName)) ∈ lw_all := lw_g (lw_at lw_m4 28 rfl) rfl
theorem q867 : (Jvm.Cond.code ({ cls := "ObjectForge", name := "resolves", desc := "()Z" } : Jvm.MethodName) prog_1_method_72_code (7 : Nat) (Option.some Jvm.ClassFile.FieldType.boolean)) ∈ lw_all := lw_g (lw_at lw_m4 29 rfl) rfl
theorem q868 : (Jvm.Cond.methodLink "ObjectForge" (465 : Nat) ({ cls := "ObjectForge", name := "owner", desc := "(LObjectForge$Unit;II)I" } : Jvm.MethodName)) ∈ lw_all := lw_g (lw_at lw_m4 30 rfl) rfl
theorem q869 : (Jvm.Cond.privateMethod ({ cls := "ObjectForge", name := "owner", desc := "(LObjectForge$Unit;II)I" } : Jvm.MethodName)) ∈ lw_tbl := lw_at lw_m4 31 rfl
theorem q870 : (Jvm.Cond.instanceMethod ({ cls := "ObjectForge", name := "owner", desc := "(LObjectForge$Unit;II)I" } : Jvm.MethodName)) ∈ lw_all := lw_g (lw_at lw_m4 32 rfl) rfl
theorem q871 : (Jvm.Cond.code ({ cls := "ObjectForge", name := "owner", desc := "(LObjectForge$Unit;II)I" } : Jvm.MethodName) prog_1_method_71_code (7 : Nat) (Option.some Jvm.ClassFile.FieldType.int)) ∈ lw_all := lw_g (lw_at lw_m4 33 rfl) rfl
theorem q872 : (Jvm.Cond.methodLink "ObjectForge" (458 : Nat) ({ cls := "ObjectForge$Unit", name := "same", desc := "(ILObjectForge$Unit;I)Z" } : Jvm.MethodName)) ∈ lw_all := lw_g (lw_at lw_m4 34 rfl) rfl
theorem q876 : (Jvm.Cond.methodLink "ObjectForge" (495 : Nat) ({ cls := "ObjectForge", name := "fills", desc := "()Z" } : Jvm.MethodName)) ∈ lw_all := lw_g (lw_at lw_m4 38 rfl) rfl
theorem q877 : (Jvm.Cond.privateMethod ({ cls := "ObjectForge", name := "fills", desc := "()Z" } : Jvm.MethodName)) ∈ lw_tbl := lw_at lw_m4 39 rfl
theorem q878 : (Jvm.Cond.instanceMethod ({ cls := "ObjectForge", name := "fills", desc := "()Z" } : Jvm.MethodName)) ∈ lw_all := lw_g (lw_at lw_m4 40 rfl) rfl
theorem q879 : (Jvm.Cond.code ({ cls := "ObjectForge", name := "fills", desc := "()Z" } : Jvm.MethodName) prog_1_method_75_code (9 : Nat) (Option.some Jvm.ClassFile.FieldType.boolean)) ∈ lw_all := lw_g (lw_at lw_m4 41 rfl) rfl
theorem q880 : (Jvm.Cond.methodLink "ObjectForge" (479 : Nat) ({ cls := "ObjectForge", name := "imageWord", desc := "(I)I" } : Jvm.MethodName)) ∈ lw_all := lw_g (lw_at lw_m4 42 rfl) rfl
theorem q881 : (Jvm.Cond.privateMethod ({ cls := "ObjectForge", name := "imageWord", desc := "(I)I" } : Jvm.MethodName)) ∈ lw_tbl := lw_at lw_m4 43 rfl
theorem q882 : (Jvm.Cond.instanceMethod ({ cls := "ObjectForge", name := "imageWord", desc := "(I)I" } : Jvm.MethodName)) ∈ lw_all := lw_g (lw_at lw_m4 44 rfl) rfl
theorem q883 : (Jvm.Cond.code ({ cls := "ObjectForge", name := "imageWord", desc := "(I)I" } : Jvm.MethodName) prog_1_method_73_code (2 : Nat) (Option.some Jvm.ClassFile.FieldType.int)) ∈ lw_all := lw_g (lw_at lw_m4 45 rfl) rfl
theorem q884 : (Jvm.Cond.constant "ObjectForge" (482 : Nat) (-268435453 : Int32)) ∈ lw_all := lw_g (lw_at lw_m4 46 rfl) rfl
theorem q885 : (Jvm.Cond.constant "ObjectForge" (483 : Nat) (67108863 : Int32)) ∈ lw_all := lw_g (lw_at lw_m4 47 rfl) rfl
theorem q886 : (Jvm.Cond.constant "ObjectForge" (484 : Nat) (-131072 : Int32)) ∈ lw_all := lw_g (lw_at lw_m4 48 rfl) rfl
theorem q887 : (Jvm.Cond.constant "ObjectForge" (485 : Nat) (131072 : Int32)) ∈ lw_all := lw_g (lw_at lw_m4 49 rfl) rfl
theorem q888 : (Jvm.Cond.methodLink "ObjectForge" (486 : Nat) ({ cls := "ObjectForge", name := "setImage", desc := "(II)V" } : Jvm.MethodName)) ∈ lw_all := lw_g (lw_at lw_m4 50 rfl) rfl
theorem q889 : (Jvm.Cond.privateMethod ({ cls := "ObjectForge", name := "setImage", desc := "(II)V" } : Jvm.MethodName)) ∈ lw_tbl := lw_at lw_m4 51 rfl
theorem q890 : (Jvm.Cond.instanceMethod ({ cls := "ObjectForge", name := "setImage", desc := "(II)V" } : Jvm.MethodName)) ∈ lw_all := lw_g (lw_at lw_m4 52 rfl) rfl
theorem q891 : (Jvm.Cond.code ({ cls := "ObjectForge", name := "setImage", desc := "(II)V" } : Jvm.MethodName) prog_1_method_74_code (4 : Nat) (Option.none : Option Jvm.ClassFile.FieldType)) ∈ lw_all := lw_g (lw_at lw_m4 53 rfl) rfl
theorem q896 : (Jvm.Cond.instanceMethod ({ cls := "ObjectForge", name := "word", desc := "(I)I" } : Jvm.MethodName)) ∈ lw_all := lw_g (lw_at lw_m4 58 rfl) rfl
theorem q897 : (Jvm.Cond.selects "ObjectForge" ({ cls := "ObjectForge", name := "word", desc := "(I)I" } : Jvm.MethodName) ({ cls := "ObjectForge", name := "word", desc := "(I)I" } : Jvm.MethodName)) ∈ lw_all := lw_g (lw_at lw_m4 59 rfl) rfl
theorem q898 : (Jvm.Cond.code ({ cls := "ObjectForge", name := "word", desc := "(I)I" } : Jvm.MethodName) prog_1_method_77_code (3 : Nat) (Option.some Jvm.ClassFile.FieldType.int)) ∈ lw_all := lw_g (lw_at lw_m4 60 rfl) rfl
theorem q903 : (Jvm.Cond.instanceMethod ({ cls := "ObjectForge", name := "address", desc := "(II)I" } : Jvm.MethodName)) ∈ lw_all := lw_g (lw_at lw_m4 65 rfl) rfl
theorem q904 : (Jvm.Cond.selects "ObjectForge" ({ cls := "ObjectForge", name := "address", desc := "(II)I" } : Jvm.MethodName) ({ cls := "ObjectForge", name := "address", desc := "(II)I" } : Jvm.MethodName)) ∈ lw_all := lw_g (lw_at lw_m4 66 rfl) rfl
theorem q905 : (Jvm.Cond.code ({ cls := "ObjectForge", name := "address", desc := "(II)I" } : Jvm.MethodName) prog_1_method_78_code (4 : Nat) (Option.some Jvm.ClassFile.FieldType.int)) ∈ lw_all := lw_g (lw_at lw_m4 67 rfl) rfl
theorem q910 : (Jvm.Cond.instanceMethod ({ cls := "ObjectForge", name := "count", desc := "(II)I" } : Jvm.MethodName)) ∈ lw_all := lw_g (lw_at lw_m4 72 rfl) rfl
theorem q911 : (Jvm.Cond.selects "ObjectForge" ({ cls := "ObjectForge", name := "count", desc := "(II)I" } : Jvm.MethodName) ({ cls := "ObjectForge", name := "count", desc := "(II)I" } : Jvm.MethodName)) ∈ lw_all := lw_g (lw_at lw_m4 73 rfl) rfl
theorem q912 : (Jvm.Cond.code ({ cls := "ObjectForge", name := "count", desc := "(II)I" } : Jvm.MethodName) prog_1_method_80_code (4 : Nat) (Option.some Jvm.ClassFile.FieldType.int)) ∈ lw_all := lw_g (lw_at lw_m4 74 rfl) rfl
theorem in_X1 : ∀ w ∈ wsX10, w ∈ lw_all := lw_in wsX10 [169, 171, 173, 175, 177, 179, 181, 183, 185, 187, 189, 191, 193, 195, 197, 199, 201, 203, 205, 207, 209, 211, 213, 215, 217] (by decide +kernel) (by decide +kernel)
