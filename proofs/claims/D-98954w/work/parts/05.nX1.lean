/-! BorrowedLives -/
set_option maxRecDepth 100000
def RX1 : String := "BorrowedLives"
def TX1 : u_T := fun k => match k with
  | 0 => ("BorrowedLives", "tape", "[B", true)
  | 1 => ("BorrowedLives", "reader", "LBorrowedLives$Reader;", true)
  | 2 => ("BorrowedLives", "town", "LBorrowedLives$Town;", false)
  | 3 => ("BorrowedLives", "lines", "Ljava/util/ArrayList;", false)
  | 4 => ("BorrowedLives", "state", "LBorrowedLives$State;", true)
  | 5 => ("BorrowedLives", "trial", "LBorrowedLives$State;", true)
  | 6 => ("BorrowedLives", "week", "LBorrowedLives$State;", true)
  | 7 => ("BorrowedLives", "facts", "[I", true)
  | 8 => ("BorrowedLives", "taped", "I", false)
  | 9 => ("BorrowedLives", "lot", "[I", true)
  | 10 => ("BorrowedLives", "undone", "[LBorrowedLives$State;", true)
  | 11 => ("BorrowedLives", "done", "I", false)
  | 12 => ("BorrowedLives", "g", "J", false)
  | 13 => ("BorrowedLives", "pairOf", "[I", true)
  | 14 => ("BorrowedLives", "bestPair", "[I", true)
  | 15 => ("BorrowedLives", "bestPairs", "I", false)
  | 16 => ("BorrowedLives", "taleLife", "[I", true)
  | 17 => ("BorrowedLives", "taleDay", "[I", true)
  | 18 => ("BorrowedLives", "talePurse", "[I", true)
  | 19 => ("BorrowedLives", "tales", "I", false)
  | 20 => ("BorrowedLives", "held", "[[I", true)
  | 21 => ("BorrowedLives", "like", "[I", true)
  | _ => ("BorrowedLives", "marks", "[LBorrowedLives$Mark;", true)
def tyX1 : Nat → FieldType := fun k => match k with
  | 0 => .array .byte
  | 1 => .object "BorrowedLives$Reader"
  | 2 => .object "BorrowedLives$Town"
  | 3 => .object "java/util/ArrayList"
  | 4 => .object "BorrowedLives$State"
  | 5 => .object "BorrowedLives$State"
  | 6 => .object "BorrowedLives$State"
  | 7 => .array .int
  | 8 => .int
  | 9 => .array .int
  | 10 => .array (.object "BorrowedLives$State")
  | 11 => .int
  | 12 => .long
  | 13 => .array .int
  | 14 => .array .int
  | 15 => .int
  | 16 => .array .int
  | 17 => .array .int
  | 18 => .array .int
  | 19 => .int
  | 20 => .array (.array .int)
  | 21 => .array .int
  | _ => .array (.object "BorrowedLives$Mark")
abbrev wsX10 : List Cond := u_ws RX1 TX1 23
set_option maxRecDepth 100000 in
theorem nmX1 : ∀ a, a < 23 → ∀ b, b < 23 → a ≠ b → (TX1 a).2.1 ≠ (TX1 b).2.1 := by decide +kernel
set_option maxRecDepth 100000 in
theorem tyX1_ok : ∀ k, k < 23 → parseFieldDescriptor (TX1 k).2.2.1 = some (tyX1 k) := by decide +kernel
abbrev cX1_init : ByteArray := prog_1_method_7_code
def yX1_init : MethodName := ⟨RX1, "<init>", "()V"⟩
def dkwX1_init_7 : List UInt8 := [181, 0, 92, 42, 7, 189, 0, 95, 181, 0, 97, 42, 180, 0, 51, 42, 180, 0, 35, 182, 0, 101, 177]
abbrev dktX1_init_7 : List UInt8 := dkwX1_init_7 ++ []
def dkwX1_init_6 : List UInt8 := [188, 10, 181, 0, 84, 42, 16, 8, 16, 6, 197, 0, 87, 2, 181, 0, 89, 42, 17, 39, 16, 188, 10]
abbrev dktX1_init_6 : List UInt8 := dkwX1_init_6 ++ dktX1_init_7
def dkwX1_init_5 : List UInt8 := [188, 10, 181, 0, 75, 42, 16, 8, 188, 10, 181, 0, 78, 42, 16, 8, 188, 10, 181, 0, 81, 42, 16, 8]
abbrev dktX1_init_5 : List UInt8 := dkwX1_init_5 ++ dktX1_init_6
def dkwX1_init_4 : List UInt8 := [181, 0, 65, 42, 16, 16, 189, 0, 48, 181, 0, 68, 42, 16, 6, 188, 10, 181, 0, 72, 42, 16, 6]
abbrev dktX1_init_4 : List UInt8 := dkwX1_init_4 ++ dktX1_init_5
def dkwX1_init_3 : List UInt8 := [187, 0, 48, 89, 183, 0, 50, 181, 0, 58, 42, 8, 188, 10, 181, 0, 61, 42, 16, 6, 188, 10]
abbrev dktX1_init_3 : List UInt8 := dkwX1_init_3 ++ dktX1_init_4
def dkwX1_init_2 : List UInt8 := [187, 0, 48, 89, 183, 0, 50, 181, 0, 51, 42, 187, 0, 48, 89, 183, 0, 50, 181, 0, 55, 42]
abbrev dktX1_init_2 : List UInt8 := dkwX1_init_2 ++ dktX1_init_3
def dkwX1_init_1 : List UInt8 := [42, 187, 0, 32, 89, 183, 0, 34, 181, 0, 35, 42, 187, 0, 39, 89, 3, 183, 0, 41, 181, 0, 44, 42]
abbrev dktX1_init_1 : List UInt8 := dkwX1_init_1 ++ dktX1_init_2
def dkwX1_init_0 : List UInt8 := [42, 183, 0, 16, 42, 17, 3, 232, 188, 8, 181, 0, 21, 42, 187, 0, 25, 89, 183, 0, 27, 181, 0, 28]
abbrev dktX1_init_0 : List UInt8 := dkwX1_init_0 ++ dktX1_init_1
theorem dksX1_init_0 : cX1_init.data.toList.drop 0 = dktX1_init_0 := by decide +kernel
theorem dksX1_init_1 : cX1_init.data.toList.drop 24 = dktX1_init_1 := dk_seg dksX1_init_0 24 rfl rfl
theorem dksX1_init_2 : cX1_init.data.toList.drop 48 = dktX1_init_2 := dk_seg dksX1_init_1 24 rfl rfl
theorem dksX1_init_3 : cX1_init.data.toList.drop 70 = dktX1_init_3 := dk_seg dksX1_init_2 22 rfl rfl
theorem dksX1_init_4 : cX1_init.data.toList.drop 92 = dktX1_init_4 := dk_seg dksX1_init_3 22 rfl rfl
theorem dksX1_init_5 : cX1_init.data.toList.drop 115 = dktX1_init_5 := dk_seg dksX1_init_4 23 rfl rfl
theorem dksX1_init_6 : cX1_init.data.toList.drop 139 = dktX1_init_6 := dk_seg dksX1_init_5 24 rfl rfl
theorem dksX1_init_7 : cX1_init.data.toList.drop 162 = dktX1_init_7 := dk_seg dksX1_init_6 23 rfl rfl
theorem dX1_init_0 : decode cX1_init 0 = .ok (.aload_n 0, 1) := dk_42 (dk_at dksX1_init_0 0 rfl rfl)
theorem dX1_init_1 : decode cX1_init 1 = .ok (.invokespecial 16, 3) := dk_183 0 16 (dk_at dksX1_init_0 1 rfl rfl)
theorem dX1_init_4 : decode cX1_init 4 = .ok (.aload_n 0, 1) := dk_42 (dk_at dksX1_init_0 4 rfl rfl)
theorem dX1_init_5 : decode cX1_init 5 = .ok (.sipush 1000, 3) := dk_17 3 232 (dk_at dksX1_init_0 5 rfl rfl)
theorem dX1_init_8 : decode cX1_init 8 = .ok (.newarray .byte, 2) := dk_188_8 (dk_at dksX1_init_0 8 rfl rfl)
theorem dX1_init_10 : decode cX1_init 10 = .ok (.putfield 21, 3) := dk_181 0 21 (dk_at dksX1_init_0 10 rfl rfl)
theorem dX1_init_13 : decode cX1_init 13 = .ok (.aload_n 0, 1) := dk_42 (dk_at dksX1_init_0 13 rfl rfl)
theorem dX1_init_14 : decode cX1_init 14 = .ok (.new 25, 3) := dk_187 0 25 (dk_at dksX1_init_0 14 rfl rfl)
theorem dX1_init_17 : decode cX1_init 17 = .ok (.dup, 1) := dk_89 (dk_at dksX1_init_0 17 rfl rfl)
theorem dX1_init_18 : decode cX1_init 18 = .ok (.invokespecial 27, 3) := dk_183 0 27 (dk_at dksX1_init_0 18 rfl rfl)
theorem dX1_init_21 : decode cX1_init 21 = .ok (.putfield 28, 3) := dk_181 0 28 (dk_at dksX1_init_0 21 rfl rfl)
theorem dX1_init_24 : decode cX1_init 24 = .ok (.aload_n 0, 1) := dk_42 (dk_at dksX1_init_1 0 rfl rfl)
theorem dX1_init_25 : decode cX1_init 25 = .ok (.new 32, 3) := dk_187 0 32 (dk_at dksX1_init_1 1 rfl rfl)
theorem dX1_init_28 : decode cX1_init 28 = .ok (.dup, 1) := dk_89 (dk_at dksX1_init_1 4 rfl rfl)
theorem dX1_init_29 : decode cX1_init 29 = .ok (.invokespecial 34, 3) := dk_183 0 34 (dk_at dksX1_init_1 5 rfl rfl)
theorem dX1_init_32 : decode cX1_init 32 = .ok (.putfield 35, 3) := dk_181 0 35 (dk_at dksX1_init_1 8 rfl rfl)
theorem dX1_init_35 : decode cX1_init 35 = .ok (.aload_n 0, 1) := dk_42 (dk_at dksX1_init_1 11 rfl rfl)
theorem dX1_init_36 : decode cX1_init 36 = .ok (.new 39, 3) := dk_187 0 39 (dk_at dksX1_init_1 12 rfl rfl)
theorem dX1_init_39 : decode cX1_init 39 = .ok (.dup, 1) := dk_89 (dk_at dksX1_init_1 15 rfl rfl)
theorem dX1_init_40 : decode cX1_init 40 = .ok (.iconst 0, 1) := dk_3 (dk_at dksX1_init_1 16 rfl rfl)
theorem dX1_init_41 : decode cX1_init 41 = .ok (.invokespecial 41, 3) := dk_183 0 41 (dk_at dksX1_init_1 17 rfl rfl)
theorem dX1_init_44 : decode cX1_init 44 = .ok (.putfield 44, 3) := dk_181 0 44 (dk_at dksX1_init_1 20 rfl rfl)
theorem dX1_init_47 : decode cX1_init 47 = .ok (.aload_n 0, 1) := dk_42 (dk_at dksX1_init_1 23 rfl rfl)
theorem dX1_init_48 : decode cX1_init 48 = .ok (.new 48, 3) := dk_187 0 48 (dk_at dksX1_init_2 0 rfl rfl)
theorem dX1_init_51 : decode cX1_init 51 = .ok (.dup, 1) := dk_89 (dk_at dksX1_init_2 3 rfl rfl)
theorem dX1_init_52 : decode cX1_init 52 = .ok (.invokespecial 50, 3) := dk_183 0 50 (dk_at dksX1_init_2 4 rfl rfl)
theorem dX1_init_55 : decode cX1_init 55 = .ok (.putfield 51, 3) := dk_181 0 51 (dk_at dksX1_init_2 7 rfl rfl)
theorem dX1_init_58 : decode cX1_init 58 = .ok (.aload_n 0, 1) := dk_42 (dk_at dksX1_init_2 10 rfl rfl)
theorem dX1_init_59 : decode cX1_init 59 = .ok (.new 48, 3) := dk_187 0 48 (dk_at dksX1_init_2 11 rfl rfl)
theorem dX1_init_62 : decode cX1_init 62 = .ok (.dup, 1) := dk_89 (dk_at dksX1_init_2 14 rfl rfl)
theorem dX1_init_63 : decode cX1_init 63 = .ok (.invokespecial 50, 3) := dk_183 0 50 (dk_at dksX1_init_2 15 rfl rfl)
theorem dX1_init_66 : decode cX1_init 66 = .ok (.putfield 55, 3) := dk_181 0 55 (dk_at dksX1_init_2 18 rfl rfl)
theorem dX1_init_69 : decode cX1_init 69 = .ok (.aload_n 0, 1) := dk_42 (dk_at dksX1_init_2 21 rfl rfl)
theorem dX1_init_70 : decode cX1_init 70 = .ok (.new 48, 3) := dk_187 0 48 (dk_at dksX1_init_3 0 rfl rfl)
theorem dX1_init_73 : decode cX1_init 73 = .ok (.dup, 1) := dk_89 (dk_at dksX1_init_3 3 rfl rfl)
theorem dX1_init_74 : decode cX1_init 74 = .ok (.invokespecial 50, 3) := dk_183 0 50 (dk_at dksX1_init_3 4 rfl rfl)
theorem dX1_init_77 : decode cX1_init 77 = .ok (.putfield 58, 3) := dk_181 0 58 (dk_at dksX1_init_3 7 rfl rfl)
theorem dX1_init_80 : decode cX1_init 80 = .ok (.aload_n 0, 1) := dk_42 (dk_at dksX1_init_3 10 rfl rfl)
theorem dX1_init_81 : decode cX1_init 81 = .ok (.iconst 5, 1) := dk_8 (dk_at dksX1_init_3 11 rfl rfl)
theorem dX1_init_82 : decode cX1_init 82 = .ok (.newarray .int, 2) := dk_188_10 (dk_at dksX1_init_3 12 rfl rfl)
theorem dX1_init_84 : decode cX1_init 84 = .ok (.putfield 61, 3) := dk_181 0 61 (dk_at dksX1_init_3 14 rfl rfl)
theorem dX1_init_87 : decode cX1_init 87 = .ok (.aload_n 0, 1) := dk_42 (dk_at dksX1_init_3 17 rfl rfl)
theorem dX1_init_88 : decode cX1_init 88 = .ok (.bipush 6, 2) := dk_16 6 (dk_at dksX1_init_3 18 rfl rfl)
theorem dX1_init_90 : decode cX1_init 90 = .ok (.newarray .int, 2) := dk_188_10 (dk_at dksX1_init_3 20 rfl rfl)
theorem dX1_init_92 : decode cX1_init 92 = .ok (.putfield 65, 3) := dk_181 0 65 (dk_at dksX1_init_4 0 rfl rfl)
theorem dX1_init_95 : decode cX1_init 95 = .ok (.aload_n 0, 1) := dk_42 (dk_at dksX1_init_4 3 rfl rfl)
theorem dX1_init_96 : decode cX1_init 96 = .ok (.bipush 16, 2) := dk_16 16 (dk_at dksX1_init_4 4 rfl rfl)
theorem dX1_init_98 : decode cX1_init 98 = .ok (.anewarray 48, 3) := dk_189 0 48 (dk_at dksX1_init_4 6 rfl rfl)
theorem dX1_init_101 : decode cX1_init 101 = .ok (.putfield 68, 3) := dk_181 0 68 (dk_at dksX1_init_4 9 rfl rfl)
theorem dX1_init_104 : decode cX1_init 104 = .ok (.aload_n 0, 1) := dk_42 (dk_at dksX1_init_4 12 rfl rfl)
theorem dX1_init_105 : decode cX1_init 105 = .ok (.bipush 6, 2) := dk_16 6 (dk_at dksX1_init_4 13 rfl rfl)
theorem dX1_init_107 : decode cX1_init 107 = .ok (.newarray .int, 2) := dk_188_10 (dk_at dksX1_init_4 15 rfl rfl)
theorem dX1_init_109 : decode cX1_init 109 = .ok (.putfield 72, 3) := dk_181 0 72 (dk_at dksX1_init_4 17 rfl rfl)
theorem dX1_init_112 : decode cX1_init 112 = .ok (.aload_n 0, 1) := dk_42 (dk_at dksX1_init_4 20 rfl rfl)
theorem dX1_init_113 : decode cX1_init 113 = .ok (.bipush 6, 2) := dk_16 6 (dk_at dksX1_init_4 21 rfl rfl)
theorem dX1_init_115 : decode cX1_init 115 = .ok (.newarray .int, 2) := dk_188_10 (dk_at dksX1_init_5 0 rfl rfl)
theorem dX1_init_117 : decode cX1_init 117 = .ok (.putfield 75, 3) := dk_181 0 75 (dk_at dksX1_init_5 2 rfl rfl)
theorem dX1_init_120 : decode cX1_init 120 = .ok (.aload_n 0, 1) := dk_42 (dk_at dksX1_init_5 5 rfl rfl)
theorem dX1_init_121 : decode cX1_init 121 = .ok (.bipush 8, 2) := dk_16 8 (dk_at dksX1_init_5 6 rfl rfl)
theorem dX1_init_123 : decode cX1_init 123 = .ok (.newarray .int, 2) := dk_188_10 (dk_at dksX1_init_5 8 rfl rfl)
theorem dX1_init_125 : decode cX1_init 125 = .ok (.putfield 78, 3) := dk_181 0 78 (dk_at dksX1_init_5 10 rfl rfl)
theorem dX1_init_128 : decode cX1_init 128 = .ok (.aload_n 0, 1) := dk_42 (dk_at dksX1_init_5 13 rfl rfl)
theorem dX1_init_129 : decode cX1_init 129 = .ok (.bipush 8, 2) := dk_16 8 (dk_at dksX1_init_5 14 rfl rfl)
theorem dX1_init_131 : decode cX1_init 131 = .ok (.newarray .int, 2) := dk_188_10 (dk_at dksX1_init_5 16 rfl rfl)
theorem dX1_init_133 : decode cX1_init 133 = .ok (.putfield 81, 3) := dk_181 0 81 (dk_at dksX1_init_5 18 rfl rfl)
theorem dX1_init_136 : decode cX1_init 136 = .ok (.aload_n 0, 1) := dk_42 (dk_at dksX1_init_5 21 rfl rfl)
theorem dX1_init_137 : decode cX1_init 137 = .ok (.bipush 8, 2) := dk_16 8 (dk_at dksX1_init_5 22 rfl rfl)
theorem dX1_init_139 : decode cX1_init 139 = .ok (.newarray .int, 2) := dk_188_10 (dk_at dksX1_init_6 0 rfl rfl)
theorem dX1_init_141 : decode cX1_init 141 = .ok (.putfield 84, 3) := dk_181 0 84 (dk_at dksX1_init_6 2 rfl rfl)
theorem dX1_init_144 : decode cX1_init 144 = .ok (.aload_n 0, 1) := dk_42 (dk_at dksX1_init_6 5 rfl rfl)
theorem dX1_init_145 : decode cX1_init 145 = .ok (.bipush 8, 2) := dk_16 8 (dk_at dksX1_init_6 6 rfl rfl)
theorem dX1_init_147 : decode cX1_init 147 = .ok (.bipush 6, 2) := dk_16 6 (dk_at dksX1_init_6 8 rfl rfl)
theorem dX1_init_149 : decode cX1_init 149 = .ok (.multianewarray 87 2, 4) := by decide +kernel
theorem dX1_init_153 : decode cX1_init 153 = .ok (.putfield 89, 3) := dk_181 0 89 (dk_at dksX1_init_6 14 rfl rfl)
theorem dX1_init_156 : decode cX1_init 156 = .ok (.aload_n 0, 1) := dk_42 (dk_at dksX1_init_6 17 rfl rfl)
theorem dX1_init_157 : decode cX1_init 157 = .ok (.sipush 10000, 3) := dk_17 39 16 (dk_at dksX1_init_6 18 rfl rfl)
theorem dX1_init_160 : decode cX1_init 160 = .ok (.newarray .int, 2) := dk_188_10 (dk_at dksX1_init_6 21 rfl rfl)
theorem dX1_init_162 : decode cX1_init 162 = .ok (.putfield 92, 3) := dk_181 0 92 (dk_at dksX1_init_7 0 rfl rfl)
theorem dX1_init_165 : decode cX1_init 165 = .ok (.aload_n 0, 1) := dk_42 (dk_at dksX1_init_7 3 rfl rfl)
theorem dX1_init_166 : decode cX1_init 166 = .ok (.iconst 4, 1) := dk_7 (dk_at dksX1_init_7 4 rfl rfl)
theorem dX1_init_167 : decode cX1_init 167 = .ok (.anewarray 95, 3) := dk_189 0 95 (dk_at dksX1_init_7 5 rfl rfl)
theorem dX1_init_170 : decode cX1_init 170 = .ok (.putfield 97, 3) := dk_181 0 97 (dk_at dksX1_init_7 8 rfl rfl)
theorem dX1_init_173 : decode cX1_init 173 = .ok (.aload_n 0, 1) := dk_42 (dk_at dksX1_init_7 11 rfl rfl)
theorem dX1_init_174 : decode cX1_init 174 = .ok (.getfield 51, 3) := dk_180 0 51 (dk_at dksX1_init_7 12 rfl rfl)
theorem dX1_init_177 : decode cX1_init 177 = .ok (.aload_n 0, 1) := dk_42 (dk_at dksX1_init_7 15 rfl rfl)
theorem dX1_init_178 : decode cX1_init 178 = .ok (.getfield 35, 3) := dk_180 0 35 (dk_at dksX1_init_7 16 rfl rfl)
theorem dX1_init_181 : decode cX1_init 181 = .ok (.invokevirtual 101, 3) := dk_182 0 101 (dk_at dksX1_init_7 19 rfl rfl)
theorem dX1_init_184 : decode cX1_init 184 = .ok (.return_, 1) := dk_177 (dk_at dksX1_init_7 22 rfl rfl)
abbrev cX1_feed : ByteArray := prog_1_method_8_code
def yX1_feed : MethodName := ⟨RX1, "feed", "(JJJ)I"⟩
def dkwX1_feed_4 : List UInt8 := [96, 181, 0, 105, 21, 8, 145, 84, 132, 7, 1, 167, 255, 153, 42, 180, 0, 105, 172]
abbrev dktX1_feed_4 : List UInt8 := dkwX1_feed_4 ++ []
def dkwX1_feed_3 : List UInt8 := [163, 0, 32, 42, 180, 0, 105, 17, 3, 232, 162, 0, 22, 42, 180, 0, 21, 42, 89, 180, 0, 105, 90, 4]
abbrev dktX1_feed_3 : List UInt8 := dkwX1_feed_3 ++ dktX1_feed_4
def dkwX1_feed_2 : List UInt8 := [17, 0, 255, 126, 54, 8, 21, 8, 16, 10, 159, 0, 17, 21, 8, 16, 32, 161, 0, 39, 21, 8, 16, 126]
abbrev dktX1_feed_2 : List UInt8 := dkwX1_feed_2 ++ dktX1_feed_3
def dkwX1_feed_1 : List UInt8 := [16, 16, 162, 0, 7, 33, 167, 0, 5, 22, 5, 16, 56, 16, 8, 21, 7, 16, 8, 112, 104, 100, 123, 136]
abbrev dktX1_feed_1 : List UInt8 := dkwX1_feed_1 ++ dktX1_feed_2
def dkwX1_feed_0 : List UInt8 := [3, 54, 7, 21, 7, 16, 24, 162, 0, 102, 21, 7, 16, 8, 162, 0, 7, 31, 167, 0, 16, 21, 7]
abbrev dktX1_feed_0 : List UInt8 := dkwX1_feed_0 ++ dktX1_feed_1
theorem dksX1_feed_0 : cX1_feed.data.toList.drop 0 = dktX1_feed_0 := by decide +kernel
theorem dksX1_feed_1 : cX1_feed.data.toList.drop 23 = dktX1_feed_1 := dk_seg dksX1_feed_0 23 rfl rfl
theorem dksX1_feed_2 : cX1_feed.data.toList.drop 47 = dktX1_feed_2 := dk_seg dksX1_feed_1 24 rfl rfl
theorem dksX1_feed_3 : cX1_feed.data.toList.drop 71 = dktX1_feed_3 := dk_seg dksX1_feed_2 24 rfl rfl
theorem dksX1_feed_4 : cX1_feed.data.toList.drop 95 = dktX1_feed_4 := dk_seg dksX1_feed_3 24 rfl rfl
theorem dX1_feed_0 : decode cX1_feed 0 = .ok (.iconst 0, 1) := dk_3 (dk_at dksX1_feed_0 0 rfl rfl)
theorem dX1_feed_1 : decode cX1_feed 1 = .ok (.istore 7, 2) := dk_54 7 (dk_at dksX1_feed_0 1 rfl rfl)
theorem dX1_feed_3 : decode cX1_feed 3 = .ok (.iload 7, 2) := dk_21 7 (dk_at dksX1_feed_0 3 rfl rfl)
theorem dX1_feed_5 : decode cX1_feed 5 = .ok (.bipush 24, 2) := dk_16 24 (dk_at dksX1_feed_0 5 rfl rfl)
theorem dX1_feed_7 : decode cX1_feed 7 = .ok (.if_icmp .ge 102, 3) := dk_162 0 102 (dk_at dksX1_feed_0 7 rfl rfl)
theorem dX1_feed_10 : decode cX1_feed 10 = .ok (.iload 7, 2) := dk_21 7 (dk_at dksX1_feed_0 10 rfl rfl)
theorem dX1_feed_12 : decode cX1_feed 12 = .ok (.bipush 8, 2) := dk_16 8 (dk_at dksX1_feed_0 12 rfl rfl)
theorem dX1_feed_14 : decode cX1_feed 14 = .ok (.if_icmp .ge 7, 3) := dk_162 0 7 (dk_at dksX1_feed_0 14 rfl rfl)
theorem dX1_feed_17 : decode cX1_feed 17 = .ok (.lload_n 1, 1) := dk_31 (dk_at dksX1_feed_0 17 rfl rfl)
theorem dX1_feed_18 : decode cX1_feed 18 = .ok (.goto 16, 3) := dk_167 0 16 (dk_at dksX1_feed_0 18 rfl rfl)
theorem dX1_feed_21 : decode cX1_feed 21 = .ok (.iload 7, 2) := dk_21 7 (dk_at dksX1_feed_0 21 rfl rfl)
theorem dX1_feed_23 : decode cX1_feed 23 = .ok (.bipush 16, 2) := dk_16 16 (dk_at dksX1_feed_1 0 rfl rfl)
theorem dX1_feed_25 : decode cX1_feed 25 = .ok (.if_icmp .ge 7, 3) := dk_162 0 7 (dk_at dksX1_feed_1 2 rfl rfl)
theorem dX1_feed_28 : decode cX1_feed 28 = .ok (.lload_n 3, 1) := dk_33 (dk_at dksX1_feed_1 5 rfl rfl)
theorem dX1_feed_29 : decode cX1_feed 29 = .ok (.goto 5, 3) := dk_167 0 5 (dk_at dksX1_feed_1 6 rfl rfl)
theorem dX1_feed_32 : decode cX1_feed 32 = .ok (.lload 5, 2) := dk_22 5 (dk_at dksX1_feed_1 9 rfl rfl)
theorem dX1_feed_34 : decode cX1_feed 34 = .ok (.bipush 56, 2) := dk_16 56 (dk_at dksX1_feed_1 11 rfl rfl)
theorem dX1_feed_36 : decode cX1_feed 36 = .ok (.bipush 8, 2) := dk_16 8 (dk_at dksX1_feed_1 13 rfl rfl)
theorem dX1_feed_38 : decode cX1_feed 38 = .ok (.iload 7, 2) := dk_21 7 (dk_at dksX1_feed_1 15 rfl rfl)
theorem dX1_feed_40 : decode cX1_feed 40 = .ok (.bipush 8, 2) := dk_16 8 (dk_at dksX1_feed_1 17 rfl rfl)
theorem dX1_feed_42 : decode cX1_feed 42 = .ok (.irem, 1) := dk_112 (dk_at dksX1_feed_1 19 rfl rfl)
theorem dX1_feed_43 : decode cX1_feed 43 = .ok (.imul, 1) := dk_104 (dk_at dksX1_feed_1 20 rfl rfl)
theorem dX1_feed_44 : decode cX1_feed 44 = .ok (.isub, 1) := dk_100 (dk_at dksX1_feed_1 21 rfl rfl)
theorem dX1_feed_45 : decode cX1_feed 45 = .ok (.lshr, 1) := dk_123 (dk_at dksX1_feed_1 22 rfl rfl)
theorem dX1_feed_46 : decode cX1_feed 46 = .ok (.l2i, 1) := dk_136 (dk_at dksX1_feed_1 23 rfl rfl)
theorem dX1_feed_47 : decode cX1_feed 47 = .ok (.sipush 255, 3) := dk_17 0 255 (dk_at dksX1_feed_2 0 rfl rfl)
theorem dX1_feed_50 : decode cX1_feed 50 = .ok (.iand, 1) := dk_126 (dk_at dksX1_feed_2 3 rfl rfl)
theorem dX1_feed_51 : decode cX1_feed 51 = .ok (.istore 8, 2) := dk_54 8 (dk_at dksX1_feed_2 4 rfl rfl)
theorem dX1_feed_53 : decode cX1_feed 53 = .ok (.iload 8, 2) := dk_21 8 (dk_at dksX1_feed_2 6 rfl rfl)
theorem dX1_feed_55 : decode cX1_feed 55 = .ok (.bipush 10, 2) := dk_16 10 (dk_at dksX1_feed_2 8 rfl rfl)
theorem dX1_feed_57 : decode cX1_feed 57 = .ok (.if_icmp .eq 17, 3) := dk_159 0 17 (dk_at dksX1_feed_2 10 rfl rfl)
theorem dX1_feed_60 : decode cX1_feed 60 = .ok (.iload 8, 2) := dk_21 8 (dk_at dksX1_feed_2 13 rfl rfl)
theorem dX1_feed_62 : decode cX1_feed 62 = .ok (.bipush 32, 2) := dk_16 32 (dk_at dksX1_feed_2 15 rfl rfl)
theorem dX1_feed_64 : decode cX1_feed 64 = .ok (.if_icmp .lt 39, 3) := dk_161 0 39 (dk_at dksX1_feed_2 17 rfl rfl)
theorem dX1_feed_67 : decode cX1_feed 67 = .ok (.iload 8, 2) := dk_21 8 (dk_at dksX1_feed_2 20 rfl rfl)
theorem dX1_feed_69 : decode cX1_feed 69 = .ok (.bipush 126, 2) := dk_16 126 (dk_at dksX1_feed_2 22 rfl rfl)
theorem dX1_feed_71 : decode cX1_feed 71 = .ok (.if_icmp .gt 32, 3) := dk_163 0 32 (dk_at dksX1_feed_3 0 rfl rfl)
theorem dX1_feed_74 : decode cX1_feed 74 = .ok (.aload_n 0, 1) := dk_42 (dk_at dksX1_feed_3 3 rfl rfl)
theorem dX1_feed_75 : decode cX1_feed 75 = .ok (.getfield 105, 3) := dk_180 0 105 (dk_at dksX1_feed_3 4 rfl rfl)
theorem dX1_feed_78 : decode cX1_feed 78 = .ok (.sipush 1000, 3) := dk_17 3 232 (dk_at dksX1_feed_3 7 rfl rfl)
theorem dX1_feed_81 : decode cX1_feed 81 = .ok (.if_icmp .ge 22, 3) := dk_162 0 22 (dk_at dksX1_feed_3 10 rfl rfl)
theorem dX1_feed_84 : decode cX1_feed 84 = .ok (.aload_n 0, 1) := dk_42 (dk_at dksX1_feed_3 13 rfl rfl)
theorem dX1_feed_85 : decode cX1_feed 85 = .ok (.getfield 21, 3) := dk_180 0 21 (dk_at dksX1_feed_3 14 rfl rfl)
theorem dX1_feed_88 : decode cX1_feed 88 = .ok (.aload_n 0, 1) := dk_42 (dk_at dksX1_feed_3 17 rfl rfl)
theorem dX1_feed_89 : decode cX1_feed 89 = .ok (.dup, 1) := dk_89 (dk_at dksX1_feed_3 18 rfl rfl)
theorem dX1_feed_90 : decode cX1_feed 90 = .ok (.getfield 105, 3) := dk_180 0 105 (dk_at dksX1_feed_3 19 rfl rfl)
theorem dX1_feed_93 : decode cX1_feed 93 = .ok (.dup_x1, 1) := dk_90 (dk_at dksX1_feed_3 22 rfl rfl)
theorem dX1_feed_94 : decode cX1_feed 94 = .ok (.iconst 1, 1) := dk_4 (dk_at dksX1_feed_3 23 rfl rfl)
theorem dX1_feed_95 : decode cX1_feed 95 = .ok (.iadd, 1) := dk_96 (dk_at dksX1_feed_4 0 rfl rfl)
theorem dX1_feed_96 : decode cX1_feed 96 = .ok (.putfield 105, 3) := dk_181 0 105 (dk_at dksX1_feed_4 1 rfl rfl)
theorem dX1_feed_99 : decode cX1_feed 99 = .ok (.iload 8, 2) := dk_21 8 (dk_at dksX1_feed_4 4 rfl rfl)
theorem dX1_feed_101 : decode cX1_feed 101 = .ok (.i2b, 1) := dk_145 (dk_at dksX1_feed_4 6 rfl rfl)
theorem dX1_feed_102 : decode cX1_feed 102 = .ok (.bastore, 1) := dk_84 (dk_at dksX1_feed_4 7 rfl rfl)
theorem dX1_feed_103 : decode cX1_feed 103 = .ok (.iinc 7 1, 3) := dk_132 7 1 (dk_at dksX1_feed_4 8 rfl rfl)
theorem dX1_feed_106 : decode cX1_feed 106 = .ok (.goto (-103), 3) := dk_167 255 153 (dk_at dksX1_feed_4 11 rfl rfl)
theorem dX1_feed_109 : decode cX1_feed 109 = .ok (.aload_n 0, 1) := dk_42 (dk_at dksX1_feed_4 14 rfl rfl)
theorem dX1_feed_110 : decode cX1_feed 110 = .ok (.getfield 105, 3) := dk_180 0 105 (dk_at dksX1_feed_4 15 rfl rfl)
theorem dX1_feed_113 : decode cX1_feed 113 = .ok (.ireturn, 1) := dk_172 (dk_at dksX1_feed_4 18 rfl rfl)
abbrev cX1_town : ByteArray := prog_1_method_10_code
def yX1_town : MethodName := ⟨RX1, "town", "()I"⟩
def dkwX1_town_3 : List UInt8 := [132, 1, 1, 167, 255, 241, 3, 172]
abbrev dktX1_town_3 : List UInt8 := dkwX1_town_3 ++ []
def dkwX1_town_2 : List UInt8 := [3, 181, 0, 123, 42, 3, 181, 0, 126, 3, 60, 27, 7, 162, 0, 16, 42, 180, 0, 97, 27, 1, 83]
abbrev dktX1_town_2 : List UInt8 := dkwX1_town_2 ++ dktX1_town_3
def dkwX1_town_1 : List UInt8 := [42, 180, 0, 51, 42, 180, 0, 35, 182, 0, 101, 42, 187, 0, 39, 89, 3, 183, 0, 41, 181, 0, 44, 42]
abbrev dktX1_town_1 : List UInt8 := dkwX1_town_1 ++ dktX1_town_2
def dkwX1_town_0 : List UInt8 := [42, 182, 0, 112, 42, 42, 180, 0, 28, 182, 0, 115, 181, 0, 35, 167, 0, 9, 76, 43, 180, 0, 120, 172]
abbrev dktX1_town_0 : List UInt8 := dkwX1_town_0 ++ dktX1_town_1
theorem dksX1_town_0 : cX1_town.data.toList.drop 0 = dktX1_town_0 := by decide +kernel
theorem dksX1_town_1 : cX1_town.data.toList.drop 24 = dktX1_town_1 := dk_seg dksX1_town_0 24 rfl rfl
theorem dksX1_town_2 : cX1_town.data.toList.drop 48 = dktX1_town_2 := dk_seg dksX1_town_1 24 rfl rfl
theorem dksX1_town_3 : cX1_town.data.toList.drop 71 = dktX1_town_3 := dk_seg dksX1_town_2 23 rfl rfl
theorem dX1_town_0 : decode cX1_town 0 = .ok (.aload_n 0, 1) := dk_42 (dk_at dksX1_town_0 0 rfl rfl)
theorem dX1_town_1 : decode cX1_town 1 = .ok (.invokevirtual 112, 3) := dk_182 0 112 (dk_at dksX1_town_0 1 rfl rfl)
theorem dX1_town_4 : decode cX1_town 4 = .ok (.aload_n 0, 1) := dk_42 (dk_at dksX1_town_0 4 rfl rfl)
theorem dX1_town_5 : decode cX1_town 5 = .ok (.aload_n 0, 1) := dk_42 (dk_at dksX1_town_0 5 rfl rfl)
theorem dX1_town_6 : decode cX1_town 6 = .ok (.getfield 28, 3) := dk_180 0 28 (dk_at dksX1_town_0 6 rfl rfl)
theorem dX1_town_9 : decode cX1_town 9 = .ok (.invokevirtual 115, 3) := dk_182 0 115 (dk_at dksX1_town_0 9 rfl rfl)
theorem dX1_town_12 : decode cX1_town 12 = .ok (.putfield 35, 3) := dk_181 0 35 (dk_at dksX1_town_0 12 rfl rfl)
theorem dX1_town_15 : decode cX1_town 15 = .ok (.goto 9, 3) := dk_167 0 9 (dk_at dksX1_town_0 15 rfl rfl)
theorem dX1_town_18 : decode cX1_town 18 = .ok (.astore_n 1, 1) := dk_76 (dk_at dksX1_town_0 18 rfl rfl)
theorem dX1_town_19 : decode cX1_town 19 = .ok (.aload_n 1, 1) := dk_43 (dk_at dksX1_town_0 19 rfl rfl)
theorem dX1_town_20 : decode cX1_town 20 = .ok (.getfield 120, 3) := dk_180 0 120 (dk_at dksX1_town_0 20 rfl rfl)
theorem dX1_town_23 : decode cX1_town 23 = .ok (.ireturn, 1) := dk_172 (dk_at dksX1_town_0 23 rfl rfl)
theorem dX1_town_24 : decode cX1_town 24 = .ok (.aload_n 0, 1) := dk_42 (dk_at dksX1_town_1 0 rfl rfl)
theorem dX1_town_25 : decode cX1_town 25 = .ok (.getfield 51, 3) := dk_180 0 51 (dk_at dksX1_town_1 1 rfl rfl)
theorem dX1_town_28 : decode cX1_town 28 = .ok (.aload_n 0, 1) := dk_42 (dk_at dksX1_town_1 4 rfl rfl)
theorem dX1_town_29 : decode cX1_town 29 = .ok (.getfield 35, 3) := dk_180 0 35 (dk_at dksX1_town_1 5 rfl rfl)
theorem dX1_town_32 : decode cX1_town 32 = .ok (.invokevirtual 101, 3) := dk_182 0 101 (dk_at dksX1_town_1 8 rfl rfl)
theorem dX1_town_35 : decode cX1_town 35 = .ok (.aload_n 0, 1) := dk_42 (dk_at dksX1_town_1 11 rfl rfl)
theorem dX1_town_36 : decode cX1_town 36 = .ok (.new 39, 3) := dk_187 0 39 (dk_at dksX1_town_1 12 rfl rfl)
theorem dX1_town_39 : decode cX1_town 39 = .ok (.dup, 1) := dk_89 (dk_at dksX1_town_1 15 rfl rfl)
theorem dX1_town_40 : decode cX1_town 40 = .ok (.iconst 0, 1) := dk_3 (dk_at dksX1_town_1 16 rfl rfl)
theorem dX1_town_41 : decode cX1_town 41 = .ok (.invokespecial 41, 3) := dk_183 0 41 (dk_at dksX1_town_1 17 rfl rfl)
theorem dX1_town_44 : decode cX1_town 44 = .ok (.putfield 44, 3) := dk_181 0 44 (dk_at dksX1_town_1 20 rfl rfl)
theorem dX1_town_47 : decode cX1_town 47 = .ok (.aload_n 0, 1) := dk_42 (dk_at dksX1_town_1 23 rfl rfl)
theorem dX1_town_48 : decode cX1_town 48 = .ok (.iconst 0, 1) := dk_3 (dk_at dksX1_town_2 0 rfl rfl)
theorem dX1_town_49 : decode cX1_town 49 = .ok (.putfield 123, 3) := dk_181 0 123 (dk_at dksX1_town_2 1 rfl rfl)
theorem dX1_town_52 : decode cX1_town 52 = .ok (.aload_n 0, 1) := dk_42 (dk_at dksX1_town_2 4 rfl rfl)
theorem dX1_town_53 : decode cX1_town 53 = .ok (.iconst 0, 1) := dk_3 (dk_at dksX1_town_2 5 rfl rfl)
theorem dX1_town_54 : decode cX1_town 54 = .ok (.putfield 126, 3) := dk_181 0 126 (dk_at dksX1_town_2 6 rfl rfl)
theorem dX1_town_57 : decode cX1_town 57 = .ok (.iconst 0, 1) := dk_3 (dk_at dksX1_town_2 9 rfl rfl)
theorem dX1_town_58 : decode cX1_town 58 = .ok (.istore_n 1, 1) := dk_60 (dk_at dksX1_town_2 10 rfl rfl)
theorem dX1_town_59 : decode cX1_town 59 = .ok (.iload_n 1, 1) := dk_27 (dk_at dksX1_town_2 11 rfl rfl)
theorem dX1_town_60 : decode cX1_town 60 = .ok (.iconst 4, 1) := dk_7 (dk_at dksX1_town_2 12 rfl rfl)
theorem dX1_town_61 : decode cX1_town 61 = .ok (.if_icmp .ge 16, 3) := dk_162 0 16 (dk_at dksX1_town_2 13 rfl rfl)
theorem dX1_town_64 : decode cX1_town 64 = .ok (.aload_n 0, 1) := dk_42 (dk_at dksX1_town_2 16 rfl rfl)
theorem dX1_town_65 : decode cX1_town 65 = .ok (.getfield 97, 3) := dk_180 0 97 (dk_at dksX1_town_2 17 rfl rfl)
theorem dX1_town_68 : decode cX1_town 68 = .ok (.iload_n 1, 1) := dk_27 (dk_at dksX1_town_2 20 rfl rfl)
theorem dX1_town_69 : decode cX1_town 69 = .ok (.aconst_null, 1) := dk_1 (dk_at dksX1_town_2 21 rfl rfl)
theorem dX1_town_70 : decode cX1_town 70 = .ok (.aastore, 1) := dk_83 (dk_at dksX1_town_2 22 rfl rfl)
theorem dX1_town_71 : decode cX1_town 71 = .ok (.iinc 1 1, 3) := dk_132 1 1 (dk_at dksX1_town_3 0 rfl rfl)
theorem dX1_town_74 : decode cX1_town 74 = .ok (.goto (-15), 3) := dk_167 255 241 (dk_at dksX1_town_3 3 rfl rfl)
theorem dX1_town_77 : decode cX1_town 77 = .ok (.iconst 0, 1) := dk_3 (dk_at dksX1_town_3 6 rfl rfl)
theorem dX1_town_78 : decode cX1_town 78 = .ok (.ireturn, 1) := dk_172 (dk_at dksX1_town_3 7 rfl rfl)
abbrev cX1_reads : ByteArray := prog_1_method_9_code
def yX1_reads : MethodName := ⟨RX1, "reads", "()V"⟩
def dkwX1_reads_0 : List UInt8 := [42, 180, 0, 28, 42, 180, 0, 21, 42, 180, 0, 105, 182, 0, 109, 42, 3, 181, 0, 105, 177]
abbrev dktX1_reads_0 : List UInt8 := dkwX1_reads_0 ++ []
theorem dksX1_reads_0 : cX1_reads.data.toList.drop 0 = dktX1_reads_0 := by decide +kernel
theorem dX1_reads_0 : decode cX1_reads 0 = .ok (.aload_n 0, 1) := dk_42 (dk_at dksX1_reads_0 0 rfl rfl)
theorem dX1_reads_1 : decode cX1_reads 1 = .ok (.getfield 28, 3) := dk_180 0 28 (dk_at dksX1_reads_0 1 rfl rfl)
theorem dX1_reads_4 : decode cX1_reads 4 = .ok (.aload_n 0, 1) := dk_42 (dk_at dksX1_reads_0 4 rfl rfl)
theorem dX1_reads_5 : decode cX1_reads 5 = .ok (.getfield 21, 3) := dk_180 0 21 (dk_at dksX1_reads_0 5 rfl rfl)
theorem dX1_reads_8 : decode cX1_reads 8 = .ok (.aload_n 0, 1) := dk_42 (dk_at dksX1_reads_0 8 rfl rfl)
theorem dX1_reads_9 : decode cX1_reads 9 = .ok (.getfield 105, 3) := dk_180 0 105 (dk_at dksX1_reads_0 9 rfl rfl)
theorem dX1_reads_12 : decode cX1_reads 12 = .ok (.invokevirtual 109, 3) := dk_182 0 109 (dk_at dksX1_reads_0 12 rfl rfl)
theorem dX1_reads_15 : decode cX1_reads 15 = .ok (.aload_n 0, 1) := dk_42 (dk_at dksX1_reads_0 15 rfl rfl)
theorem dX1_reads_16 : decode cX1_reads 16 = .ok (.iconst 0, 1) := dk_3 (dk_at dksX1_reads_0 16 rfl rfl)
theorem dX1_reads_17 : decode cX1_reads 17 = .ok (.putfield 105, 3) := dk_181 0 105 (dk_at dksX1_reads_0 17 rfl rfl)
theorem dX1_reads_20 : decode cX1_reads 20 = .ok (.return_, 1) := dk_177 (dk_at dksX1_reads_0 20 rfl rfl)
abbrev cX1_isIn : ByteArray := prog_1_method_3_code
def yX1_isIn : MethodName := ⟨RX1, "isIn", "(II)Z"⟩
def dkwX1_isIn_0 : List UInt8 := [26, 27, 122, 4, 126, 4, 160, 0, 7, 4, 167, 0, 4, 3, 172]
abbrev dktX1_isIn_0 : List UInt8 := dkwX1_isIn_0 ++ []
theorem dksX1_isIn_0 : cX1_isIn.data.toList.drop 0 = dktX1_isIn_0 := by decide +kernel
theorem dX1_isIn_0 : decode cX1_isIn 0 = .ok (.iload_n 0, 1) := dk_26 (dk_at dksX1_isIn_0 0 rfl rfl)
theorem dX1_isIn_1 : decode cX1_isIn 1 = .ok (.iload_n 1, 1) := dk_27 (dk_at dksX1_isIn_0 1 rfl rfl)
theorem dX1_isIn_2 : decode cX1_isIn 2 = .ok (.ishr, 1) := dk_122 (dk_at dksX1_isIn_0 2 rfl rfl)
theorem dX1_isIn_3 : decode cX1_isIn 3 = .ok (.iconst 1, 1) := dk_4 (dk_at dksX1_isIn_0 3 rfl rfl)
theorem dX1_isIn_4 : decode cX1_isIn 4 = .ok (.iand, 1) := dk_126 (dk_at dksX1_isIn_0 4 rfl rfl)
theorem dX1_isIn_5 : decode cX1_isIn 5 = .ok (.iconst 1, 1) := dk_4 (dk_at dksX1_isIn_0 5 rfl rfl)
theorem dX1_isIn_6 : decode cX1_isIn 6 = .ok (.if_icmp .ne 7, 3) := dk_160 0 7 (dk_at dksX1_isIn_0 6 rfl rfl)
theorem dX1_isIn_9 : decode cX1_isIn 9 = .ok (.iconst 1, 1) := dk_4 (dk_at dksX1_isIn_0 9 rfl rfl)
theorem dX1_isIn_10 : decode cX1_isIn 10 = .ok (.goto 4, 3) := dk_167 0 4 (dk_at dksX1_isIn_0 10 rfl rfl)
theorem dX1_isIn_13 : decode cX1_isIn 13 = .ok (.iconst 0, 1) := dk_3 (dk_at dksX1_isIn_0 13 rfl rfl)
theorem dX1_isIn_14 : decode cX1_isIn 14 = .ok (.ireturn, 1) := dk_172 (dk_at dksX1_isIn_0 14 rfl rfl)
abbrev cX1_year : ByteArray := prog_1_method_11_code
def yX1_year : MethodName := ⟨RX1, "year", "()I"⟩
def dkwX1_year_1 : List UInt8 := [180, 0, 120, 172, 3, 172]
abbrev dktX1_year_1 : List UInt8 := dkwX1_year_1 ++ []
def dkwX1_year_0 : List UInt8 := [42, 182, 0, 112, 42, 42, 180, 0, 28, 42, 180, 0, 35, 182, 0, 129, 181, 0, 44, 167, 0, 9, 76, 43]
abbrev dktX1_year_0 : List UInt8 := dkwX1_year_0 ++ dktX1_year_1
theorem dksX1_year_0 : cX1_year.data.toList.drop 0 = dktX1_year_0 := by decide +kernel
theorem dksX1_year_1 : cX1_year.data.toList.drop 24 = dktX1_year_1 := dk_seg dksX1_year_0 24 rfl rfl
theorem dX1_year_0 : decode cX1_year 0 = .ok (.aload_n 0, 1) := dk_42 (dk_at dksX1_year_0 0 rfl rfl)
theorem dX1_year_1 : decode cX1_year 1 = .ok (.invokevirtual 112, 3) := dk_182 0 112 (dk_at dksX1_year_0 1 rfl rfl)
theorem dX1_year_4 : decode cX1_year 4 = .ok (.aload_n 0, 1) := dk_42 (dk_at dksX1_year_0 4 rfl rfl)
theorem dX1_year_5 : decode cX1_year 5 = .ok (.aload_n 0, 1) := dk_42 (dk_at dksX1_year_0 5 rfl rfl)
theorem dX1_year_6 : decode cX1_year 6 = .ok (.getfield 28, 3) := dk_180 0 28 (dk_at dksX1_year_0 6 rfl rfl)
theorem dX1_year_9 : decode cX1_year 9 = .ok (.aload_n 0, 1) := dk_42 (dk_at dksX1_year_0 9 rfl rfl)
theorem dX1_year_10 : decode cX1_year 10 = .ok (.getfield 35, 3) := dk_180 0 35 (dk_at dksX1_year_0 10 rfl rfl)
theorem dX1_year_13 : decode cX1_year 13 = .ok (.invokevirtual 129, 3) := dk_182 0 129 (dk_at dksX1_year_0 13 rfl rfl)
theorem dX1_year_16 : decode cX1_year 16 = .ok (.putfield 44, 3) := dk_181 0 44 (dk_at dksX1_year_0 16 rfl rfl)
theorem dX1_year_19 : decode cX1_year 19 = .ok (.goto 9, 3) := dk_167 0 9 (dk_at dksX1_year_0 19 rfl rfl)
theorem dX1_year_22 : decode cX1_year 22 = .ok (.astore_n 1, 1) := dk_76 (dk_at dksX1_year_0 22 rfl rfl)
theorem dX1_year_23 : decode cX1_year 23 = .ok (.aload_n 1, 1) := dk_43 (dk_at dksX1_year_0 23 rfl rfl)
theorem dX1_year_24 : decode cX1_year 24 = .ok (.getfield 120, 3) := dk_180 0 120 (dk_at dksX1_year_1 0 rfl rfl)
theorem dX1_year_27 : decode cX1_year 27 = .ok (.ireturn, 1) := dk_172 (dk_at dksX1_year_1 3 rfl rfl)
theorem dX1_year_28 : decode cX1_year 28 = .ok (.iconst 0, 1) := dk_3 (dk_at dksX1_year_1 4 rfl rfl)
theorem dX1_year_29 : decode cX1_year 29 = .ok (.ireturn, 1) := dk_172 (dk_at dksX1_year_1 5 rfl rfl)
abbrev cX1_person : ByteArray := prog_1_method_16_code
def yX1_person : MethodName := ⟨RX1, "person", "(II)I"⟩
def dkwX1_person_3 : List UInt8 := [182, 0, 173, 172, 2, 172]
abbrev dktX1_person_3 : List UInt8 := dkwX1_person_3 ++ []
def dkwX1_person_2 : List UInt8 := [42, 27, 182, 0, 152, 182, 0, 167, 172, 42, 27, 182, 0, 152, 180, 0, 170, 172, 42, 180, 0, 51, 27]
abbrev dktX1_person_2 : List UInt8 := dkwX1_person_2 ++ dktX1_person_3
def dkwX1_person_1 : List UInt8 := [170, 0, 0, 0, 52, 0, 0, 0, 0, 0, 0, 0, 2, 0, 0, 0, 25, 0, 0, 0, 34, 0, 0, 0, 43]
abbrev dktX1_person_1 : List UInt8 := dkwX1_person_1 ++ dktX1_person_2
def dkwX1_person_0 : List UInt8 := [42, 27, 182, 0, 163, 154, 0, 5, 2, 172, 28]
abbrev dktX1_person_0 : List UInt8 := dkwX1_person_0 ++ dktX1_person_1
theorem dksX1_person_0 : cX1_person.data.toList.drop 0 = dktX1_person_0 := by decide +kernel
theorem dksX1_person_1 : cX1_person.data.toList.drop 11 = dktX1_person_1 := dk_seg dksX1_person_0 11 rfl rfl
theorem dksX1_person_2 : cX1_person.data.toList.drop 36 = dktX1_person_2 := dk_seg dksX1_person_1 25 rfl rfl
theorem dksX1_person_3 : cX1_person.data.toList.drop 59 = dktX1_person_3 := dk_seg dksX1_person_2 23 rfl rfl
theorem dX1_person_0 : decode cX1_person 0 = .ok (.aload_n 0, 1) := dk_42 (dk_at dksX1_person_0 0 rfl rfl)
theorem dX1_person_1 : decode cX1_person 1 = .ok (.iload_n 1, 1) := dk_27 (dk_at dksX1_person_0 1 rfl rfl)
theorem dX1_person_2 : decode cX1_person 2 = .ok (.invokevirtual 163, 3) := dk_182 0 163 (dk_at dksX1_person_0 2 rfl rfl)
theorem dX1_person_5 : decode cX1_person 5 = .ok (.ifCond .ne 5, 3) := dk_154 0 5 (dk_at dksX1_person_0 5 rfl rfl)
theorem dX1_person_8 : decode cX1_person 8 = .ok (.iconst (-1), 1) := dk_2 (dk_at dksX1_person_0 8 rfl rfl)
theorem dX1_person_9 : decode cX1_person 9 = .ok (.ireturn, 1) := dk_172 (dk_at dksX1_person_0 9 rfl rfl)
theorem dX1_person_10 : decode cX1_person 10 = .ok (.iload_n 2, 1) := dk_28 (dk_at dksX1_person_0 10 rfl rfl)
theorem dX1_person_11 : decode cX1_person 11 = .ok (.tableswitch 52 0 2 #[25, 34, 43], 25) := by decide +kernel
theorem dX1_person_36 : decode cX1_person 36 = .ok (.aload_n 0, 1) := dk_42 (dk_at dksX1_person_2 0 rfl rfl)
theorem dX1_person_37 : decode cX1_person 37 = .ok (.iload_n 1, 1) := dk_27 (dk_at dksX1_person_2 1 rfl rfl)
theorem dX1_person_38 : decode cX1_person 38 = .ok (.invokevirtual 152, 3) := dk_182 0 152 (dk_at dksX1_person_2 2 rfl rfl)
theorem dX1_person_41 : decode cX1_person 41 = .ok (.invokevirtual 167, 3) := dk_182 0 167 (dk_at dksX1_person_2 5 rfl rfl)
theorem dX1_person_44 : decode cX1_person 44 = .ok (.ireturn, 1) := dk_172 (dk_at dksX1_person_2 8 rfl rfl)
theorem dX1_person_45 : decode cX1_person 45 = .ok (.aload_n 0, 1) := dk_42 (dk_at dksX1_person_2 9 rfl rfl)
theorem dX1_person_46 : decode cX1_person 46 = .ok (.iload_n 1, 1) := dk_27 (dk_at dksX1_person_2 10 rfl rfl)
theorem dX1_person_47 : decode cX1_person 47 = .ok (.invokevirtual 152, 3) := dk_182 0 152 (dk_at dksX1_person_2 11 rfl rfl)
theorem dX1_person_50 : decode cX1_person 50 = .ok (.getfield 170, 3) := dk_180 0 170 (dk_at dksX1_person_2 14 rfl rfl)
theorem dX1_person_53 : decode cX1_person 53 = .ok (.ireturn, 1) := dk_172 (dk_at dksX1_person_2 17 rfl rfl)
theorem dX1_person_54 : decode cX1_person 54 = .ok (.aload_n 0, 1) := dk_42 (dk_at dksX1_person_2 18 rfl rfl)
theorem dX1_person_55 : decode cX1_person 55 = .ok (.getfield 51, 3) := dk_180 0 51 (dk_at dksX1_person_2 19 rfl rfl)
theorem dX1_person_58 : decode cX1_person 58 = .ok (.iload_n 1, 1) := dk_27 (dk_at dksX1_person_2 22 rfl rfl)
theorem dX1_person_59 : decode cX1_person 59 = .ok (.invokevirtual 173, 3) := dk_182 0 173 (dk_at dksX1_person_3 0 rfl rfl)
theorem dX1_person_62 : decode cX1_person 62 = .ok (.ireturn, 1) := dk_172 (dk_at dksX1_person_3 3 rfl rfl)
theorem dX1_person_63 : decode cX1_person 63 = .ok (.iconst (-1), 1) := dk_2 (dk_at dksX1_person_3 4 rfl rfl)
theorem dX1_person_64 : decode cX1_person 64 = .ok (.ireturn, 1) := dk_172 (dk_at dksX1_person_3 5 rfl rfl)
abbrev cX1_isPerson : ByteArray := prog_1_method_14_code
def yX1_isPerson : MethodName := ⟨RX1, "isPerson", "(I)Z"⟩
def dkwX1_isPerson_0 : List UInt8 := [27, 3, 42, 182, 0, 146, 4, 100, 184, 0, 148, 172]
abbrev dktX1_isPerson_0 : List UInt8 := dkwX1_isPerson_0 ++ []
theorem dksX1_isPerson_0 : cX1_isPerson.data.toList.drop 0 = dktX1_isPerson_0 := by decide +kernel
theorem dX1_isPerson_0 : decode cX1_isPerson 0 = .ok (.iload_n 1, 1) := dk_27 (dk_at dksX1_isPerson_0 0 rfl rfl)
theorem dX1_isPerson_1 : decode cX1_isPerson 1 = .ok (.iconst 0, 1) := dk_3 (dk_at dksX1_isPerson_0 1 rfl rfl)
theorem dX1_isPerson_2 : decode cX1_isPerson 2 = .ok (.aload_n 0, 1) := dk_42 (dk_at dksX1_isPerson_0 2 rfl rfl)
theorem dX1_isPerson_3 : decode cX1_isPerson 3 = .ok (.invokevirtual 146, 3) := dk_182 0 146 (dk_at dksX1_isPerson_0 3 rfl rfl)
theorem dX1_isPerson_6 : decode cX1_isPerson 6 = .ok (.iconst 1, 1) := dk_4 (dk_at dksX1_isPerson_0 6 rfl rfl)
theorem dX1_isPerson_7 : decode cX1_isPerson 7 = .ok (.isub, 1) := dk_100 (dk_at dksX1_isPerson_0 7 rfl rfl)
theorem dX1_isPerson_8 : decode cX1_isPerson 8 = .ok (.invokestatic 148, 3) := dk_184 0 148 (dk_at dksX1_isPerson_0 8 rfl rfl)
theorem dX1_isPerson_11 : decode cX1_isPerson 11 = .ok (.ireturn, 1) := dk_172 (dk_at dksX1_isPerson_0 11 rfl rfl)
abbrev cX1_people : ByteArray := prog_1_method_12_code
def yX1_people : MethodName := ⟨RX1, "people", "()I"⟩
def dkwX1_people_0 : List UInt8 := [42, 180, 0, 35, 180, 0, 133, 182, 0, 136, 172]
abbrev dktX1_people_0 : List UInt8 := dkwX1_people_0 ++ []
theorem dksX1_people_0 : cX1_people.data.toList.drop 0 = dktX1_people_0 := by decide +kernel
theorem dX1_people_0 : decode cX1_people 0 = .ok (.aload_n 0, 1) := dk_42 (dk_at dksX1_people_0 0 rfl rfl)
theorem dX1_people_1 : decode cX1_people 1 = .ok (.getfield 35, 3) := dk_180 0 35 (dk_at dksX1_people_0 1 rfl rfl)
theorem dX1_people_4 : decode cX1_people 4 = .ok (.getfield 133, 3) := dk_180 0 133 (dk_at dksX1_people_0 4 rfl rfl)
theorem dX1_people_7 : decode cX1_people 7 = .ok (.invokevirtual 136, 3) := dk_182 0 136 (dk_at dksX1_people_0 7 rfl rfl)
theorem dX1_people_10 : decode cX1_people 10 = .ok (.ireturn, 1) := dk_172 (dk_at dksX1_people_0 10 rfl rfl)
abbrev cX1_in : ByteArray := prog_1_method_1_code
def yX1_in : MethodName := ⟨RX1, "in", "(III)Z"⟩
def dkwX1_in_0 : List UInt8 := [26, 27, 161, 0, 12, 26, 28, 163, 0, 7, 4, 167, 0, 4, 3, 172]
abbrev dktX1_in_0 : List UInt8 := dkwX1_in_0 ++ []
theorem dksX1_in_0 : cX1_in.data.toList.drop 0 = dktX1_in_0 := by decide +kernel
theorem dX1_in_0 : decode cX1_in 0 = .ok (.iload_n 0, 1) := dk_26 (dk_at dksX1_in_0 0 rfl rfl)
theorem dX1_in_1 : decode cX1_in 1 = .ok (.iload_n 1, 1) := dk_27 (dk_at dksX1_in_0 1 rfl rfl)
theorem dX1_in_2 : decode cX1_in 2 = .ok (.if_icmp .lt 12, 3) := dk_161 0 12 (dk_at dksX1_in_0 2 rfl rfl)
theorem dX1_in_5 : decode cX1_in 5 = .ok (.iload_n 0, 1) := dk_26 (dk_at dksX1_in_0 5 rfl rfl)
theorem dX1_in_6 : decode cX1_in 6 = .ok (.iload_n 2, 1) := dk_28 (dk_at dksX1_in_0 6 rfl rfl)
theorem dX1_in_7 : decode cX1_in 7 = .ok (.if_icmp .gt 7, 3) := dk_163 0 7 (dk_at dksX1_in_0 7 rfl rfl)
theorem dX1_in_10 : decode cX1_in 10 = .ok (.iconst 1, 1) := dk_4 (dk_at dksX1_in_0 10 rfl rfl)
theorem dX1_in_11 : decode cX1_in 11 = .ok (.goto 4, 3) := dk_167 0 4 (dk_at dksX1_in_0 11 rfl rfl)
theorem dX1_in_14 : decode cX1_in 14 = .ok (.iconst 0, 1) := dk_3 (dk_at dksX1_in_0 14 rfl rfl)
theorem dX1_in_15 : decode cX1_in 15 = .ok (.ireturn, 1) := dk_172 (dk_at dksX1_in_0 15 rfl rfl)
abbrev cX1_person_2 : ByteArray := prog_1_method_13_code
def yX1_person_2 : MethodName := ⟨RX1, "person", "(I)LBorrowedLives$Person;"⟩
def dkwX1_person_2_0 : List UInt8 := [42, 180, 0, 35, 180, 0, 133, 27, 182, 0, 140, 192, 0, 144, 176]
abbrev dktX1_person_2_0 : List UInt8 := dkwX1_person_2_0 ++ []
theorem dksX1_person_2_0 : cX1_person_2.data.toList.drop 0 = dktX1_person_2_0 := by decide +kernel
theorem dX1_person_2_0 : decode cX1_person_2 0 = .ok (.aload_n 0, 1) := dk_42 (dk_at dksX1_person_2_0 0 rfl rfl)
theorem dX1_person_2_1 : decode cX1_person_2 1 = .ok (.getfield 35, 3) := dk_180 0 35 (dk_at dksX1_person_2_0 1 rfl rfl)
theorem dX1_person_2_4 : decode cX1_person_2 4 = .ok (.getfield 133, 3) := dk_180 0 133 (dk_at dksX1_person_2_0 4 rfl rfl)
theorem dX1_person_2_7 : decode cX1_person_2 7 = .ok (.iload_n 1, 1) := dk_27 (dk_at dksX1_person_2_0 7 rfl rfl)
theorem dX1_person_2_8 : decode cX1_person_2 8 = .ok (.invokevirtual 140, 3) := dk_182 0 140 (dk_at dksX1_person_2_0 8 rfl rfl)
theorem dX1_person_2_11 : decode cX1_person_2 11 = .ok (.checkcast 144, 3) := dk_192 0 144 (dk_at dksX1_person_2_0 11 rfl rfl)
theorem dX1_person_2_14 : decode cX1_person_2 14 = .ok (.areturn, 1) := dk_176 (dk_at dksX1_person_2_0 14 rfl rfl)
abbrev cX1_life : ByteArray := prog_1_method_17_code
def yX1_life : MethodName := ⟨RX1, "life", "(II)I"⟩
def dkwX1_life_4 : List UInt8 := [46, 172, 42, 180, 0, 51, 27, 182, 0, 192, 172, 42, 180, 0, 51, 27, 182, 0, 195, 172, 2, 172]
abbrev dktX1_life_4 : List UInt8 := dkwX1_life_4 ++ []
def dkwX1_life_3 : List UInt8 := [180, 0, 183, 27, 46, 172, 42, 180, 0, 51, 180, 0, 186, 27, 46, 172, 42, 180, 0, 51, 180, 0, 189, 27]
abbrev dktX1_life_3 : List UInt8 := dkwX1_life_3 ++ dktX1_life_4
def dkwX1_life_2 : List UInt8 := [42, 180, 0, 51, 180, 0, 177, 27, 46, 172, 42, 180, 0, 51, 180, 0, 180, 27, 46, 172, 42, 180, 0, 51]
abbrev dktX1_life_2 : List UInt8 := dkwX1_life_2 ++ dktX1_life_3
def dkwX1_life_1 : List UInt8 := [170, 0, 0, 0, 109, 0, 0, 0, 0, 0, 0, 0, 6, 0, 0, 0, 41, 0, 0, 0, 51, 0, 0, 0, 61, 0, 0, 0, 71, 0, 0, 0, 81, 0, 0, 0, 91, 0, 0, 0, 100]
abbrev dktX1_life_1 : List UInt8 := dkwX1_life_1 ++ dktX1_life_2
def dkwX1_life_0 : List UInt8 := [42, 27, 182, 0, 163, 154, 0, 5, 2, 172, 28]
abbrev dktX1_life_0 : List UInt8 := dkwX1_life_0 ++ dktX1_life_1
theorem dksX1_life_0 : cX1_life.data.toList.drop 0 = dktX1_life_0 := by decide +kernel
theorem dksX1_life_1 : cX1_life.data.toList.drop 11 = dktX1_life_1 := dk_seg dksX1_life_0 11 rfl rfl
theorem dksX1_life_2 : cX1_life.data.toList.drop 52 = dktX1_life_2 := dk_seg dksX1_life_1 41 rfl rfl
theorem dksX1_life_3 : cX1_life.data.toList.drop 76 = dktX1_life_3 := dk_seg dksX1_life_2 24 rfl rfl
theorem dksX1_life_4 : cX1_life.data.toList.drop 100 = dktX1_life_4 := dk_seg dksX1_life_3 24 rfl rfl
theorem dX1_life_0 : decode cX1_life 0 = .ok (.aload_n 0, 1) := dk_42 (dk_at dksX1_life_0 0 rfl rfl)
theorem dX1_life_1 : decode cX1_life 1 = .ok (.iload_n 1, 1) := dk_27 (dk_at dksX1_life_0 1 rfl rfl)
theorem dX1_life_2 : decode cX1_life 2 = .ok (.invokevirtual 163, 3) := dk_182 0 163 (dk_at dksX1_life_0 2 rfl rfl)
theorem dX1_life_5 : decode cX1_life 5 = .ok (.ifCond .ne 5, 3) := dk_154 0 5 (dk_at dksX1_life_0 5 rfl rfl)
theorem dX1_life_8 : decode cX1_life 8 = .ok (.iconst (-1), 1) := dk_2 (dk_at dksX1_life_0 8 rfl rfl)
theorem dX1_life_9 : decode cX1_life 9 = .ok (.ireturn, 1) := dk_172 (dk_at dksX1_life_0 9 rfl rfl)
theorem dX1_life_10 : decode cX1_life 10 = .ok (.iload_n 2, 1) := dk_28 (dk_at dksX1_life_0 10 rfl rfl)
theorem dX1_life_11 : decode cX1_life 11 = .ok (.tableswitch 109 0 6 #[41, 51, 61, 71, 81, 91, 100], 41) := by decide +kernel
theorem dX1_life_52 : decode cX1_life 52 = .ok (.aload_n 0, 1) := dk_42 (dk_at dksX1_life_2 0 rfl rfl)
theorem dX1_life_53 : decode cX1_life 53 = .ok (.getfield 51, 3) := dk_180 0 51 (dk_at dksX1_life_2 1 rfl rfl)
theorem dX1_life_56 : decode cX1_life 56 = .ok (.getfield 177, 3) := dk_180 0 177 (dk_at dksX1_life_2 4 rfl rfl)
theorem dX1_life_59 : decode cX1_life 59 = .ok (.iload_n 1, 1) := dk_27 (dk_at dksX1_life_2 7 rfl rfl)
theorem dX1_life_60 : decode cX1_life 60 = .ok (.iaload, 1) := dk_46 (dk_at dksX1_life_2 8 rfl rfl)
theorem dX1_life_61 : decode cX1_life 61 = .ok (.ireturn, 1) := dk_172 (dk_at dksX1_life_2 9 rfl rfl)
theorem dX1_life_62 : decode cX1_life 62 = .ok (.aload_n 0, 1) := dk_42 (dk_at dksX1_life_2 10 rfl rfl)
theorem dX1_life_63 : decode cX1_life 63 = .ok (.getfield 51, 3) := dk_180 0 51 (dk_at dksX1_life_2 11 rfl rfl)
theorem dX1_life_66 : decode cX1_life 66 = .ok (.getfield 180, 3) := dk_180 0 180 (dk_at dksX1_life_2 14 rfl rfl)
theorem dX1_life_69 : decode cX1_life 69 = .ok (.iload_n 1, 1) := dk_27 (dk_at dksX1_life_2 17 rfl rfl)
theorem dX1_life_70 : decode cX1_life 70 = .ok (.iaload, 1) := dk_46 (dk_at dksX1_life_2 18 rfl rfl)
theorem dX1_life_71 : decode cX1_life 71 = .ok (.ireturn, 1) := dk_172 (dk_at dksX1_life_2 19 rfl rfl)
theorem dX1_life_72 : decode cX1_life 72 = .ok (.aload_n 0, 1) := dk_42 (dk_at dksX1_life_2 20 rfl rfl)
theorem dX1_life_73 : decode cX1_life 73 = .ok (.getfield 51, 3) := dk_180 0 51 (dk_at dksX1_life_2 21 rfl rfl)
theorem dX1_life_76 : decode cX1_life 76 = .ok (.getfield 183, 3) := dk_180 0 183 (dk_at dksX1_life_3 0 rfl rfl)
theorem dX1_life_79 : decode cX1_life 79 = .ok (.iload_n 1, 1) := dk_27 (dk_at dksX1_life_3 3 rfl rfl)
theorem dX1_life_80 : decode cX1_life 80 = .ok (.iaload, 1) := dk_46 (dk_at dksX1_life_3 4 rfl rfl)
theorem dX1_life_81 : decode cX1_life 81 = .ok (.ireturn, 1) := dk_172 (dk_at dksX1_life_3 5 rfl rfl)
theorem dX1_life_82 : decode cX1_life 82 = .ok (.aload_n 0, 1) := dk_42 (dk_at dksX1_life_3 6 rfl rfl)
theorem dX1_life_83 : decode cX1_life 83 = .ok (.getfield 51, 3) := dk_180 0 51 (dk_at dksX1_life_3 7 rfl rfl)
theorem dX1_life_86 : decode cX1_life 86 = .ok (.getfield 186, 3) := dk_180 0 186 (dk_at dksX1_life_3 10 rfl rfl)
theorem dX1_life_89 : decode cX1_life 89 = .ok (.iload_n 1, 1) := dk_27 (dk_at dksX1_life_3 13 rfl rfl)
theorem dX1_life_90 : decode cX1_life 90 = .ok (.iaload, 1) := dk_46 (dk_at dksX1_life_3 14 rfl rfl)
theorem dX1_life_91 : decode cX1_life 91 = .ok (.ireturn, 1) := dk_172 (dk_at dksX1_life_3 15 rfl rfl)
theorem dX1_life_92 : decode cX1_life 92 = .ok (.aload_n 0, 1) := dk_42 (dk_at dksX1_life_3 16 rfl rfl)
theorem dX1_life_93 : decode cX1_life 93 = .ok (.getfield 51, 3) := dk_180 0 51 (dk_at dksX1_life_3 17 rfl rfl)
theorem dX1_life_96 : decode cX1_life 96 = .ok (.getfield 189, 3) := dk_180 0 189 (dk_at dksX1_life_3 20 rfl rfl)
theorem dX1_life_99 : decode cX1_life 99 = .ok (.iload_n 1, 1) := dk_27 (dk_at dksX1_life_3 23 rfl rfl)
theorem dX1_life_100 : decode cX1_life 100 = .ok (.iaload, 1) := dk_46 (dk_at dksX1_life_4 0 rfl rfl)
theorem dX1_life_101 : decode cX1_life 101 = .ok (.ireturn, 1) := dk_172 (dk_at dksX1_life_4 1 rfl rfl)
theorem dX1_life_102 : decode cX1_life 102 = .ok (.aload_n 0, 1) := dk_42 (dk_at dksX1_life_4 2 rfl rfl)
theorem dX1_life_103 : decode cX1_life 103 = .ok (.getfield 51, 3) := dk_180 0 51 (dk_at dksX1_life_4 3 rfl rfl)
theorem dX1_life_106 : decode cX1_life 106 = .ok (.iload_n 1, 1) := dk_27 (dk_at dksX1_life_4 6 rfl rfl)
theorem dX1_life_107 : decode cX1_life 107 = .ok (.invokevirtual 192, 3) := dk_182 0 192 (dk_at dksX1_life_4 7 rfl rfl)
theorem dX1_life_110 : decode cX1_life 110 = .ok (.ireturn, 1) := dk_172 (dk_at dksX1_life_4 10 rfl rfl)
theorem dX1_life_111 : decode cX1_life 111 = .ok (.aload_n 0, 1) := dk_42 (dk_at dksX1_life_4 11 rfl rfl)
theorem dX1_life_112 : decode cX1_life 112 = .ok (.getfield 51, 3) := dk_180 0 51 (dk_at dksX1_life_4 12 rfl rfl)
theorem dX1_life_115 : decode cX1_life 115 = .ok (.iload_n 1, 1) := dk_27 (dk_at dksX1_life_4 15 rfl rfl)
theorem dX1_life_116 : decode cX1_life 116 = .ok (.invokevirtual 195, 3) := dk_182 0 195 (dk_at dksX1_life_4 16 rfl rfl)
theorem dX1_life_119 : decode cX1_life 119 = .ok (.ireturn, 1) := dk_172 (dk_at dksX1_life_4 19 rfl rfl)
theorem dX1_life_120 : decode cX1_life 120 = .ok (.iconst (-1), 1) := dk_2 (dk_at dksX1_life_4 20 rfl rfl)
theorem dX1_life_121 : decode cX1_life 121 = .ok (.ireturn, 1) := dk_172 (dk_at dksX1_life_4 21 rfl rfl)
abbrev cX1_may : ByteArray := prog_1_method_18_code
def yX1_may : MethodName := ⟨RX1, "may", "(II)Z"⟩
def dkwX1_may_1 : List UInt8 := [153, 0, 7, 4, 167, 0, 4, 3, 172]
abbrev dktX1_may_1 : List UInt8 := dkwX1_may_1 ++ []
def dkwX1_may_0 : List UInt8 := [42, 27, 182, 0, 163, 153, 0, 24, 42, 28, 182, 0, 163, 153, 0, 16, 42, 27, 28, 182, 0, 198]
abbrev dktX1_may_0 : List UInt8 := dkwX1_may_0 ++ dktX1_may_1
theorem dksX1_may_0 : cX1_may.data.toList.drop 0 = dktX1_may_0 := by decide +kernel
theorem dksX1_may_1 : cX1_may.data.toList.drop 22 = dktX1_may_1 := dk_seg dksX1_may_0 22 rfl rfl
theorem dX1_may_0 : decode cX1_may 0 = .ok (.aload_n 0, 1) := dk_42 (dk_at dksX1_may_0 0 rfl rfl)
theorem dX1_may_1 : decode cX1_may 1 = .ok (.iload_n 1, 1) := dk_27 (dk_at dksX1_may_0 1 rfl rfl)
theorem dX1_may_2 : decode cX1_may 2 = .ok (.invokevirtual 163, 3) := dk_182 0 163 (dk_at dksX1_may_0 2 rfl rfl)
theorem dX1_may_5 : decode cX1_may 5 = .ok (.ifCond .eq 24, 3) := dk_153 0 24 (dk_at dksX1_may_0 5 rfl rfl)
theorem dX1_may_8 : decode cX1_may 8 = .ok (.aload_n 0, 1) := dk_42 (dk_at dksX1_may_0 8 rfl rfl)
theorem dX1_may_9 : decode cX1_may 9 = .ok (.iload_n 2, 1) := dk_28 (dk_at dksX1_may_0 9 rfl rfl)
theorem dX1_may_10 : decode cX1_may 10 = .ok (.invokevirtual 163, 3) := dk_182 0 163 (dk_at dksX1_may_0 10 rfl rfl)
theorem dX1_may_13 : decode cX1_may 13 = .ok (.ifCond .eq 16, 3) := dk_153 0 16 (dk_at dksX1_may_0 13 rfl rfl)
theorem dX1_may_16 : decode cX1_may 16 = .ok (.aload_n 0, 1) := dk_42 (dk_at dksX1_may_0 16 rfl rfl)
theorem dX1_may_17 : decode cX1_may 17 = .ok (.iload_n 1, 1) := dk_27 (dk_at dksX1_may_0 17 rfl rfl)
theorem dX1_may_18 : decode cX1_may 18 = .ok (.iload_n 2, 1) := dk_28 (dk_at dksX1_may_0 18 rfl rfl)
theorem dX1_may_19 : decode cX1_may 19 = .ok (.invokevirtual 198, 3) := dk_182 0 198 (dk_at dksX1_may_0 19 rfl rfl)
theorem dX1_may_22 : decode cX1_may 22 = .ok (.ifCond .eq 7, 3) := dk_153 0 7 (dk_at dksX1_may_1 0 rfl rfl)
theorem dX1_may_25 : decode cX1_may 25 = .ok (.iconst 1, 1) := dk_4 (dk_at dksX1_may_1 3 rfl rfl)
theorem dX1_may_26 : decode cX1_may 26 = .ok (.goto 4, 3) := dk_167 0 4 (dk_at dksX1_may_1 4 rfl rfl)
theorem dX1_may_29 : decode cX1_may 29 = .ok (.iconst 0, 1) := dk_3 (dk_at dksX1_may_1 7 rfl rfl)
theorem dX1_may_30 : decode cX1_may 30 = .ok (.ireturn, 1) := dk_172 (dk_at dksX1_may_1 8 rfl rfl)
abbrev cX1_mayBe : ByteArray := prog_1_method_15_code
def yX1_mayBe : MethodName := ⟨RX1, "mayBe", "(II)Z"⟩
def dkwX1_mayBe_1 : List UInt8 := [3, 172]
abbrev dktX1_mayBe_1 : List UInt8 := dkwX1_mayBe_1 ++ []
def dkwX1_mayBe_0 : List UInt8 := [27, 28, 159, 0, 22, 42, 27, 182, 0, 152, 180, 0, 156, 28, 184, 0, 159, 154, 0, 7, 4, 167, 0, 4]
abbrev dktX1_mayBe_0 : List UInt8 := dkwX1_mayBe_0 ++ dktX1_mayBe_1
theorem dksX1_mayBe_0 : cX1_mayBe.data.toList.drop 0 = dktX1_mayBe_0 := by decide +kernel
theorem dksX1_mayBe_1 : cX1_mayBe.data.toList.drop 24 = dktX1_mayBe_1 := dk_seg dksX1_mayBe_0 24 rfl rfl
theorem dX1_mayBe_0 : decode cX1_mayBe 0 = .ok (.iload_n 1, 1) := dk_27 (dk_at dksX1_mayBe_0 0 rfl rfl)
theorem dX1_mayBe_1 : decode cX1_mayBe 1 = .ok (.iload_n 2, 1) := dk_28 (dk_at dksX1_mayBe_0 1 rfl rfl)
theorem dX1_mayBe_2 : decode cX1_mayBe 2 = .ok (.if_icmp .eq 22, 3) := dk_159 0 22 (dk_at dksX1_mayBe_0 2 rfl rfl)
theorem dX1_mayBe_5 : decode cX1_mayBe 5 = .ok (.aload_n 0, 1) := dk_42 (dk_at dksX1_mayBe_0 5 rfl rfl)
theorem dX1_mayBe_6 : decode cX1_mayBe 6 = .ok (.iload_n 1, 1) := dk_27 (dk_at dksX1_mayBe_0 6 rfl rfl)
theorem dX1_mayBe_7 : decode cX1_mayBe 7 = .ok (.invokevirtual 152, 3) := dk_182 0 152 (dk_at dksX1_mayBe_0 7 rfl rfl)
theorem dX1_mayBe_10 : decode cX1_mayBe 10 = .ok (.getfield 156, 3) := dk_180 0 156 (dk_at dksX1_mayBe_0 10 rfl rfl)
theorem dX1_mayBe_13 : decode cX1_mayBe 13 = .ok (.iload_n 2, 1) := dk_28 (dk_at dksX1_mayBe_0 13 rfl rfl)
theorem dX1_mayBe_14 : decode cX1_mayBe 14 = .ok (.invokestatic 159, 3) := dk_184 0 159 (dk_at dksX1_mayBe_0 14 rfl rfl)
theorem dX1_mayBe_17 : decode cX1_mayBe 17 = .ok (.ifCond .ne 7, 3) := dk_154 0 7 (dk_at dksX1_mayBe_0 17 rfl rfl)
theorem dX1_mayBe_20 : decode cX1_mayBe 20 = .ok (.iconst 1, 1) := dk_4 (dk_at dksX1_mayBe_0 20 rfl rfl)
theorem dX1_mayBe_21 : decode cX1_mayBe 21 = .ok (.goto 4, 3) := dk_167 0 4 (dk_at dksX1_mayBe_0 21 rfl rfl)
theorem dX1_mayBe_24 : decode cX1_mayBe 24 = .ok (.iconst 0, 1) := dk_3 (dk_at dksX1_mayBe_1 0 rfl rfl)
theorem dX1_mayBe_25 : decode cX1_mayBe 25 = .ok (.ireturn, 1) := dk_172 (dk_at dksX1_mayBe_1 1 rfl rfl)
abbrev cX1_lots : ByteArray := prog_1_method_27_code
def yX1_lots : MethodName := ⟨RX1, "lots", "()I"⟩
def dkwX1_lots_0 : List UInt8 := [187, 1, 17, 89, 42, 2, 2, 183, 1, 19, 76, 42, 43, 182, 1, 22, 43, 180, 1, 4, 172]
abbrev dktX1_lots_0 : List UInt8 := dkwX1_lots_0 ++ []
theorem dksX1_lots_0 : cX1_lots.data.toList.drop 0 = dktX1_lots_0 := by decide +kernel
theorem dX1_lots_0 : decode cX1_lots 0 = .ok (.new 273, 3) := dk_187 1 17 (dk_at dksX1_lots_0 0 rfl rfl)
theorem dX1_lots_3 : decode cX1_lots 3 = .ok (.dup, 1) := dk_89 (dk_at dksX1_lots_0 3 rfl rfl)
theorem dX1_lots_4 : decode cX1_lots 4 = .ok (.aload_n 0, 1) := dk_42 (dk_at dksX1_lots_0 4 rfl rfl)
theorem dX1_lots_5 : decode cX1_lots 5 = .ok (.iconst (-1), 1) := dk_2 (dk_at dksX1_lots_0 5 rfl rfl)
theorem dX1_lots_6 : decode cX1_lots 6 = .ok (.iconst (-1), 1) := dk_2 (dk_at dksX1_lots_0 6 rfl rfl)
theorem dX1_lots_7 : decode cX1_lots 7 = .ok (.invokespecial 275, 3) := dk_183 1 19 (dk_at dksX1_lots_0 7 rfl rfl)
theorem dX1_lots_10 : decode cX1_lots 10 = .ok (.astore_n 1, 1) := dk_76 (dk_at dksX1_lots_0 10 rfl rfl)
theorem dX1_lots_11 : decode cX1_lots 11 = .ok (.aload_n 0, 1) := dk_42 (dk_at dksX1_lots_0 11 rfl rfl)
theorem dX1_lots_12 : decode cX1_lots 12 = .ok (.aload_n 1, 1) := dk_43 (dk_at dksX1_lots_0 12 rfl rfl)
theorem dX1_lots_13 : decode cX1_lots 13 = .ok (.invokevirtual 278, 3) := dk_182 1 22 (dk_at dksX1_lots_0 13 rfl rfl)
theorem dX1_lots_16 : decode cX1_lots 16 = .ok (.aload_n 1, 1) := dk_43 (dk_at dksX1_lots_0 16 rfl rfl)
theorem dX1_lots_17 : decode cX1_lots 17 = .ok (.getfield 260, 3) := dk_180 1 4 (dk_at dksX1_lots_0 17 rfl rfl)
theorem dX1_lots_20 : decode cX1_lots 20 = .ok (.ireturn, 1) := dk_172 (dk_at dksX1_lots_0 20 rfl rfl)
abbrev cX1_shows : ByteArray := prog_1_method_26_code
def yX1_shows : MethodName := ⟨RX1, "shows", "(LBorrowedLives$Looker;)V"⟩
def dkwX1_shows_1 : List UInt8 := [3, 182, 1, 13, 177]
abbrev dktX1_shows_1 : List UInt8 := dkwX1_shows_1 ++ []
def dkwX1_shows_0 : List UInt8 := [3, 61, 28, 16, 6, 162, 0, 16, 42, 180, 0, 65, 28, 28, 79, 132, 2, 1, 167, 255, 240, 42, 43, 3]
abbrev dktX1_shows_0 : List UInt8 := dkwX1_shows_0 ++ dktX1_shows_1
theorem dksX1_shows_0 : cX1_shows.data.toList.drop 0 = dktX1_shows_0 := by decide +kernel
theorem dksX1_shows_1 : cX1_shows.data.toList.drop 24 = dktX1_shows_1 := dk_seg dksX1_shows_0 24 rfl rfl
theorem dX1_shows_0 : decode cX1_shows 0 = .ok (.iconst 0, 1) := dk_3 (dk_at dksX1_shows_0 0 rfl rfl)
theorem dX1_shows_1 : decode cX1_shows 1 = .ok (.istore_n 2, 1) := dk_61 (dk_at dksX1_shows_0 1 rfl rfl)
theorem dX1_shows_2 : decode cX1_shows 2 = .ok (.iload_n 2, 1) := dk_28 (dk_at dksX1_shows_0 2 rfl rfl)
theorem dX1_shows_3 : decode cX1_shows 3 = .ok (.bipush 6, 2) := dk_16 6 (dk_at dksX1_shows_0 3 rfl rfl)
theorem dX1_shows_5 : decode cX1_shows 5 = .ok (.if_icmp .ge 16, 3) := dk_162 0 16 (dk_at dksX1_shows_0 5 rfl rfl)
theorem dX1_shows_8 : decode cX1_shows 8 = .ok (.aload_n 0, 1) := dk_42 (dk_at dksX1_shows_0 8 rfl rfl)
theorem dX1_shows_9 : decode cX1_shows 9 = .ok (.getfield 65, 3) := dk_180 0 65 (dk_at dksX1_shows_0 9 rfl rfl)
theorem dX1_shows_12 : decode cX1_shows 12 = .ok (.iload_n 2, 1) := dk_28 (dk_at dksX1_shows_0 12 rfl rfl)
theorem dX1_shows_13 : decode cX1_shows 13 = .ok (.iload_n 2, 1) := dk_28 (dk_at dksX1_shows_0 13 rfl rfl)
theorem dX1_shows_14 : decode cX1_shows 14 = .ok (.iastore, 1) := dk_79 (dk_at dksX1_shows_0 14 rfl rfl)
theorem dX1_shows_15 : decode cX1_shows 15 = .ok (.iinc 2 1, 3) := dk_132 2 1 (dk_at dksX1_shows_0 15 rfl rfl)
theorem dX1_shows_18 : decode cX1_shows 18 = .ok (.goto (-16), 3) := dk_167 255 240 (dk_at dksX1_shows_0 18 rfl rfl)
theorem dX1_shows_21 : decode cX1_shows 21 = .ok (.aload_n 0, 1) := dk_42 (dk_at dksX1_shows_0 21 rfl rfl)
theorem dX1_shows_22 : decode cX1_shows 22 = .ok (.aload_n 1, 1) := dk_43 (dk_at dksX1_shows_0 22 rfl rfl)
theorem dX1_shows_23 : decode cX1_shows 23 = .ok (.iconst 0, 1) := dk_3 (dk_at dksX1_shows_0 23 rfl rfl)
theorem dX1_shows_24 : decode cX1_shows 24 = .ok (.iconst 0, 1) := dk_3 (dk_at dksX1_shows_1 0 rfl rfl)
theorem dX1_shows_25 : decode cX1_shows 25 = .ok (.invokevirtual 269, 3) := dk_182 1 13 (dk_at dksX1_shows_1 1 rfl rfl)
theorem dX1_shows_28 : decode cX1_shows 28 = .ok (.return_, 1) := dk_177 (dk_at dksX1_shows_1 4 rfl rfl)
abbrev cX1_gives : ByteArray := prog_1_method_25_code
def yX1_gives : MethodName := ⟨RX1, "gives", "(LBorrowedLives$Looker;II)V"⟩
def dkwX1_gives_4 : List UInt8 := [167, 255, 200, 177]
abbrev dktX1_gives_4 : List UInt8 := dkwX1_gives_4 ++ []
def dkwX1_gives_3 : List UInt8 := [180, 0, 65, 28, 21, 4, 79, 42, 43, 28, 4, 96, 29, 4, 21, 4, 120, 128, 182, 1, 13, 132, 4, 1]
abbrev dktX1_gives_3 : List UInt8 := dkwX1_gives_3 ++ dktX1_gives_4
def dkwX1_gives_2 : List UInt8 := [29, 21, 4, 184, 0, 159, 154, 0, 38, 42, 21, 4, 28, 182, 0, 198, 154, 0, 6, 167, 0, 25, 42]
abbrev dktX1_gives_2 : List UInt8 := dkwX1_gives_2 ++ dktX1_gives_3
def dkwX1_gives_1 : List UInt8 := [181, 1, 4, 43, 42, 180, 0, 65, 182, 1, 9, 177, 3, 54, 4, 21, 4, 42, 182, 0, 146, 162, 0, 53]
abbrev dktX1_gives_1 : List UInt8 := dkwX1_gives_1 ++ dktX1_gives_2
def dkwX1_gives_0 : List UInt8 := [28, 42, 182, 0, 146, 160, 0, 30, 42, 182, 0, 146, 154, 0, 4, 177, 43, 89, 180, 1, 4, 4, 96]
abbrev dktX1_gives_0 : List UInt8 := dkwX1_gives_0 ++ dktX1_gives_1
theorem dksX1_gives_0 : cX1_gives.data.toList.drop 0 = dktX1_gives_0 := by decide +kernel
theorem dksX1_gives_1 : cX1_gives.data.toList.drop 23 = dktX1_gives_1 := dk_seg dksX1_gives_0 23 rfl rfl
theorem dksX1_gives_2 : cX1_gives.data.toList.drop 47 = dktX1_gives_2 := dk_seg dksX1_gives_1 24 rfl rfl
theorem dksX1_gives_3 : cX1_gives.data.toList.drop 70 = dktX1_gives_3 := dk_seg dksX1_gives_2 23 rfl rfl
theorem dksX1_gives_4 : cX1_gives.data.toList.drop 94 = dktX1_gives_4 := dk_seg dksX1_gives_3 24 rfl rfl
theorem dX1_gives_0 : decode cX1_gives 0 = .ok (.iload_n 2, 1) := dk_28 (dk_at dksX1_gives_0 0 rfl rfl)
theorem dX1_gives_1 : decode cX1_gives 1 = .ok (.aload_n 0, 1) := dk_42 (dk_at dksX1_gives_0 1 rfl rfl)
theorem dX1_gives_2 : decode cX1_gives 2 = .ok (.invokevirtual 146, 3) := dk_182 0 146 (dk_at dksX1_gives_0 2 rfl rfl)
theorem dX1_gives_5 : decode cX1_gives 5 = .ok (.if_icmp .ne 30, 3) := dk_160 0 30 (dk_at dksX1_gives_0 5 rfl rfl)
theorem dX1_gives_8 : decode cX1_gives 8 = .ok (.aload_n 0, 1) := dk_42 (dk_at dksX1_gives_0 8 rfl rfl)
theorem dX1_gives_9 : decode cX1_gives 9 = .ok (.invokevirtual 146, 3) := dk_182 0 146 (dk_at dksX1_gives_0 9 rfl rfl)
theorem dX1_gives_12 : decode cX1_gives 12 = .ok (.ifCond .ne 4, 3) := dk_154 0 4 (dk_at dksX1_gives_0 12 rfl rfl)
theorem dX1_gives_15 : decode cX1_gives 15 = .ok (.return_, 1) := dk_177 (dk_at dksX1_gives_0 15 rfl rfl)
theorem dX1_gives_16 : decode cX1_gives 16 = .ok (.aload_n 1, 1) := dk_43 (dk_at dksX1_gives_0 16 rfl rfl)
theorem dX1_gives_17 : decode cX1_gives 17 = .ok (.dup, 1) := dk_89 (dk_at dksX1_gives_0 17 rfl rfl)
theorem dX1_gives_18 : decode cX1_gives 18 = .ok (.getfield 260, 3) := dk_180 1 4 (dk_at dksX1_gives_0 18 rfl rfl)
theorem dX1_gives_21 : decode cX1_gives 21 = .ok (.iconst 1, 1) := dk_4 (dk_at dksX1_gives_0 21 rfl rfl)
theorem dX1_gives_22 : decode cX1_gives 22 = .ok (.iadd, 1) := dk_96 (dk_at dksX1_gives_0 22 rfl rfl)
theorem dX1_gives_23 : decode cX1_gives 23 = .ok (.putfield 260, 3) := dk_181 1 4 (dk_at dksX1_gives_1 0 rfl rfl)
theorem dX1_gives_26 : decode cX1_gives 26 = .ok (.aload_n 1, 1) := dk_43 (dk_at dksX1_gives_1 3 rfl rfl)
theorem dX1_gives_27 : decode cX1_gives 27 = .ok (.aload_n 0, 1) := dk_42 (dk_at dksX1_gives_1 4 rfl rfl)
theorem dX1_gives_28 : decode cX1_gives 28 = .ok (.getfield 65, 3) := dk_180 0 65 (dk_at dksX1_gives_1 5 rfl rfl)
theorem dX1_gives_31 : decode cX1_gives 31 = .ok (.invokevirtual 265, 3) := dk_182 1 9 (dk_at dksX1_gives_1 8 rfl rfl)
theorem dX1_gives_34 : decode cX1_gives 34 = .ok (.return_, 1) := dk_177 (dk_at dksX1_gives_1 11 rfl rfl)
theorem dX1_gives_35 : decode cX1_gives 35 = .ok (.iconst 0, 1) := dk_3 (dk_at dksX1_gives_1 12 rfl rfl)
theorem dX1_gives_36 : decode cX1_gives 36 = .ok (.istore 4, 2) := dk_54 4 (dk_at dksX1_gives_1 13 rfl rfl)
theorem dX1_gives_38 : decode cX1_gives 38 = .ok (.iload 4, 2) := dk_21 4 (dk_at dksX1_gives_1 15 rfl rfl)
theorem dX1_gives_40 : decode cX1_gives 40 = .ok (.aload_n 0, 1) := dk_42 (dk_at dksX1_gives_1 17 rfl rfl)
theorem dX1_gives_41 : decode cX1_gives 41 = .ok (.invokevirtual 146, 3) := dk_182 0 146 (dk_at dksX1_gives_1 18 rfl rfl)
theorem dX1_gives_44 : decode cX1_gives 44 = .ok (.if_icmp .ge 53, 3) := dk_162 0 53 (dk_at dksX1_gives_1 21 rfl rfl)
theorem dX1_gives_47 : decode cX1_gives 47 = .ok (.iload_n 3, 1) := dk_29 (dk_at dksX1_gives_2 0 rfl rfl)
theorem dX1_gives_48 : decode cX1_gives 48 = .ok (.iload 4, 2) := dk_21 4 (dk_at dksX1_gives_2 1 rfl rfl)
theorem dX1_gives_50 : decode cX1_gives 50 = .ok (.invokestatic 159, 3) := dk_184 0 159 (dk_at dksX1_gives_2 3 rfl rfl)
theorem dX1_gives_53 : decode cX1_gives 53 = .ok (.ifCond .ne 38, 3) := dk_154 0 38 (dk_at dksX1_gives_2 6 rfl rfl)
theorem dX1_gives_56 : decode cX1_gives 56 = .ok (.aload_n 0, 1) := dk_42 (dk_at dksX1_gives_2 9 rfl rfl)
theorem dX1_gives_57 : decode cX1_gives 57 = .ok (.iload 4, 2) := dk_21 4 (dk_at dksX1_gives_2 10 rfl rfl)
theorem dX1_gives_59 : decode cX1_gives 59 = .ok (.iload_n 2, 1) := dk_28 (dk_at dksX1_gives_2 12 rfl rfl)
theorem dX1_gives_60 : decode cX1_gives 60 = .ok (.invokevirtual 198, 3) := dk_182 0 198 (dk_at dksX1_gives_2 13 rfl rfl)
theorem dX1_gives_63 : decode cX1_gives 63 = .ok (.ifCond .ne 6, 3) := dk_154 0 6 (dk_at dksX1_gives_2 16 rfl rfl)
theorem dX1_gives_66 : decode cX1_gives 66 = .ok (.goto 25, 3) := dk_167 0 25 (dk_at dksX1_gives_2 19 rfl rfl)
theorem dX1_gives_69 : decode cX1_gives 69 = .ok (.aload_n 0, 1) := dk_42 (dk_at dksX1_gives_2 22 rfl rfl)
theorem dX1_gives_70 : decode cX1_gives 70 = .ok (.getfield 65, 3) := dk_180 0 65 (dk_at dksX1_gives_3 0 rfl rfl)
theorem dX1_gives_73 : decode cX1_gives 73 = .ok (.iload_n 2, 1) := dk_28 (dk_at dksX1_gives_3 3 rfl rfl)
theorem dX1_gives_74 : decode cX1_gives 74 = .ok (.iload 4, 2) := dk_21 4 (dk_at dksX1_gives_3 4 rfl rfl)
theorem dX1_gives_76 : decode cX1_gives 76 = .ok (.iastore, 1) := dk_79 (dk_at dksX1_gives_3 6 rfl rfl)
theorem dX1_gives_77 : decode cX1_gives 77 = .ok (.aload_n 0, 1) := dk_42 (dk_at dksX1_gives_3 7 rfl rfl)
theorem dX1_gives_78 : decode cX1_gives 78 = .ok (.aload_n 1, 1) := dk_43 (dk_at dksX1_gives_3 8 rfl rfl)
theorem dX1_gives_79 : decode cX1_gives 79 = .ok (.iload_n 2, 1) := dk_28 (dk_at dksX1_gives_3 9 rfl rfl)
theorem dX1_gives_80 : decode cX1_gives 80 = .ok (.iconst 1, 1) := dk_4 (dk_at dksX1_gives_3 10 rfl rfl)
theorem dX1_gives_81 : decode cX1_gives 81 = .ok (.iadd, 1) := dk_96 (dk_at dksX1_gives_3 11 rfl rfl)
theorem dX1_gives_82 : decode cX1_gives 82 = .ok (.iload_n 3, 1) := dk_29 (dk_at dksX1_gives_3 12 rfl rfl)
theorem dX1_gives_83 : decode cX1_gives 83 = .ok (.iconst 1, 1) := dk_4 (dk_at dksX1_gives_3 13 rfl rfl)
theorem dX1_gives_84 : decode cX1_gives 84 = .ok (.iload 4, 2) := dk_21 4 (dk_at dksX1_gives_3 14 rfl rfl)
theorem dX1_gives_86 : decode cX1_gives 86 = .ok (.ishl, 1) := dk_120 (dk_at dksX1_gives_3 16 rfl rfl)
theorem dX1_gives_87 : decode cX1_gives 87 = .ok (.ior, 1) := dk_128 (dk_at dksX1_gives_3 17 rfl rfl)
theorem dX1_gives_88 : decode cX1_gives 88 = .ok (.invokevirtual 269, 3) := dk_182 1 13 (dk_at dksX1_gives_3 18 rfl rfl)
theorem dX1_gives_91 : decode cX1_gives 91 = .ok (.iinc 4 1, 3) := dk_132 4 1 (dk_at dksX1_gives_3 21 rfl rfl)
theorem dX1_gives_94 : decode cX1_gives 94 = .ok (.goto (-56), 3) := dk_167 255 200 (dk_at dksX1_gives_4 0 rfl rfl)
theorem dX1_gives_97 : decode cX1_gives 97 = .ok (.return_, 1) := dk_177 (dk_at dksX1_gives_4 3 rfl rfl)
abbrev cX1_fits : ByteArray := prog_1_method_54_code
def yX1_fits : MethodName := ⟨RX1, "fits", "([I)Z"⟩
def dkwX1_fits_4 : List UInt8 := [42, 180, 0, 84, 28, 46, 159, 0, 5, 3, 172, 132, 2, 1, 167, 255, 216, 4, 172]
abbrev dktX1_fits_4 : List UInt8 := dkwX1_fits_4 ++ []
def dkwX1_fits_3 : List UInt8 := [180, 0, 123, 162, 0, 38, 42, 180, 0, 89, 42, 180, 0, 81, 28, 46, 50, 42, 180, 0, 78, 28, 46, 46]
abbrev dktX1_fits_3 : List UInt8 := dkwX1_fits_3 ++ dktX1_fits_4
def dkwX1_fits_2 : List UInt8 := [180, 0, 177, 42, 180, 0, 89, 28, 50, 184, 1, 146, 132, 2, 1, 167, 255, 216, 3, 61, 28, 42]
abbrev dktX1_fits_2 : List UInt8 := dkwX1_fits_2 ++ dktX1_fits_3
def dkwX1_fits_1 : List UInt8 := [163, 0, 40, 42, 42, 180, 0, 58, 42, 180, 0, 35, 182, 1, 85, 182, 1, 88, 42, 180, 0, 58]
abbrev dktX1_fits_1 : List UInt8 := dkwX1_fits_1 ++ dktX1_fits_2
def dkwX1_fits_0 : List UInt8 := [42, 180, 0, 58, 42, 180, 0, 51, 182, 1, 32, 42, 180, 0, 58, 43, 182, 1, 61, 4, 61, 28, 16, 7]
abbrev dktX1_fits_0 : List UInt8 := dkwX1_fits_0 ++ dktX1_fits_1
theorem dksX1_fits_0 : cX1_fits.data.toList.drop 0 = dktX1_fits_0 := by decide +kernel
theorem dksX1_fits_1 : cX1_fits.data.toList.drop 24 = dktX1_fits_1 := dk_seg dksX1_fits_0 24 rfl rfl
theorem dksX1_fits_2 : cX1_fits.data.toList.drop 46 = dktX1_fits_2 := dk_seg dksX1_fits_1 22 rfl rfl
theorem dksX1_fits_3 : cX1_fits.data.toList.drop 68 = dktX1_fits_3 := dk_seg dksX1_fits_2 22 rfl rfl
theorem dksX1_fits_4 : cX1_fits.data.toList.drop 92 = dktX1_fits_4 := dk_seg dksX1_fits_3 24 rfl rfl
theorem dX1_fits_0 : decode cX1_fits 0 = .ok (.aload_n 0, 1) := dk_42 (dk_at dksX1_fits_0 0 rfl rfl)
theorem dX1_fits_1 : decode cX1_fits 1 = .ok (.getfield 58, 3) := dk_180 0 58 (dk_at dksX1_fits_0 1 rfl rfl)
theorem dX1_fits_4 : decode cX1_fits 4 = .ok (.aload_n 0, 1) := dk_42 (dk_at dksX1_fits_0 4 rfl rfl)
theorem dX1_fits_5 : decode cX1_fits 5 = .ok (.getfield 51, 3) := dk_180 0 51 (dk_at dksX1_fits_0 5 rfl rfl)
theorem dX1_fits_8 : decode cX1_fits 8 = .ok (.invokevirtual 288, 3) := dk_182 1 32 (dk_at dksX1_fits_0 8 rfl rfl)
theorem dX1_fits_11 : decode cX1_fits 11 = .ok (.aload_n 0, 1) := dk_42 (dk_at dksX1_fits_0 11 rfl rfl)
theorem dX1_fits_12 : decode cX1_fits 12 = .ok (.getfield 58, 3) := dk_180 0 58 (dk_at dksX1_fits_0 12 rfl rfl)
theorem dX1_fits_15 : decode cX1_fits 15 = .ok (.aload_n 1, 1) := dk_43 (dk_at dksX1_fits_0 15 rfl rfl)
theorem dX1_fits_16 : decode cX1_fits 16 = .ok (.invokevirtual 317, 3) := dk_182 1 61 (dk_at dksX1_fits_0 16 rfl rfl)
theorem dX1_fits_19 : decode cX1_fits 19 = .ok (.iconst 1, 1) := dk_4 (dk_at dksX1_fits_0 19 rfl rfl)
theorem dX1_fits_20 : decode cX1_fits 20 = .ok (.istore_n 2, 1) := dk_61 (dk_at dksX1_fits_0 20 rfl rfl)
theorem dX1_fits_21 : decode cX1_fits 21 = .ok (.iload_n 2, 1) := dk_28 (dk_at dksX1_fits_0 21 rfl rfl)
theorem dX1_fits_22 : decode cX1_fits 22 = .ok (.bipush 7, 2) := dk_16 7 (dk_at dksX1_fits_0 22 rfl rfl)
theorem dX1_fits_24 : decode cX1_fits 24 = .ok (.if_icmp .gt 40, 3) := dk_163 0 40 (dk_at dksX1_fits_1 0 rfl rfl)
theorem dX1_fits_27 : decode cX1_fits 27 = .ok (.aload_n 0, 1) := dk_42 (dk_at dksX1_fits_1 3 rfl rfl)
theorem dX1_fits_28 : decode cX1_fits 28 = .ok (.aload_n 0, 1) := dk_42 (dk_at dksX1_fits_1 4 rfl rfl)
theorem dX1_fits_29 : decode cX1_fits 29 = .ok (.getfield 58, 3) := dk_180 0 58 (dk_at dksX1_fits_1 5 rfl rfl)
theorem dX1_fits_32 : decode cX1_fits 32 = .ok (.aload_n 0, 1) := dk_42 (dk_at dksX1_fits_1 8 rfl rfl)
theorem dX1_fits_33 : decode cX1_fits 33 = .ok (.getfield 35, 3) := dk_180 0 35 (dk_at dksX1_fits_1 9 rfl rfl)
theorem dX1_fits_36 : decode cX1_fits 36 = .ok (.invokevirtual 341, 3) := dk_182 1 85 (dk_at dksX1_fits_1 12 rfl rfl)
theorem dX1_fits_39 : decode cX1_fits 39 = .ok (.invokevirtual 344, 3) := dk_182 1 88 (dk_at dksX1_fits_1 15 rfl rfl)
theorem dX1_fits_42 : decode cX1_fits 42 = .ok (.aload_n 0, 1) := dk_42 (dk_at dksX1_fits_1 18 rfl rfl)
theorem dX1_fits_43 : decode cX1_fits 43 = .ok (.getfield 58, 3) := dk_180 0 58 (dk_at dksX1_fits_1 19 rfl rfl)
theorem dX1_fits_46 : decode cX1_fits 46 = .ok (.getfield 177, 3) := dk_180 0 177 (dk_at dksX1_fits_2 0 rfl rfl)
theorem dX1_fits_49 : decode cX1_fits 49 = .ok (.aload_n 0, 1) := dk_42 (dk_at dksX1_fits_2 3 rfl rfl)
theorem dX1_fits_50 : decode cX1_fits 50 = .ok (.getfield 89, 3) := dk_180 0 89 (dk_at dksX1_fits_2 4 rfl rfl)
theorem dX1_fits_53 : decode cX1_fits 53 = .ok (.iload_n 2, 1) := dk_28 (dk_at dksX1_fits_2 7 rfl rfl)
theorem dX1_fits_54 : decode cX1_fits 54 = .ok (.aaload, 1) := dk_50 (dk_at dksX1_fits_2 8 rfl rfl)
theorem dX1_fits_55 : decode cX1_fits 55 = .ok (.invokestatic 402, 3) := dk_184 1 146 (dk_at dksX1_fits_2 9 rfl rfl)
theorem dX1_fits_58 : decode cX1_fits 58 = .ok (.iinc 2 1, 3) := dk_132 2 1 (dk_at dksX1_fits_2 12 rfl rfl)
theorem dX1_fits_61 : decode cX1_fits 61 = .ok (.goto (-40), 3) := dk_167 255 216 (dk_at dksX1_fits_2 15 rfl rfl)
theorem dX1_fits_64 : decode cX1_fits 64 = .ok (.iconst 0, 1) := dk_3 (dk_at dksX1_fits_2 18 rfl rfl)
theorem dX1_fits_65 : decode cX1_fits 65 = .ok (.istore_n 2, 1) := dk_61 (dk_at dksX1_fits_2 19 rfl rfl)
theorem dX1_fits_66 : decode cX1_fits 66 = .ok (.iload_n 2, 1) := dk_28 (dk_at dksX1_fits_2 20 rfl rfl)
theorem dX1_fits_67 : decode cX1_fits 67 = .ok (.aload_n 0, 1) := dk_42 (dk_at dksX1_fits_2 21 rfl rfl)
theorem dX1_fits_68 : decode cX1_fits 68 = .ok (.getfield 123, 3) := dk_180 0 123 (dk_at dksX1_fits_3 0 rfl rfl)
theorem dX1_fits_71 : decode cX1_fits 71 = .ok (.if_icmp .ge 38, 3) := dk_162 0 38 (dk_at dksX1_fits_3 3 rfl rfl)
theorem dX1_fits_74 : decode cX1_fits 74 = .ok (.aload_n 0, 1) := dk_42 (dk_at dksX1_fits_3 6 rfl rfl)
theorem dX1_fits_75 : decode cX1_fits 75 = .ok (.getfield 89, 3) := dk_180 0 89 (dk_at dksX1_fits_3 7 rfl rfl)
theorem dX1_fits_78 : decode cX1_fits 78 = .ok (.aload_n 0, 1) := dk_42 (dk_at dksX1_fits_3 10 rfl rfl)
theorem dX1_fits_79 : decode cX1_fits 79 = .ok (.getfield 81, 3) := dk_180 0 81 (dk_at dksX1_fits_3 11 rfl rfl)
theorem dX1_fits_82 : decode cX1_fits 82 = .ok (.iload_n 2, 1) := dk_28 (dk_at dksX1_fits_3 14 rfl rfl)
theorem dX1_fits_83 : decode cX1_fits 83 = .ok (.iaload, 1) := dk_46 (dk_at dksX1_fits_3 15 rfl rfl)
theorem dX1_fits_84 : decode cX1_fits 84 = .ok (.aaload, 1) := dk_50 (dk_at dksX1_fits_3 16 rfl rfl)
theorem dX1_fits_85 : decode cX1_fits 85 = .ok (.aload_n 0, 1) := dk_42 (dk_at dksX1_fits_3 17 rfl rfl)
theorem dX1_fits_86 : decode cX1_fits 86 = .ok (.getfield 78, 3) := dk_180 0 78 (dk_at dksX1_fits_3 18 rfl rfl)
theorem dX1_fits_89 : decode cX1_fits 89 = .ok (.iload_n 2, 1) := dk_28 (dk_at dksX1_fits_3 21 rfl rfl)
theorem dX1_fits_90 : decode cX1_fits 90 = .ok (.iaload, 1) := dk_46 (dk_at dksX1_fits_3 22 rfl rfl)
theorem dX1_fits_91 : decode cX1_fits 91 = .ok (.iaload, 1) := dk_46 (dk_at dksX1_fits_3 23 rfl rfl)
theorem dX1_fits_92 : decode cX1_fits 92 = .ok (.aload_n 0, 1) := dk_42 (dk_at dksX1_fits_4 0 rfl rfl)
theorem dX1_fits_93 : decode cX1_fits 93 = .ok (.getfield 84, 3) := dk_180 0 84 (dk_at dksX1_fits_4 1 rfl rfl)
theorem dX1_fits_96 : decode cX1_fits 96 = .ok (.iload_n 2, 1) := dk_28 (dk_at dksX1_fits_4 4 rfl rfl)
theorem dX1_fits_97 : decode cX1_fits 97 = .ok (.iaload, 1) := dk_46 (dk_at dksX1_fits_4 5 rfl rfl)
theorem dX1_fits_98 : decode cX1_fits 98 = .ok (.if_icmp .eq 5, 3) := dk_159 0 5 (dk_at dksX1_fits_4 6 rfl rfl)
theorem dX1_fits_101 : decode cX1_fits 101 = .ok (.iconst 0, 1) := dk_3 (dk_at dksX1_fits_4 9 rfl rfl)
theorem dX1_fits_102 : decode cX1_fits 102 = .ok (.ireturn, 1) := dk_172 (dk_at dksX1_fits_4 10 rfl rfl)
theorem dX1_fits_103 : decode cX1_fits 103 = .ok (.iinc 2 1, 3) := dk_132 2 1 (dk_at dksX1_fits_4 11 rfl rfl)
theorem dX1_fits_106 : decode cX1_fits 106 = .ok (.goto (-40), 3) := dk_167 255 216 (dk_at dksX1_fits_4 14 rfl rfl)
theorem dX1_fits_109 : decode cX1_fits 109 = .ok (.iconst 1, 1) := dk_4 (dk_at dksX1_fits_4 17 rfl rfl)
theorem dX1_fits_110 : decode cX1_fits 110 = .ok (.ireturn, 1) := dk_172 (dk_at dksX1_fits_4 18 rfl rfl)
abbrev cX1_copies : ByteArray := prog_1_method_5_code
def yX1_copies : MethodName := ⟨RX1, "copies", "([I[I)V"⟩
def dkwX1_copies_0 : List UInt8 := [3, 61, 28, 43, 190, 162, 0, 15, 43, 28, 42, 28, 46, 79, 132, 2, 1, 167, 255, 241, 177]
abbrev dktX1_copies_0 : List UInt8 := dkwX1_copies_0 ++ []
theorem dksX1_copies_0 : cX1_copies.data.toList.drop 0 = dktX1_copies_0 := by decide +kernel
theorem dX1_copies_0 : decode cX1_copies 0 = .ok (.iconst 0, 1) := dk_3 (dk_at dksX1_copies_0 0 rfl rfl)
theorem dX1_copies_1 : decode cX1_copies 1 = .ok (.istore_n 2, 1) := dk_61 (dk_at dksX1_copies_0 1 rfl rfl)
theorem dX1_copies_2 : decode cX1_copies 2 = .ok (.iload_n 2, 1) := dk_28 (dk_at dksX1_copies_0 2 rfl rfl)
theorem dX1_copies_3 : decode cX1_copies 3 = .ok (.aload_n 1, 1) := dk_43 (dk_at dksX1_copies_0 3 rfl rfl)
theorem dX1_copies_4 : decode cX1_copies 4 = .ok (.arraylength, 1) := dk_190 (dk_at dksX1_copies_0 4 rfl rfl)
theorem dX1_copies_5 : decode cX1_copies 5 = .ok (.if_icmp .ge 15, 3) := dk_162 0 15 (dk_at dksX1_copies_0 5 rfl rfl)
theorem dX1_copies_8 : decode cX1_copies 8 = .ok (.aload_n 1, 1) := dk_43 (dk_at dksX1_copies_0 8 rfl rfl)
theorem dX1_copies_9 : decode cX1_copies 9 = .ok (.iload_n 2, 1) := dk_28 (dk_at dksX1_copies_0 9 rfl rfl)
theorem dX1_copies_10 : decode cX1_copies 10 = .ok (.aload_n 0, 1) := dk_42 (dk_at dksX1_copies_0 10 rfl rfl)
theorem dX1_copies_11 : decode cX1_copies 11 = .ok (.iload_n 2, 1) := dk_28 (dk_at dksX1_copies_0 11 rfl rfl)
theorem dX1_copies_12 : decode cX1_copies 12 = .ok (.iaload, 1) := dk_46 (dk_at dksX1_copies_0 12 rfl rfl)
theorem dX1_copies_13 : decode cX1_copies 13 = .ok (.iastore, 1) := dk_79 (dk_at dksX1_copies_0 13 rfl rfl)
theorem dX1_copies_14 : decode cX1_copies 14 = .ok (.iinc 2 1, 3) := dk_132 2 1 (dk_at dksX1_copies_0 14 rfl rfl)
theorem dX1_copies_17 : decode cX1_copies 17 = .ok (.goto (-15), 3) := dk_167 255 241 (dk_at dksX1_copies_0 17 rfl rfl)
theorem dX1_copies_20 : decode cX1_copies 20 = .ok (.return_, 1) := dk_177 (dk_at dksX1_copies_0 20 rfl rfl)
abbrev cX1_passes : ByteArray := prog_1_method_23_code
def yX1_passes : MethodName := ⟨RX1, "passes", "(LBorrowedLives$State;I)V"⟩
def dkwX1_passes_1 : List UInt8 := [132, 3, 1, 167, 255, 232, 43, 89, 180, 0, 245, 4, 96, 181, 0, 245, 177]
abbrev dktX1_passes_1 : List UInt8 := dkwX1_passes_1 ++ []
def dkwX1_passes_0 : List UInt8 := [3, 62, 29, 42, 182, 0, 146, 162, 0, 22, 42, 43, 29, 28, 182, 0, 239, 42, 43, 29, 182, 0, 242]
abbrev dktX1_passes_0 : List UInt8 := dkwX1_passes_0 ++ dktX1_passes_1
theorem dksX1_passes_0 : cX1_passes.data.toList.drop 0 = dktX1_passes_0 := by decide +kernel
theorem dksX1_passes_1 : cX1_passes.data.toList.drop 23 = dktX1_passes_1 := dk_seg dksX1_passes_0 23 rfl rfl
theorem dX1_passes_0 : decode cX1_passes 0 = .ok (.iconst 0, 1) := dk_3 (dk_at dksX1_passes_0 0 rfl rfl)
theorem dX1_passes_1 : decode cX1_passes 1 = .ok (.istore_n 3, 1) := dk_62 (dk_at dksX1_passes_0 1 rfl rfl)
theorem dX1_passes_2 : decode cX1_passes 2 = .ok (.iload_n 3, 1) := dk_29 (dk_at dksX1_passes_0 2 rfl rfl)
theorem dX1_passes_3 : decode cX1_passes 3 = .ok (.aload_n 0, 1) := dk_42 (dk_at dksX1_passes_0 3 rfl rfl)
theorem dX1_passes_4 : decode cX1_passes 4 = .ok (.invokevirtual 146, 3) := dk_182 0 146 (dk_at dksX1_passes_0 4 rfl rfl)
theorem dX1_passes_7 : decode cX1_passes 7 = .ok (.if_icmp .ge 22, 3) := dk_162 0 22 (dk_at dksX1_passes_0 7 rfl rfl)
theorem dX1_passes_10 : decode cX1_passes 10 = .ok (.aload_n 0, 1) := dk_42 (dk_at dksX1_passes_0 10 rfl rfl)
theorem dX1_passes_11 : decode cX1_passes 11 = .ok (.aload_n 1, 1) := dk_43 (dk_at dksX1_passes_0 11 rfl rfl)
theorem dX1_passes_12 : decode cX1_passes 12 = .ok (.iload_n 3, 1) := dk_29 (dk_at dksX1_passes_0 12 rfl rfl)
theorem dX1_passes_13 : decode cX1_passes 13 = .ok (.iload_n 2, 1) := dk_28 (dk_at dksX1_passes_0 13 rfl rfl)
theorem dX1_passes_14 : decode cX1_passes 14 = .ok (.invokevirtual 239, 3) := dk_182 0 239 (dk_at dksX1_passes_0 14 rfl rfl)
theorem dX1_passes_17 : decode cX1_passes 17 = .ok (.aload_n 0, 1) := dk_42 (dk_at dksX1_passes_0 17 rfl rfl)
theorem dX1_passes_18 : decode cX1_passes 18 = .ok (.aload_n 1, 1) := dk_43 (dk_at dksX1_passes_0 18 rfl rfl)
theorem dX1_passes_19 : decode cX1_passes 19 = .ok (.iload_n 3, 1) := dk_29 (dk_at dksX1_passes_0 19 rfl rfl)
theorem dX1_passes_20 : decode cX1_passes 20 = .ok (.invokevirtual 242, 3) := dk_182 0 242 (dk_at dksX1_passes_0 20 rfl rfl)
theorem dX1_passes_23 : decode cX1_passes 23 = .ok (.iinc 3 1, 3) := dk_132 3 1 (dk_at dksX1_passes_1 0 rfl rfl)
theorem dX1_passes_26 : decode cX1_passes 26 = .ok (.goto (-24), 3) := dk_167 255 232 (dk_at dksX1_passes_1 3 rfl rfl)
theorem dX1_passes_29 : decode cX1_passes 29 = .ok (.aload_n 1, 1) := dk_43 (dk_at dksX1_passes_1 6 rfl rfl)
theorem dX1_passes_30 : decode cX1_passes 30 = .ok (.dup, 1) := dk_89 (dk_at dksX1_passes_1 7 rfl rfl)
theorem dX1_passes_31 : decode cX1_passes 31 = .ok (.getfield 245, 3) := dk_180 0 245 (dk_at dksX1_passes_1 8 rfl rfl)
theorem dX1_passes_34 : decode cX1_passes 34 = .ok (.iconst 1, 1) := dk_4 (dk_at dksX1_passes_1 11 rfl rfl)
theorem dX1_passes_35 : decode cX1_passes 35 = .ok (.iadd, 1) := dk_96 (dk_at dksX1_passes_1 12 rfl rfl)
theorem dX1_passes_36 : decode cX1_passes 36 = .ok (.putfield 245, 3) := dk_181 0 245 (dk_at dksX1_passes_1 13 rfl rfl)
theorem dX1_passes_39 : decode cX1_passes 39 = .ok (.return_, 1) := dk_177 (dk_at dksX1_passes_1 16 rfl rfl)
abbrev cX1_spends : ByteArray := prog_1_method_21_code
def yX1_spends : MethodName := ⟨RX1, "spends", "(LBorrowedLives$State;II)V"⟩
def dkwX1_spends_7 : List UInt8 := [21, 8, 21, 6, 21, 7, 100, 182, 0, 225, 177]
abbrev dktX1_spends_7 : List UInt8 := dkwX1_spends_7 ++ []
def dkwX1_spends_6 : List UInt8 := [43, 28, 182, 0, 232, 54, 8, 43, 180, 0, 180, 28, 92, 46, 21, 7, 100, 79, 21, 8, 155, 0, 14, 43]
abbrev dktX1_spends_6 : List UInt8 := dkwX1_spends_6 ++ dktX1_spends_7
def dkwX1_spends_5 : List UInt8 := [182, 0, 229, 153, 0, 17, 21, 6, 43, 180, 0, 180, 28, 46, 184, 0, 1, 167, 0, 4, 3, 54, 7, 42]
abbrev dktX1_spends_5 : List UInt8 := dkwX1_spends_5 ++ dktX1_spends_6
def dkwX1_spends_4 : List UInt8 := [46, 21, 6, 100, 79, 25, 5, 182, 0, 201, 153, 0, 12, 43, 21, 4, 21, 6, 182, 0, 225, 177, 25, 5]
abbrev dktX1_spends_4 : List UInt8 := dkwX1_spends_4 ++ dktX1_spends_5
def dkwX1_spends_3 : List UInt8 := [29, 42, 180, 0, 61, 3, 46, 184, 0, 1, 184, 0, 219, 182, 0, 223, 54, 6, 43, 180, 0, 177, 28, 92]
abbrev dktX1_spends_3 : List UInt8 := dkwX1_spends_3 ++ dktX1_spends_4
def dkwX1_spends_2 : List UInt8 := [167, 0, 17, 42, 180, 0, 35, 180, 0, 209, 42, 180, 0, 61, 182, 0, 213, 54, 6, 25, 5, 21, 6, 3]
abbrev dktX1_spends_2 : List UInt8 := dkwX1_spends_2 ++ dktX1_spends_3
def dkwX1_spends_1 : List UInt8 := [182, 0, 201, 182, 0, 205, 42, 180, 0, 35, 180, 0, 209, 199, 0, 13, 25, 5, 180, 0, 170, 5, 104]
abbrev dktX1_spends_1 : List UInt8 := dkwX1_spends_1 ++ dktX1_spends_2
def dkwX1_spends_0 : List UInt8 := [43, 180, 0, 189, 28, 46, 54, 4, 42, 21, 4, 182, 0, 152, 58, 5, 42, 43, 28, 21, 4, 25, 5]
abbrev dktX1_spends_0 : List UInt8 := dkwX1_spends_0 ++ dktX1_spends_1
theorem dksX1_spends_0 : cX1_spends.data.toList.drop 0 = dktX1_spends_0 := by decide +kernel
theorem dksX1_spends_1 : cX1_spends.data.toList.drop 23 = dktX1_spends_1 := dk_seg dksX1_spends_0 23 rfl rfl
theorem dksX1_spends_2 : cX1_spends.data.toList.drop 46 = dktX1_spends_2 := dk_seg dksX1_spends_1 23 rfl rfl
theorem dksX1_spends_3 : cX1_spends.data.toList.drop 70 = dktX1_spends_3 := dk_seg dksX1_spends_2 24 rfl rfl
theorem dksX1_spends_4 : cX1_spends.data.toList.drop 94 = dktX1_spends_4 := dk_seg dksX1_spends_3 24 rfl rfl
theorem dksX1_spends_5 : cX1_spends.data.toList.drop 118 = dktX1_spends_5 := dk_seg dksX1_spends_4 24 rfl rfl
theorem dksX1_spends_6 : cX1_spends.data.toList.drop 142 = dktX1_spends_6 := dk_seg dksX1_spends_5 24 rfl rfl
theorem dksX1_spends_7 : cX1_spends.data.toList.drop 166 = dktX1_spends_7 := dk_seg dksX1_spends_6 24 rfl rfl
theorem dX1_spends_0 : decode cX1_spends 0 = .ok (.aload_n 1, 1) := dk_43 (dk_at dksX1_spends_0 0 rfl rfl)
theorem dX1_spends_1 : decode cX1_spends 1 = .ok (.getfield 189, 3) := dk_180 0 189 (dk_at dksX1_spends_0 1 rfl rfl)
theorem dX1_spends_4 : decode cX1_spends 4 = .ok (.iload_n 2, 1) := dk_28 (dk_at dksX1_spends_0 4 rfl rfl)
theorem dX1_spends_5 : decode cX1_spends 5 = .ok (.iaload, 1) := dk_46 (dk_at dksX1_spends_0 5 rfl rfl)
theorem dX1_spends_6 : decode cX1_spends 6 = .ok (.istore 4, 2) := dk_54 4 (dk_at dksX1_spends_0 6 rfl rfl)
theorem dX1_spends_8 : decode cX1_spends 8 = .ok (.aload_n 0, 1) := dk_42 (dk_at dksX1_spends_0 8 rfl rfl)
theorem dX1_spends_9 : decode cX1_spends 9 = .ok (.iload 4, 2) := dk_21 4 (dk_at dksX1_spends_0 9 rfl rfl)
theorem dX1_spends_11 : decode cX1_spends 11 = .ok (.invokevirtual 152, 3) := dk_182 0 152 (dk_at dksX1_spends_0 11 rfl rfl)
theorem dX1_spends_14 : decode cX1_spends 14 = .ok (.astore 5, 2) := dk_58 5 (dk_at dksX1_spends_0 14 rfl rfl)
theorem dX1_spends_16 : decode cX1_spends 16 = .ok (.aload_n 0, 1) := dk_42 (dk_at dksX1_spends_0 16 rfl rfl)
theorem dX1_spends_17 : decode cX1_spends 17 = .ok (.aload_n 1, 1) := dk_43 (dk_at dksX1_spends_0 17 rfl rfl)
theorem dX1_spends_18 : decode cX1_spends 18 = .ok (.iload_n 2, 1) := dk_28 (dk_at dksX1_spends_0 18 rfl rfl)
theorem dX1_spends_19 : decode cX1_spends 19 = .ok (.iload 4, 2) := dk_21 4 (dk_at dksX1_spends_0 19 rfl rfl)
theorem dX1_spends_21 : decode cX1_spends 21 = .ok (.aload 5, 2) := dk_25 5 (dk_at dksX1_spends_0 21 rfl rfl)
theorem dX1_spends_23 : decode cX1_spends 23 = .ok (.invokevirtual 201, 3) := dk_182 0 201 (dk_at dksX1_spends_1 0 rfl rfl)
theorem dX1_spends_26 : decode cX1_spends 26 = .ok (.invokevirtual 205, 3) := dk_182 0 205 (dk_at dksX1_spends_1 3 rfl rfl)
theorem dX1_spends_29 : decode cX1_spends 29 = .ok (.aload_n 0, 1) := dk_42 (dk_at dksX1_spends_1 6 rfl rfl)
theorem dX1_spends_30 : decode cX1_spends 30 = .ok (.getfield 35, 3) := dk_180 0 35 (dk_at dksX1_spends_1 7 rfl rfl)
theorem dX1_spends_33 : decode cX1_spends 33 = .ok (.getfield 209, 3) := dk_180 0 209 (dk_at dksX1_spends_1 10 rfl rfl)
theorem dX1_spends_36 : decode cX1_spends 36 = .ok (.ifnonnull 13, 3) := dk_199 0 13 (dk_at dksX1_spends_1 13 rfl rfl)
theorem dX1_spends_39 : decode cX1_spends 39 = .ok (.aload 5, 2) := dk_25 5 (dk_at dksX1_spends_1 16 rfl rfl)
theorem dX1_spends_41 : decode cX1_spends 41 = .ok (.getfield 170, 3) := dk_180 0 170 (dk_at dksX1_spends_1 18 rfl rfl)
theorem dX1_spends_44 : decode cX1_spends 44 = .ok (.iconst 2, 1) := dk_5 (dk_at dksX1_spends_1 21 rfl rfl)
theorem dX1_spends_45 : decode cX1_spends 45 = .ok (.imul, 1) := dk_104 (dk_at dksX1_spends_1 22 rfl rfl)
theorem dX1_spends_46 : decode cX1_spends 46 = .ok (.goto 17, 3) := dk_167 0 17 (dk_at dksX1_spends_2 0 rfl rfl)
theorem dX1_spends_49 : decode cX1_spends 49 = .ok (.aload_n 0, 1) := dk_42 (dk_at dksX1_spends_2 3 rfl rfl)
theorem dX1_spends_50 : decode cX1_spends 50 = .ok (.getfield 35, 3) := dk_180 0 35 (dk_at dksX1_spends_2 4 rfl rfl)
theorem dX1_spends_53 : decode cX1_spends 53 = .ok (.getfield 209, 3) := dk_180 0 209 (dk_at dksX1_spends_2 7 rfl rfl)
theorem dX1_spends_56 : decode cX1_spends 56 = .ok (.aload_n 0, 1) := dk_42 (dk_at dksX1_spends_2 10 rfl rfl)
theorem dX1_spends_57 : decode cX1_spends 57 = .ok (.getfield 61, 3) := dk_180 0 61 (dk_at dksX1_spends_2 11 rfl rfl)
theorem dX1_spends_60 : decode cX1_spends 60 = .ok (.invokevirtual 213, 3) := dk_182 0 213 (dk_at dksX1_spends_2 14 rfl rfl)
theorem dX1_spends_63 : decode cX1_spends 63 = .ok (.istore 6, 2) := dk_54 6 (dk_at dksX1_spends_2 17 rfl rfl)
theorem dX1_spends_65 : decode cX1_spends 65 = .ok (.aload 5, 2) := dk_25 5 (dk_at dksX1_spends_2 19 rfl rfl)
theorem dX1_spends_67 : decode cX1_spends 67 = .ok (.iload 6, 2) := dk_21 6 (dk_at dksX1_spends_2 21 rfl rfl)
theorem dX1_spends_69 : decode cX1_spends 69 = .ok (.iconst 0, 1) := dk_3 (dk_at dksX1_spends_2 23 rfl rfl)
theorem dX1_spends_70 : decode cX1_spends 70 = .ok (.iload_n 3, 1) := dk_29 (dk_at dksX1_spends_3 0 rfl rfl)
theorem dX1_spends_71 : decode cX1_spends 71 = .ok (.aload_n 0, 1) := dk_42 (dk_at dksX1_spends_3 1 rfl rfl)
theorem dX1_spends_72 : decode cX1_spends 72 = .ok (.getfield 61, 3) := dk_180 0 61 (dk_at dksX1_spends_3 2 rfl rfl)
theorem dX1_spends_75 : decode cX1_spends 75 = .ok (.iconst 0, 1) := dk_3 (dk_at dksX1_spends_3 5 rfl rfl)
theorem dX1_spends_76 : decode cX1_spends 76 = .ok (.iaload, 1) := dk_46 (dk_at dksX1_spends_3 6 rfl rfl)
theorem dX1_spends_77 : decode cX1_spends 77 = .ok (.invokestatic 1, 3) := dk_184 0 1 (dk_at dksX1_spends_3 7 rfl rfl)
theorem dX1_spends_80 : decode cX1_spends 80 = .ok (.invokestatic 219, 3) := dk_184 0 219 (dk_at dksX1_spends_3 10 rfl rfl)
theorem dX1_spends_83 : decode cX1_spends 83 = .ok (.invokevirtual 223, 3) := dk_182 0 223 (dk_at dksX1_spends_3 13 rfl rfl)
theorem dX1_spends_86 : decode cX1_spends 86 = .ok (.istore 6, 2) := dk_54 6 (dk_at dksX1_spends_3 16 rfl rfl)
theorem dX1_spends_88 : decode cX1_spends 88 = .ok (.aload_n 1, 1) := dk_43 (dk_at dksX1_spends_3 18 rfl rfl)
theorem dX1_spends_89 : decode cX1_spends 89 = .ok (.getfield 177, 3) := dk_180 0 177 (dk_at dksX1_spends_3 19 rfl rfl)
theorem dX1_spends_92 : decode cX1_spends 92 = .ok (.iload_n 2, 1) := dk_28 (dk_at dksX1_spends_3 22 rfl rfl)
theorem dX1_spends_93 : decode cX1_spends 93 = .ok (.dup2, 1) := dk_92 (dk_at dksX1_spends_3 23 rfl rfl)
theorem dX1_spends_94 : decode cX1_spends 94 = .ok (.iaload, 1) := dk_46 (dk_at dksX1_spends_4 0 rfl rfl)
theorem dX1_spends_95 : decode cX1_spends 95 = .ok (.iload 6, 2) := dk_21 6 (dk_at dksX1_spends_4 1 rfl rfl)
theorem dX1_spends_97 : decode cX1_spends 97 = .ok (.isub, 1) := dk_100 (dk_at dksX1_spends_4 3 rfl rfl)
theorem dX1_spends_98 : decode cX1_spends 98 = .ok (.iastore, 1) := dk_79 (dk_at dksX1_spends_4 4 rfl rfl)
theorem dX1_spends_99 : decode cX1_spends 99 = .ok (.aload 5, 2) := dk_25 5 (dk_at dksX1_spends_4 5 rfl rfl)
theorem dX1_spends_101 : decode cX1_spends 101 = .ok (.invokevirtual 201, 3) := dk_182 0 201 (dk_at dksX1_spends_4 7 rfl rfl)
theorem dX1_spends_104 : decode cX1_spends 104 = .ok (.ifCond .eq 12, 3) := dk_153 0 12 (dk_at dksX1_spends_4 10 rfl rfl)
theorem dX1_spends_107 : decode cX1_spends 107 = .ok (.aload_n 1, 1) := dk_43 (dk_at dksX1_spends_4 13 rfl rfl)
theorem dX1_spends_108 : decode cX1_spends 108 = .ok (.iload 4, 2) := dk_21 4 (dk_at dksX1_spends_4 14 rfl rfl)
theorem dX1_spends_110 : decode cX1_spends 110 = .ok (.iload 6, 2) := dk_21 6 (dk_at dksX1_spends_4 16 rfl rfl)
theorem dX1_spends_112 : decode cX1_spends 112 = .ok (.invokevirtual 225, 3) := dk_182 0 225 (dk_at dksX1_spends_4 18 rfl rfl)
theorem dX1_spends_115 : decode cX1_spends 115 = .ok (.return_, 1) := dk_177 (dk_at dksX1_spends_4 21 rfl rfl)
theorem dX1_spends_116 : decode cX1_spends 116 = .ok (.aload 5, 2) := dk_25 5 (dk_at dksX1_spends_4 22 rfl rfl)
theorem dX1_spends_118 : decode cX1_spends 118 = .ok (.invokevirtual 229, 3) := dk_182 0 229 (dk_at dksX1_spends_5 0 rfl rfl)
theorem dX1_spends_121 : decode cX1_spends 121 = .ok (.ifCond .eq 17, 3) := dk_153 0 17 (dk_at dksX1_spends_5 3 rfl rfl)
theorem dX1_spends_124 : decode cX1_spends 124 = .ok (.iload 6, 2) := dk_21 6 (dk_at dksX1_spends_5 6 rfl rfl)
theorem dX1_spends_126 : decode cX1_spends 126 = .ok (.aload_n 1, 1) := dk_43 (dk_at dksX1_spends_5 8 rfl rfl)
theorem dX1_spends_127 : decode cX1_spends 127 = .ok (.getfield 180, 3) := dk_180 0 180 (dk_at dksX1_spends_5 9 rfl rfl)
theorem dX1_spends_130 : decode cX1_spends 130 = .ok (.iload_n 2, 1) := dk_28 (dk_at dksX1_spends_5 12 rfl rfl)
theorem dX1_spends_131 : decode cX1_spends 131 = .ok (.iaload, 1) := dk_46 (dk_at dksX1_spends_5 13 rfl rfl)
theorem dX1_spends_132 : decode cX1_spends 132 = .ok (.invokestatic 1, 3) := dk_184 0 1 (dk_at dksX1_spends_5 14 rfl rfl)
theorem dX1_spends_135 : decode cX1_spends 135 = .ok (.goto 4, 3) := dk_167 0 4 (dk_at dksX1_spends_5 17 rfl rfl)
theorem dX1_spends_138 : decode cX1_spends 138 = .ok (.iconst 0, 1) := dk_3 (dk_at dksX1_spends_5 20 rfl rfl)
theorem dX1_spends_139 : decode cX1_spends 139 = .ok (.istore 7, 2) := dk_54 7 (dk_at dksX1_spends_5 21 rfl rfl)
theorem dX1_spends_141 : decode cX1_spends 141 = .ok (.aload_n 0, 1) := dk_42 (dk_at dksX1_spends_5 23 rfl rfl)
theorem dX1_spends_142 : decode cX1_spends 142 = .ok (.aload_n 1, 1) := dk_43 (dk_at dksX1_spends_6 0 rfl rfl)
theorem dX1_spends_143 : decode cX1_spends 143 = .ok (.iload_n 2, 1) := dk_28 (dk_at dksX1_spends_6 1 rfl rfl)
theorem dX1_spends_144 : decode cX1_spends 144 = .ok (.invokevirtual 232, 3) := dk_182 0 232 (dk_at dksX1_spends_6 2 rfl rfl)
theorem dX1_spends_147 : decode cX1_spends 147 = .ok (.istore 8, 2) := dk_54 8 (dk_at dksX1_spends_6 5 rfl rfl)
theorem dX1_spends_149 : decode cX1_spends 149 = .ok (.aload_n 1, 1) := dk_43 (dk_at dksX1_spends_6 7 rfl rfl)
theorem dX1_spends_150 : decode cX1_spends 150 = .ok (.getfield 180, 3) := dk_180 0 180 (dk_at dksX1_spends_6 8 rfl rfl)
theorem dX1_spends_153 : decode cX1_spends 153 = .ok (.iload_n 2, 1) := dk_28 (dk_at dksX1_spends_6 11 rfl rfl)
theorem dX1_spends_154 : decode cX1_spends 154 = .ok (.dup2, 1) := dk_92 (dk_at dksX1_spends_6 12 rfl rfl)
theorem dX1_spends_155 : decode cX1_spends 155 = .ok (.iaload, 1) := dk_46 (dk_at dksX1_spends_6 13 rfl rfl)
theorem dX1_spends_156 : decode cX1_spends 156 = .ok (.iload 7, 2) := dk_21 7 (dk_at dksX1_spends_6 14 rfl rfl)
theorem dX1_spends_158 : decode cX1_spends 158 = .ok (.isub, 1) := dk_100 (dk_at dksX1_spends_6 16 rfl rfl)
theorem dX1_spends_159 : decode cX1_spends 159 = .ok (.iastore, 1) := dk_79 (dk_at dksX1_spends_6 17 rfl rfl)
theorem dX1_spends_160 : decode cX1_spends 160 = .ok (.iload 8, 2) := dk_21 8 (dk_at dksX1_spends_6 18 rfl rfl)
theorem dX1_spends_162 : decode cX1_spends 162 = .ok (.ifCond .lt 14, 3) := dk_155 0 14 (dk_at dksX1_spends_6 20 rfl rfl)
theorem dX1_spends_165 : decode cX1_spends 165 = .ok (.aload_n 1, 1) := dk_43 (dk_at dksX1_spends_6 23 rfl rfl)
theorem dX1_spends_166 : decode cX1_spends 166 = .ok (.iload 8, 2) := dk_21 8 (dk_at dksX1_spends_7 0 rfl rfl)
theorem dX1_spends_168 : decode cX1_spends 168 = .ok (.iload 6, 2) := dk_21 6 (dk_at dksX1_spends_7 2 rfl rfl)
theorem dX1_spends_170 : decode cX1_spends 170 = .ok (.iload 7, 2) := dk_21 7 (dk_at dksX1_spends_7 4 rfl rfl)
theorem dX1_spends_172 : decode cX1_spends 172 = .ok (.isub, 1) := dk_100 (dk_at dksX1_spends_7 6 rfl rfl)
theorem dX1_spends_173 : decode cX1_spends 173 = .ok (.invokevirtual 225, 3) := dk_182 0 225 (dk_at dksX1_spends_7 7 rfl rfl)
theorem dX1_spends_176 : decode cX1_spends 176 = .ok (.return_, 1) := dk_177 (dk_at dksX1_spends_7 10 rfl rfl)
abbrev cX1_lays : ByteArray := prog_1_method_19_code
def yX1_lays : MethodName := ⟨RX1, "lays", "(LBorrowedLives$State;IIZ)V"⟩
def dkwX1_lays_3 : List UInt8 := [180, 0, 170, 79, 42, 180, 0, 61, 7, 42, 29, 182, 0, 152, 182, 0, 167, 79, 177]
abbrev dktX1_lays_3 : List UInt8 := dkwX1_lays_3 ++ []
def dkwX1_lays_2 : List UInt8 := [79, 42, 180, 0, 61, 5, 43, 180, 0, 183, 28, 46, 79, 42, 180, 0, 61, 6, 42, 29, 182, 0, 152]
abbrev dktX1_lays_2 : List UInt8 := dkwX1_lays_2 ++ dktX1_lays_3
def dkwX1_lays_1 : List UInt8 := [28, 46, 43, 180, 0, 186, 28, 46, 100, 184, 0, 7, 79, 42, 180, 0, 61, 4, 43, 180, 0, 180, 28, 46]
abbrev dktX1_lays_1 : List UInt8 := dkwX1_lays_1 ++ dktX1_lays_2
def dkwX1_lays_0 : List UInt8 := [42, 180, 0, 61, 3, 21, 4, 153, 0, 12, 43, 180, 0, 177, 28, 46, 167, 0, 20, 3, 43, 180, 0, 177]
abbrev dktX1_lays_0 : List UInt8 := dkwX1_lays_0 ++ dktX1_lays_1
theorem dksX1_lays_0 : cX1_lays.data.toList.drop 0 = dktX1_lays_0 := by decide +kernel
theorem dksX1_lays_1 : cX1_lays.data.toList.drop 24 = dktX1_lays_1 := dk_seg dksX1_lays_0 24 rfl rfl
theorem dksX1_lays_2 : cX1_lays.data.toList.drop 48 = dktX1_lays_2 := dk_seg dksX1_lays_1 24 rfl rfl
theorem dksX1_lays_3 : cX1_lays.data.toList.drop 71 = dktX1_lays_3 := dk_seg dksX1_lays_2 23 rfl rfl
theorem dX1_lays_0 : decode cX1_lays 0 = .ok (.aload_n 0, 1) := dk_42 (dk_at dksX1_lays_0 0 rfl rfl)
theorem dX1_lays_1 : decode cX1_lays 1 = .ok (.getfield 61, 3) := dk_180 0 61 (dk_at dksX1_lays_0 1 rfl rfl)
theorem dX1_lays_4 : decode cX1_lays 4 = .ok (.iconst 0, 1) := dk_3 (dk_at dksX1_lays_0 4 rfl rfl)
theorem dX1_lays_5 : decode cX1_lays 5 = .ok (.iload 4, 2) := dk_21 4 (dk_at dksX1_lays_0 5 rfl rfl)
theorem dX1_lays_7 : decode cX1_lays 7 = .ok (.ifCond .eq 12, 3) := dk_153 0 12 (dk_at dksX1_lays_0 7 rfl rfl)
theorem dX1_lays_10 : decode cX1_lays 10 = .ok (.aload_n 1, 1) := dk_43 (dk_at dksX1_lays_0 10 rfl rfl)
theorem dX1_lays_11 : decode cX1_lays 11 = .ok (.getfield 177, 3) := dk_180 0 177 (dk_at dksX1_lays_0 11 rfl rfl)
theorem dX1_lays_14 : decode cX1_lays 14 = .ok (.iload_n 2, 1) := dk_28 (dk_at dksX1_lays_0 14 rfl rfl)
theorem dX1_lays_15 : decode cX1_lays 15 = .ok (.iaload, 1) := dk_46 (dk_at dksX1_lays_0 15 rfl rfl)
theorem dX1_lays_16 : decode cX1_lays 16 = .ok (.goto 20, 3) := dk_167 0 20 (dk_at dksX1_lays_0 16 rfl rfl)
theorem dX1_lays_19 : decode cX1_lays 19 = .ok (.iconst 0, 1) := dk_3 (dk_at dksX1_lays_0 19 rfl rfl)
theorem dX1_lays_20 : decode cX1_lays 20 = .ok (.aload_n 1, 1) := dk_43 (dk_at dksX1_lays_0 20 rfl rfl)
theorem dX1_lays_21 : decode cX1_lays 21 = .ok (.getfield 177, 3) := dk_180 0 177 (dk_at dksX1_lays_0 21 rfl rfl)
theorem dX1_lays_24 : decode cX1_lays 24 = .ok (.iload_n 2, 1) := dk_28 (dk_at dksX1_lays_1 0 rfl rfl)
theorem dX1_lays_25 : decode cX1_lays 25 = .ok (.iaload, 1) := dk_46 (dk_at dksX1_lays_1 1 rfl rfl)
theorem dX1_lays_26 : decode cX1_lays 26 = .ok (.aload_n 1, 1) := dk_43 (dk_at dksX1_lays_1 2 rfl rfl)
theorem dX1_lays_27 : decode cX1_lays 27 = .ok (.getfield 186, 3) := dk_180 0 186 (dk_at dksX1_lays_1 3 rfl rfl)
theorem dX1_lays_30 : decode cX1_lays 30 = .ok (.iload_n 2, 1) := dk_28 (dk_at dksX1_lays_1 6 rfl rfl)
theorem dX1_lays_31 : decode cX1_lays 31 = .ok (.iaload, 1) := dk_46 (dk_at dksX1_lays_1 7 rfl rfl)
theorem dX1_lays_32 : decode cX1_lays 32 = .ok (.isub, 1) := dk_100 (dk_at dksX1_lays_1 8 rfl rfl)
theorem dX1_lays_33 : decode cX1_lays 33 = .ok (.invokestatic 7, 3) := dk_184 0 7 (dk_at dksX1_lays_1 9 rfl rfl)
theorem dX1_lays_36 : decode cX1_lays 36 = .ok (.iastore, 1) := dk_79 (dk_at dksX1_lays_1 12 rfl rfl)
theorem dX1_lays_37 : decode cX1_lays 37 = .ok (.aload_n 0, 1) := dk_42 (dk_at dksX1_lays_1 13 rfl rfl)
theorem dX1_lays_38 : decode cX1_lays 38 = .ok (.getfield 61, 3) := dk_180 0 61 (dk_at dksX1_lays_1 14 rfl rfl)
theorem dX1_lays_41 : decode cX1_lays 41 = .ok (.iconst 1, 1) := dk_4 (dk_at dksX1_lays_1 17 rfl rfl)
theorem dX1_lays_42 : decode cX1_lays 42 = .ok (.aload_n 1, 1) := dk_43 (dk_at dksX1_lays_1 18 rfl rfl)
theorem dX1_lays_43 : decode cX1_lays 43 = .ok (.getfield 180, 3) := dk_180 0 180 (dk_at dksX1_lays_1 19 rfl rfl)
theorem dX1_lays_46 : decode cX1_lays 46 = .ok (.iload_n 2, 1) := dk_28 (dk_at dksX1_lays_1 22 rfl rfl)
theorem dX1_lays_47 : decode cX1_lays 47 = .ok (.iaload, 1) := dk_46 (dk_at dksX1_lays_1 23 rfl rfl)
theorem dX1_lays_48 : decode cX1_lays 48 = .ok (.iastore, 1) := dk_79 (dk_at dksX1_lays_2 0 rfl rfl)
theorem dX1_lays_49 : decode cX1_lays 49 = .ok (.aload_n 0, 1) := dk_42 (dk_at dksX1_lays_2 1 rfl rfl)
theorem dX1_lays_50 : decode cX1_lays 50 = .ok (.getfield 61, 3) := dk_180 0 61 (dk_at dksX1_lays_2 2 rfl rfl)
theorem dX1_lays_53 : decode cX1_lays 53 = .ok (.iconst 2, 1) := dk_5 (dk_at dksX1_lays_2 5 rfl rfl)
theorem dX1_lays_54 : decode cX1_lays 54 = .ok (.aload_n 1, 1) := dk_43 (dk_at dksX1_lays_2 6 rfl rfl)
theorem dX1_lays_55 : decode cX1_lays 55 = .ok (.getfield 183, 3) := dk_180 0 183 (dk_at dksX1_lays_2 7 rfl rfl)
theorem dX1_lays_58 : decode cX1_lays 58 = .ok (.iload_n 2, 1) := dk_28 (dk_at dksX1_lays_2 10 rfl rfl)
theorem dX1_lays_59 : decode cX1_lays 59 = .ok (.iaload, 1) := dk_46 (dk_at dksX1_lays_2 11 rfl rfl)
theorem dX1_lays_60 : decode cX1_lays 60 = .ok (.iastore, 1) := dk_79 (dk_at dksX1_lays_2 12 rfl rfl)
theorem dX1_lays_61 : decode cX1_lays 61 = .ok (.aload_n 0, 1) := dk_42 (dk_at dksX1_lays_2 13 rfl rfl)
theorem dX1_lays_62 : decode cX1_lays 62 = .ok (.getfield 61, 3) := dk_180 0 61 (dk_at dksX1_lays_2 14 rfl rfl)
theorem dX1_lays_65 : decode cX1_lays 65 = .ok (.iconst 3, 1) := dk_6 (dk_at dksX1_lays_2 17 rfl rfl)
theorem dX1_lays_66 : decode cX1_lays 66 = .ok (.aload_n 0, 1) := dk_42 (dk_at dksX1_lays_2 18 rfl rfl)
theorem dX1_lays_67 : decode cX1_lays 67 = .ok (.iload_n 3, 1) := dk_29 (dk_at dksX1_lays_2 19 rfl rfl)
theorem dX1_lays_68 : decode cX1_lays 68 = .ok (.invokevirtual 152, 3) := dk_182 0 152 (dk_at dksX1_lays_2 20 rfl rfl)
theorem dX1_lays_71 : decode cX1_lays 71 = .ok (.getfield 170, 3) := dk_180 0 170 (dk_at dksX1_lays_3 0 rfl rfl)
theorem dX1_lays_74 : decode cX1_lays 74 = .ok (.iastore, 1) := dk_79 (dk_at dksX1_lays_3 3 rfl rfl)
theorem dX1_lays_75 : decode cX1_lays 75 = .ok (.aload_n 0, 1) := dk_42 (dk_at dksX1_lays_3 4 rfl rfl)
theorem dX1_lays_76 : decode cX1_lays 76 = .ok (.getfield 61, 3) := dk_180 0 61 (dk_at dksX1_lays_3 5 rfl rfl)
theorem dX1_lays_79 : decode cX1_lays 79 = .ok (.iconst 4, 1) := dk_7 (dk_at dksX1_lays_3 8 rfl rfl)
theorem dX1_lays_80 : decode cX1_lays 80 = .ok (.aload_n 0, 1) := dk_42 (dk_at dksX1_lays_3 9 rfl rfl)
theorem dX1_lays_81 : decode cX1_lays 81 = .ok (.iload_n 3, 1) := dk_29 (dk_at dksX1_lays_3 10 rfl rfl)
theorem dX1_lays_82 : decode cX1_lays 82 = .ok (.invokevirtual 152, 3) := dk_182 0 152 (dk_at dksX1_lays_3 11 rfl rfl)
theorem dX1_lays_85 : decode cX1_lays 85 = .ok (.invokevirtual 167, 3) := dk_182 0 167 (dk_at dksX1_lays_3 14 rfl rfl)
theorem dX1_lays_88 : decode cX1_lays 88 = .ok (.iastore, 1) := dk_79 (dk_at dksX1_lays_3 17 rfl rfl)
theorem dX1_lays_89 : decode cX1_lays 89 = .ok (.return_, 1) := dk_177 (dk_at dksX1_lays_3 18 rfl rfl)
abbrev cX1_between : ByteArray := prog_1_method_2_code
def yX1_between : MethodName := ⟨RX1, "between", "(III)I"⟩
def dkwX1_between_0 : List UInt8 := [27, 28, 26, 184, 0, 1, 184, 0, 7, 172]
abbrev dktX1_between_0 : List UInt8 := dkwX1_between_0 ++ []
theorem dksX1_between_0 : cX1_between.data.toList.drop 0 = dktX1_between_0 := by decide +kernel
theorem dX1_between_0 : decode cX1_between 0 = .ok (.iload_n 1, 1) := dk_27 (dk_at dksX1_between_0 0 rfl rfl)
theorem dX1_between_1 : decode cX1_between 1 = .ok (.iload_n 2, 1) := dk_28 (dk_at dksX1_between_0 1 rfl rfl)
theorem dX1_between_2 : decode cX1_between 2 = .ok (.iload_n 0, 1) := dk_26 (dk_at dksX1_between_0 2 rfl rfl)
theorem dX1_between_3 : decode cX1_between 3 = .ok (.invokestatic 1, 3) := dk_184 0 1 (dk_at dksX1_between_0 3 rfl rfl)
theorem dX1_between_6 : decode cX1_between 6 = .ok (.invokestatic 7, 3) := dk_184 0 7 (dk_at dksX1_between_0 6 rfl rfl)
theorem dX1_between_9 : decode cX1_between 9 = .ok (.ireturn, 1) := dk_172 (dk_at dksX1_between_0 9 rfl rfl)
abbrev cX1_poorest : ByteArray := prog_1_method_20_code
def yX1_poorest : MethodName := ⟨RX1, "poorest", "(LBorrowedLives$State;I)I"⟩
def dkwX1_poorest_2 : List UInt8 := [167, 255, 215, 29, 172]
abbrev dktX1_poorest_2 : List UInt8 := dkwX1_poorest_2 ++ []
def dkwX1_poorest_1 : List UInt8 := [43, 180, 0, 177, 21, 4, 46, 43, 180, 0, 177, 29, 46, 162, 0, 6, 21, 4, 62, 132, 4, 1]
abbrev dktX1_poorest_1 : List UInt8 := dkwX1_poorest_1 ++ dktX1_poorest_2
def dkwX1_poorest_0 : List UInt8 := [2, 62, 3, 54, 4, 21, 4, 42, 182, 0, 146, 162, 0, 38, 21, 4, 28, 159, 0, 26, 29, 155, 0, 19]
abbrev dktX1_poorest_0 : List UInt8 := dkwX1_poorest_0 ++ dktX1_poorest_1
theorem dksX1_poorest_0 : cX1_poorest.data.toList.drop 0 = dktX1_poorest_0 := by decide +kernel
theorem dksX1_poorest_1 : cX1_poorest.data.toList.drop 24 = dktX1_poorest_1 := dk_seg dksX1_poorest_0 24 rfl rfl
theorem dksX1_poorest_2 : cX1_poorest.data.toList.drop 46 = dktX1_poorest_2 := dk_seg dksX1_poorest_1 22 rfl rfl
theorem dX1_poorest_0 : decode cX1_poorest 0 = .ok (.iconst (-1), 1) := dk_2 (dk_at dksX1_poorest_0 0 rfl rfl)
theorem dX1_poorest_1 : decode cX1_poorest 1 = .ok (.istore_n 3, 1) := dk_62 (dk_at dksX1_poorest_0 1 rfl rfl)
theorem dX1_poorest_2 : decode cX1_poorest 2 = .ok (.iconst 0, 1) := dk_3 (dk_at dksX1_poorest_0 2 rfl rfl)
theorem dX1_poorest_3 : decode cX1_poorest 3 = .ok (.istore 4, 2) := dk_54 4 (dk_at dksX1_poorest_0 3 rfl rfl)
theorem dX1_poorest_5 : decode cX1_poorest 5 = .ok (.iload 4, 2) := dk_21 4 (dk_at dksX1_poorest_0 5 rfl rfl)
theorem dX1_poorest_7 : decode cX1_poorest 7 = .ok (.aload_n 0, 1) := dk_42 (dk_at dksX1_poorest_0 7 rfl rfl)
theorem dX1_poorest_8 : decode cX1_poorest 8 = .ok (.invokevirtual 146, 3) := dk_182 0 146 (dk_at dksX1_poorest_0 8 rfl rfl)
theorem dX1_poorest_11 : decode cX1_poorest 11 = .ok (.if_icmp .ge 38, 3) := dk_162 0 38 (dk_at dksX1_poorest_0 11 rfl rfl)
theorem dX1_poorest_14 : decode cX1_poorest 14 = .ok (.iload 4, 2) := dk_21 4 (dk_at dksX1_poorest_0 14 rfl rfl)
theorem dX1_poorest_16 : decode cX1_poorest 16 = .ok (.iload_n 2, 1) := dk_28 (dk_at dksX1_poorest_0 16 rfl rfl)
theorem dX1_poorest_17 : decode cX1_poorest 17 = .ok (.if_icmp .eq 26, 3) := dk_159 0 26 (dk_at dksX1_poorest_0 17 rfl rfl)
theorem dX1_poorest_20 : decode cX1_poorest 20 = .ok (.iload_n 3, 1) := dk_29 (dk_at dksX1_poorest_0 20 rfl rfl)
theorem dX1_poorest_21 : decode cX1_poorest 21 = .ok (.ifCond .lt 19, 3) := dk_155 0 19 (dk_at dksX1_poorest_0 21 rfl rfl)
theorem dX1_poorest_24 : decode cX1_poorest 24 = .ok (.aload_n 1, 1) := dk_43 (dk_at dksX1_poorest_1 0 rfl rfl)
theorem dX1_poorest_25 : decode cX1_poorest 25 = .ok (.getfield 177, 3) := dk_180 0 177 (dk_at dksX1_poorest_1 1 rfl rfl)
theorem dX1_poorest_28 : decode cX1_poorest 28 = .ok (.iload 4, 2) := dk_21 4 (dk_at dksX1_poorest_1 4 rfl rfl)
theorem dX1_poorest_30 : decode cX1_poorest 30 = .ok (.iaload, 1) := dk_46 (dk_at dksX1_poorest_1 6 rfl rfl)
theorem dX1_poorest_31 : decode cX1_poorest 31 = .ok (.aload_n 1, 1) := dk_43 (dk_at dksX1_poorest_1 7 rfl rfl)
theorem dX1_poorest_32 : decode cX1_poorest 32 = .ok (.getfield 177, 3) := dk_180 0 177 (dk_at dksX1_poorest_1 8 rfl rfl)
theorem dX1_poorest_35 : decode cX1_poorest 35 = .ok (.iload_n 3, 1) := dk_29 (dk_at dksX1_poorest_1 11 rfl rfl)
theorem dX1_poorest_36 : decode cX1_poorest 36 = .ok (.iaload, 1) := dk_46 (dk_at dksX1_poorest_1 12 rfl rfl)
theorem dX1_poorest_37 : decode cX1_poorest 37 = .ok (.if_icmp .ge 6, 3) := dk_162 0 6 (dk_at dksX1_poorest_1 13 rfl rfl)
theorem dX1_poorest_40 : decode cX1_poorest 40 = .ok (.iload 4, 2) := dk_21 4 (dk_at dksX1_poorest_1 16 rfl rfl)
theorem dX1_poorest_42 : decode cX1_poorest 42 = .ok (.istore_n 3, 1) := dk_62 (dk_at dksX1_poorest_1 18 rfl rfl)
theorem dX1_poorest_43 : decode cX1_poorest 43 = .ok (.iinc 4 1, 3) := dk_132 4 1 (dk_at dksX1_poorest_1 19 rfl rfl)
theorem dX1_poorest_46 : decode cX1_poorest 46 = .ok (.goto (-41), 3) := dk_167 255 215 (dk_at dksX1_poorest_2 0 rfl rfl)
theorem dX1_poorest_49 : decode cX1_poorest 49 = .ok (.iload_n 3, 1) := dk_29 (dk_at dksX1_poorest_2 3 rfl rfl)
theorem dX1_poorest_50 : decode cX1_poorest 50 = .ok (.ireturn, 1) := dk_172 (dk_at dksX1_poorest_2 4 rfl rfl)
abbrev cX1_mends : ByteArray := prog_1_method_22_code
def yX1_mends : MethodName := ⟨RX1, "mends", "(LBorrowedLives$State;I)V"⟩
def dkwX1_mends_4 : List UInt8 := [180, 0, 183, 28, 46, 21, 5, 96, 3, 16, 9, 184, 0, 219, 79, 177]
abbrev dktX1_mends_4 : List UInt8 := dkwX1_mends_4 ++ []
def dkwX1_mends_3 : List UInt8 := [180, 0, 236, 42, 180, 0, 61, 182, 0, 213, 16, 253, 6, 184, 0, 219, 54, 5, 43, 180, 0, 183, 28, 43]
abbrev dktX1_mends_3 : List UInt8 := dkwX1_mends_3 ++ dktX1_mends_4
def dkwX1_mends_2 : List UInt8 := [182, 0, 152, 182, 0, 201, 182, 0, 205, 42, 180, 0, 35, 180, 0, 236, 198, 0, 25, 42, 180, 0, 35]
abbrev dktX1_mends_2 : List UInt8 := dkwX1_mends_2 ++ dktX1_mends_3
def dkwX1_mends_1 : List UInt8 := [167, 0, 14, 21, 4, 6, 162, 0, 7, 2, 167, 0, 4, 3, 54, 5, 42, 43, 28, 29, 42, 29]
abbrev dktX1_mends_1 : List UInt8 := dkwX1_mends_1 ++ dktX1_mends_2
def dkwX1_mends_0 : List UInt8 := [43, 180, 0, 189, 28, 46, 62, 42, 29, 182, 0, 152, 180, 0, 170, 54, 4, 21, 4, 7, 164, 0, 7, 4]
abbrev dktX1_mends_0 : List UInt8 := dkwX1_mends_0 ++ dktX1_mends_1
theorem dksX1_mends_0 : cX1_mends.data.toList.drop 0 = dktX1_mends_0 := by decide +kernel
theorem dksX1_mends_1 : cX1_mends.data.toList.drop 24 = dktX1_mends_1 := dk_seg dksX1_mends_0 24 rfl rfl
theorem dksX1_mends_2 : cX1_mends.data.toList.drop 46 = dktX1_mends_2 := dk_seg dksX1_mends_1 22 rfl rfl
theorem dksX1_mends_3 : cX1_mends.data.toList.drop 69 = dktX1_mends_3 := dk_seg dksX1_mends_2 23 rfl rfl
theorem dksX1_mends_4 : cX1_mends.data.toList.drop 93 = dktX1_mends_4 := dk_seg dksX1_mends_3 24 rfl rfl
theorem dX1_mends_0 : decode cX1_mends 0 = .ok (.aload_n 1, 1) := dk_43 (dk_at dksX1_mends_0 0 rfl rfl)
theorem dX1_mends_1 : decode cX1_mends 1 = .ok (.getfield 189, 3) := dk_180 0 189 (dk_at dksX1_mends_0 1 rfl rfl)
theorem dX1_mends_4 : decode cX1_mends 4 = .ok (.iload_n 2, 1) := dk_28 (dk_at dksX1_mends_0 4 rfl rfl)
theorem dX1_mends_5 : decode cX1_mends 5 = .ok (.iaload, 1) := dk_46 (dk_at dksX1_mends_0 5 rfl rfl)
theorem dX1_mends_6 : decode cX1_mends 6 = .ok (.istore_n 3, 1) := dk_62 (dk_at dksX1_mends_0 6 rfl rfl)
theorem dX1_mends_7 : decode cX1_mends 7 = .ok (.aload_n 0, 1) := dk_42 (dk_at dksX1_mends_0 7 rfl rfl)
theorem dX1_mends_8 : decode cX1_mends 8 = .ok (.iload_n 3, 1) := dk_29 (dk_at dksX1_mends_0 8 rfl rfl)
theorem dX1_mends_9 : decode cX1_mends 9 = .ok (.invokevirtual 152, 3) := dk_182 0 152 (dk_at dksX1_mends_0 9 rfl rfl)
theorem dX1_mends_12 : decode cX1_mends 12 = .ok (.getfield 170, 3) := dk_180 0 170 (dk_at dksX1_mends_0 12 rfl rfl)
theorem dX1_mends_15 : decode cX1_mends 15 = .ok (.istore 4, 2) := dk_54 4 (dk_at dksX1_mends_0 15 rfl rfl)
theorem dX1_mends_17 : decode cX1_mends 17 = .ok (.iload 4, 2) := dk_21 4 (dk_at dksX1_mends_0 17 rfl rfl)
theorem dX1_mends_19 : decode cX1_mends 19 = .ok (.iconst 4, 1) := dk_7 (dk_at dksX1_mends_0 19 rfl rfl)
theorem dX1_mends_20 : decode cX1_mends 20 = .ok (.if_icmp .le 7, 3) := dk_164 0 7 (dk_at dksX1_mends_0 20 rfl rfl)
theorem dX1_mends_23 : decode cX1_mends 23 = .ok (.iconst 1, 1) := dk_4 (dk_at dksX1_mends_0 23 rfl rfl)
theorem dX1_mends_24 : decode cX1_mends 24 = .ok (.goto 14, 3) := dk_167 0 14 (dk_at dksX1_mends_1 0 rfl rfl)
theorem dX1_mends_27 : decode cX1_mends 27 = .ok (.iload 4, 2) := dk_21 4 (dk_at dksX1_mends_1 3 rfl rfl)
theorem dX1_mends_29 : decode cX1_mends 29 = .ok (.iconst 3, 1) := dk_6 (dk_at dksX1_mends_1 5 rfl rfl)
theorem dX1_mends_30 : decode cX1_mends 30 = .ok (.if_icmp .ge 7, 3) := dk_162 0 7 (dk_at dksX1_mends_1 6 rfl rfl)
theorem dX1_mends_33 : decode cX1_mends 33 = .ok (.iconst (-1), 1) := dk_2 (dk_at dksX1_mends_1 9 rfl rfl)
theorem dX1_mends_34 : decode cX1_mends 34 = .ok (.goto 4, 3) := dk_167 0 4 (dk_at dksX1_mends_1 10 rfl rfl)
theorem dX1_mends_37 : decode cX1_mends 37 = .ok (.iconst 0, 1) := dk_3 (dk_at dksX1_mends_1 13 rfl rfl)
theorem dX1_mends_38 : decode cX1_mends 38 = .ok (.istore 5, 2) := dk_54 5 (dk_at dksX1_mends_1 14 rfl rfl)
theorem dX1_mends_40 : decode cX1_mends 40 = .ok (.aload_n 0, 1) := dk_42 (dk_at dksX1_mends_1 16 rfl rfl)
theorem dX1_mends_41 : decode cX1_mends 41 = .ok (.aload_n 1, 1) := dk_43 (dk_at dksX1_mends_1 17 rfl rfl)
theorem dX1_mends_42 : decode cX1_mends 42 = .ok (.iload_n 2, 1) := dk_28 (dk_at dksX1_mends_1 18 rfl rfl)
theorem dX1_mends_43 : decode cX1_mends 43 = .ok (.iload_n 3, 1) := dk_29 (dk_at dksX1_mends_1 19 rfl rfl)
theorem dX1_mends_44 : decode cX1_mends 44 = .ok (.aload_n 0, 1) := dk_42 (dk_at dksX1_mends_1 20 rfl rfl)
theorem dX1_mends_45 : decode cX1_mends 45 = .ok (.iload_n 3, 1) := dk_29 (dk_at dksX1_mends_1 21 rfl rfl)
theorem dX1_mends_46 : decode cX1_mends 46 = .ok (.invokevirtual 152, 3) := dk_182 0 152 (dk_at dksX1_mends_2 0 rfl rfl)
theorem dX1_mends_49 : decode cX1_mends 49 = .ok (.invokevirtual 201, 3) := dk_182 0 201 (dk_at dksX1_mends_2 3 rfl rfl)
theorem dX1_mends_52 : decode cX1_mends 52 = .ok (.invokevirtual 205, 3) := dk_182 0 205 (dk_at dksX1_mends_2 6 rfl rfl)
theorem dX1_mends_55 : decode cX1_mends 55 = .ok (.aload_n 0, 1) := dk_42 (dk_at dksX1_mends_2 9 rfl rfl)
theorem dX1_mends_56 : decode cX1_mends 56 = .ok (.getfield 35, 3) := dk_180 0 35 (dk_at dksX1_mends_2 10 rfl rfl)
theorem dX1_mends_59 : decode cX1_mends 59 = .ok (.getfield 236, 3) := dk_180 0 236 (dk_at dksX1_mends_2 13 rfl rfl)
theorem dX1_mends_62 : decode cX1_mends 62 = .ok (.ifnull 25, 3) := dk_198 0 25 (dk_at dksX1_mends_2 16 rfl rfl)
theorem dX1_mends_65 : decode cX1_mends 65 = .ok (.aload_n 0, 1) := dk_42 (dk_at dksX1_mends_2 19 rfl rfl)
theorem dX1_mends_66 : decode cX1_mends 66 = .ok (.getfield 35, 3) := dk_180 0 35 (dk_at dksX1_mends_2 20 rfl rfl)
theorem dX1_mends_69 : decode cX1_mends 69 = .ok (.getfield 236, 3) := dk_180 0 236 (dk_at dksX1_mends_3 0 rfl rfl)
theorem dX1_mends_72 : decode cX1_mends 72 = .ok (.aload_n 0, 1) := dk_42 (dk_at dksX1_mends_3 3 rfl rfl)
theorem dX1_mends_73 : decode cX1_mends 73 = .ok (.getfield 61, 3) := dk_180 0 61 (dk_at dksX1_mends_3 4 rfl rfl)
theorem dX1_mends_76 : decode cX1_mends 76 = .ok (.invokevirtual 213, 3) := dk_182 0 213 (dk_at dksX1_mends_3 7 rfl rfl)
theorem dX1_mends_79 : decode cX1_mends 79 = .ok (.bipush (-3), 2) := dk_16 253 (dk_at dksX1_mends_3 10 rfl rfl)
theorem dX1_mends_81 : decode cX1_mends 81 = .ok (.iconst 3, 1) := dk_6 (dk_at dksX1_mends_3 12 rfl rfl)
theorem dX1_mends_82 : decode cX1_mends 82 = .ok (.invokestatic 219, 3) := dk_184 0 219 (dk_at dksX1_mends_3 13 rfl rfl)
theorem dX1_mends_85 : decode cX1_mends 85 = .ok (.istore 5, 2) := dk_54 5 (dk_at dksX1_mends_3 16 rfl rfl)
theorem dX1_mends_87 : decode cX1_mends 87 = .ok (.aload_n 1, 1) := dk_43 (dk_at dksX1_mends_3 18 rfl rfl)
theorem dX1_mends_88 : decode cX1_mends 88 = .ok (.getfield 183, 3) := dk_180 0 183 (dk_at dksX1_mends_3 19 rfl rfl)
theorem dX1_mends_91 : decode cX1_mends 91 = .ok (.iload_n 2, 1) := dk_28 (dk_at dksX1_mends_3 22 rfl rfl)
theorem dX1_mends_92 : decode cX1_mends 92 = .ok (.aload_n 1, 1) := dk_43 (dk_at dksX1_mends_3 23 rfl rfl)
theorem dX1_mends_93 : decode cX1_mends 93 = .ok (.getfield 183, 3) := dk_180 0 183 (dk_at dksX1_mends_4 0 rfl rfl)
theorem dX1_mends_96 : decode cX1_mends 96 = .ok (.iload_n 2, 1) := dk_28 (dk_at dksX1_mends_4 3 rfl rfl)
theorem dX1_mends_97 : decode cX1_mends 97 = .ok (.iaload, 1) := dk_46 (dk_at dksX1_mends_4 4 rfl rfl)
theorem dX1_mends_98 : decode cX1_mends 98 = .ok (.iload 5, 2) := dk_21 5 (dk_at dksX1_mends_4 5 rfl rfl)
theorem dX1_mends_100 : decode cX1_mends 100 = .ok (.iadd, 1) := dk_96 (dk_at dksX1_mends_4 7 rfl rfl)
theorem dX1_mends_101 : decode cX1_mends 101 = .ok (.iconst 0, 1) := dk_3 (dk_at dksX1_mends_4 8 rfl rfl)
theorem dX1_mends_102 : decode cX1_mends 102 = .ok (.bipush 9, 2) := dk_16 9 (dk_at dksX1_mends_4 9 rfl rfl)
theorem dX1_mends_104 : decode cX1_mends 104 = .ok (.invokestatic 219, 3) := dk_184 0 219 (dk_at dksX1_mends_4 11 rfl rfl)
theorem dX1_mends_107 : decode cX1_mends 107 = .ok (.iastore, 1) := dk_79 (dk_at dksX1_mends_4 14 rfl rfl)
theorem dX1_mends_108 : decode cX1_mends 108 = .ok (.return_, 1) := dk_177 (dk_at dksX1_mends_4 15 rfl rfl)
abbrev cX1_odds : ByteArray := prog_1_method_28_code
def yX1_odds : MethodName := ⟨RX1, "odds", "(II)I"⟩
def dkwX1_odds_2 : List UInt8 := [180, 1, 27, 133, 20, 1, 30, 105, 45, 180, 1, 26, 133, 109, 136, 172]
abbrev dktX1_odds_2 : List UInt8 := dkwX1_odds_2 ++ []
def dkwX1_odds_1 : List UInt8 := [28, 183, 1, 19, 78, 42, 45, 182, 1, 22, 45, 180, 1, 26, 154, 0, 7, 2, 167, 0, 19, 45]
abbrev dktX1_odds_1 : List UInt8 := dkwX1_odds_1 ++ dktX1_odds_2
def dkwX1_odds_0 : List UInt8 := [42, 27, 182, 0, 163, 153, 0, 11, 42, 28, 182, 0, 163, 154, 0, 5, 2, 172, 187, 1, 17, 89, 42, 27]
abbrev dktX1_odds_0 : List UInt8 := dkwX1_odds_0 ++ dktX1_odds_1
theorem dksX1_odds_0 : cX1_odds.data.toList.drop 0 = dktX1_odds_0 := by decide +kernel
theorem dksX1_odds_1 : cX1_odds.data.toList.drop 24 = dktX1_odds_1 := dk_seg dksX1_odds_0 24 rfl rfl
theorem dksX1_odds_2 : cX1_odds.data.toList.drop 46 = dktX1_odds_2 := dk_seg dksX1_odds_1 22 rfl rfl
theorem dX1_odds_0 : decode cX1_odds 0 = .ok (.aload_n 0, 1) := dk_42 (dk_at dksX1_odds_0 0 rfl rfl)
theorem dX1_odds_1 : decode cX1_odds 1 = .ok (.iload_n 1, 1) := dk_27 (dk_at dksX1_odds_0 1 rfl rfl)
theorem dX1_odds_2 : decode cX1_odds 2 = .ok (.invokevirtual 163, 3) := dk_182 0 163 (dk_at dksX1_odds_0 2 rfl rfl)
theorem dX1_odds_5 : decode cX1_odds 5 = .ok (.ifCond .eq 11, 3) := dk_153 0 11 (dk_at dksX1_odds_0 5 rfl rfl)
theorem dX1_odds_8 : decode cX1_odds 8 = .ok (.aload_n 0, 1) := dk_42 (dk_at dksX1_odds_0 8 rfl rfl)
theorem dX1_odds_9 : decode cX1_odds 9 = .ok (.iload_n 2, 1) := dk_28 (dk_at dksX1_odds_0 9 rfl rfl)
theorem dX1_odds_10 : decode cX1_odds 10 = .ok (.invokevirtual 163, 3) := dk_182 0 163 (dk_at dksX1_odds_0 10 rfl rfl)
theorem dX1_odds_13 : decode cX1_odds 13 = .ok (.ifCond .ne 5, 3) := dk_154 0 5 (dk_at dksX1_odds_0 13 rfl rfl)
theorem dX1_odds_16 : decode cX1_odds 16 = .ok (.iconst (-1), 1) := dk_2 (dk_at dksX1_odds_0 16 rfl rfl)
theorem dX1_odds_17 : decode cX1_odds 17 = .ok (.ireturn, 1) := dk_172 (dk_at dksX1_odds_0 17 rfl rfl)
theorem dX1_odds_18 : decode cX1_odds 18 = .ok (.new 273, 3) := dk_187 1 17 (dk_at dksX1_odds_0 18 rfl rfl)
theorem dX1_odds_21 : decode cX1_odds 21 = .ok (.dup, 1) := dk_89 (dk_at dksX1_odds_0 21 rfl rfl)
theorem dX1_odds_22 : decode cX1_odds 22 = .ok (.aload_n 0, 1) := dk_42 (dk_at dksX1_odds_0 22 rfl rfl)
theorem dX1_odds_23 : decode cX1_odds 23 = .ok (.iload_n 1, 1) := dk_27 (dk_at dksX1_odds_0 23 rfl rfl)
theorem dX1_odds_24 : decode cX1_odds 24 = .ok (.iload_n 2, 1) := dk_28 (dk_at dksX1_odds_1 0 rfl rfl)
theorem dX1_odds_25 : decode cX1_odds 25 = .ok (.invokespecial 275, 3) := dk_183 1 19 (dk_at dksX1_odds_1 1 rfl rfl)
theorem dX1_odds_28 : decode cX1_odds 28 = .ok (.astore_n 3, 1) := dk_78 (dk_at dksX1_odds_1 4 rfl rfl)
theorem dX1_odds_29 : decode cX1_odds 29 = .ok (.aload_n 0, 1) := dk_42 (dk_at dksX1_odds_1 5 rfl rfl)
theorem dX1_odds_30 : decode cX1_odds 30 = .ok (.aload_n 3, 1) := dk_45 (dk_at dksX1_odds_1 6 rfl rfl)
theorem dX1_odds_31 : decode cX1_odds 31 = .ok (.invokevirtual 278, 3) := dk_182 1 22 (dk_at dksX1_odds_1 7 rfl rfl)
theorem dX1_odds_34 : decode cX1_odds 34 = .ok (.aload_n 3, 1) := dk_45 (dk_at dksX1_odds_1 10 rfl rfl)
theorem dX1_odds_35 : decode cX1_odds 35 = .ok (.getfield 282, 3) := dk_180 1 26 (dk_at dksX1_odds_1 11 rfl rfl)
theorem dX1_odds_38 : decode cX1_odds 38 = .ok (.ifCond .ne 7, 3) := dk_154 0 7 (dk_at dksX1_odds_1 14 rfl rfl)
theorem dX1_odds_41 : decode cX1_odds 41 = .ok (.iconst (-1), 1) := dk_2 (dk_at dksX1_odds_1 17 rfl rfl)
theorem dX1_odds_42 : decode cX1_odds 42 = .ok (.goto 19, 3) := dk_167 0 19 (dk_at dksX1_odds_1 18 rfl rfl)
theorem dX1_odds_45 : decode cX1_odds 45 = .ok (.aload_n 3, 1) := dk_45 (dk_at dksX1_odds_1 21 rfl rfl)
theorem dX1_odds_46 : decode cX1_odds 46 = .ok (.getfield 283, 3) := dk_180 1 27 (dk_at dksX1_odds_2 0 rfl rfl)
theorem dX1_odds_49 : decode cX1_odds 49 = .ok (.i2l, 1) := dk_133 (dk_at dksX1_odds_2 3 rfl rfl)
theorem dX1_odds_50 : decode cX1_odds 50 = .ok (.ldc2_w 286, 3) := dk_20 1 30 (dk_at dksX1_odds_2 4 rfl rfl)
theorem dX1_odds_53 : decode cX1_odds 53 = .ok (.lmul, 1) := dk_105 (dk_at dksX1_odds_2 7 rfl rfl)
theorem dX1_odds_54 : decode cX1_odds 54 = .ok (.aload_n 3, 1) := dk_45 (dk_at dksX1_odds_2 8 rfl rfl)
theorem dX1_odds_55 : decode cX1_odds 55 = .ok (.getfield 282, 3) := dk_180 1 26 (dk_at dksX1_odds_2 9 rfl rfl)
theorem dX1_odds_58 : decode cX1_odds 58 = .ok (.i2l, 1) := dk_133 (dk_at dksX1_odds_2 12 rfl rfl)
theorem dX1_odds_59 : decode cX1_odds 59 = .ok (.ldiv, 1) := dk_109 (dk_at dksX1_odds_2 13 rfl rfl)
theorem dX1_odds_60 : decode cX1_odds 60 = .ok (.l2i, 1) := dk_136 (dk_at dksX1_odds_2 14 rfl rfl)
theorem dX1_odds_61 : decode cX1_odds 61 = .ok (.ireturn, 1) := dk_172 (dk_at dksX1_odds_2 15 rfl rfl)
abbrev cX1_hide : ByteArray := prog_1_method_32_code
def yX1_hide : MethodName := ⟨RX1, "hide", "(II)Z"⟩
def dkwX1_hide_2 : List UInt8 := [182, 1, 71, 42, 180, 0, 51, 180, 0, 186, 27, 28, 79, 4, 172]
abbrev dktX1_hide_2 : List UInt8 := dkwX1_hide_2 ++ []
def dkwX1_hide_1 : List UInt8 := [180, 1, 67, 154, 0, 16, 42, 180, 0, 51, 180, 0, 177, 27, 46, 28, 162, 0, 5, 3, 172, 42]
abbrev dktX1_hide_1 : List UInt8 := dkwX1_hide_1 ++ dktX1_hide_2
def dkwX1_hide_0 : List UInt8 := [42, 27, 182, 0, 163, 153, 0, 37, 28, 3, 17, 3, 231, 184, 0, 148, 153, 0, 26, 42, 180, 0, 51]
abbrev dktX1_hide_0 : List UInt8 := dkwX1_hide_0 ++ dktX1_hide_1
theorem dksX1_hide_0 : cX1_hide.data.toList.drop 0 = dktX1_hide_0 := by decide +kernel
theorem dksX1_hide_1 : cX1_hide.data.toList.drop 23 = dktX1_hide_1 := dk_seg dksX1_hide_0 23 rfl rfl
theorem dksX1_hide_2 : cX1_hide.data.toList.drop 45 = dktX1_hide_2 := dk_seg dksX1_hide_1 22 rfl rfl
theorem dX1_hide_0 : decode cX1_hide 0 = .ok (.aload_n 0, 1) := dk_42 (dk_at dksX1_hide_0 0 rfl rfl)
theorem dX1_hide_1 : decode cX1_hide 1 = .ok (.iload_n 1, 1) := dk_27 (dk_at dksX1_hide_0 1 rfl rfl)
theorem dX1_hide_2 : decode cX1_hide 2 = .ok (.invokevirtual 163, 3) := dk_182 0 163 (dk_at dksX1_hide_0 2 rfl rfl)
theorem dX1_hide_5 : decode cX1_hide 5 = .ok (.ifCond .eq 37, 3) := dk_153 0 37 (dk_at dksX1_hide_0 5 rfl rfl)
theorem dX1_hide_8 : decode cX1_hide 8 = .ok (.iload_n 2, 1) := dk_28 (dk_at dksX1_hide_0 8 rfl rfl)
theorem dX1_hide_9 : decode cX1_hide 9 = .ok (.iconst 0, 1) := dk_3 (dk_at dksX1_hide_0 9 rfl rfl)
theorem dX1_hide_10 : decode cX1_hide 10 = .ok (.sipush 999, 3) := dk_17 3 231 (dk_at dksX1_hide_0 10 rfl rfl)
theorem dX1_hide_13 : decode cX1_hide 13 = .ok (.invokestatic 148, 3) := dk_184 0 148 (dk_at dksX1_hide_0 13 rfl rfl)
theorem dX1_hide_16 : decode cX1_hide 16 = .ok (.ifCond .eq 26, 3) := dk_153 0 26 (dk_at dksX1_hide_0 16 rfl rfl)
theorem dX1_hide_19 : decode cX1_hide 19 = .ok (.aload_n 0, 1) := dk_42 (dk_at dksX1_hide_0 19 rfl rfl)
theorem dX1_hide_20 : decode cX1_hide 20 = .ok (.getfield 51, 3) := dk_180 0 51 (dk_at dksX1_hide_0 20 rfl rfl)
theorem dX1_hide_23 : decode cX1_hide 23 = .ok (.getfield 323, 3) := dk_180 1 67 (dk_at dksX1_hide_1 0 rfl rfl)
theorem dX1_hide_26 : decode cX1_hide 26 = .ok (.ifCond .ne 16, 3) := dk_154 0 16 (dk_at dksX1_hide_1 3 rfl rfl)
theorem dX1_hide_29 : decode cX1_hide 29 = .ok (.aload_n 0, 1) := dk_42 (dk_at dksX1_hide_1 6 rfl rfl)
theorem dX1_hide_30 : decode cX1_hide 30 = .ok (.getfield 51, 3) := dk_180 0 51 (dk_at dksX1_hide_1 7 rfl rfl)
theorem dX1_hide_33 : decode cX1_hide 33 = .ok (.getfield 177, 3) := dk_180 0 177 (dk_at dksX1_hide_1 10 rfl rfl)
theorem dX1_hide_36 : decode cX1_hide 36 = .ok (.iload_n 1, 1) := dk_27 (dk_at dksX1_hide_1 13 rfl rfl)
theorem dX1_hide_37 : decode cX1_hide 37 = .ok (.iaload, 1) := dk_46 (dk_at dksX1_hide_1 14 rfl rfl)
theorem dX1_hide_38 : decode cX1_hide 38 = .ok (.iload_n 2, 1) := dk_28 (dk_at dksX1_hide_1 15 rfl rfl)
theorem dX1_hide_39 : decode cX1_hide 39 = .ok (.if_icmp .ge 5, 3) := dk_162 0 5 (dk_at dksX1_hide_1 16 rfl rfl)
theorem dX1_hide_42 : decode cX1_hide 42 = .ok (.iconst 0, 1) := dk_3 (dk_at dksX1_hide_1 19 rfl rfl)
theorem dX1_hide_43 : decode cX1_hide 43 = .ok (.ireturn, 1) := dk_172 (dk_at dksX1_hide_1 20 rfl rfl)
theorem dX1_hide_44 : decode cX1_hide 44 = .ok (.aload_n 0, 1) := dk_42 (dk_at dksX1_hide_1 21 rfl rfl)
theorem dX1_hide_45 : decode cX1_hide 45 = .ok (.invokevirtual 327, 3) := dk_182 1 71 (dk_at dksX1_hide_2 0 rfl rfl)
theorem dX1_hide_48 : decode cX1_hide 48 = .ok (.aload_n 0, 1) := dk_42 (dk_at dksX1_hide_2 3 rfl rfl)
theorem dX1_hide_49 : decode cX1_hide 49 = .ok (.getfield 51, 3) := dk_180 0 51 (dk_at dksX1_hide_2 4 rfl rfl)
theorem dX1_hide_52 : decode cX1_hide 52 = .ok (.getfield 186, 3) := dk_180 0 186 (dk_at dksX1_hide_2 7 rfl rfl)
theorem dX1_hide_55 : decode cX1_hide 55 = .ok (.iload_n 1, 1) := dk_27 (dk_at dksX1_hide_2 10 rfl rfl)
theorem dX1_hide_56 : decode cX1_hide 56 = .ok (.iload_n 2, 1) := dk_28 (dk_at dksX1_hide_2 11 rfl rfl)
theorem dX1_hide_57 : decode cX1_hide 57 = .ok (.iastore, 1) := dk_79 (dk_at dksX1_hide_2 12 rfl rfl)
theorem dX1_hide_58 : decode cX1_hide 58 = .ok (.iconst 1, 1) := dk_4 (dk_at dksX1_hide_2 13 rfl rfl)
theorem dX1_hide_59 : decode cX1_hide 59 = .ok (.ireturn, 1) := dk_172 (dk_at dksX1_hide_2 14 rfl rfl)
abbrev cX1_keeps : ByteArray := prog_1_method_29_code
def yX1_keeps : MethodName := ⟨RX1, "keeps", "()V"⟩
def dkwX1_keeps_4 : List UInt8 := [180, 0, 68, 42, 89, 180, 0, 126, 90, 4, 96, 181, 0, 126, 50, 42, 180, 0, 51, 182, 1, 32, 177]
abbrev dktX1_keeps_4 : List UInt8 := dkwX1_keeps_4 ++ []
def dkwX1_keeps_3 : List UInt8 := [180, 0, 126, 50, 199, 0, 19, 42, 180, 0, 68, 42, 180, 0, 126, 187, 0, 48, 89, 183, 0, 50, 83, 42]
abbrev dktX1_keeps_3 : List UInt8 := dkwX1_keeps_3 ++ dktX1_keeps_4
def dkwX1_keeps_2 : List UInt8 := [180, 0, 68, 16, 15, 43, 83, 42, 89, 180, 0, 126, 4, 100, 181, 0, 126, 42, 180, 0, 68, 42]
abbrev dktX1_keeps_2 : List UInt8 := dkwX1_keeps_2 ++ dktX1_keeps_3
def dkwX1_keeps_1 : List UInt8 := [162, 0, 23, 42, 180, 0, 68, 28, 42, 180, 0, 68, 28, 4, 96, 50, 83, 132, 2, 1, 167, 255, 231, 42]
abbrev dktX1_keeps_1 : List UInt8 := dkwX1_keeps_1 ++ dktX1_keeps_2
def dkwX1_keeps_0 : List UInt8 := [42, 180, 0, 126, 16, 16, 160, 0, 58, 42, 180, 0, 68, 3, 50, 76, 3, 61, 28, 4, 96, 16, 16]
abbrev dktX1_keeps_0 : List UInt8 := dkwX1_keeps_0 ++ dktX1_keeps_1
theorem dksX1_keeps_0 : cX1_keeps.data.toList.drop 0 = dktX1_keeps_0 := by decide +kernel
theorem dksX1_keeps_1 : cX1_keeps.data.toList.drop 23 = dktX1_keeps_1 := dk_seg dksX1_keeps_0 23 rfl rfl
theorem dksX1_keeps_2 : cX1_keeps.data.toList.drop 47 = dktX1_keeps_2 := dk_seg dksX1_keeps_1 24 rfl rfl
theorem dksX1_keeps_3 : cX1_keeps.data.toList.drop 69 = dktX1_keeps_3 := dk_seg dksX1_keeps_2 22 rfl rfl
theorem dksX1_keeps_4 : cX1_keeps.data.toList.drop 93 = dktX1_keeps_4 := dk_seg dksX1_keeps_3 24 rfl rfl
theorem dX1_keeps_0 : decode cX1_keeps 0 = .ok (.aload_n 0, 1) := dk_42 (dk_at dksX1_keeps_0 0 rfl rfl)
theorem dX1_keeps_1 : decode cX1_keeps 1 = .ok (.getfield 126, 3) := dk_180 0 126 (dk_at dksX1_keeps_0 1 rfl rfl)
theorem dX1_keeps_4 : decode cX1_keeps 4 = .ok (.bipush 16, 2) := dk_16 16 (dk_at dksX1_keeps_0 4 rfl rfl)
theorem dX1_keeps_6 : decode cX1_keeps 6 = .ok (.if_icmp .ne 58, 3) := dk_160 0 58 (dk_at dksX1_keeps_0 6 rfl rfl)
theorem dX1_keeps_9 : decode cX1_keeps 9 = .ok (.aload_n 0, 1) := dk_42 (dk_at dksX1_keeps_0 9 rfl rfl)
theorem dX1_keeps_10 : decode cX1_keeps 10 = .ok (.getfield 68, 3) := dk_180 0 68 (dk_at dksX1_keeps_0 10 rfl rfl)
theorem dX1_keeps_13 : decode cX1_keeps 13 = .ok (.iconst 0, 1) := dk_3 (dk_at dksX1_keeps_0 13 rfl rfl)
theorem dX1_keeps_14 : decode cX1_keeps 14 = .ok (.aaload, 1) := dk_50 (dk_at dksX1_keeps_0 14 rfl rfl)
theorem dX1_keeps_15 : decode cX1_keeps 15 = .ok (.astore_n 1, 1) := dk_76 (dk_at dksX1_keeps_0 15 rfl rfl)
theorem dX1_keeps_16 : decode cX1_keeps 16 = .ok (.iconst 0, 1) := dk_3 (dk_at dksX1_keeps_0 16 rfl rfl)
theorem dX1_keeps_17 : decode cX1_keeps 17 = .ok (.istore_n 2, 1) := dk_61 (dk_at dksX1_keeps_0 17 rfl rfl)
theorem dX1_keeps_18 : decode cX1_keeps 18 = .ok (.iload_n 2, 1) := dk_28 (dk_at dksX1_keeps_0 18 rfl rfl)
theorem dX1_keeps_19 : decode cX1_keeps 19 = .ok (.iconst 1, 1) := dk_4 (dk_at dksX1_keeps_0 19 rfl rfl)
theorem dX1_keeps_20 : decode cX1_keeps 20 = .ok (.iadd, 1) := dk_96 (dk_at dksX1_keeps_0 20 rfl rfl)
theorem dX1_keeps_21 : decode cX1_keeps 21 = .ok (.bipush 16, 2) := dk_16 16 (dk_at dksX1_keeps_0 21 rfl rfl)
theorem dX1_keeps_23 : decode cX1_keeps 23 = .ok (.if_icmp .ge 23, 3) := dk_162 0 23 (dk_at dksX1_keeps_1 0 rfl rfl)
theorem dX1_keeps_26 : decode cX1_keeps 26 = .ok (.aload_n 0, 1) := dk_42 (dk_at dksX1_keeps_1 3 rfl rfl)
theorem dX1_keeps_27 : decode cX1_keeps 27 = .ok (.getfield 68, 3) := dk_180 0 68 (dk_at dksX1_keeps_1 4 rfl rfl)
theorem dX1_keeps_30 : decode cX1_keeps 30 = .ok (.iload_n 2, 1) := dk_28 (dk_at dksX1_keeps_1 7 rfl rfl)
theorem dX1_keeps_31 : decode cX1_keeps 31 = .ok (.aload_n 0, 1) := dk_42 (dk_at dksX1_keeps_1 8 rfl rfl)
theorem dX1_keeps_32 : decode cX1_keeps 32 = .ok (.getfield 68, 3) := dk_180 0 68 (dk_at dksX1_keeps_1 9 rfl rfl)
theorem dX1_keeps_35 : decode cX1_keeps 35 = .ok (.iload_n 2, 1) := dk_28 (dk_at dksX1_keeps_1 12 rfl rfl)
theorem dX1_keeps_36 : decode cX1_keeps 36 = .ok (.iconst 1, 1) := dk_4 (dk_at dksX1_keeps_1 13 rfl rfl)
theorem dX1_keeps_37 : decode cX1_keeps 37 = .ok (.iadd, 1) := dk_96 (dk_at dksX1_keeps_1 14 rfl rfl)
theorem dX1_keeps_38 : decode cX1_keeps 38 = .ok (.aaload, 1) := dk_50 (dk_at dksX1_keeps_1 15 rfl rfl)
theorem dX1_keeps_39 : decode cX1_keeps 39 = .ok (.aastore, 1) := dk_83 (dk_at dksX1_keeps_1 16 rfl rfl)
theorem dX1_keeps_40 : decode cX1_keeps 40 = .ok (.iinc 2 1, 3) := dk_132 2 1 (dk_at dksX1_keeps_1 17 rfl rfl)
theorem dX1_keeps_43 : decode cX1_keeps 43 = .ok (.goto (-25), 3) := dk_167 255 231 (dk_at dksX1_keeps_1 20 rfl rfl)
theorem dX1_keeps_46 : decode cX1_keeps 46 = .ok (.aload_n 0, 1) := dk_42 (dk_at dksX1_keeps_1 23 rfl rfl)
theorem dX1_keeps_47 : decode cX1_keeps 47 = .ok (.getfield 68, 3) := dk_180 0 68 (dk_at dksX1_keeps_2 0 rfl rfl)
theorem dX1_keeps_50 : decode cX1_keeps 50 = .ok (.bipush 15, 2) := dk_16 15 (dk_at dksX1_keeps_2 3 rfl rfl)
theorem dX1_keeps_52 : decode cX1_keeps 52 = .ok (.aload_n 1, 1) := dk_43 (dk_at dksX1_keeps_2 5 rfl rfl)
theorem dX1_keeps_53 : decode cX1_keeps 53 = .ok (.aastore, 1) := dk_83 (dk_at dksX1_keeps_2 6 rfl rfl)
theorem dX1_keeps_54 : decode cX1_keeps 54 = .ok (.aload_n 0, 1) := dk_42 (dk_at dksX1_keeps_2 7 rfl rfl)
theorem dX1_keeps_55 : decode cX1_keeps 55 = .ok (.dup, 1) := dk_89 (dk_at dksX1_keeps_2 8 rfl rfl)
theorem dX1_keeps_56 : decode cX1_keeps 56 = .ok (.getfield 126, 3) := dk_180 0 126 (dk_at dksX1_keeps_2 9 rfl rfl)
theorem dX1_keeps_59 : decode cX1_keeps 59 = .ok (.iconst 1, 1) := dk_4 (dk_at dksX1_keeps_2 12 rfl rfl)
theorem dX1_keeps_60 : decode cX1_keeps 60 = .ok (.isub, 1) := dk_100 (dk_at dksX1_keeps_2 13 rfl rfl)
theorem dX1_keeps_61 : decode cX1_keeps 61 = .ok (.putfield 126, 3) := dk_181 0 126 (dk_at dksX1_keeps_2 14 rfl rfl)
theorem dX1_keeps_64 : decode cX1_keeps 64 = .ok (.aload_n 0, 1) := dk_42 (dk_at dksX1_keeps_2 17 rfl rfl)
theorem dX1_keeps_65 : decode cX1_keeps 65 = .ok (.getfield 68, 3) := dk_180 0 68 (dk_at dksX1_keeps_2 18 rfl rfl)
theorem dX1_keeps_68 : decode cX1_keeps 68 = .ok (.aload_n 0, 1) := dk_42 (dk_at dksX1_keeps_2 21 rfl rfl)
theorem dX1_keeps_69 : decode cX1_keeps 69 = .ok (.getfield 126, 3) := dk_180 0 126 (dk_at dksX1_keeps_3 0 rfl rfl)
theorem dX1_keeps_72 : decode cX1_keeps 72 = .ok (.aaload, 1) := dk_50 (dk_at dksX1_keeps_3 3 rfl rfl)
theorem dX1_keeps_73 : decode cX1_keeps 73 = .ok (.ifnonnull 19, 3) := dk_199 0 19 (dk_at dksX1_keeps_3 4 rfl rfl)
theorem dX1_keeps_76 : decode cX1_keeps 76 = .ok (.aload_n 0, 1) := dk_42 (dk_at dksX1_keeps_3 7 rfl rfl)
theorem dX1_keeps_77 : decode cX1_keeps 77 = .ok (.getfield 68, 3) := dk_180 0 68 (dk_at dksX1_keeps_3 8 rfl rfl)
theorem dX1_keeps_80 : decode cX1_keeps 80 = .ok (.aload_n 0, 1) := dk_42 (dk_at dksX1_keeps_3 11 rfl rfl)
theorem dX1_keeps_81 : decode cX1_keeps 81 = .ok (.getfield 126, 3) := dk_180 0 126 (dk_at dksX1_keeps_3 12 rfl rfl)
theorem dX1_keeps_84 : decode cX1_keeps 84 = .ok (.new 48, 3) := dk_187 0 48 (dk_at dksX1_keeps_3 15 rfl rfl)
theorem dX1_keeps_87 : decode cX1_keeps 87 = .ok (.dup, 1) := dk_89 (dk_at dksX1_keeps_3 18 rfl rfl)
theorem dX1_keeps_88 : decode cX1_keeps 88 = .ok (.invokespecial 50, 3) := dk_183 0 50 (dk_at dksX1_keeps_3 19 rfl rfl)
theorem dX1_keeps_91 : decode cX1_keeps 91 = .ok (.aastore, 1) := dk_83 (dk_at dksX1_keeps_3 22 rfl rfl)
theorem dX1_keeps_92 : decode cX1_keeps 92 = .ok (.aload_n 0, 1) := dk_42 (dk_at dksX1_keeps_3 23 rfl rfl)
theorem dX1_keeps_93 : decode cX1_keeps 93 = .ok (.getfield 68, 3) := dk_180 0 68 (dk_at dksX1_keeps_4 0 rfl rfl)
theorem dX1_keeps_96 : decode cX1_keeps 96 = .ok (.aload_n 0, 1) := dk_42 (dk_at dksX1_keeps_4 3 rfl rfl)
theorem dX1_keeps_97 : decode cX1_keeps 97 = .ok (.dup, 1) := dk_89 (dk_at dksX1_keeps_4 4 rfl rfl)
theorem dX1_keeps_98 : decode cX1_keeps 98 = .ok (.getfield 126, 3) := dk_180 0 126 (dk_at dksX1_keeps_4 5 rfl rfl)
theorem dX1_keeps_101 : decode cX1_keeps 101 = .ok (.dup_x1, 1) := dk_90 (dk_at dksX1_keeps_4 8 rfl rfl)
theorem dX1_keeps_102 : decode cX1_keeps 102 = .ok (.iconst 1, 1) := dk_4 (dk_at dksX1_keeps_4 9 rfl rfl)
theorem dX1_keeps_103 : decode cX1_keeps 103 = .ok (.iadd, 1) := dk_96 (dk_at dksX1_keeps_4 10 rfl rfl)
theorem dX1_keeps_104 : decode cX1_keeps 104 = .ok (.putfield 126, 3) := dk_181 0 126 (dk_at dksX1_keeps_4 11 rfl rfl)
theorem dX1_keeps_107 : decode cX1_keeps 107 = .ok (.aaload, 1) := dk_50 (dk_at dksX1_keeps_4 14 rfl rfl)
theorem dX1_keeps_108 : decode cX1_keeps 108 = .ok (.aload_n 0, 1) := dk_42 (dk_at dksX1_keeps_4 15 rfl rfl)
theorem dX1_keeps_109 : decode cX1_keeps 109 = .ok (.getfield 51, 3) := dk_180 0 51 (dk_at dksX1_keeps_4 16 rfl rfl)
theorem dX1_keeps_112 : decode cX1_keeps 112 = .ok (.invokevirtual 288, 3) := dk_182 1 32 (dk_at dksX1_keeps_4 19 rfl rfl)
theorem dX1_keeps_115 : decode cX1_keeps 115 = .ok (.return_, 1) := dk_177 (dk_at dksX1_keeps_4 22 rfl rfl)
abbrev cX1_lot : ByteArray := prog_1_method_33_code
def yX1_lot : MethodName := ⟨RX1, "lot", "(I)I"⟩
def dkwX1_lot_2 : List UInt8 := [182, 1, 74, 172]
abbrev dktX1_lot_2 : List UInt8 := dkwX1_lot_2 ++ []
def dkwX1_lot_1 : List UInt8 := [182, 1, 48, 154, 0, 5, 2, 172, 42, 182, 1, 71, 42, 27, 133, 181, 1, 36, 42, 42, 180, 0, 51]
abbrev dktX1_lot_1 : List UInt8 := dkwX1_lot_1 ++ dktX1_lot_2
def dkwX1_lot_0 : List UInt8 := [27, 3, 17, 39, 15, 184, 0, 148, 153, 0, 20, 42, 180, 0, 51, 180, 1, 67, 154, 0, 10, 42]
abbrev dktX1_lot_0 : List UInt8 := dkwX1_lot_0 ++ dktX1_lot_1
theorem dksX1_lot_0 : cX1_lot.data.toList.drop 0 = dktX1_lot_0 := by decide +kernel
theorem dksX1_lot_1 : cX1_lot.data.toList.drop 22 = dktX1_lot_1 := dk_seg dksX1_lot_0 22 rfl rfl
theorem dksX1_lot_2 : cX1_lot.data.toList.drop 45 = dktX1_lot_2 := dk_seg dksX1_lot_1 23 rfl rfl
theorem dX1_lot_0 : decode cX1_lot 0 = .ok (.iload_n 1, 1) := dk_27 (dk_at dksX1_lot_0 0 rfl rfl)
theorem dX1_lot_1 : decode cX1_lot 1 = .ok (.iconst 0, 1) := dk_3 (dk_at dksX1_lot_0 1 rfl rfl)
theorem dX1_lot_2 : decode cX1_lot 2 = .ok (.sipush 9999, 3) := dk_17 39 15 (dk_at dksX1_lot_0 2 rfl rfl)
theorem dX1_lot_5 : decode cX1_lot 5 = .ok (.invokestatic 148, 3) := dk_184 0 148 (dk_at dksX1_lot_0 5 rfl rfl)
theorem dX1_lot_8 : decode cX1_lot 8 = .ok (.ifCond .eq 20, 3) := dk_153 0 20 (dk_at dksX1_lot_0 8 rfl rfl)
theorem dX1_lot_11 : decode cX1_lot 11 = .ok (.aload_n 0, 1) := dk_42 (dk_at dksX1_lot_0 11 rfl rfl)
theorem dX1_lot_12 : decode cX1_lot 12 = .ok (.getfield 51, 3) := dk_180 0 51 (dk_at dksX1_lot_0 12 rfl rfl)
theorem dX1_lot_15 : decode cX1_lot 15 = .ok (.getfield 323, 3) := dk_180 1 67 (dk_at dksX1_lot_0 15 rfl rfl)
theorem dX1_lot_18 : decode cX1_lot 18 = .ok (.ifCond .ne 10, 3) := dk_154 0 10 (dk_at dksX1_lot_0 18 rfl rfl)
theorem dX1_lot_21 : decode cX1_lot 21 = .ok (.aload_n 0, 1) := dk_42 (dk_at dksX1_lot_0 21 rfl rfl)
theorem dX1_lot_22 : decode cX1_lot 22 = .ok (.invokevirtual 304, 3) := dk_182 1 48 (dk_at dksX1_lot_1 0 rfl rfl)
theorem dX1_lot_25 : decode cX1_lot 25 = .ok (.ifCond .ne 5, 3) := dk_154 0 5 (dk_at dksX1_lot_1 3 rfl rfl)
theorem dX1_lot_28 : decode cX1_lot 28 = .ok (.iconst (-1), 1) := dk_2 (dk_at dksX1_lot_1 6 rfl rfl)
theorem dX1_lot_29 : decode cX1_lot 29 = .ok (.ireturn, 1) := dk_172 (dk_at dksX1_lot_1 7 rfl rfl)
theorem dX1_lot_30 : decode cX1_lot 30 = .ok (.aload_n 0, 1) := dk_42 (dk_at dksX1_lot_1 8 rfl rfl)
theorem dX1_lot_31 : decode cX1_lot 31 = .ok (.invokevirtual 327, 3) := dk_182 1 71 (dk_at dksX1_lot_1 9 rfl rfl)
theorem dX1_lot_34 : decode cX1_lot 34 = .ok (.aload_n 0, 1) := dk_42 (dk_at dksX1_lot_1 12 rfl rfl)
theorem dX1_lot_35 : decode cX1_lot 35 = .ok (.iload_n 1, 1) := dk_27 (dk_at dksX1_lot_1 13 rfl rfl)
theorem dX1_lot_36 : decode cX1_lot 36 = .ok (.i2l, 1) := dk_133 (dk_at dksX1_lot_1 14 rfl rfl)
theorem dX1_lot_37 : decode cX1_lot 37 = .ok (.putfield 292, 3) := dk_181 1 36 (dk_at dksX1_lot_1 15 rfl rfl)
theorem dX1_lot_40 : decode cX1_lot 40 = .ok (.aload_n 0, 1) := dk_42 (dk_at dksX1_lot_1 18 rfl rfl)
theorem dX1_lot_41 : decode cX1_lot 41 = .ok (.aload_n 0, 1) := dk_42 (dk_at dksX1_lot_1 19 rfl rfl)
theorem dX1_lot_42 : decode cX1_lot 42 = .ok (.getfield 51, 3) := dk_180 0 51 (dk_at dksX1_lot_1 20 rfl rfl)
theorem dX1_lot_45 : decode cX1_lot 45 = .ok (.invokevirtual 330, 3) := dk_182 1 74 (dk_at dksX1_lot_2 0 rfl rfl)
theorem dX1_lot_48 : decode cX1_lot 48 = .ok (.ireturn, 1) := dk_172 (dk_at dksX1_lot_2 3 rfl rfl)
abbrev cX1_drawsLot : ByteArray := prog_1_method_31_code
def yX1_drawsLot : MethodName := ⟨RX1, "drawsLot", "(LBorrowedLives$State;)I"⟩
def dkwX1_drawsLot_1 : List UInt8 := [78, 42, 45, 182, 1, 22, 43, 45, 180, 1, 58, 182, 1, 61, 45, 180, 1, 64, 172]
abbrev dktX1_drawsLot_1 : List UInt8 := dkwX1_drawsLot_1 ++ []
def dkwX1_drawsLot_0 : List UInt8 := [42, 182, 1, 48, 61, 28, 154, 0, 5, 2, 172, 187, 1, 50, 89, 42, 42, 28, 182, 1, 52, 183, 1, 55]
abbrev dktX1_drawsLot_0 : List UInt8 := dkwX1_drawsLot_0 ++ dktX1_drawsLot_1
theorem dksX1_drawsLot_0 : cX1_drawsLot.data.toList.drop 0 = dktX1_drawsLot_0 := by decide +kernel
theorem dksX1_drawsLot_1 : cX1_drawsLot.data.toList.drop 24 = dktX1_drawsLot_1 := dk_seg dksX1_drawsLot_0 24 rfl rfl
theorem dX1_drawsLot_0 : decode cX1_drawsLot 0 = .ok (.aload_n 0, 1) := dk_42 (dk_at dksX1_drawsLot_0 0 rfl rfl)
theorem dX1_drawsLot_1 : decode cX1_drawsLot 1 = .ok (.invokevirtual 304, 3) := dk_182 1 48 (dk_at dksX1_drawsLot_0 1 rfl rfl)
theorem dX1_drawsLot_4 : decode cX1_drawsLot 4 = .ok (.istore_n 2, 1) := dk_61 (dk_at dksX1_drawsLot_0 4 rfl rfl)
theorem dX1_drawsLot_5 : decode cX1_drawsLot 5 = .ok (.iload_n 2, 1) := dk_28 (dk_at dksX1_drawsLot_0 5 rfl rfl)
theorem dX1_drawsLot_6 : decode cX1_drawsLot 6 = .ok (.ifCond .ne 5, 3) := dk_154 0 5 (dk_at dksX1_drawsLot_0 6 rfl rfl)
theorem dX1_drawsLot_9 : decode cX1_drawsLot 9 = .ok (.iconst (-1), 1) := dk_2 (dk_at dksX1_drawsLot_0 9 rfl rfl)
theorem dX1_drawsLot_10 : decode cX1_drawsLot 10 = .ok (.ireturn, 1) := dk_172 (dk_at dksX1_drawsLot_0 10 rfl rfl)
theorem dX1_drawsLot_11 : decode cX1_drawsLot 11 = .ok (.new 306, 3) := dk_187 1 50 (dk_at dksX1_drawsLot_0 11 rfl rfl)
theorem dX1_drawsLot_14 : decode cX1_drawsLot 14 = .ok (.dup, 1) := dk_89 (dk_at dksX1_drawsLot_0 14 rfl rfl)
theorem dX1_drawsLot_15 : decode cX1_drawsLot 15 = .ok (.aload_n 0, 1) := dk_42 (dk_at dksX1_drawsLot_0 15 rfl rfl)
theorem dX1_drawsLot_16 : decode cX1_drawsLot 16 = .ok (.aload_n 0, 1) := dk_42 (dk_at dksX1_drawsLot_0 16 rfl rfl)
theorem dX1_drawsLot_17 : decode cX1_drawsLot 17 = .ok (.iload_n 2, 1) := dk_28 (dk_at dksX1_drawsLot_0 17 rfl rfl)
theorem dX1_drawsLot_18 : decode cX1_drawsLot 18 = .ok (.invokevirtual 308, 3) := dk_182 1 52 (dk_at dksX1_drawsLot_0 18 rfl rfl)
theorem dX1_drawsLot_21 : decode cX1_drawsLot 21 = .ok (.invokespecial 311, 3) := dk_183 1 55 (dk_at dksX1_drawsLot_0 21 rfl rfl)
theorem dX1_drawsLot_24 : decode cX1_drawsLot 24 = .ok (.astore_n 3, 1) := dk_78 (dk_at dksX1_drawsLot_1 0 rfl rfl)
theorem dX1_drawsLot_25 : decode cX1_drawsLot 25 = .ok (.aload_n 0, 1) := dk_42 (dk_at dksX1_drawsLot_1 1 rfl rfl)
theorem dX1_drawsLot_26 : decode cX1_drawsLot 26 = .ok (.aload_n 3, 1) := dk_45 (dk_at dksX1_drawsLot_1 2 rfl rfl)
theorem dX1_drawsLot_27 : decode cX1_drawsLot 27 = .ok (.invokevirtual 278, 3) := dk_182 1 22 (dk_at dksX1_drawsLot_1 3 rfl rfl)
theorem dX1_drawsLot_30 : decode cX1_drawsLot 30 = .ok (.aload_n 1, 1) := dk_43 (dk_at dksX1_drawsLot_1 6 rfl rfl)
theorem dX1_drawsLot_31 : decode cX1_drawsLot 31 = .ok (.aload_n 3, 1) := dk_45 (dk_at dksX1_drawsLot_1 7 rfl rfl)
theorem dX1_drawsLot_32 : decode cX1_drawsLot 32 = .ok (.getfield 314, 3) := dk_180 1 58 (dk_at dksX1_drawsLot_1 8 rfl rfl)
theorem dX1_drawsLot_35 : decode cX1_drawsLot 35 = .ok (.invokevirtual 317, 3) := dk_182 1 61 (dk_at dksX1_drawsLot_1 11 rfl rfl)
theorem dX1_drawsLot_38 : decode cX1_drawsLot 38 = .ok (.aload_n 3, 1) := dk_45 (dk_at dksX1_drawsLot_1 14 rfl rfl)
theorem dX1_drawsLot_39 : decode cX1_drawsLot 39 = .ok (.getfield 320, 3) := dk_180 1 64 (dk_at dksX1_drawsLot_1 15 rfl rfl)
theorem dX1_drawsLot_42 : decode cX1_drawsLot 42 = .ok (.ireturn, 1) := dk_172 (dk_at dksX1_drawsLot_1 18 rfl rfl)
abbrev cX1_draws : ByteArray := prog_1_method_30_code
def yX1_draws : MethodName := ⟨RX1, "draws", "(I)I"⟩
def dkwX1_draws_1 : List UInt8 := [20, 1, 46, 109, 27, 133, 113, 136, 172]
abbrev dktX1_draws_1 : List UInt8 := dkwX1_draws_1 ++ []
def dkwX1_draws_0 : List UInt8 := [42, 42, 180, 1, 36, 20, 1, 40, 105, 20, 1, 42, 97, 20, 1, 44, 113, 181, 1, 36, 42, 180, 1, 36]
abbrev dktX1_draws_0 : List UInt8 := dkwX1_draws_0 ++ dktX1_draws_1
theorem dksX1_draws_0 : cX1_draws.data.toList.drop 0 = dktX1_draws_0 := by decide +kernel
theorem dksX1_draws_1 : cX1_draws.data.toList.drop 24 = dktX1_draws_1 := dk_seg dksX1_draws_0 24 rfl rfl
theorem dX1_draws_0 : decode cX1_draws 0 = .ok (.aload_n 0, 1) := dk_42 (dk_at dksX1_draws_0 0 rfl rfl)
theorem dX1_draws_1 : decode cX1_draws 1 = .ok (.aload_n 0, 1) := dk_42 (dk_at dksX1_draws_0 1 rfl rfl)
theorem dX1_draws_2 : decode cX1_draws 2 = .ok (.getfield 292, 3) := dk_180 1 36 (dk_at dksX1_draws_0 2 rfl rfl)
theorem dX1_draws_5 : decode cX1_draws 5 = .ok (.ldc2_w 296, 3) := dk_20 1 40 (dk_at dksX1_draws_0 5 rfl rfl)
theorem dX1_draws_8 : decode cX1_draws 8 = .ok (.lmul, 1) := dk_105 (dk_at dksX1_draws_0 8 rfl rfl)
theorem dX1_draws_9 : decode cX1_draws 9 = .ok (.ldc2_w 298, 3) := dk_20 1 42 (dk_at dksX1_draws_0 9 rfl rfl)
theorem dX1_draws_12 : decode cX1_draws 12 = .ok (.ladd, 1) := dk_97 (dk_at dksX1_draws_0 12 rfl rfl)
theorem dX1_draws_13 : decode cX1_draws 13 = .ok (.ldc2_w 300, 3) := dk_20 1 44 (dk_at dksX1_draws_0 13 rfl rfl)
theorem dX1_draws_16 : decode cX1_draws 16 = .ok (.lrem, 1) := dk_113 (dk_at dksX1_draws_0 16 rfl rfl)
theorem dX1_draws_17 : decode cX1_draws 17 = .ok (.putfield 292, 3) := dk_181 1 36 (dk_at dksX1_draws_0 17 rfl rfl)
theorem dX1_draws_20 : decode cX1_draws 20 = .ok (.aload_n 0, 1) := dk_42 (dk_at dksX1_draws_0 20 rfl rfl)
theorem dX1_draws_21 : decode cX1_draws 21 = .ok (.getfield 292, 3) := dk_180 1 36 (dk_at dksX1_draws_0 21 rfl rfl)
theorem dX1_draws_24 : decode cX1_draws 24 = .ok (.ldc2_w 302, 3) := dk_20 1 46 (dk_at dksX1_draws_1 0 rfl rfl)
theorem dX1_draws_27 : decode cX1_draws 27 = .ok (.ldiv, 1) := dk_109 (dk_at dksX1_draws_1 3 rfl rfl)
theorem dX1_draws_28 : decode cX1_draws 28 = .ok (.iload_n 1, 1) := dk_27 (dk_at dksX1_draws_1 4 rfl rfl)
theorem dX1_draws_29 : decode cX1_draws 29 = .ok (.i2l, 1) := dk_133 (dk_at dksX1_draws_1 5 rfl rfl)
theorem dX1_draws_30 : decode cX1_draws 30 = .ok (.lrem, 1) := dk_113 (dk_at dksX1_draws_1 6 rfl rfl)
theorem dX1_draws_31 : decode cX1_draws 31 = .ok (.l2i, 1) := dk_136 (dk_at dksX1_draws_1 7 rfl rfl)
theorem dX1_draws_32 : decode cX1_draws 32 = .ok (.ireturn, 1) := dk_172 (dk_at dksX1_draws_1 8 rfl rfl)
abbrev cX1_swap : ByteArray := prog_1_method_36_code
def yX1_swap : MethodName := ⟨RX1, "swap", "(II)Z"⟩
def dkwX1_swap_2 : List UInt8 := [182, 1, 82, 4, 172]
abbrev dktX1_swap_2 : List UInt8 := dkwX1_swap_2 ++ []
def dkwX1_swap_1 : List UInt8 := [180, 0, 51, 27, 28, 182, 1, 78, 154, 0, 5, 3, 172, 42, 182, 1, 71, 42, 42, 180, 0, 51, 27, 28]
abbrev dktX1_swap_1 : List UInt8 := dkwX1_swap_1 ++ dktX1_swap_2
def dkwX1_swap_0 : List UInt8 := [42, 27, 182, 0, 163, 153, 0, 29, 42, 28, 182, 0, 163, 153, 0, 21, 27, 28, 159, 0, 16, 42, 42]
abbrev dktX1_swap_0 : List UInt8 := dkwX1_swap_0 ++ dktX1_swap_1
theorem dksX1_swap_0 : cX1_swap.data.toList.drop 0 = dktX1_swap_0 := by decide +kernel
theorem dksX1_swap_1 : cX1_swap.data.toList.drop 23 = dktX1_swap_1 := dk_seg dksX1_swap_0 23 rfl rfl
theorem dksX1_swap_2 : cX1_swap.data.toList.drop 47 = dktX1_swap_2 := dk_seg dksX1_swap_1 24 rfl rfl
theorem dX1_swap_0 : decode cX1_swap 0 = .ok (.aload_n 0, 1) := dk_42 (dk_at dksX1_swap_0 0 rfl rfl)
theorem dX1_swap_1 : decode cX1_swap 1 = .ok (.iload_n 1, 1) := dk_27 (dk_at dksX1_swap_0 1 rfl rfl)
theorem dX1_swap_2 : decode cX1_swap 2 = .ok (.invokevirtual 163, 3) := dk_182 0 163 (dk_at dksX1_swap_0 2 rfl rfl)
theorem dX1_swap_5 : decode cX1_swap 5 = .ok (.ifCond .eq 29, 3) := dk_153 0 29 (dk_at dksX1_swap_0 5 rfl rfl)
theorem dX1_swap_8 : decode cX1_swap 8 = .ok (.aload_n 0, 1) := dk_42 (dk_at dksX1_swap_0 8 rfl rfl)
theorem dX1_swap_9 : decode cX1_swap 9 = .ok (.iload_n 2, 1) := dk_28 (dk_at dksX1_swap_0 9 rfl rfl)
theorem dX1_swap_10 : decode cX1_swap 10 = .ok (.invokevirtual 163, 3) := dk_182 0 163 (dk_at dksX1_swap_0 10 rfl rfl)
theorem dX1_swap_13 : decode cX1_swap 13 = .ok (.ifCond .eq 21, 3) := dk_153 0 21 (dk_at dksX1_swap_0 13 rfl rfl)
theorem dX1_swap_16 : decode cX1_swap 16 = .ok (.iload_n 1, 1) := dk_27 (dk_at dksX1_swap_0 16 rfl rfl)
theorem dX1_swap_17 : decode cX1_swap 17 = .ok (.iload_n 2, 1) := dk_28 (dk_at dksX1_swap_0 17 rfl rfl)
theorem dX1_swap_18 : decode cX1_swap 18 = .ok (.if_icmp .eq 16, 3) := dk_159 0 16 (dk_at dksX1_swap_0 18 rfl rfl)
theorem dX1_swap_21 : decode cX1_swap 21 = .ok (.aload_n 0, 1) := dk_42 (dk_at dksX1_swap_0 21 rfl rfl)
theorem dX1_swap_22 : decode cX1_swap 22 = .ok (.aload_n 0, 1) := dk_42 (dk_at dksX1_swap_0 22 rfl rfl)
theorem dX1_swap_23 : decode cX1_swap 23 = .ok (.getfield 51, 3) := dk_180 0 51 (dk_at dksX1_swap_1 0 rfl rfl)
theorem dX1_swap_26 : decode cX1_swap 26 = .ok (.iload_n 1, 1) := dk_27 (dk_at dksX1_swap_1 3 rfl rfl)
theorem dX1_swap_27 : decode cX1_swap 27 = .ok (.iload_n 2, 1) := dk_28 (dk_at dksX1_swap_1 4 rfl rfl)
theorem dX1_swap_28 : decode cX1_swap 28 = .ok (.invokevirtual 334, 3) := dk_182 1 78 (dk_at dksX1_swap_1 5 rfl rfl)
theorem dX1_swap_31 : decode cX1_swap 31 = .ok (.ifCond .ne 5, 3) := dk_154 0 5 (dk_at dksX1_swap_1 8 rfl rfl)
theorem dX1_swap_34 : decode cX1_swap 34 = .ok (.iconst 0, 1) := dk_3 (dk_at dksX1_swap_1 11 rfl rfl)
theorem dX1_swap_35 : decode cX1_swap 35 = .ok (.ireturn, 1) := dk_172 (dk_at dksX1_swap_1 12 rfl rfl)
theorem dX1_swap_36 : decode cX1_swap 36 = .ok (.aload_n 0, 1) := dk_42 (dk_at dksX1_swap_1 13 rfl rfl)
theorem dX1_swap_37 : decode cX1_swap 37 = .ok (.invokevirtual 327, 3) := dk_182 1 71 (dk_at dksX1_swap_1 14 rfl rfl)
theorem dX1_swap_40 : decode cX1_swap 40 = .ok (.aload_n 0, 1) := dk_42 (dk_at dksX1_swap_1 17 rfl rfl)
theorem dX1_swap_41 : decode cX1_swap 41 = .ok (.aload_n 0, 1) := dk_42 (dk_at dksX1_swap_1 18 rfl rfl)
theorem dX1_swap_42 : decode cX1_swap 42 = .ok (.getfield 51, 3) := dk_180 0 51 (dk_at dksX1_swap_1 19 rfl rfl)
theorem dX1_swap_45 : decode cX1_swap 45 = .ok (.iload_n 1, 1) := dk_27 (dk_at dksX1_swap_1 22 rfl rfl)
theorem dX1_swap_46 : decode cX1_swap 46 = .ok (.iload_n 2, 1) := dk_28 (dk_at dksX1_swap_1 23 rfl rfl)
theorem dX1_swap_47 : decode cX1_swap 47 = .ok (.invokevirtual 338, 3) := dk_182 1 82 (dk_at dksX1_swap_2 0 rfl rfl)
theorem dX1_swap_50 : decode cX1_swap 50 = .ok (.iconst 1, 1) := dk_4 (dk_at dksX1_swap_2 3 rfl rfl)
theorem dX1_swap_51 : decode cX1_swap 51 = .ok (.ireturn, 1) := dk_172 (dk_at dksX1_swap_2 4 rfl rfl)
abbrev cX1_canSwap : ByteArray := prog_1_method_34_code
def yX1_canSwap : MethodName := ⟨RX1, "canSwap", "(LBorrowedLives$State;II)Z"⟩
def dkwX1_canSwap_1 : List UInt8 := [182, 0, 173, 182, 0, 198, 153, 0, 7, 4, 167, 0, 4, 3, 172]
abbrev dktX1_canSwap_1 : List UInt8 := dkwX1_canSwap_1 ++ []
def dkwX1_canSwap_0 : List UInt8 := [43, 180, 1, 67, 153, 0, 33, 42, 28, 43, 29, 182, 0, 173, 182, 0, 198, 153, 0, 20, 42, 29, 43, 28]
abbrev dktX1_canSwap_0 : List UInt8 := dkwX1_canSwap_0 ++ dktX1_canSwap_1
theorem dksX1_canSwap_0 : cX1_canSwap.data.toList.drop 0 = dktX1_canSwap_0 := by decide +kernel
theorem dksX1_canSwap_1 : cX1_canSwap.data.toList.drop 24 = dktX1_canSwap_1 := dk_seg dksX1_canSwap_0 24 rfl rfl
theorem dX1_canSwap_0 : decode cX1_canSwap 0 = .ok (.aload_n 1, 1) := dk_43 (dk_at dksX1_canSwap_0 0 rfl rfl)
theorem dX1_canSwap_1 : decode cX1_canSwap 1 = .ok (.getfield 323, 3) := dk_180 1 67 (dk_at dksX1_canSwap_0 1 rfl rfl)
theorem dX1_canSwap_4 : decode cX1_canSwap 4 = .ok (.ifCond .eq 33, 3) := dk_153 0 33 (dk_at dksX1_canSwap_0 4 rfl rfl)
theorem dX1_canSwap_7 : decode cX1_canSwap 7 = .ok (.aload_n 0, 1) := dk_42 (dk_at dksX1_canSwap_0 7 rfl rfl)
theorem dX1_canSwap_8 : decode cX1_canSwap 8 = .ok (.iload_n 2, 1) := dk_28 (dk_at dksX1_canSwap_0 8 rfl rfl)
theorem dX1_canSwap_9 : decode cX1_canSwap 9 = .ok (.aload_n 1, 1) := dk_43 (dk_at dksX1_canSwap_0 9 rfl rfl)
theorem dX1_canSwap_10 : decode cX1_canSwap 10 = .ok (.iload_n 3, 1) := dk_29 (dk_at dksX1_canSwap_0 10 rfl rfl)
theorem dX1_canSwap_11 : decode cX1_canSwap 11 = .ok (.invokevirtual 173, 3) := dk_182 0 173 (dk_at dksX1_canSwap_0 11 rfl rfl)
theorem dX1_canSwap_14 : decode cX1_canSwap 14 = .ok (.invokevirtual 198, 3) := dk_182 0 198 (dk_at dksX1_canSwap_0 14 rfl rfl)
theorem dX1_canSwap_17 : decode cX1_canSwap 17 = .ok (.ifCond .eq 20, 3) := dk_153 0 20 (dk_at dksX1_canSwap_0 17 rfl rfl)
theorem dX1_canSwap_20 : decode cX1_canSwap 20 = .ok (.aload_n 0, 1) := dk_42 (dk_at dksX1_canSwap_0 20 rfl rfl)
theorem dX1_canSwap_21 : decode cX1_canSwap 21 = .ok (.iload_n 3, 1) := dk_29 (dk_at dksX1_canSwap_0 21 rfl rfl)
theorem dX1_canSwap_22 : decode cX1_canSwap 22 = .ok (.aload_n 1, 1) := dk_43 (dk_at dksX1_canSwap_0 22 rfl rfl)
theorem dX1_canSwap_23 : decode cX1_canSwap 23 = .ok (.iload_n 2, 1) := dk_28 (dk_at dksX1_canSwap_0 23 rfl rfl)
theorem dX1_canSwap_24 : decode cX1_canSwap 24 = .ok (.invokevirtual 173, 3) := dk_182 0 173 (dk_at dksX1_canSwap_1 0 rfl rfl)
theorem dX1_canSwap_27 : decode cX1_canSwap 27 = .ok (.invokevirtual 198, 3) := dk_182 0 198 (dk_at dksX1_canSwap_1 3 rfl rfl)
theorem dX1_canSwap_30 : decode cX1_canSwap 30 = .ok (.ifCond .eq 7, 3) := dk_153 0 7 (dk_at dksX1_canSwap_1 6 rfl rfl)
theorem dX1_canSwap_33 : decode cX1_canSwap 33 = .ok (.iconst 1, 1) := dk_4 (dk_at dksX1_canSwap_1 9 rfl rfl)
theorem dX1_canSwap_34 : decode cX1_canSwap 34 = .ok (.goto 4, 3) := dk_167 0 4 (dk_at dksX1_canSwap_1 10 rfl rfl)
theorem dX1_canSwap_37 : decode cX1_canSwap 37 = .ok (.iconst 0, 1) := dk_3 (dk_at dksX1_canSwap_1 13 rfl rfl)
theorem dX1_canSwap_38 : decode cX1_canSwap 38 = .ok (.ireturn, 1) := dk_172 (dk_at dksX1_canSwap_1 14 rfl rfl)
abbrev cX1_swaps : ByteArray := prog_1_method_35_code
def yX1_swaps : MethodName := ⟨RX1, "swaps", "(LBorrowedLives$State;II)V"⟩
def dkwX1_swaps_1 : List UInt8 := [180, 0, 189, 21, 5, 28, 79, 177]
abbrev dktX1_swaps_1 : List UInt8 := dkwX1_swaps_1 ++ []
def dkwX1_swaps_0 : List UInt8 := [43, 28, 182, 0, 173, 54, 4, 43, 29, 182, 0, 173, 54, 5, 43, 180, 0, 189, 21, 4, 29, 79, 43]
abbrev dktX1_swaps_0 : List UInt8 := dkwX1_swaps_0 ++ dktX1_swaps_1
theorem dksX1_swaps_0 : cX1_swaps.data.toList.drop 0 = dktX1_swaps_0 := by decide +kernel
theorem dksX1_swaps_1 : cX1_swaps.data.toList.drop 23 = dktX1_swaps_1 := dk_seg dksX1_swaps_0 23 rfl rfl
theorem dX1_swaps_0 : decode cX1_swaps 0 = .ok (.aload_n 1, 1) := dk_43 (dk_at dksX1_swaps_0 0 rfl rfl)
theorem dX1_swaps_1 : decode cX1_swaps 1 = .ok (.iload_n 2, 1) := dk_28 (dk_at dksX1_swaps_0 1 rfl rfl)
theorem dX1_swaps_2 : decode cX1_swaps 2 = .ok (.invokevirtual 173, 3) := dk_182 0 173 (dk_at dksX1_swaps_0 2 rfl rfl)
theorem dX1_swaps_5 : decode cX1_swaps 5 = .ok (.istore 4, 2) := dk_54 4 (dk_at dksX1_swaps_0 5 rfl rfl)
theorem dX1_swaps_7 : decode cX1_swaps 7 = .ok (.aload_n 1, 1) := dk_43 (dk_at dksX1_swaps_0 7 rfl rfl)
theorem dX1_swaps_8 : decode cX1_swaps 8 = .ok (.iload_n 3, 1) := dk_29 (dk_at dksX1_swaps_0 8 rfl rfl)
theorem dX1_swaps_9 : decode cX1_swaps 9 = .ok (.invokevirtual 173, 3) := dk_182 0 173 (dk_at dksX1_swaps_0 9 rfl rfl)
theorem dX1_swaps_12 : decode cX1_swaps 12 = .ok (.istore 5, 2) := dk_54 5 (dk_at dksX1_swaps_0 12 rfl rfl)
theorem dX1_swaps_14 : decode cX1_swaps 14 = .ok (.aload_n 1, 1) := dk_43 (dk_at dksX1_swaps_0 14 rfl rfl)
theorem dX1_swaps_15 : decode cX1_swaps 15 = .ok (.getfield 189, 3) := dk_180 0 189 (dk_at dksX1_swaps_0 15 rfl rfl)
theorem dX1_swaps_18 : decode cX1_swaps 18 = .ok (.iload 4, 2) := dk_21 4 (dk_at dksX1_swaps_0 18 rfl rfl)
theorem dX1_swaps_20 : decode cX1_swaps 20 = .ok (.iload_n 3, 1) := dk_29 (dk_at dksX1_swaps_0 20 rfl rfl)
theorem dX1_swaps_21 : decode cX1_swaps 21 = .ok (.iastore, 1) := dk_79 (dk_at dksX1_swaps_0 21 rfl rfl)
theorem dX1_swaps_22 : decode cX1_swaps 22 = .ok (.aload_n 1, 1) := dk_43 (dk_at dksX1_swaps_0 22 rfl rfl)
theorem dX1_swaps_23 : decode cX1_swaps 23 = .ok (.getfield 189, 3) := dk_180 0 189 (dk_at dksX1_swaps_1 0 rfl rfl)
theorem dX1_swaps_26 : decode cX1_swaps 26 = .ok (.iload 5, 2) := dk_21 5 (dk_at dksX1_swaps_1 3 rfl rfl)
theorem dX1_swaps_28 : decode cX1_swaps 28 = .ok (.iload_n 2, 1) := dk_28 (dk_at dksX1_swaps_1 5 rfl rfl)
theorem dX1_swaps_29 : decode cX1_swaps 29 = .ok (.iastore, 1) := dk_79 (dk_at dksX1_swaps_1 6 rfl rfl)
theorem dX1_swaps_30 : decode cX1_swaps 30 = .ok (.return_, 1) := dk_177 (dk_at dksX1_swaps_1 7 rfl rfl)
abbrev cX1_day : ByteArray := prog_1_method_37_code
def yX1_day : MethodName := ⟨RX1, "day", "()I"⟩
def dkwX1_day_2 : List UInt8 := [180, 0, 245, 172]
abbrev dktX1_day_2 : List UInt8 := dkwX1_day_2 ++ []
def dkwX1_day_1 : List UInt8 := [42, 182, 1, 71, 42, 42, 180, 0, 51, 42, 180, 0, 35, 182, 1, 85, 182, 1, 88, 42, 180, 0, 51]
abbrev dktX1_day_1 : List UInt8 := dkwX1_day_1 ++ dktX1_day_2
def dkwX1_day_0 : List UInt8 := [42, 180, 0, 51, 180, 1, 67, 153, 0, 15, 42, 180, 0, 51, 180, 0, 245, 16, 7, 160, 0, 5, 2, 172]
abbrev dktX1_day_0 : List UInt8 := dkwX1_day_0 ++ dktX1_day_1
theorem dksX1_day_0 : cX1_day.data.toList.drop 0 = dktX1_day_0 := by decide +kernel
theorem dksX1_day_1 : cX1_day.data.toList.drop 24 = dktX1_day_1 := dk_seg dksX1_day_0 24 rfl rfl
theorem dksX1_day_2 : cX1_day.data.toList.drop 47 = dktX1_day_2 := dk_seg dksX1_day_1 23 rfl rfl
theorem dX1_day_0 : decode cX1_day 0 = .ok (.aload_n 0, 1) := dk_42 (dk_at dksX1_day_0 0 rfl rfl)
theorem dX1_day_1 : decode cX1_day 1 = .ok (.getfield 51, 3) := dk_180 0 51 (dk_at dksX1_day_0 1 rfl rfl)
theorem dX1_day_4 : decode cX1_day 4 = .ok (.getfield 323, 3) := dk_180 1 67 (dk_at dksX1_day_0 4 rfl rfl)
theorem dX1_day_7 : decode cX1_day 7 = .ok (.ifCond .eq 15, 3) := dk_153 0 15 (dk_at dksX1_day_0 7 rfl rfl)
theorem dX1_day_10 : decode cX1_day 10 = .ok (.aload_n 0, 1) := dk_42 (dk_at dksX1_day_0 10 rfl rfl)
theorem dX1_day_11 : decode cX1_day 11 = .ok (.getfield 51, 3) := dk_180 0 51 (dk_at dksX1_day_0 11 rfl rfl)
theorem dX1_day_14 : decode cX1_day 14 = .ok (.getfield 245, 3) := dk_180 0 245 (dk_at dksX1_day_0 14 rfl rfl)
theorem dX1_day_17 : decode cX1_day 17 = .ok (.bipush 7, 2) := dk_16 7 (dk_at dksX1_day_0 17 rfl rfl)
theorem dX1_day_19 : decode cX1_day 19 = .ok (.if_icmp .ne 5, 3) := dk_160 0 5 (dk_at dksX1_day_0 19 rfl rfl)
theorem dX1_day_22 : decode cX1_day 22 = .ok (.iconst (-1), 1) := dk_2 (dk_at dksX1_day_0 22 rfl rfl)
theorem dX1_day_23 : decode cX1_day 23 = .ok (.ireturn, 1) := dk_172 (dk_at dksX1_day_0 23 rfl rfl)
theorem dX1_day_24 : decode cX1_day 24 = .ok (.aload_n 0, 1) := dk_42 (dk_at dksX1_day_1 0 rfl rfl)
theorem dX1_day_25 : decode cX1_day 25 = .ok (.invokevirtual 327, 3) := dk_182 1 71 (dk_at dksX1_day_1 1 rfl rfl)
theorem dX1_day_28 : decode cX1_day 28 = .ok (.aload_n 0, 1) := dk_42 (dk_at dksX1_day_1 4 rfl rfl)
theorem dX1_day_29 : decode cX1_day 29 = .ok (.aload_n 0, 1) := dk_42 (dk_at dksX1_day_1 5 rfl rfl)
theorem dX1_day_30 : decode cX1_day 30 = .ok (.getfield 51, 3) := dk_180 0 51 (dk_at dksX1_day_1 6 rfl rfl)
theorem dX1_day_33 : decode cX1_day 33 = .ok (.aload_n 0, 1) := dk_42 (dk_at dksX1_day_1 9 rfl rfl)
theorem dX1_day_34 : decode cX1_day 34 = .ok (.getfield 35, 3) := dk_180 0 35 (dk_at dksX1_day_1 10 rfl rfl)
theorem dX1_day_37 : decode cX1_day 37 = .ok (.invokevirtual 341, 3) := dk_182 1 85 (dk_at dksX1_day_1 13 rfl rfl)
theorem dX1_day_40 : decode cX1_day 40 = .ok (.invokevirtual 344, 3) := dk_182 1 88 (dk_at dksX1_day_1 16 rfl rfl)
theorem dX1_day_43 : decode cX1_day 43 = .ok (.aload_n 0, 1) := dk_42 (dk_at dksX1_day_1 19 rfl rfl)
theorem dX1_day_44 : decode cX1_day 44 = .ok (.getfield 51, 3) := dk_180 0 51 (dk_at dksX1_day_1 20 rfl rfl)
theorem dX1_day_47 : decode cX1_day 47 = .ok (.getfield 245, 3) := dk_180 0 245 (dk_at dksX1_day_2 0 rfl rfl)
theorem dX1_day_50 : decode cX1_day 50 = .ok (.ireturn, 1) := dk_172 (dk_at dksX1_day_2 3 rfl rfl)
abbrev cX1_home : ByteArray := prog_1_method_38_code
def yX1_home : MethodName := ⟨RX1, "home", "()I"⟩
def dkwX1_home_1 : List UInt8 := [172]
abbrev dktX1_home_1 : List UInt8 := dkwX1_home_1 ++ []
def dkwX1_home_0 : List UInt8 := [42, 180, 0, 51, 180, 1, 67, 154, 0, 5, 2, 172, 42, 182, 1, 71, 42, 42, 180, 0, 51, 182, 1, 91]
abbrev dktX1_home_0 : List UInt8 := dkwX1_home_0 ++ dktX1_home_1
theorem dksX1_home_0 : cX1_home.data.toList.drop 0 = dktX1_home_0 := by decide +kernel
theorem dksX1_home_1 : cX1_home.data.toList.drop 24 = dktX1_home_1 := dk_seg dksX1_home_0 24 rfl rfl
theorem dX1_home_0 : decode cX1_home 0 = .ok (.aload_n 0, 1) := dk_42 (dk_at dksX1_home_0 0 rfl rfl)
theorem dX1_home_1 : decode cX1_home 1 = .ok (.getfield 51, 3) := dk_180 0 51 (dk_at dksX1_home_0 1 rfl rfl)
theorem dX1_home_4 : decode cX1_home 4 = .ok (.getfield 323, 3) := dk_180 1 67 (dk_at dksX1_home_0 4 rfl rfl)
theorem dX1_home_7 : decode cX1_home 7 = .ok (.ifCond .ne 5, 3) := dk_154 0 5 (dk_at dksX1_home_0 7 rfl rfl)
theorem dX1_home_10 : decode cX1_home 10 = .ok (.iconst (-1), 1) := dk_2 (dk_at dksX1_home_0 10 rfl rfl)
theorem dX1_home_11 : decode cX1_home 11 = .ok (.ireturn, 1) := dk_172 (dk_at dksX1_home_0 11 rfl rfl)
theorem dX1_home_12 : decode cX1_home 12 = .ok (.aload_n 0, 1) := dk_42 (dk_at dksX1_home_0 12 rfl rfl)
theorem dX1_home_13 : decode cX1_home 13 = .ok (.invokevirtual 327, 3) := dk_182 1 71 (dk_at dksX1_home_0 13 rfl rfl)
theorem dX1_home_16 : decode cX1_home 16 = .ok (.aload_n 0, 1) := dk_42 (dk_at dksX1_home_0 16 rfl rfl)
theorem dX1_home_17 : decode cX1_home 17 = .ok (.aload_n 0, 1) := dk_42 (dk_at dksX1_home_0 17 rfl rfl)
theorem dX1_home_18 : decode cX1_home 18 = .ok (.getfield 51, 3) := dk_180 0 51 (dk_at dksX1_home_0 18 rfl rfl)
theorem dX1_home_21 : decode cX1_home 21 = .ok (.invokevirtual 347, 3) := dk_182 1 91 (dk_at dksX1_home_0 21 rfl rfl)
theorem dX1_home_24 : decode cX1_home 24 = .ok (.ireturn, 1) := dk_172 (dk_at dksX1_home_1 0 rfl rfl)
abbrev cX1_comesHome : ByteArray := prog_1_method_24_code
def yX1_comesHome : MethodName := ⟨RX1, "comesHome", "(LBorrowedLives$State;)I"⟩
def dkwX1_comesHome_1 : List UInt8 := [181, 0, 254, 43, 182, 1, 1, 28, 172]
abbrev dktX1_comesHome_1 : List UInt8 := dkwX1_comesHome_1 ++ []
def dkwX1_comesHome_0 : List UInt8 := [43, 182, 0, 248, 61, 43, 89, 180, 0, 251, 28, 96, 181, 0, 251, 43, 89, 180, 0, 254, 4, 96]
abbrev dktX1_comesHome_0 : List UInt8 := dkwX1_comesHome_0 ++ dktX1_comesHome_1
theorem dksX1_comesHome_0 : cX1_comesHome.data.toList.drop 0 = dktX1_comesHome_0 := by decide +kernel
theorem dksX1_comesHome_1 : cX1_comesHome.data.toList.drop 22 = dktX1_comesHome_1 := dk_seg dksX1_comesHome_0 22 rfl rfl
theorem dX1_comesHome_0 : decode cX1_comesHome 0 = .ok (.aload_n 1, 1) := dk_43 (dk_at dksX1_comesHome_0 0 rfl rfl)
theorem dX1_comesHome_1 : decode cX1_comesHome 1 = .ok (.invokevirtual 248, 3) := dk_182 0 248 (dk_at dksX1_comesHome_0 1 rfl rfl)
theorem dX1_comesHome_4 : decode cX1_comesHome 4 = .ok (.istore_n 2, 1) := dk_61 (dk_at dksX1_comesHome_0 4 rfl rfl)
theorem dX1_comesHome_5 : decode cX1_comesHome 5 = .ok (.aload_n 1, 1) := dk_43 (dk_at dksX1_comesHome_0 5 rfl rfl)
theorem dX1_comesHome_6 : decode cX1_comesHome 6 = .ok (.dup, 1) := dk_89 (dk_at dksX1_comesHome_0 6 rfl rfl)
theorem dX1_comesHome_7 : decode cX1_comesHome 7 = .ok (.getfield 251, 3) := dk_180 0 251 (dk_at dksX1_comesHome_0 7 rfl rfl)
theorem dX1_comesHome_10 : decode cX1_comesHome 10 = .ok (.iload_n 2, 1) := dk_28 (dk_at dksX1_comesHome_0 10 rfl rfl)
theorem dX1_comesHome_11 : decode cX1_comesHome 11 = .ok (.iadd, 1) := dk_96 (dk_at dksX1_comesHome_0 11 rfl rfl)
theorem dX1_comesHome_12 : decode cX1_comesHome 12 = .ok (.putfield 251, 3) := dk_181 0 251 (dk_at dksX1_comesHome_0 12 rfl rfl)
theorem dX1_comesHome_15 : decode cX1_comesHome 15 = .ok (.aload_n 1, 1) := dk_43 (dk_at dksX1_comesHome_0 15 rfl rfl)
theorem dX1_comesHome_16 : decode cX1_comesHome 16 = .ok (.dup, 1) := dk_89 (dk_at dksX1_comesHome_0 16 rfl rfl)
theorem dX1_comesHome_17 : decode cX1_comesHome 17 = .ok (.getfield 254, 3) := dk_180 0 254 (dk_at dksX1_comesHome_0 17 rfl rfl)
theorem dX1_comesHome_20 : decode cX1_comesHome 20 = .ok (.iconst 1, 1) := dk_4 (dk_at dksX1_comesHome_0 20 rfl rfl)
theorem dX1_comesHome_21 : decode cX1_comesHome 21 = .ok (.iadd, 1) := dk_96 (dk_at dksX1_comesHome_0 21 rfl rfl)
theorem dX1_comesHome_22 : decode cX1_comesHome 22 = .ok (.putfield 254, 3) := dk_181 0 254 (dk_at dksX1_comesHome_1 0 rfl rfl)
theorem dX1_comesHome_25 : decode cX1_comesHome 25 = .ok (.aload_n 1, 1) := dk_43 (dk_at dksX1_comesHome_1 3 rfl rfl)
theorem dX1_comesHome_26 : decode cX1_comesHome 26 = .ok (.invokevirtual 257, 3) := dk_182 1 1 (dk_at dksX1_comesHome_1 4 rfl rfl)
theorem dX1_comesHome_29 : decode cX1_comesHome 29 = .ok (.iload_n 2, 1) := dk_28 (dk_at dksX1_comesHome_1 7 rfl rfl)
theorem dX1_comesHome_30 : decode cX1_comesHome 30 = .ok (.ireturn, 1) := dk_172 (dk_at dksX1_comesHome_1 8 rfl rfl)
abbrev cX1_undo : ByteArray := prog_1_method_39_code
def yX1_undo : MethodName := ⟨RX1, "undo", "()Z"⟩
def dkwX1_undo_1 : List UInt8 := [90, 181, 0, 126, 50, 182, 1, 32, 4, 172]
abbrev dktX1_undo_1 : List UInt8 := dkwX1_undo_1 ++ []
def dkwX1_undo_0 : List UInt8 := [42, 180, 0, 126, 154, 0, 5, 3, 172, 42, 180, 0, 51, 42, 180, 0, 68, 42, 89, 180, 0, 126, 4, 100]
abbrev dktX1_undo_0 : List UInt8 := dkwX1_undo_0 ++ dktX1_undo_1
theorem dksX1_undo_0 : cX1_undo.data.toList.drop 0 = dktX1_undo_0 := by decide +kernel
theorem dksX1_undo_1 : cX1_undo.data.toList.drop 24 = dktX1_undo_1 := dk_seg dksX1_undo_0 24 rfl rfl
theorem dX1_undo_0 : decode cX1_undo 0 = .ok (.aload_n 0, 1) := dk_42 (dk_at dksX1_undo_0 0 rfl rfl)
theorem dX1_undo_1 : decode cX1_undo 1 = .ok (.getfield 126, 3) := dk_180 0 126 (dk_at dksX1_undo_0 1 rfl rfl)
theorem dX1_undo_4 : decode cX1_undo 4 = .ok (.ifCond .ne 5, 3) := dk_154 0 5 (dk_at dksX1_undo_0 4 rfl rfl)
theorem dX1_undo_7 : decode cX1_undo 7 = .ok (.iconst 0, 1) := dk_3 (dk_at dksX1_undo_0 7 rfl rfl)
theorem dX1_undo_8 : decode cX1_undo 8 = .ok (.ireturn, 1) := dk_172 (dk_at dksX1_undo_0 8 rfl rfl)
theorem dX1_undo_9 : decode cX1_undo 9 = .ok (.aload_n 0, 1) := dk_42 (dk_at dksX1_undo_0 9 rfl rfl)
theorem dX1_undo_10 : decode cX1_undo 10 = .ok (.getfield 51, 3) := dk_180 0 51 (dk_at dksX1_undo_0 10 rfl rfl)
theorem dX1_undo_13 : decode cX1_undo 13 = .ok (.aload_n 0, 1) := dk_42 (dk_at dksX1_undo_0 13 rfl rfl)
theorem dX1_undo_14 : decode cX1_undo 14 = .ok (.getfield 68, 3) := dk_180 0 68 (dk_at dksX1_undo_0 14 rfl rfl)
theorem dX1_undo_17 : decode cX1_undo 17 = .ok (.aload_n 0, 1) := dk_42 (dk_at dksX1_undo_0 17 rfl rfl)
theorem dX1_undo_18 : decode cX1_undo 18 = .ok (.dup, 1) := dk_89 (dk_at dksX1_undo_0 18 rfl rfl)
theorem dX1_undo_19 : decode cX1_undo 19 = .ok (.getfield 126, 3) := dk_180 0 126 (dk_at dksX1_undo_0 19 rfl rfl)
theorem dX1_undo_22 : decode cX1_undo 22 = .ok (.iconst 1, 1) := dk_4 (dk_at dksX1_undo_0 22 rfl rfl)
theorem dX1_undo_23 : decode cX1_undo 23 = .ok (.isub, 1) := dk_100 (dk_at dksX1_undo_0 23 rfl rfl)
theorem dX1_undo_24 : decode cX1_undo 24 = .ok (.dup_x1, 1) := dk_90 (dk_at dksX1_undo_1 0 rfl rfl)
theorem dX1_undo_25 : decode cX1_undo 25 = .ok (.putfield 126, 3) := dk_181 0 126 (dk_at dksX1_undo_1 1 rfl rfl)
theorem dX1_undo_28 : decode cX1_undo 28 = .ok (.aaload, 1) := dk_50 (dk_at dksX1_undo_1 4 rfl rfl)
theorem dX1_undo_29 : decode cX1_undo 29 = .ok (.invokevirtual 288, 3) := dk_182 1 32 (dk_at dksX1_undo_1 5 rfl rfl)
theorem dX1_undo_32 : decode cX1_undo 32 = .ok (.iconst 1, 1) := dk_4 (dk_at dksX1_undo_1 8 rfl rfl)
theorem dX1_undo_33 : decode cX1_undo 33 = .ok (.ireturn, 1) := dk_172 (dk_at dksX1_undo_1 9 rfl rfl)
abbrev cX1_judged : ByteArray := prog_1_method_40_code
def yX1_judged : MethodName := ⟨RX1, "judged", "(I)I"⟩
def dkwX1_judged_4 : List UInt8 := [167, 0, 10, 42, 180, 0, 55, 180, 0, 251, 172]
abbrev dktX1_judged_4 : List UInt8 := dkwX1_judged_4 ++ []
def dkwX1_judged_3 : List UInt8 := [167, 255, 214, 27, 154, 0, 7, 28, 167, 0, 25, 27, 4, 160, 0, 13, 42, 180, 0, 55, 180, 0, 254]
abbrev dktX1_judged_3 : List UInt8 := dkwX1_judged_3 ++ dktX1_judged_4
def dkwX1_judged_2 : List UInt8 := [192, 1, 94, 42, 42, 180, 0, 55, 182, 1, 96, 154, 0, 9, 28, 156, 0, 5, 29, 61, 132, 3, 1]
abbrev dktX1_judged_2 : List UInt8 := dkwX1_judged_2 ++ dktX1_judged_3
def dkwX1_judged_1 : List UInt8 := [61, 3, 62, 29, 42, 180, 0, 44, 182, 0, 136, 162, 0, 37, 42, 180, 0, 44, 29, 182, 0, 140]
abbrev dktX1_judged_1 : List UInt8 := dkwX1_judged_1 ++ dktX1_judged_2
def dkwX1_judged_0 : List UInt8 := [27, 3, 5, 184, 0, 148, 154, 0, 6, 16, 254, 172, 42, 180, 0, 55, 42, 180, 0, 35, 182, 0, 101, 2]
abbrev dktX1_judged_0 : List UInt8 := dkwX1_judged_0 ++ dktX1_judged_1
theorem dksX1_judged_0 : cX1_judged.data.toList.drop 0 = dktX1_judged_0 := by decide +kernel
theorem dksX1_judged_1 : cX1_judged.data.toList.drop 24 = dktX1_judged_1 := dk_seg dksX1_judged_0 24 rfl rfl
theorem dksX1_judged_2 : cX1_judged.data.toList.drop 46 = dktX1_judged_2 := dk_seg dksX1_judged_1 22 rfl rfl
theorem dksX1_judged_3 : cX1_judged.data.toList.drop 69 = dktX1_judged_3 := dk_seg dksX1_judged_2 23 rfl rfl
theorem dksX1_judged_4 : cX1_judged.data.toList.drop 92 = dktX1_judged_4 := dk_seg dksX1_judged_3 23 rfl rfl
theorem dX1_judged_0 : decode cX1_judged 0 = .ok (.iload_n 1, 1) := dk_27 (dk_at dksX1_judged_0 0 rfl rfl)
theorem dX1_judged_1 : decode cX1_judged 1 = .ok (.iconst 0, 1) := dk_3 (dk_at dksX1_judged_0 1 rfl rfl)
theorem dX1_judged_2 : decode cX1_judged 2 = .ok (.iconst 2, 1) := dk_5 (dk_at dksX1_judged_0 2 rfl rfl)
theorem dX1_judged_3 : decode cX1_judged 3 = .ok (.invokestatic 148, 3) := dk_184 0 148 (dk_at dksX1_judged_0 3 rfl rfl)
theorem dX1_judged_6 : decode cX1_judged 6 = .ok (.ifCond .ne 6, 3) := dk_154 0 6 (dk_at dksX1_judged_0 6 rfl rfl)
theorem dX1_judged_9 : decode cX1_judged 9 = .ok (.bipush (-2), 2) := dk_16 254 (dk_at dksX1_judged_0 9 rfl rfl)
theorem dX1_judged_11 : decode cX1_judged 11 = .ok (.ireturn, 1) := dk_172 (dk_at dksX1_judged_0 11 rfl rfl)
theorem dX1_judged_12 : decode cX1_judged 12 = .ok (.aload_n 0, 1) := dk_42 (dk_at dksX1_judged_0 12 rfl rfl)
theorem dX1_judged_13 : decode cX1_judged 13 = .ok (.getfield 55, 3) := dk_180 0 55 (dk_at dksX1_judged_0 13 rfl rfl)
theorem dX1_judged_16 : decode cX1_judged 16 = .ok (.aload_n 0, 1) := dk_42 (dk_at dksX1_judged_0 16 rfl rfl)
theorem dX1_judged_17 : decode cX1_judged 17 = .ok (.getfield 35, 3) := dk_180 0 35 (dk_at dksX1_judged_0 17 rfl rfl)
theorem dX1_judged_20 : decode cX1_judged 20 = .ok (.invokevirtual 101, 3) := dk_182 0 101 (dk_at dksX1_judged_0 20 rfl rfl)
theorem dX1_judged_23 : decode cX1_judged 23 = .ok (.iconst (-1), 1) := dk_2 (dk_at dksX1_judged_0 23 rfl rfl)
theorem dX1_judged_24 : decode cX1_judged 24 = .ok (.istore_n 2, 1) := dk_61 (dk_at dksX1_judged_1 0 rfl rfl)
theorem dX1_judged_25 : decode cX1_judged 25 = .ok (.iconst 0, 1) := dk_3 (dk_at dksX1_judged_1 1 rfl rfl)
theorem dX1_judged_26 : decode cX1_judged 26 = .ok (.istore_n 3, 1) := dk_62 (dk_at dksX1_judged_1 2 rfl rfl)
theorem dX1_judged_27 : decode cX1_judged 27 = .ok (.iload_n 3, 1) := dk_29 (dk_at dksX1_judged_1 3 rfl rfl)
theorem dX1_judged_28 : decode cX1_judged 28 = .ok (.aload_n 0, 1) := dk_42 (dk_at dksX1_judged_1 4 rfl rfl)
theorem dX1_judged_29 : decode cX1_judged 29 = .ok (.getfield 44, 3) := dk_180 0 44 (dk_at dksX1_judged_1 5 rfl rfl)
theorem dX1_judged_32 : decode cX1_judged 32 = .ok (.invokevirtual 136, 3) := dk_182 0 136 (dk_at dksX1_judged_1 8 rfl rfl)
theorem dX1_judged_35 : decode cX1_judged 35 = .ok (.if_icmp .ge 37, 3) := dk_162 0 37 (dk_at dksX1_judged_1 11 rfl rfl)
theorem dX1_judged_38 : decode cX1_judged 38 = .ok (.aload_n 0, 1) := dk_42 (dk_at dksX1_judged_1 14 rfl rfl)
theorem dX1_judged_39 : decode cX1_judged 39 = .ok (.getfield 44, 3) := dk_180 0 44 (dk_at dksX1_judged_1 15 rfl rfl)
theorem dX1_judged_42 : decode cX1_judged 42 = .ok (.iload_n 3, 1) := dk_29 (dk_at dksX1_judged_1 18 rfl rfl)
theorem dX1_judged_43 : decode cX1_judged 43 = .ok (.invokevirtual 140, 3) := dk_182 0 140 (dk_at dksX1_judged_1 19 rfl rfl)
theorem dX1_judged_46 : decode cX1_judged 46 = .ok (.checkcast 350, 3) := dk_192 1 94 (dk_at dksX1_judged_2 0 rfl rfl)
theorem dX1_judged_49 : decode cX1_judged 49 = .ok (.aload_n 0, 1) := dk_42 (dk_at dksX1_judged_2 3 rfl rfl)
theorem dX1_judged_50 : decode cX1_judged 50 = .ok (.aload_n 0, 1) := dk_42 (dk_at dksX1_judged_2 4 rfl rfl)
theorem dX1_judged_51 : decode cX1_judged 51 = .ok (.getfield 55, 3) := dk_180 0 55 (dk_at dksX1_judged_2 5 rfl rfl)
theorem dX1_judged_54 : decode cX1_judged 54 = .ok (.invokevirtual 352, 3) := dk_182 1 96 (dk_at dksX1_judged_2 8 rfl rfl)
theorem dX1_judged_57 : decode cX1_judged 57 = .ok (.ifCond .ne 9, 3) := dk_154 0 9 (dk_at dksX1_judged_2 11 rfl rfl)
theorem dX1_judged_60 : decode cX1_judged 60 = .ok (.iload_n 2, 1) := dk_28 (dk_at dksX1_judged_2 14 rfl rfl)
theorem dX1_judged_61 : decode cX1_judged 61 = .ok (.ifCond .ge 5, 3) := dk_156 0 5 (dk_at dksX1_judged_2 15 rfl rfl)
theorem dX1_judged_64 : decode cX1_judged 64 = .ok (.iload_n 3, 1) := dk_29 (dk_at dksX1_judged_2 18 rfl rfl)
theorem dX1_judged_65 : decode cX1_judged 65 = .ok (.istore_n 2, 1) := dk_61 (dk_at dksX1_judged_2 19 rfl rfl)
theorem dX1_judged_66 : decode cX1_judged 66 = .ok (.iinc 3 1, 3) := dk_132 3 1 (dk_at dksX1_judged_2 20 rfl rfl)
theorem dX1_judged_69 : decode cX1_judged 69 = .ok (.goto (-42), 3) := dk_167 255 214 (dk_at dksX1_judged_3 0 rfl rfl)
theorem dX1_judged_72 : decode cX1_judged 72 = .ok (.iload_n 1, 1) := dk_27 (dk_at dksX1_judged_3 3 rfl rfl)
theorem dX1_judged_73 : decode cX1_judged 73 = .ok (.ifCond .ne 7, 3) := dk_154 0 7 (dk_at dksX1_judged_3 4 rfl rfl)
theorem dX1_judged_76 : decode cX1_judged 76 = .ok (.iload_n 2, 1) := dk_28 (dk_at dksX1_judged_3 7 rfl rfl)
theorem dX1_judged_77 : decode cX1_judged 77 = .ok (.goto 25, 3) := dk_167 0 25 (dk_at dksX1_judged_3 8 rfl rfl)
theorem dX1_judged_80 : decode cX1_judged 80 = .ok (.iload_n 1, 1) := dk_27 (dk_at dksX1_judged_3 11 rfl rfl)
theorem dX1_judged_81 : decode cX1_judged 81 = .ok (.iconst 1, 1) := dk_4 (dk_at dksX1_judged_3 12 rfl rfl)
theorem dX1_judged_82 : decode cX1_judged 82 = .ok (.if_icmp .ne 13, 3) := dk_160 0 13 (dk_at dksX1_judged_3 13 rfl rfl)
theorem dX1_judged_85 : decode cX1_judged 85 = .ok (.aload_n 0, 1) := dk_42 (dk_at dksX1_judged_3 16 rfl rfl)
theorem dX1_judged_86 : decode cX1_judged 86 = .ok (.getfield 55, 3) := dk_180 0 55 (dk_at dksX1_judged_3 17 rfl rfl)
theorem dX1_judged_89 : decode cX1_judged 89 = .ok (.getfield 254, 3) := dk_180 0 254 (dk_at dksX1_judged_3 20 rfl rfl)
theorem dX1_judged_92 : decode cX1_judged 92 = .ok (.goto 10, 3) := dk_167 0 10 (dk_at dksX1_judged_4 0 rfl rfl)
theorem dX1_judged_95 : decode cX1_judged 95 = .ok (.aload_n 0, 1) := dk_42 (dk_at dksX1_judged_4 3 rfl rfl)
theorem dX1_judged_96 : decode cX1_judged 96 = .ok (.getfield 55, 3) := dk_180 0 55 (dk_at dksX1_judged_4 4 rfl rfl)
theorem dX1_judged_99 : decode cX1_judged 99 = .ok (.getfield 251, 3) := dk_180 0 251 (dk_at dksX1_judged_4 7 rfl rfl)
theorem dX1_judged_102 : decode cX1_judged 102 = .ok (.ireturn, 1) := dk_172 (dk_at dksX1_judged_4 10 rfl rfl)
abbrev cX1_least : ByteArray := prog_1_method_41_code
def yX1_least : MethodName := ⟨RX1, "least", "(I)I"⟩
def dkwX1_least_2 : List UInt8 := [180, 1, 106, 167, 0, 9, 44, 180, 1, 107, 27, 46, 172]
abbrev dktX1_least_2 : List UInt8 := dkwX1_least_2 ++ []
def dkwX1_least_1 : List UInt8 := [77, 42, 44, 182, 1, 22, 44, 180, 1, 105, 154, 0, 8, 16, 254, 167, 0, 21, 27, 2, 160, 0, 10, 44]
abbrev dktX1_least_1 : List UInt8 := dkwX1_least_1 ++ dktX1_least_2
def dkwX1_least_0 : List UInt8 := [27, 2, 159, 0, 14, 42, 27, 182, 0, 163, 154, 0, 6, 16, 254, 172, 187, 1, 100, 89, 42, 183, 1, 102]
abbrev dktX1_least_0 : List UInt8 := dkwX1_least_0 ++ dktX1_least_1
theorem dksX1_least_0 : cX1_least.data.toList.drop 0 = dktX1_least_0 := by decide +kernel
theorem dksX1_least_1 : cX1_least.data.toList.drop 24 = dktX1_least_1 := dk_seg dksX1_least_0 24 rfl rfl
theorem dksX1_least_2 : cX1_least.data.toList.drop 48 = dktX1_least_2 := dk_seg dksX1_least_1 24 rfl rfl
theorem dX1_least_0 : decode cX1_least 0 = .ok (.iload_n 1, 1) := dk_27 (dk_at dksX1_least_0 0 rfl rfl)
theorem dX1_least_1 : decode cX1_least 1 = .ok (.iconst (-1), 1) := dk_2 (dk_at dksX1_least_0 1 rfl rfl)
theorem dX1_least_2 : decode cX1_least 2 = .ok (.if_icmp .eq 14, 3) := dk_159 0 14 (dk_at dksX1_least_0 2 rfl rfl)
theorem dX1_least_5 : decode cX1_least 5 = .ok (.aload_n 0, 1) := dk_42 (dk_at dksX1_least_0 5 rfl rfl)
theorem dX1_least_6 : decode cX1_least 6 = .ok (.iload_n 1, 1) := dk_27 (dk_at dksX1_least_0 6 rfl rfl)
theorem dX1_least_7 : decode cX1_least 7 = .ok (.invokevirtual 163, 3) := dk_182 0 163 (dk_at dksX1_least_0 7 rfl rfl)
theorem dX1_least_10 : decode cX1_least 10 = .ok (.ifCond .ne 6, 3) := dk_154 0 6 (dk_at dksX1_least_0 10 rfl rfl)
theorem dX1_least_13 : decode cX1_least 13 = .ok (.bipush (-2), 2) := dk_16 254 (dk_at dksX1_least_0 13 rfl rfl)
theorem dX1_least_15 : decode cX1_least 15 = .ok (.ireturn, 1) := dk_172 (dk_at dksX1_least_0 15 rfl rfl)
theorem dX1_least_16 : decode cX1_least 16 = .ok (.new 356, 3) := dk_187 1 100 (dk_at dksX1_least_0 16 rfl rfl)
theorem dX1_least_19 : decode cX1_least 19 = .ok (.dup, 1) := dk_89 (dk_at dksX1_least_0 19 rfl rfl)
theorem dX1_least_20 : decode cX1_least 20 = .ok (.aload_n 0, 1) := dk_42 (dk_at dksX1_least_0 20 rfl rfl)
theorem dX1_least_21 : decode cX1_least 21 = .ok (.invokespecial 358, 3) := dk_183 1 102 (dk_at dksX1_least_0 21 rfl rfl)
theorem dX1_least_24 : decode cX1_least 24 = .ok (.astore_n 2, 1) := dk_77 (dk_at dksX1_least_1 0 rfl rfl)
theorem dX1_least_25 : decode cX1_least 25 = .ok (.aload_n 0, 1) := dk_42 (dk_at dksX1_least_1 1 rfl rfl)
theorem dX1_least_26 : decode cX1_least 26 = .ok (.aload_n 2, 1) := dk_44 (dk_at dksX1_least_1 2 rfl rfl)
theorem dX1_least_27 : decode cX1_least 27 = .ok (.invokevirtual 278, 3) := dk_182 1 22 (dk_at dksX1_least_1 3 rfl rfl)
theorem dX1_least_30 : decode cX1_least 30 = .ok (.aload_n 2, 1) := dk_44 (dk_at dksX1_least_1 6 rfl rfl)
theorem dX1_least_31 : decode cX1_least 31 = .ok (.getfield 361, 3) := dk_180 1 105 (dk_at dksX1_least_1 7 rfl rfl)
theorem dX1_least_34 : decode cX1_least 34 = .ok (.ifCond .ne 8, 3) := dk_154 0 8 (dk_at dksX1_least_1 10 rfl rfl)
theorem dX1_least_37 : decode cX1_least 37 = .ok (.bipush (-2), 2) := dk_16 254 (dk_at dksX1_least_1 13 rfl rfl)
theorem dX1_least_39 : decode cX1_least 39 = .ok (.goto 21, 3) := dk_167 0 21 (dk_at dksX1_least_1 15 rfl rfl)
theorem dX1_least_42 : decode cX1_least 42 = .ok (.iload_n 1, 1) := dk_27 (dk_at dksX1_least_1 18 rfl rfl)
theorem dX1_least_43 : decode cX1_least 43 = .ok (.iconst (-1), 1) := dk_2 (dk_at dksX1_least_1 19 rfl rfl)
theorem dX1_least_44 : decode cX1_least 44 = .ok (.if_icmp .ne 10, 3) := dk_160 0 10 (dk_at dksX1_least_1 20 rfl rfl)
theorem dX1_least_47 : decode cX1_least 47 = .ok (.aload_n 2, 1) := dk_44 (dk_at dksX1_least_1 23 rfl rfl)
theorem dX1_least_48 : decode cX1_least 48 = .ok (.getfield 362, 3) := dk_180 1 106 (dk_at dksX1_least_2 0 rfl rfl)
theorem dX1_least_51 : decode cX1_least 51 = .ok (.goto 9, 3) := dk_167 0 9 (dk_at dksX1_least_2 3 rfl rfl)
theorem dX1_least_54 : decode cX1_least 54 = .ok (.aload_n 2, 1) := dk_44 (dk_at dksX1_least_2 6 rfl rfl)
theorem dX1_least_55 : decode cX1_least 55 = .ok (.getfield 363, 3) := dk_180 1 107 (dk_at dksX1_least_2 7 rfl rfl)
theorem dX1_least_58 : decode cX1_least 58 = .ok (.iload_n 1, 1) := dk_27 (dk_at dksX1_least_2 10 rfl rfl)
theorem dX1_least_59 : decode cX1_least 59 = .ok (.iaload, 1) := dk_46 (dk_at dksX1_least_2 11 rfl rfl)
theorem dX1_least_60 : decode cX1_least 60 = .ok (.ireturn, 1) := dk_172 (dk_at dksX1_least_2 12 rfl rfl)
abbrev cX1_prepare : ByteArray := prog_1_method_42_code
def yX1_prepare : MethodName := ⟨RX1, "prepare", "(II)I"⟩
def dkwX1_prepare_6 : List UInt8 := [133, 109, 55, 6, 132, 8, 25, 167, 255, 137, 28, 154, 0, 7, 29, 167, 0, 6, 22, 6, 136, 172]
abbrev dktX1_prepare_6 : List UInt8 := dkwX1_prepare_6 ++ []
def dkwX1_prepare_5 : List UInt8 := [21, 8, 62, 25, 9, 180, 1, 114, 55, 4, 25, 9, 180, 1, 114, 20, 1, 116, 105, 25, 9, 180, 1, 113]
abbrev dktX1_prepare_5 : List UInt8 := dkwX1_prepare_5 ++ dktX1_prepare_6
def dkwX1_prepare_4 : List UInt8 := [154, 0, 5, 2, 172, 29, 155, 0, 17, 25, 9, 180, 1, 114, 22, 4, 148, 155, 0, 6, 167, 0, 31]
abbrev dktX1_prepare_4 : List UInt8 := dkwX1_prepare_4 ++ dktX1_prepare_5
def dkwX1_prepare_3 : List UInt8 := [42, 180, 0, 35, 182, 1, 85, 183, 1, 112, 58, 9, 42, 25, 9, 182, 1, 22, 25, 9, 180, 1, 113]
abbrev dktX1_prepare_3 : List UInt8 := dkwX1_prepare_3 ++ dktX1_prepare_4
def dkwX1_prepare_2 : List UInt8 := [42, 180, 0, 51, 182, 1, 32, 42, 180, 0, 55, 180, 0, 186, 27, 21, 8, 79, 187, 1, 110, 89, 42, 27]
abbrev dktX1_prepare_2 : List UInt8 := dkwX1_prepare_2 ++ dktX1_prepare_3
def dkwX1_prepare_1 : List UInt8 := [9, 55, 6, 3, 54, 8, 21, 8, 42, 180, 0, 51, 180, 0, 177, 27, 46, 163, 0, 111, 42, 180, 0, 55]
abbrev dktX1_prepare_1 : List UInt8 := dkwX1_prepare_1 ++ dktX1_prepare_2
def dkwX1_prepare_0 : List UInt8 := [42, 27, 182, 0, 163, 153, 0, 12, 28, 3, 4, 184, 0, 148, 154, 0, 5, 2, 172, 2, 62, 9, 55, 4]
abbrev dktX1_prepare_0 : List UInt8 := dkwX1_prepare_0 ++ dktX1_prepare_1
theorem dksX1_prepare_0 : cX1_prepare.data.toList.drop 0 = dktX1_prepare_0 := by decide +kernel
theorem dksX1_prepare_1 : cX1_prepare.data.toList.drop 24 = dktX1_prepare_1 := dk_seg dksX1_prepare_0 24 rfl rfl
theorem dksX1_prepare_2 : cX1_prepare.data.toList.drop 48 = dktX1_prepare_2 := dk_seg dksX1_prepare_1 24 rfl rfl
theorem dksX1_prepare_3 : cX1_prepare.data.toList.drop 72 = dktX1_prepare_3 := dk_seg dksX1_prepare_2 24 rfl rfl
theorem dksX1_prepare_4 : cX1_prepare.data.toList.drop 95 = dktX1_prepare_4 := dk_seg dksX1_prepare_3 23 rfl rfl
theorem dksX1_prepare_5 : cX1_prepare.data.toList.drop 118 = dktX1_prepare_5 := dk_seg dksX1_prepare_4 23 rfl rfl
theorem dksX1_prepare_6 : cX1_prepare.data.toList.drop 142 = dktX1_prepare_6 := dk_seg dksX1_prepare_5 24 rfl rfl
theorem dX1_prepare_0 : decode cX1_prepare 0 = .ok (.aload_n 0, 1) := dk_42 (dk_at dksX1_prepare_0 0 rfl rfl)
theorem dX1_prepare_1 : decode cX1_prepare 1 = .ok (.iload_n 1, 1) := dk_27 (dk_at dksX1_prepare_0 1 rfl rfl)
theorem dX1_prepare_2 : decode cX1_prepare 2 = .ok (.invokevirtual 163, 3) := dk_182 0 163 (dk_at dksX1_prepare_0 2 rfl rfl)
theorem dX1_prepare_5 : decode cX1_prepare 5 = .ok (.ifCond .eq 12, 3) := dk_153 0 12 (dk_at dksX1_prepare_0 5 rfl rfl)
theorem dX1_prepare_8 : decode cX1_prepare 8 = .ok (.iload_n 2, 1) := dk_28 (dk_at dksX1_prepare_0 8 rfl rfl)
theorem dX1_prepare_9 : decode cX1_prepare 9 = .ok (.iconst 0, 1) := dk_3 (dk_at dksX1_prepare_0 9 rfl rfl)
theorem dX1_prepare_10 : decode cX1_prepare 10 = .ok (.iconst 1, 1) := dk_4 (dk_at dksX1_prepare_0 10 rfl rfl)
theorem dX1_prepare_11 : decode cX1_prepare 11 = .ok (.invokestatic 148, 3) := dk_184 0 148 (dk_at dksX1_prepare_0 11 rfl rfl)
theorem dX1_prepare_14 : decode cX1_prepare 14 = .ok (.ifCond .ne 5, 3) := dk_154 0 5 (dk_at dksX1_prepare_0 14 rfl rfl)
theorem dX1_prepare_17 : decode cX1_prepare 17 = .ok (.iconst (-1), 1) := dk_2 (dk_at dksX1_prepare_0 17 rfl rfl)
theorem dX1_prepare_18 : decode cX1_prepare 18 = .ok (.ireturn, 1) := dk_172 (dk_at dksX1_prepare_0 18 rfl rfl)
theorem dX1_prepare_19 : decode cX1_prepare 19 = .ok (.iconst (-1), 1) := dk_2 (dk_at dksX1_prepare_0 19 rfl rfl)
theorem dX1_prepare_20 : decode cX1_prepare 20 = .ok (.istore_n 3, 1) := dk_62 (dk_at dksX1_prepare_0 20 rfl rfl)
theorem dX1_prepare_21 : decode cX1_prepare 21 = .ok (.lconst 0, 1) := dk_9 (dk_at dksX1_prepare_0 21 rfl rfl)
theorem dX1_prepare_22 : decode cX1_prepare 22 = .ok (.lstore 4, 2) := dk_55 4 (dk_at dksX1_prepare_0 22 rfl rfl)
theorem dX1_prepare_24 : decode cX1_prepare 24 = .ok (.lconst 0, 1) := dk_9 (dk_at dksX1_prepare_1 0 rfl rfl)
theorem dX1_prepare_25 : decode cX1_prepare 25 = .ok (.lstore 6, 2) := dk_55 6 (dk_at dksX1_prepare_1 1 rfl rfl)
theorem dX1_prepare_27 : decode cX1_prepare 27 = .ok (.iconst 0, 1) := dk_3 (dk_at dksX1_prepare_1 3 rfl rfl)
theorem dX1_prepare_28 : decode cX1_prepare 28 = .ok (.istore 8, 2) := dk_54 8 (dk_at dksX1_prepare_1 4 rfl rfl)
theorem dX1_prepare_30 : decode cX1_prepare 30 = .ok (.iload 8, 2) := dk_21 8 (dk_at dksX1_prepare_1 6 rfl rfl)
theorem dX1_prepare_32 : decode cX1_prepare 32 = .ok (.aload_n 0, 1) := dk_42 (dk_at dksX1_prepare_1 8 rfl rfl)
theorem dX1_prepare_33 : decode cX1_prepare 33 = .ok (.getfield 51, 3) := dk_180 0 51 (dk_at dksX1_prepare_1 9 rfl rfl)
theorem dX1_prepare_36 : decode cX1_prepare 36 = .ok (.getfield 177, 3) := dk_180 0 177 (dk_at dksX1_prepare_1 12 rfl rfl)
theorem dX1_prepare_39 : decode cX1_prepare 39 = .ok (.iload_n 1, 1) := dk_27 (dk_at dksX1_prepare_1 15 rfl rfl)
theorem dX1_prepare_40 : decode cX1_prepare 40 = .ok (.iaload, 1) := dk_46 (dk_at dksX1_prepare_1 16 rfl rfl)
theorem dX1_prepare_41 : decode cX1_prepare 41 = .ok (.if_icmp .gt 111, 3) := dk_163 0 111 (dk_at dksX1_prepare_1 17 rfl rfl)
theorem dX1_prepare_44 : decode cX1_prepare 44 = .ok (.aload_n 0, 1) := dk_42 (dk_at dksX1_prepare_1 20 rfl rfl)
theorem dX1_prepare_45 : decode cX1_prepare 45 = .ok (.getfield 55, 3) := dk_180 0 55 (dk_at dksX1_prepare_1 21 rfl rfl)
theorem dX1_prepare_48 : decode cX1_prepare 48 = .ok (.aload_n 0, 1) := dk_42 (dk_at dksX1_prepare_2 0 rfl rfl)
theorem dX1_prepare_49 : decode cX1_prepare 49 = .ok (.getfield 51, 3) := dk_180 0 51 (dk_at dksX1_prepare_2 1 rfl rfl)
theorem dX1_prepare_52 : decode cX1_prepare 52 = .ok (.invokevirtual 288, 3) := dk_182 1 32 (dk_at dksX1_prepare_2 4 rfl rfl)
theorem dX1_prepare_55 : decode cX1_prepare 55 = .ok (.aload_n 0, 1) := dk_42 (dk_at dksX1_prepare_2 7 rfl rfl)
theorem dX1_prepare_56 : decode cX1_prepare 56 = .ok (.getfield 55, 3) := dk_180 0 55 (dk_at dksX1_prepare_2 8 rfl rfl)
theorem dX1_prepare_59 : decode cX1_prepare 59 = .ok (.getfield 186, 3) := dk_180 0 186 (dk_at dksX1_prepare_2 11 rfl rfl)
theorem dX1_prepare_62 : decode cX1_prepare 62 = .ok (.iload_n 1, 1) := dk_27 (dk_at dksX1_prepare_2 14 rfl rfl)
theorem dX1_prepare_63 : decode cX1_prepare 63 = .ok (.iload 8, 2) := dk_21 8 (dk_at dksX1_prepare_2 15 rfl rfl)
theorem dX1_prepare_65 : decode cX1_prepare 65 = .ok (.iastore, 1) := dk_79 (dk_at dksX1_prepare_2 17 rfl rfl)
theorem dX1_prepare_66 : decode cX1_prepare 66 = .ok (.new 366, 3) := dk_187 1 110 (dk_at dksX1_prepare_2 18 rfl rfl)
theorem dX1_prepare_69 : decode cX1_prepare 69 = .ok (.dup, 1) := dk_89 (dk_at dksX1_prepare_2 21 rfl rfl)
theorem dX1_prepare_70 : decode cX1_prepare 70 = .ok (.aload_n 0, 1) := dk_42 (dk_at dksX1_prepare_2 22 rfl rfl)
theorem dX1_prepare_71 : decode cX1_prepare 71 = .ok (.iload_n 1, 1) := dk_27 (dk_at dksX1_prepare_2 23 rfl rfl)
theorem dX1_prepare_72 : decode cX1_prepare 72 = .ok (.aload_n 0, 1) := dk_42 (dk_at dksX1_prepare_3 0 rfl rfl)
theorem dX1_prepare_73 : decode cX1_prepare 73 = .ok (.getfield 35, 3) := dk_180 0 35 (dk_at dksX1_prepare_3 1 rfl rfl)
theorem dX1_prepare_76 : decode cX1_prepare 76 = .ok (.invokevirtual 341, 3) := dk_182 1 85 (dk_at dksX1_prepare_3 4 rfl rfl)
theorem dX1_prepare_79 : decode cX1_prepare 79 = .ok (.invokespecial 368, 3) := dk_183 1 112 (dk_at dksX1_prepare_3 7 rfl rfl)
theorem dX1_prepare_82 : decode cX1_prepare 82 = .ok (.astore 9, 2) := dk_58 9 (dk_at dksX1_prepare_3 10 rfl rfl)
theorem dX1_prepare_84 : decode cX1_prepare 84 = .ok (.aload_n 0, 1) := dk_42 (dk_at dksX1_prepare_3 12 rfl rfl)
theorem dX1_prepare_85 : decode cX1_prepare 85 = .ok (.aload 9, 2) := dk_25 9 (dk_at dksX1_prepare_3 13 rfl rfl)
theorem dX1_prepare_87 : decode cX1_prepare 87 = .ok (.invokevirtual 278, 3) := dk_182 1 22 (dk_at dksX1_prepare_3 15 rfl rfl)
theorem dX1_prepare_90 : decode cX1_prepare 90 = .ok (.aload 9, 2) := dk_25 9 (dk_at dksX1_prepare_3 18 rfl rfl)
theorem dX1_prepare_92 : decode cX1_prepare 92 = .ok (.getfield 369, 3) := dk_180 1 113 (dk_at dksX1_prepare_3 20 rfl rfl)
theorem dX1_prepare_95 : decode cX1_prepare 95 = .ok (.ifCond .ne 5, 3) := dk_154 0 5 (dk_at dksX1_prepare_4 0 rfl rfl)
theorem dX1_prepare_98 : decode cX1_prepare 98 = .ok (.iconst (-1), 1) := dk_2 (dk_at dksX1_prepare_4 3 rfl rfl)
theorem dX1_prepare_99 : decode cX1_prepare 99 = .ok (.ireturn, 1) := dk_172 (dk_at dksX1_prepare_4 4 rfl rfl)
theorem dX1_prepare_100 : decode cX1_prepare 100 = .ok (.iload_n 3, 1) := dk_29 (dk_at dksX1_prepare_4 5 rfl rfl)
theorem dX1_prepare_101 : decode cX1_prepare 101 = .ok (.ifCond .lt 17, 3) := dk_155 0 17 (dk_at dksX1_prepare_4 6 rfl rfl)
theorem dX1_prepare_104 : decode cX1_prepare 104 = .ok (.aload 9, 2) := dk_25 9 (dk_at dksX1_prepare_4 9 rfl rfl)
theorem dX1_prepare_106 : decode cX1_prepare 106 = .ok (.getfield 370, 3) := dk_180 1 114 (dk_at dksX1_prepare_4 11 rfl rfl)
theorem dX1_prepare_109 : decode cX1_prepare 109 = .ok (.lload 4, 2) := dk_22 4 (dk_at dksX1_prepare_4 14 rfl rfl)
theorem dX1_prepare_111 : decode cX1_prepare 111 = .ok (.lcmp, 1) := dk_148 (dk_at dksX1_prepare_4 16 rfl rfl)
theorem dX1_prepare_112 : decode cX1_prepare 112 = .ok (.ifCond .lt 6, 3) := dk_155 0 6 (dk_at dksX1_prepare_4 17 rfl rfl)
theorem dX1_prepare_115 : decode cX1_prepare 115 = .ok (.goto 31, 3) := dk_167 0 31 (dk_at dksX1_prepare_4 20 rfl rfl)
theorem dX1_prepare_118 : decode cX1_prepare 118 = .ok (.iload 8, 2) := dk_21 8 (dk_at dksX1_prepare_5 0 rfl rfl)
theorem dX1_prepare_120 : decode cX1_prepare 120 = .ok (.istore_n 3, 1) := dk_62 (dk_at dksX1_prepare_5 2 rfl rfl)
theorem dX1_prepare_121 : decode cX1_prepare 121 = .ok (.aload 9, 2) := dk_25 9 (dk_at dksX1_prepare_5 3 rfl rfl)
theorem dX1_prepare_123 : decode cX1_prepare 123 = .ok (.getfield 370, 3) := dk_180 1 114 (dk_at dksX1_prepare_5 5 rfl rfl)
theorem dX1_prepare_126 : decode cX1_prepare 126 = .ok (.lstore 4, 2) := dk_55 4 (dk_at dksX1_prepare_5 8 rfl rfl)
theorem dX1_prepare_128 : decode cX1_prepare 128 = .ok (.aload 9, 2) := dk_25 9 (dk_at dksX1_prepare_5 10 rfl rfl)
theorem dX1_prepare_130 : decode cX1_prepare 130 = .ok (.getfield 370, 3) := dk_180 1 114 (dk_at dksX1_prepare_5 12 rfl rfl)
theorem dX1_prepare_133 : decode cX1_prepare 133 = .ok (.ldc2_w 372, 3) := dk_20 1 116 (dk_at dksX1_prepare_5 15 rfl rfl)
theorem dX1_prepare_136 : decode cX1_prepare 136 = .ok (.lmul, 1) := dk_105 (dk_at dksX1_prepare_5 18 rfl rfl)
theorem dX1_prepare_137 : decode cX1_prepare 137 = .ok (.aload 9, 2) := dk_25 9 (dk_at dksX1_prepare_5 19 rfl rfl)
theorem dX1_prepare_139 : decode cX1_prepare 139 = .ok (.getfield 369, 3) := dk_180 1 113 (dk_at dksX1_prepare_5 21 rfl rfl)
theorem dX1_prepare_142 : decode cX1_prepare 142 = .ok (.i2l, 1) := dk_133 (dk_at dksX1_prepare_6 0 rfl rfl)
theorem dX1_prepare_143 : decode cX1_prepare 143 = .ok (.ldiv, 1) := dk_109 (dk_at dksX1_prepare_6 1 rfl rfl)
theorem dX1_prepare_144 : decode cX1_prepare 144 = .ok (.lstore 6, 2) := dk_55 6 (dk_at dksX1_prepare_6 2 rfl rfl)
theorem dX1_prepare_146 : decode cX1_prepare 146 = .ok (.iinc 8 25, 3) := dk_132 8 25 (dk_at dksX1_prepare_6 4 rfl rfl)
theorem dX1_prepare_149 : decode cX1_prepare 149 = .ok (.goto (-119), 3) := dk_167 255 137 (dk_at dksX1_prepare_6 7 rfl rfl)
theorem dX1_prepare_152 : decode cX1_prepare 152 = .ok (.iload_n 2, 1) := dk_28 (dk_at dksX1_prepare_6 10 rfl rfl)
theorem dX1_prepare_153 : decode cX1_prepare 153 = .ok (.ifCond .ne 7, 3) := dk_154 0 7 (dk_at dksX1_prepare_6 11 rfl rfl)
theorem dX1_prepare_156 : decode cX1_prepare 156 = .ok (.iload_n 3, 1) := dk_29 (dk_at dksX1_prepare_6 14 rfl rfl)
theorem dX1_prepare_157 : decode cX1_prepare 157 = .ok (.goto 6, 3) := dk_167 0 6 (dk_at dksX1_prepare_6 15 rfl rfl)
theorem dX1_prepare_160 : decode cX1_prepare 160 = .ok (.lload 6, 2) := dk_22 6 (dk_at dksX1_prepare_6 18 rfl rfl)
theorem dX1_prepare_162 : decode cX1_prepare 162 = .ok (.l2i, 1) := dk_136 (dk_at dksX1_prepare_6 20 rfl rfl)
theorem dX1_prepare_163 : decode cX1_prepare 163 = .ok (.ireturn, 1) := dk_172 (dk_at dksX1_prepare_6 21 rfl rfl)
abbrev cX1_law : ByteArray := prog_1_method_43_code
def yX1_law : MethodName := ⟨RX1, "law", "(I)I"⟩
def dkwX1_law_2 : List UInt8 := [167, 0, 18, 44, 180, 1, 114, 20, 1, 116, 105, 44, 180, 1, 113, 133, 109, 136, 172]
abbrev dktX1_law_2 : List UInt8 := dkwX1_law_2 ++ []
def dkwX1_law_1 : List UInt8 := [187, 1, 110, 89, 42, 2, 27, 183, 1, 112, 77, 42, 44, 182, 1, 22, 44, 180, 1, 113, 154, 0, 7, 2]
abbrev dktX1_law_1 : List UInt8 := dkwX1_law_1 ++ dktX1_law_2
def dkwX1_law_0 : List UInt8 := [27, 3, 17, 3, 231, 184, 0, 148, 154, 0, 5, 2, 172, 42, 180, 0, 55, 42, 180, 0, 51, 182, 1, 32]
abbrev dktX1_law_0 : List UInt8 := dkwX1_law_0 ++ dktX1_law_1
theorem dksX1_law_0 : cX1_law.data.toList.drop 0 = dktX1_law_0 := by decide +kernel
theorem dksX1_law_1 : cX1_law.data.toList.drop 24 = dktX1_law_1 := dk_seg dksX1_law_0 24 rfl rfl
theorem dksX1_law_2 : cX1_law.data.toList.drop 48 = dktX1_law_2 := dk_seg dksX1_law_1 24 rfl rfl
theorem dX1_law_0 : decode cX1_law 0 = .ok (.iload_n 1, 1) := dk_27 (dk_at dksX1_law_0 0 rfl rfl)
theorem dX1_law_1 : decode cX1_law 1 = .ok (.iconst 0, 1) := dk_3 (dk_at dksX1_law_0 1 rfl rfl)
theorem dX1_law_2 : decode cX1_law 2 = .ok (.sipush 999, 3) := dk_17 3 231 (dk_at dksX1_law_0 2 rfl rfl)
theorem dX1_law_5 : decode cX1_law 5 = .ok (.invokestatic 148, 3) := dk_184 0 148 (dk_at dksX1_law_0 5 rfl rfl)
theorem dX1_law_8 : decode cX1_law 8 = .ok (.ifCond .ne 5, 3) := dk_154 0 5 (dk_at dksX1_law_0 8 rfl rfl)
theorem dX1_law_11 : decode cX1_law 11 = .ok (.iconst (-1), 1) := dk_2 (dk_at dksX1_law_0 11 rfl rfl)
theorem dX1_law_12 : decode cX1_law 12 = .ok (.ireturn, 1) := dk_172 (dk_at dksX1_law_0 12 rfl rfl)
theorem dX1_law_13 : decode cX1_law 13 = .ok (.aload_n 0, 1) := dk_42 (dk_at dksX1_law_0 13 rfl rfl)
theorem dX1_law_14 : decode cX1_law 14 = .ok (.getfield 55, 3) := dk_180 0 55 (dk_at dksX1_law_0 14 rfl rfl)
theorem dX1_law_17 : decode cX1_law 17 = .ok (.aload_n 0, 1) := dk_42 (dk_at dksX1_law_0 17 rfl rfl)
theorem dX1_law_18 : decode cX1_law 18 = .ok (.getfield 51, 3) := dk_180 0 51 (dk_at dksX1_law_0 18 rfl rfl)
theorem dX1_law_21 : decode cX1_law 21 = .ok (.invokevirtual 288, 3) := dk_182 1 32 (dk_at dksX1_law_0 21 rfl rfl)
theorem dX1_law_24 : decode cX1_law 24 = .ok (.new 366, 3) := dk_187 1 110 (dk_at dksX1_law_1 0 rfl rfl)
theorem dX1_law_27 : decode cX1_law 27 = .ok (.dup, 1) := dk_89 (dk_at dksX1_law_1 3 rfl rfl)
theorem dX1_law_28 : decode cX1_law 28 = .ok (.aload_n 0, 1) := dk_42 (dk_at dksX1_law_1 4 rfl rfl)
theorem dX1_law_29 : decode cX1_law 29 = .ok (.iconst (-1), 1) := dk_2 (dk_at dksX1_law_1 5 rfl rfl)
theorem dX1_law_30 : decode cX1_law 30 = .ok (.iload_n 1, 1) := dk_27 (dk_at dksX1_law_1 6 rfl rfl)
theorem dX1_law_31 : decode cX1_law 31 = .ok (.invokespecial 368, 3) := dk_183 1 112 (dk_at dksX1_law_1 7 rfl rfl)
theorem dX1_law_34 : decode cX1_law 34 = .ok (.astore_n 2, 1) := dk_77 (dk_at dksX1_law_1 10 rfl rfl)
theorem dX1_law_35 : decode cX1_law 35 = .ok (.aload_n 0, 1) := dk_42 (dk_at dksX1_law_1 11 rfl rfl)
theorem dX1_law_36 : decode cX1_law 36 = .ok (.aload_n 2, 1) := dk_44 (dk_at dksX1_law_1 12 rfl rfl)
theorem dX1_law_37 : decode cX1_law 37 = .ok (.invokevirtual 278, 3) := dk_182 1 22 (dk_at dksX1_law_1 13 rfl rfl)
theorem dX1_law_40 : decode cX1_law 40 = .ok (.aload_n 2, 1) := dk_44 (dk_at dksX1_law_1 16 rfl rfl)
theorem dX1_law_41 : decode cX1_law 41 = .ok (.getfield 369, 3) := dk_180 1 113 (dk_at dksX1_law_1 17 rfl rfl)
theorem dX1_law_44 : decode cX1_law 44 = .ok (.ifCond .ne 7, 3) := dk_154 0 7 (dk_at dksX1_law_1 20 rfl rfl)
theorem dX1_law_47 : decode cX1_law 47 = .ok (.iconst (-1), 1) := dk_2 (dk_at dksX1_law_1 23 rfl rfl)
theorem dX1_law_48 : decode cX1_law 48 = .ok (.goto 18, 3) := dk_167 0 18 (dk_at dksX1_law_2 0 rfl rfl)
theorem dX1_law_51 : decode cX1_law 51 = .ok (.aload_n 2, 1) := dk_44 (dk_at dksX1_law_2 3 rfl rfl)
theorem dX1_law_52 : decode cX1_law 52 = .ok (.getfield 370, 3) := dk_180 1 114 (dk_at dksX1_law_2 4 rfl rfl)
theorem dX1_law_55 : decode cX1_law 55 = .ok (.ldc2_w 372, 3) := dk_20 1 116 (dk_at dksX1_law_2 7 rfl rfl)
theorem dX1_law_58 : decode cX1_law 58 = .ok (.lmul, 1) := dk_105 (dk_at dksX1_law_2 10 rfl rfl)
theorem dX1_law_59 : decode cX1_law 59 = .ok (.aload_n 2, 1) := dk_44 (dk_at dksX1_law_2 11 rfl rfl)
theorem dX1_law_60 : decode cX1_law 60 = .ok (.getfield 369, 3) := dk_180 1 113 (dk_at dksX1_law_2 12 rfl rfl)
theorem dX1_law_63 : decode cX1_law 63 = .ok (.i2l, 1) := dk_133 (dk_at dksX1_law_2 15 rfl rfl)
theorem dX1_law_64 : decode cX1_law 64 = .ok (.ldiv, 1) := dk_109 (dk_at dksX1_law_2 16 rfl rfl)
theorem dX1_law_65 : decode cX1_law 65 = .ok (.l2i, 1) := dk_136 (dk_at dksX1_law_2 17 rfl rfl)
theorem dX1_law_66 : decode cX1_law 66 = .ok (.ireturn, 1) := dk_172 (dk_at dksX1_law_2 18 rfl rfl)
abbrev cX1_pairs : ByteArray := prog_1_method_52_code
def yX1_pairs : MethodName := ⟨RX1, "pairs", "(I)I"⟩
def dkwX1_pairs_2 : List UInt8 := [27, 2, 160, 0, 10, 42, 180, 1, 143, 167, 0, 9, 42, 180, 0, 75, 27, 46, 172]
abbrev dktX1_pairs_2 : List UInt8 := dkwX1_pairs_2 ++ []
def dkwX1_pairs_1 : List UInt8 := [42, 180, 0, 72, 28, 2, 79, 132, 2, 1, 167, 255, 240, 42, 2, 181, 1, 143, 42, 3, 3, 182, 1, 150]
abbrev dktX1_pairs_1 : List UInt8 := dkwX1_pairs_1 ++ dktX1_pairs_2
def dkwX1_pairs_0 : List UInt8 := [27, 2, 159, 0, 14, 42, 27, 182, 0, 163, 154, 0, 6, 16, 254, 172, 3, 61, 28, 16, 6, 162, 0, 16]
abbrev dktX1_pairs_0 : List UInt8 := dkwX1_pairs_0 ++ dktX1_pairs_1
theorem dksX1_pairs_0 : cX1_pairs.data.toList.drop 0 = dktX1_pairs_0 := by decide +kernel
theorem dksX1_pairs_1 : cX1_pairs.data.toList.drop 24 = dktX1_pairs_1 := dk_seg dksX1_pairs_0 24 rfl rfl
theorem dksX1_pairs_2 : cX1_pairs.data.toList.drop 48 = dktX1_pairs_2 := dk_seg dksX1_pairs_1 24 rfl rfl
theorem dX1_pairs_0 : decode cX1_pairs 0 = .ok (.iload_n 1, 1) := dk_27 (dk_at dksX1_pairs_0 0 rfl rfl)
theorem dX1_pairs_1 : decode cX1_pairs 1 = .ok (.iconst (-1), 1) := dk_2 (dk_at dksX1_pairs_0 1 rfl rfl)
theorem dX1_pairs_2 : decode cX1_pairs 2 = .ok (.if_icmp .eq 14, 3) := dk_159 0 14 (dk_at dksX1_pairs_0 2 rfl rfl)
theorem dX1_pairs_5 : decode cX1_pairs 5 = .ok (.aload_n 0, 1) := dk_42 (dk_at dksX1_pairs_0 5 rfl rfl)
theorem dX1_pairs_6 : decode cX1_pairs 6 = .ok (.iload_n 1, 1) := dk_27 (dk_at dksX1_pairs_0 6 rfl rfl)
theorem dX1_pairs_7 : decode cX1_pairs 7 = .ok (.invokevirtual 163, 3) := dk_182 0 163 (dk_at dksX1_pairs_0 7 rfl rfl)
theorem dX1_pairs_10 : decode cX1_pairs 10 = .ok (.ifCond .ne 6, 3) := dk_154 0 6 (dk_at dksX1_pairs_0 10 rfl rfl)
theorem dX1_pairs_13 : decode cX1_pairs 13 = .ok (.bipush (-2), 2) := dk_16 254 (dk_at dksX1_pairs_0 13 rfl rfl)
theorem dX1_pairs_15 : decode cX1_pairs 15 = .ok (.ireturn, 1) := dk_172 (dk_at dksX1_pairs_0 15 rfl rfl)
theorem dX1_pairs_16 : decode cX1_pairs 16 = .ok (.iconst 0, 1) := dk_3 (dk_at dksX1_pairs_0 16 rfl rfl)
theorem dX1_pairs_17 : decode cX1_pairs 17 = .ok (.istore_n 2, 1) := dk_61 (dk_at dksX1_pairs_0 17 rfl rfl)
theorem dX1_pairs_18 : decode cX1_pairs 18 = .ok (.iload_n 2, 1) := dk_28 (dk_at dksX1_pairs_0 18 rfl rfl)
theorem dX1_pairs_19 : decode cX1_pairs 19 = .ok (.bipush 6, 2) := dk_16 6 (dk_at dksX1_pairs_0 19 rfl rfl)
theorem dX1_pairs_21 : decode cX1_pairs 21 = .ok (.if_icmp .ge 16, 3) := dk_162 0 16 (dk_at dksX1_pairs_0 21 rfl rfl)
theorem dX1_pairs_24 : decode cX1_pairs 24 = .ok (.aload_n 0, 1) := dk_42 (dk_at dksX1_pairs_1 0 rfl rfl)
theorem dX1_pairs_25 : decode cX1_pairs 25 = .ok (.getfield 72, 3) := dk_180 0 72 (dk_at dksX1_pairs_1 1 rfl rfl)
theorem dX1_pairs_28 : decode cX1_pairs 28 = .ok (.iload_n 2, 1) := dk_28 (dk_at dksX1_pairs_1 4 rfl rfl)
theorem dX1_pairs_29 : decode cX1_pairs 29 = .ok (.iconst (-1), 1) := dk_2 (dk_at dksX1_pairs_1 5 rfl rfl)
theorem dX1_pairs_30 : decode cX1_pairs 30 = .ok (.iastore, 1) := dk_79 (dk_at dksX1_pairs_1 6 rfl rfl)
theorem dX1_pairs_31 : decode cX1_pairs 31 = .ok (.iinc 2 1, 3) := dk_132 2 1 (dk_at dksX1_pairs_1 7 rfl rfl)
theorem dX1_pairs_34 : decode cX1_pairs 34 = .ok (.goto (-16), 3) := dk_167 255 240 (dk_at dksX1_pairs_1 10 rfl rfl)
theorem dX1_pairs_37 : decode cX1_pairs 37 = .ok (.aload_n 0, 1) := dk_42 (dk_at dksX1_pairs_1 13 rfl rfl)
theorem dX1_pairs_38 : decode cX1_pairs 38 = .ok (.iconst (-1), 1) := dk_2 (dk_at dksX1_pairs_1 14 rfl rfl)
theorem dX1_pairs_39 : decode cX1_pairs 39 = .ok (.putfield 399, 3) := dk_181 1 143 (dk_at dksX1_pairs_1 15 rfl rfl)
theorem dX1_pairs_42 : decode cX1_pairs 42 = .ok (.aload_n 0, 1) := dk_42 (dk_at dksX1_pairs_1 18 rfl rfl)
theorem dX1_pairs_43 : decode cX1_pairs 43 = .ok (.iconst 0, 1) := dk_3 (dk_at dksX1_pairs_1 19 rfl rfl)
theorem dX1_pairs_44 : decode cX1_pairs 44 = .ok (.iconst 0, 1) := dk_3 (dk_at dksX1_pairs_1 20 rfl rfl)
theorem dX1_pairs_45 : decode cX1_pairs 45 = .ok (.invokevirtual 406, 3) := dk_182 1 150 (dk_at dksX1_pairs_1 21 rfl rfl)
theorem dX1_pairs_48 : decode cX1_pairs 48 = .ok (.iload_n 1, 1) := dk_27 (dk_at dksX1_pairs_2 0 rfl rfl)
theorem dX1_pairs_49 : decode cX1_pairs 49 = .ok (.iconst (-1), 1) := dk_2 (dk_at dksX1_pairs_2 1 rfl rfl)
theorem dX1_pairs_50 : decode cX1_pairs 50 = .ok (.if_icmp .ne 10, 3) := dk_160 0 10 (dk_at dksX1_pairs_2 2 rfl rfl)
theorem dX1_pairs_53 : decode cX1_pairs 53 = .ok (.aload_n 0, 1) := dk_42 (dk_at dksX1_pairs_2 5 rfl rfl)
theorem dX1_pairs_54 : decode cX1_pairs 54 = .ok (.getfield 399, 3) := dk_180 1 143 (dk_at dksX1_pairs_2 6 rfl rfl)
theorem dX1_pairs_57 : decode cX1_pairs 57 = .ok (.goto 9, 3) := dk_167 0 9 (dk_at dksX1_pairs_2 9 rfl rfl)
theorem dX1_pairs_60 : decode cX1_pairs 60 = .ok (.aload_n 0, 1) := dk_42 (dk_at dksX1_pairs_2 12 rfl rfl)
theorem dX1_pairs_61 : decode cX1_pairs 61 = .ok (.getfield 75, 3) := dk_180 0 75 (dk_at dksX1_pairs_2 13 rfl rfl)
theorem dX1_pairs_64 : decode cX1_pairs 64 = .ok (.iload_n 1, 1) := dk_27 (dk_at dksX1_pairs_2 16 rfl rfl)
theorem dX1_pairs_65 : decode cX1_pairs 65 = .ok (.iaload, 1) := dk_46 (dk_at dksX1_pairs_2 17 rfl rfl)
theorem dX1_pairs_66 : decode cX1_pairs 66 = .ok (.ireturn, 1) := dk_172 (dk_at dksX1_pairs_2 18 rfl rfl)
abbrev cX1_pairs_2 : ByteArray := prog_1_method_51_code
def yX1_pairs_2 : MethodName := ⟨RX1, "pairs", "(II)V"⟩
def dkwX1_pairs_2_5 : List UInt8 := [180, 0, 72, 29, 2, 79, 132, 3, 1, 167, 255, 186, 42, 27, 4, 96, 28, 182, 1, 150, 177]
abbrev dktX1_pairs_2_5 : List UInt8 := dkwX1_pairs_2_5 ++ []
def dkwX1_pairs_2_4 : List UInt8 := [180, 0, 72, 29, 27, 79, 42, 27, 4, 96, 28, 4, 96, 182, 1, 150, 42, 180, 0, 72, 27, 2, 79, 42]
abbrev dktX1_pairs_2_4 : List UInt8 := dkwX1_pairs_2_4 ++ dktX1_pairs_2_5
def dkwX1_pairs_2_3 : List UInt8 := [156, 0, 53, 42, 27, 29, 182, 1, 153, 154, 0, 6, 167, 0, 41, 42, 180, 0, 72, 27, 29, 79, 42]
abbrev dktX1_pairs_2_3 : List UInt8 := dkwX1_pairs_2_3 ++ dktX1_pairs_2_4
def dkwX1_pairs_2_2 : List UInt8 := [28, 182, 1, 150, 177, 27, 4, 96, 62, 29, 42, 182, 0, 146, 162, 0, 68, 42, 180, 0, 72, 29, 46]
abbrev dktX1_pairs_2_2 : List UInt8 := dkwX1_pairs_2_2 ++ dktX1_pairs_2_3
def dkwX1_pairs_2_1 : List UInt8 := [180, 0, 72, 42, 180, 0, 75, 184, 1, 146, 177, 42, 180, 0, 72, 27, 46, 155, 0, 12, 42, 27, 4, 96]
abbrev dktX1_pairs_2_1 : List UInt8 := dkwX1_pairs_2_1 ++ dktX1_pairs_2_2
def dkwX1_pairs_2_0 : List UInt8 := [27, 42, 182, 0, 146, 160, 0, 29, 28, 42, 180, 1, 143, 163, 0, 4, 177, 42, 28, 181, 1, 143, 42]
abbrev dktX1_pairs_2_0 : List UInt8 := dkwX1_pairs_2_0 ++ dktX1_pairs_2_1
theorem dksX1_pairs_2_0 : cX1_pairs_2.data.toList.drop 0 = dktX1_pairs_2_0 := by decide +kernel
theorem dksX1_pairs_2_1 : cX1_pairs_2.data.toList.drop 23 = dktX1_pairs_2_1 := dk_seg dksX1_pairs_2_0 23 rfl rfl
theorem dksX1_pairs_2_2 : cX1_pairs_2.data.toList.drop 47 = dktX1_pairs_2_2 := dk_seg dksX1_pairs_2_1 24 rfl rfl
theorem dksX1_pairs_2_3 : cX1_pairs_2.data.toList.drop 70 = dktX1_pairs_2_3 := dk_seg dksX1_pairs_2_2 23 rfl rfl
theorem dksX1_pairs_2_4 : cX1_pairs_2.data.toList.drop 93 = dktX1_pairs_2_4 := dk_seg dksX1_pairs_2_3 23 rfl rfl
theorem dksX1_pairs_2_5 : cX1_pairs_2.data.toList.drop 117 = dktX1_pairs_2_5 := dk_seg dksX1_pairs_2_4 24 rfl rfl
theorem dX1_pairs_2_0 : decode cX1_pairs_2 0 = .ok (.iload_n 1, 1) := dk_27 (dk_at dksX1_pairs_2_0 0 rfl rfl)
theorem dX1_pairs_2_1 : decode cX1_pairs_2 1 = .ok (.aload_n 0, 1) := dk_42 (dk_at dksX1_pairs_2_0 1 rfl rfl)
theorem dX1_pairs_2_2 : decode cX1_pairs_2 2 = .ok (.invokevirtual 146, 3) := dk_182 0 146 (dk_at dksX1_pairs_2_0 2 rfl rfl)
theorem dX1_pairs_2_5 : decode cX1_pairs_2 5 = .ok (.if_icmp .ne 29, 3) := dk_160 0 29 (dk_at dksX1_pairs_2_0 5 rfl rfl)
theorem dX1_pairs_2_8 : decode cX1_pairs_2 8 = .ok (.iload_n 2, 1) := dk_28 (dk_at dksX1_pairs_2_0 8 rfl rfl)
theorem dX1_pairs_2_9 : decode cX1_pairs_2 9 = .ok (.aload_n 0, 1) := dk_42 (dk_at dksX1_pairs_2_0 9 rfl rfl)
theorem dX1_pairs_2_10 : decode cX1_pairs_2 10 = .ok (.getfield 399, 3) := dk_180 1 143 (dk_at dksX1_pairs_2_0 10 rfl rfl)
theorem dX1_pairs_2_13 : decode cX1_pairs_2 13 = .ok (.if_icmp .gt 4, 3) := dk_163 0 4 (dk_at dksX1_pairs_2_0 13 rfl rfl)
theorem dX1_pairs_2_16 : decode cX1_pairs_2 16 = .ok (.return_, 1) := dk_177 (dk_at dksX1_pairs_2_0 16 rfl rfl)
theorem dX1_pairs_2_17 : decode cX1_pairs_2 17 = .ok (.aload_n 0, 1) := dk_42 (dk_at dksX1_pairs_2_0 17 rfl rfl)
theorem dX1_pairs_2_18 : decode cX1_pairs_2 18 = .ok (.iload_n 2, 1) := dk_28 (dk_at dksX1_pairs_2_0 18 rfl rfl)
theorem dX1_pairs_2_19 : decode cX1_pairs_2 19 = .ok (.putfield 399, 3) := dk_181 1 143 (dk_at dksX1_pairs_2_0 19 rfl rfl)
theorem dX1_pairs_2_22 : decode cX1_pairs_2 22 = .ok (.aload_n 0, 1) := dk_42 (dk_at dksX1_pairs_2_0 22 rfl rfl)
theorem dX1_pairs_2_23 : decode cX1_pairs_2 23 = .ok (.getfield 72, 3) := dk_180 0 72 (dk_at dksX1_pairs_2_1 0 rfl rfl)
theorem dX1_pairs_2_26 : decode cX1_pairs_2 26 = .ok (.aload_n 0, 1) := dk_42 (dk_at dksX1_pairs_2_1 3 rfl rfl)
theorem dX1_pairs_2_27 : decode cX1_pairs_2 27 = .ok (.getfield 75, 3) := dk_180 0 75 (dk_at dksX1_pairs_2_1 4 rfl rfl)
theorem dX1_pairs_2_30 : decode cX1_pairs_2 30 = .ok (.invokestatic 402, 3) := dk_184 1 146 (dk_at dksX1_pairs_2_1 7 rfl rfl)
theorem dX1_pairs_2_33 : decode cX1_pairs_2 33 = .ok (.return_, 1) := dk_177 (dk_at dksX1_pairs_2_1 10 rfl rfl)
theorem dX1_pairs_2_34 : decode cX1_pairs_2 34 = .ok (.aload_n 0, 1) := dk_42 (dk_at dksX1_pairs_2_1 11 rfl rfl)
theorem dX1_pairs_2_35 : decode cX1_pairs_2 35 = .ok (.getfield 72, 3) := dk_180 0 72 (dk_at dksX1_pairs_2_1 12 rfl rfl)
theorem dX1_pairs_2_38 : decode cX1_pairs_2 38 = .ok (.iload_n 1, 1) := dk_27 (dk_at dksX1_pairs_2_1 15 rfl rfl)
theorem dX1_pairs_2_39 : decode cX1_pairs_2 39 = .ok (.iaload, 1) := dk_46 (dk_at dksX1_pairs_2_1 16 rfl rfl)
theorem dX1_pairs_2_40 : decode cX1_pairs_2 40 = .ok (.ifCond .lt 12, 3) := dk_155 0 12 (dk_at dksX1_pairs_2_1 17 rfl rfl)
theorem dX1_pairs_2_43 : decode cX1_pairs_2 43 = .ok (.aload_n 0, 1) := dk_42 (dk_at dksX1_pairs_2_1 20 rfl rfl)
theorem dX1_pairs_2_44 : decode cX1_pairs_2 44 = .ok (.iload_n 1, 1) := dk_27 (dk_at dksX1_pairs_2_1 21 rfl rfl)
theorem dX1_pairs_2_45 : decode cX1_pairs_2 45 = .ok (.iconst 1, 1) := dk_4 (dk_at dksX1_pairs_2_1 22 rfl rfl)
theorem dX1_pairs_2_46 : decode cX1_pairs_2 46 = .ok (.iadd, 1) := dk_96 (dk_at dksX1_pairs_2_1 23 rfl rfl)
theorem dX1_pairs_2_47 : decode cX1_pairs_2 47 = .ok (.iload_n 2, 1) := dk_28 (dk_at dksX1_pairs_2_2 0 rfl rfl)
theorem dX1_pairs_2_48 : decode cX1_pairs_2 48 = .ok (.invokevirtual 406, 3) := dk_182 1 150 (dk_at dksX1_pairs_2_2 1 rfl rfl)
theorem dX1_pairs_2_51 : decode cX1_pairs_2 51 = .ok (.return_, 1) := dk_177 (dk_at dksX1_pairs_2_2 4 rfl rfl)
theorem dX1_pairs_2_52 : decode cX1_pairs_2 52 = .ok (.iload_n 1, 1) := dk_27 (dk_at dksX1_pairs_2_2 5 rfl rfl)
theorem dX1_pairs_2_53 : decode cX1_pairs_2 53 = .ok (.iconst 1, 1) := dk_4 (dk_at dksX1_pairs_2_2 6 rfl rfl)
theorem dX1_pairs_2_54 : decode cX1_pairs_2 54 = .ok (.iadd, 1) := dk_96 (dk_at dksX1_pairs_2_2 7 rfl rfl)
theorem dX1_pairs_2_55 : decode cX1_pairs_2 55 = .ok (.istore_n 3, 1) := dk_62 (dk_at dksX1_pairs_2_2 8 rfl rfl)
theorem dX1_pairs_2_56 : decode cX1_pairs_2 56 = .ok (.iload_n 3, 1) := dk_29 (dk_at dksX1_pairs_2_2 9 rfl rfl)
theorem dX1_pairs_2_57 : decode cX1_pairs_2 57 = .ok (.aload_n 0, 1) := dk_42 (dk_at dksX1_pairs_2_2 10 rfl rfl)
theorem dX1_pairs_2_58 : decode cX1_pairs_2 58 = .ok (.invokevirtual 146, 3) := dk_182 0 146 (dk_at dksX1_pairs_2_2 11 rfl rfl)
theorem dX1_pairs_2_61 : decode cX1_pairs_2 61 = .ok (.if_icmp .ge 68, 3) := dk_162 0 68 (dk_at dksX1_pairs_2_2 14 rfl rfl)
theorem dX1_pairs_2_64 : decode cX1_pairs_2 64 = .ok (.aload_n 0, 1) := dk_42 (dk_at dksX1_pairs_2_2 17 rfl rfl)
theorem dX1_pairs_2_65 : decode cX1_pairs_2 65 = .ok (.getfield 72, 3) := dk_180 0 72 (dk_at dksX1_pairs_2_2 18 rfl rfl)
theorem dX1_pairs_2_68 : decode cX1_pairs_2 68 = .ok (.iload_n 3, 1) := dk_29 (dk_at dksX1_pairs_2_2 21 rfl rfl)
theorem dX1_pairs_2_69 : decode cX1_pairs_2 69 = .ok (.iaload, 1) := dk_46 (dk_at dksX1_pairs_2_2 22 rfl rfl)
theorem dX1_pairs_2_70 : decode cX1_pairs_2 70 = .ok (.ifCond .ge 53, 3) := dk_156 0 53 (dk_at dksX1_pairs_2_3 0 rfl rfl)
theorem dX1_pairs_2_73 : decode cX1_pairs_2 73 = .ok (.aload_n 0, 1) := dk_42 (dk_at dksX1_pairs_2_3 3 rfl rfl)
theorem dX1_pairs_2_74 : decode cX1_pairs_2 74 = .ok (.iload_n 1, 1) := dk_27 (dk_at dksX1_pairs_2_3 4 rfl rfl)
theorem dX1_pairs_2_75 : decode cX1_pairs_2 75 = .ok (.iload_n 3, 1) := dk_29 (dk_at dksX1_pairs_2_3 5 rfl rfl)
theorem dX1_pairs_2_76 : decode cX1_pairs_2 76 = .ok (.invokevirtual 409, 3) := dk_182 1 153 (dk_at dksX1_pairs_2_3 6 rfl rfl)
theorem dX1_pairs_2_79 : decode cX1_pairs_2 79 = .ok (.ifCond .ne 6, 3) := dk_154 0 6 (dk_at dksX1_pairs_2_3 9 rfl rfl)
theorem dX1_pairs_2_82 : decode cX1_pairs_2 82 = .ok (.goto 41, 3) := dk_167 0 41 (dk_at dksX1_pairs_2_3 12 rfl rfl)
theorem dX1_pairs_2_85 : decode cX1_pairs_2 85 = .ok (.aload_n 0, 1) := dk_42 (dk_at dksX1_pairs_2_3 15 rfl rfl)
theorem dX1_pairs_2_86 : decode cX1_pairs_2 86 = .ok (.getfield 72, 3) := dk_180 0 72 (dk_at dksX1_pairs_2_3 16 rfl rfl)
theorem dX1_pairs_2_89 : decode cX1_pairs_2 89 = .ok (.iload_n 1, 1) := dk_27 (dk_at dksX1_pairs_2_3 19 rfl rfl)
theorem dX1_pairs_2_90 : decode cX1_pairs_2 90 = .ok (.iload_n 3, 1) := dk_29 (dk_at dksX1_pairs_2_3 20 rfl rfl)
theorem dX1_pairs_2_91 : decode cX1_pairs_2 91 = .ok (.iastore, 1) := dk_79 (dk_at dksX1_pairs_2_3 21 rfl rfl)
theorem dX1_pairs_2_92 : decode cX1_pairs_2 92 = .ok (.aload_n 0, 1) := dk_42 (dk_at dksX1_pairs_2_3 22 rfl rfl)
theorem dX1_pairs_2_93 : decode cX1_pairs_2 93 = .ok (.getfield 72, 3) := dk_180 0 72 (dk_at dksX1_pairs_2_4 0 rfl rfl)
theorem dX1_pairs_2_96 : decode cX1_pairs_2 96 = .ok (.iload_n 3, 1) := dk_29 (dk_at dksX1_pairs_2_4 3 rfl rfl)
theorem dX1_pairs_2_97 : decode cX1_pairs_2 97 = .ok (.iload_n 1, 1) := dk_27 (dk_at dksX1_pairs_2_4 4 rfl rfl)
theorem dX1_pairs_2_98 : decode cX1_pairs_2 98 = .ok (.iastore, 1) := dk_79 (dk_at dksX1_pairs_2_4 5 rfl rfl)
theorem dX1_pairs_2_99 : decode cX1_pairs_2 99 = .ok (.aload_n 0, 1) := dk_42 (dk_at dksX1_pairs_2_4 6 rfl rfl)
theorem dX1_pairs_2_100 : decode cX1_pairs_2 100 = .ok (.iload_n 1, 1) := dk_27 (dk_at dksX1_pairs_2_4 7 rfl rfl)
theorem dX1_pairs_2_101 : decode cX1_pairs_2 101 = .ok (.iconst 1, 1) := dk_4 (dk_at dksX1_pairs_2_4 8 rfl rfl)
theorem dX1_pairs_2_102 : decode cX1_pairs_2 102 = .ok (.iadd, 1) := dk_96 (dk_at dksX1_pairs_2_4 9 rfl rfl)
theorem dX1_pairs_2_103 : decode cX1_pairs_2 103 = .ok (.iload_n 2, 1) := dk_28 (dk_at dksX1_pairs_2_4 10 rfl rfl)
theorem dX1_pairs_2_104 : decode cX1_pairs_2 104 = .ok (.iconst 1, 1) := dk_4 (dk_at dksX1_pairs_2_4 11 rfl rfl)
theorem dX1_pairs_2_105 : decode cX1_pairs_2 105 = .ok (.iadd, 1) := dk_96 (dk_at dksX1_pairs_2_4 12 rfl rfl)
theorem dX1_pairs_2_106 : decode cX1_pairs_2 106 = .ok (.invokevirtual 406, 3) := dk_182 1 150 (dk_at dksX1_pairs_2_4 13 rfl rfl)
theorem dX1_pairs_2_109 : decode cX1_pairs_2 109 = .ok (.aload_n 0, 1) := dk_42 (dk_at dksX1_pairs_2_4 16 rfl rfl)
theorem dX1_pairs_2_110 : decode cX1_pairs_2 110 = .ok (.getfield 72, 3) := dk_180 0 72 (dk_at dksX1_pairs_2_4 17 rfl rfl)
theorem dX1_pairs_2_113 : decode cX1_pairs_2 113 = .ok (.iload_n 1, 1) := dk_27 (dk_at dksX1_pairs_2_4 20 rfl rfl)
theorem dX1_pairs_2_114 : decode cX1_pairs_2 114 = .ok (.iconst (-1), 1) := dk_2 (dk_at dksX1_pairs_2_4 21 rfl rfl)
theorem dX1_pairs_2_115 : decode cX1_pairs_2 115 = .ok (.iastore, 1) := dk_79 (dk_at dksX1_pairs_2_4 22 rfl rfl)
theorem dX1_pairs_2_116 : decode cX1_pairs_2 116 = .ok (.aload_n 0, 1) := dk_42 (dk_at dksX1_pairs_2_4 23 rfl rfl)
theorem dX1_pairs_2_117 : decode cX1_pairs_2 117 = .ok (.getfield 72, 3) := dk_180 0 72 (dk_at dksX1_pairs_2_5 0 rfl rfl)
theorem dX1_pairs_2_120 : decode cX1_pairs_2 120 = .ok (.iload_n 3, 1) := dk_29 (dk_at dksX1_pairs_2_5 3 rfl rfl)
theorem dX1_pairs_2_121 : decode cX1_pairs_2 121 = .ok (.iconst (-1), 1) := dk_2 (dk_at dksX1_pairs_2_5 4 rfl rfl)
theorem dX1_pairs_2_122 : decode cX1_pairs_2 122 = .ok (.iastore, 1) := dk_79 (dk_at dksX1_pairs_2_5 5 rfl rfl)
theorem dX1_pairs_2_123 : decode cX1_pairs_2 123 = .ok (.iinc 3 1, 3) := dk_132 3 1 (dk_at dksX1_pairs_2_5 6 rfl rfl)
theorem dX1_pairs_2_126 : decode cX1_pairs_2 126 = .ok (.goto (-70), 3) := dk_167 255 186 (dk_at dksX1_pairs_2_5 9 rfl rfl)
theorem dX1_pairs_2_129 : decode cX1_pairs_2 129 = .ok (.aload_n 0, 1) := dk_42 (dk_at dksX1_pairs_2_5 12 rfl rfl)
theorem dX1_pairs_2_130 : decode cX1_pairs_2 130 = .ok (.iload_n 1, 1) := dk_27 (dk_at dksX1_pairs_2_5 13 rfl rfl)
theorem dX1_pairs_2_131 : decode cX1_pairs_2 131 = .ok (.iconst 1, 1) := dk_4 (dk_at dksX1_pairs_2_5 14 rfl rfl)
theorem dX1_pairs_2_132 : decode cX1_pairs_2 132 = .ok (.iadd, 1) := dk_96 (dk_at dksX1_pairs_2_5 15 rfl rfl)
theorem dX1_pairs_2_133 : decode cX1_pairs_2 133 = .ok (.iload_n 2, 1) := dk_28 (dk_at dksX1_pairs_2_5 16 rfl rfl)
theorem dX1_pairs_2_134 : decode cX1_pairs_2 134 = .ok (.invokevirtual 406, 3) := dk_182 1 150 (dk_at dksX1_pairs_2_5 17 rfl rfl)
theorem dX1_pairs_2_137 : decode cX1_pairs_2 137 = .ok (.return_, 1) := dk_177 (dk_at dksX1_pairs_2_5 20 rfl rfl)
abbrev cX1_wouldSwap : ByteArray := prog_1_method_50_code
def yX1_wouldSwap : MethodName := ⟨RX1, "wouldSwap", "(II)Z"⟩
def dkwX1_wouldSwap_1 : List UInt8 := [182, 1, 140, 164, 0, 7, 4, 167, 0, 4, 3, 172]
abbrev dktX1_wouldSwap_1 : List UInt8 := dkwX1_wouldSwap_1 ++ []
def dkwX1_wouldSwap_0 : List UInt8 := [42, 27, 28, 182, 1, 140, 42, 27, 27, 182, 1, 140, 164, 0, 22, 42, 28, 27, 182, 1, 140, 42, 28, 28]
abbrev dktX1_wouldSwap_0 : List UInt8 := dkwX1_wouldSwap_0 ++ dktX1_wouldSwap_1
theorem dksX1_wouldSwap_0 : cX1_wouldSwap.data.toList.drop 0 = dktX1_wouldSwap_0 := by decide +kernel
theorem dksX1_wouldSwap_1 : cX1_wouldSwap.data.toList.drop 24 = dktX1_wouldSwap_1 := dk_seg dksX1_wouldSwap_0 24 rfl rfl
theorem dX1_wouldSwap_0 : decode cX1_wouldSwap 0 = .ok (.aload_n 0, 1) := dk_42 (dk_at dksX1_wouldSwap_0 0 rfl rfl)
theorem dX1_wouldSwap_1 : decode cX1_wouldSwap 1 = .ok (.iload_n 1, 1) := dk_27 (dk_at dksX1_wouldSwap_0 1 rfl rfl)
theorem dX1_wouldSwap_2 : decode cX1_wouldSwap 2 = .ok (.iload_n 2, 1) := dk_28 (dk_at dksX1_wouldSwap_0 2 rfl rfl)
theorem dX1_wouldSwap_3 : decode cX1_wouldSwap 3 = .ok (.invokevirtual 396, 3) := dk_182 1 140 (dk_at dksX1_wouldSwap_0 3 rfl rfl)
theorem dX1_wouldSwap_6 : decode cX1_wouldSwap 6 = .ok (.aload_n 0, 1) := dk_42 (dk_at dksX1_wouldSwap_0 6 rfl rfl)
theorem dX1_wouldSwap_7 : decode cX1_wouldSwap 7 = .ok (.iload_n 1, 1) := dk_27 (dk_at dksX1_wouldSwap_0 7 rfl rfl)
theorem dX1_wouldSwap_8 : decode cX1_wouldSwap 8 = .ok (.iload_n 1, 1) := dk_27 (dk_at dksX1_wouldSwap_0 8 rfl rfl)
theorem dX1_wouldSwap_9 : decode cX1_wouldSwap 9 = .ok (.invokevirtual 396, 3) := dk_182 1 140 (dk_at dksX1_wouldSwap_0 9 rfl rfl)
theorem dX1_wouldSwap_12 : decode cX1_wouldSwap 12 = .ok (.if_icmp .le 22, 3) := dk_164 0 22 (dk_at dksX1_wouldSwap_0 12 rfl rfl)
theorem dX1_wouldSwap_15 : decode cX1_wouldSwap 15 = .ok (.aload_n 0, 1) := dk_42 (dk_at dksX1_wouldSwap_0 15 rfl rfl)
theorem dX1_wouldSwap_16 : decode cX1_wouldSwap 16 = .ok (.iload_n 2, 1) := dk_28 (dk_at dksX1_wouldSwap_0 16 rfl rfl)
theorem dX1_wouldSwap_17 : decode cX1_wouldSwap 17 = .ok (.iload_n 1, 1) := dk_27 (dk_at dksX1_wouldSwap_0 17 rfl rfl)
theorem dX1_wouldSwap_18 : decode cX1_wouldSwap 18 = .ok (.invokevirtual 396, 3) := dk_182 1 140 (dk_at dksX1_wouldSwap_0 18 rfl rfl)
theorem dX1_wouldSwap_21 : decode cX1_wouldSwap 21 = .ok (.aload_n 0, 1) := dk_42 (dk_at dksX1_wouldSwap_0 21 rfl rfl)
theorem dX1_wouldSwap_22 : decode cX1_wouldSwap 22 = .ok (.iload_n 2, 1) := dk_28 (dk_at dksX1_wouldSwap_0 22 rfl rfl)
theorem dX1_wouldSwap_23 : decode cX1_wouldSwap 23 = .ok (.iload_n 2, 1) := dk_28 (dk_at dksX1_wouldSwap_0 23 rfl rfl)
theorem dX1_wouldSwap_24 : decode cX1_wouldSwap 24 = .ok (.invokevirtual 396, 3) := dk_182 1 140 (dk_at dksX1_wouldSwap_1 0 rfl rfl)
theorem dX1_wouldSwap_27 : decode cX1_wouldSwap 27 = .ok (.if_icmp .le 7, 3) := dk_164 0 7 (dk_at dksX1_wouldSwap_1 3 rfl rfl)
theorem dX1_wouldSwap_30 : decode cX1_wouldSwap 30 = .ok (.iconst 1, 1) := dk_4 (dk_at dksX1_wouldSwap_1 6 rfl rfl)
theorem dX1_wouldSwap_31 : decode cX1_wouldSwap 31 = .ok (.goto 4, 3) := dk_167 0 4 (dk_at dksX1_wouldSwap_1 7 rfl rfl)
theorem dX1_wouldSwap_34 : decode cX1_wouldSwap 34 = .ok (.iconst 0, 1) := dk_3 (dk_at dksX1_wouldSwap_1 10 rfl rfl)
theorem dX1_wouldSwap_35 : decode cX1_wouldSwap 35 = .ok (.ireturn, 1) := dk_172 (dk_at dksX1_wouldSwap_1 11 rfl rfl)
abbrev cX1_wishOf : ByteArray := prog_1_method_49_code
def yX1_wishOf : MethodName := ⟨RX1, "wishOf", "(II)I"⟩
def dkwX1_wishOf_2 : List UInt8 := [42, 180, 0, 35, 180, 1, 137, 42, 180, 0, 61, 182, 0, 213, 172]
abbrev dktX1_wishOf_2 : List UInt8 := dkwX1_wishOf_2 ++ []
def dkwX1_wishOf_1 : List UInt8 := [180, 0, 61, 3, 46, 42, 180, 0, 61, 4, 46, 100, 42, 180, 0, 61, 5, 46, 8, 104, 96, 167, 0, 17]
abbrev dktX1_wishOf_1 : List UInt8 := dkwX1_wishOf_1 ++ dktX1_wishOf_2
def dkwX1_wishOf_0 : List UInt8 := [42, 42, 180, 0, 51, 28, 27, 3, 182, 0, 205, 42, 180, 0, 35, 180, 1, 137, 199, 0, 28, 42]
abbrev dktX1_wishOf_0 : List UInt8 := dkwX1_wishOf_0 ++ dktX1_wishOf_1
theorem dksX1_wishOf_0 : cX1_wishOf.data.toList.drop 0 = dktX1_wishOf_0 := by decide +kernel
theorem dksX1_wishOf_1 : cX1_wishOf.data.toList.drop 22 = dktX1_wishOf_1 := dk_seg dksX1_wishOf_0 22 rfl rfl
theorem dksX1_wishOf_2 : cX1_wishOf.data.toList.drop 46 = dktX1_wishOf_2 := dk_seg dksX1_wishOf_1 24 rfl rfl
theorem dX1_wishOf_0 : decode cX1_wishOf 0 = .ok (.aload_n 0, 1) := dk_42 (dk_at dksX1_wishOf_0 0 rfl rfl)
theorem dX1_wishOf_1 : decode cX1_wishOf 1 = .ok (.aload_n 0, 1) := dk_42 (dk_at dksX1_wishOf_0 1 rfl rfl)
theorem dX1_wishOf_2 : decode cX1_wishOf 2 = .ok (.getfield 51, 3) := dk_180 0 51 (dk_at dksX1_wishOf_0 2 rfl rfl)
theorem dX1_wishOf_5 : decode cX1_wishOf 5 = .ok (.iload_n 2, 1) := dk_28 (dk_at dksX1_wishOf_0 5 rfl rfl)
theorem dX1_wishOf_6 : decode cX1_wishOf 6 = .ok (.iload_n 1, 1) := dk_27 (dk_at dksX1_wishOf_0 6 rfl rfl)
theorem dX1_wishOf_7 : decode cX1_wishOf 7 = .ok (.iconst 0, 1) := dk_3 (dk_at dksX1_wishOf_0 7 rfl rfl)
theorem dX1_wishOf_8 : decode cX1_wishOf 8 = .ok (.invokevirtual 205, 3) := dk_182 0 205 (dk_at dksX1_wishOf_0 8 rfl rfl)
theorem dX1_wishOf_11 : decode cX1_wishOf 11 = .ok (.aload_n 0, 1) := dk_42 (dk_at dksX1_wishOf_0 11 rfl rfl)
theorem dX1_wishOf_12 : decode cX1_wishOf 12 = .ok (.getfield 35, 3) := dk_180 0 35 (dk_at dksX1_wishOf_0 12 rfl rfl)
theorem dX1_wishOf_15 : decode cX1_wishOf 15 = .ok (.getfield 393, 3) := dk_180 1 137 (dk_at dksX1_wishOf_0 15 rfl rfl)
theorem dX1_wishOf_18 : decode cX1_wishOf 18 = .ok (.ifnonnull 28, 3) := dk_199 0 28 (dk_at dksX1_wishOf_0 18 rfl rfl)
theorem dX1_wishOf_21 : decode cX1_wishOf 21 = .ok (.aload_n 0, 1) := dk_42 (dk_at dksX1_wishOf_0 21 rfl rfl)
theorem dX1_wishOf_22 : decode cX1_wishOf 22 = .ok (.getfield 61, 3) := dk_180 0 61 (dk_at dksX1_wishOf_1 0 rfl rfl)
theorem dX1_wishOf_25 : decode cX1_wishOf 25 = .ok (.iconst 0, 1) := dk_3 (dk_at dksX1_wishOf_1 3 rfl rfl)
theorem dX1_wishOf_26 : decode cX1_wishOf 26 = .ok (.iaload, 1) := dk_46 (dk_at dksX1_wishOf_1 4 rfl rfl)
theorem dX1_wishOf_27 : decode cX1_wishOf 27 = .ok (.aload_n 0, 1) := dk_42 (dk_at dksX1_wishOf_1 5 rfl rfl)
theorem dX1_wishOf_28 : decode cX1_wishOf 28 = .ok (.getfield 61, 3) := dk_180 0 61 (dk_at dksX1_wishOf_1 6 rfl rfl)
theorem dX1_wishOf_31 : decode cX1_wishOf 31 = .ok (.iconst 1, 1) := dk_4 (dk_at dksX1_wishOf_1 9 rfl rfl)
theorem dX1_wishOf_32 : decode cX1_wishOf 32 = .ok (.iaload, 1) := dk_46 (dk_at dksX1_wishOf_1 10 rfl rfl)
theorem dX1_wishOf_33 : decode cX1_wishOf 33 = .ok (.isub, 1) := dk_100 (dk_at dksX1_wishOf_1 11 rfl rfl)
theorem dX1_wishOf_34 : decode cX1_wishOf 34 = .ok (.aload_n 0, 1) := dk_42 (dk_at dksX1_wishOf_1 12 rfl rfl)
theorem dX1_wishOf_35 : decode cX1_wishOf 35 = .ok (.getfield 61, 3) := dk_180 0 61 (dk_at dksX1_wishOf_1 13 rfl rfl)
theorem dX1_wishOf_38 : decode cX1_wishOf 38 = .ok (.iconst 2, 1) := dk_5 (dk_at dksX1_wishOf_1 16 rfl rfl)
theorem dX1_wishOf_39 : decode cX1_wishOf 39 = .ok (.iaload, 1) := dk_46 (dk_at dksX1_wishOf_1 17 rfl rfl)
theorem dX1_wishOf_40 : decode cX1_wishOf 40 = .ok (.iconst 5, 1) := dk_8 (dk_at dksX1_wishOf_1 18 rfl rfl)
theorem dX1_wishOf_41 : decode cX1_wishOf 41 = .ok (.imul, 1) := dk_104 (dk_at dksX1_wishOf_1 19 rfl rfl)
theorem dX1_wishOf_42 : decode cX1_wishOf 42 = .ok (.iadd, 1) := dk_96 (dk_at dksX1_wishOf_1 20 rfl rfl)
theorem dX1_wishOf_43 : decode cX1_wishOf 43 = .ok (.goto 17, 3) := dk_167 0 17 (dk_at dksX1_wishOf_1 21 rfl rfl)
theorem dX1_wishOf_46 : decode cX1_wishOf 46 = .ok (.aload_n 0, 1) := dk_42 (dk_at dksX1_wishOf_2 0 rfl rfl)
theorem dX1_wishOf_47 : decode cX1_wishOf 47 = .ok (.getfield 35, 3) := dk_180 0 35 (dk_at dksX1_wishOf_2 1 rfl rfl)
theorem dX1_wishOf_50 : decode cX1_wishOf 50 = .ok (.getfield 393, 3) := dk_180 1 137 (dk_at dksX1_wishOf_2 4 rfl rfl)
theorem dX1_wishOf_53 : decode cX1_wishOf 53 = .ok (.aload_n 0, 1) := dk_42 (dk_at dksX1_wishOf_2 7 rfl rfl)
theorem dX1_wishOf_54 : decode cX1_wishOf 54 = .ok (.getfield 61, 3) := dk_180 0 61 (dk_at dksX1_wishOf_2 8 rfl rfl)
theorem dX1_wishOf_57 : decode cX1_wishOf 57 = .ok (.invokevirtual 213, 3) := dk_182 0 213 (dk_at dksX1_wishOf_2 11 rfl rfl)
theorem dX1_wishOf_60 : decode cX1_wishOf 60 = .ok (.ireturn, 1) := dk_172 (dk_at dksX1_wishOf_2 14 rfl rfl)
abbrev cX1_tale : ByteArray := prog_1_method_53_code
def yX1_tale : MethodName := ⟨RX1, "tale", "(III)Z"⟩
def dkwX1_tale_3 : List UInt8 := [90, 4, 96, 181, 0, 123, 29, 79, 4, 172]
abbrev dktX1_tale_3 : List UInt8 := dkwX1_tale_3 ++ []
def dkwX1_tale_2 : List UInt8 := [180, 0, 123, 27, 79, 42, 180, 0, 81, 42, 180, 0, 123, 28, 79, 42, 180, 0, 84, 42, 89, 180, 0, 123]
abbrev dktX1_tale_2 : List UInt8 := dkwX1_tale_2 ++ dktX1_tale_3
def dkwX1_tale_1 : List UInt8 := [184, 0, 148, 153, 0, 12, 42, 180, 0, 123, 16, 8, 160, 0, 5, 3, 172, 42, 180, 0, 78, 42]
abbrev dktX1_tale_1 : List UInt8 := dkwX1_tale_1 ++ dktX1_tale_2
def dkwX1_tale_0 : List UInt8 := [42, 27, 182, 0, 163, 153, 0, 33, 28, 4, 16, 7, 184, 0, 148, 153, 0, 23, 29, 3, 17, 39, 15]
abbrev dktX1_tale_0 : List UInt8 := dkwX1_tale_0 ++ dktX1_tale_1
theorem dksX1_tale_0 : cX1_tale.data.toList.drop 0 = dktX1_tale_0 := by decide +kernel
theorem dksX1_tale_1 : cX1_tale.data.toList.drop 23 = dktX1_tale_1 := dk_seg dksX1_tale_0 23 rfl rfl
theorem dksX1_tale_2 : cX1_tale.data.toList.drop 45 = dktX1_tale_2 := dk_seg dksX1_tale_1 22 rfl rfl
theorem dksX1_tale_3 : cX1_tale.data.toList.drop 69 = dktX1_tale_3 := dk_seg dksX1_tale_2 24 rfl rfl
theorem dX1_tale_0 : decode cX1_tale 0 = .ok (.aload_n 0, 1) := dk_42 (dk_at dksX1_tale_0 0 rfl rfl)
theorem dX1_tale_1 : decode cX1_tale 1 = .ok (.iload_n 1, 1) := dk_27 (dk_at dksX1_tale_0 1 rfl rfl)
theorem dX1_tale_2 : decode cX1_tale 2 = .ok (.invokevirtual 163, 3) := dk_182 0 163 (dk_at dksX1_tale_0 2 rfl rfl)
theorem dX1_tale_5 : decode cX1_tale 5 = .ok (.ifCond .eq 33, 3) := dk_153 0 33 (dk_at dksX1_tale_0 5 rfl rfl)
theorem dX1_tale_8 : decode cX1_tale 8 = .ok (.iload_n 2, 1) := dk_28 (dk_at dksX1_tale_0 8 rfl rfl)
theorem dX1_tale_9 : decode cX1_tale 9 = .ok (.iconst 1, 1) := dk_4 (dk_at dksX1_tale_0 9 rfl rfl)
theorem dX1_tale_10 : decode cX1_tale 10 = .ok (.bipush 7, 2) := dk_16 7 (dk_at dksX1_tale_0 10 rfl rfl)
theorem dX1_tale_12 : decode cX1_tale 12 = .ok (.invokestatic 148, 3) := dk_184 0 148 (dk_at dksX1_tale_0 12 rfl rfl)
theorem dX1_tale_15 : decode cX1_tale 15 = .ok (.ifCond .eq 23, 3) := dk_153 0 23 (dk_at dksX1_tale_0 15 rfl rfl)
theorem dX1_tale_18 : decode cX1_tale 18 = .ok (.iload_n 3, 1) := dk_29 (dk_at dksX1_tale_0 18 rfl rfl)
theorem dX1_tale_19 : decode cX1_tale 19 = .ok (.iconst 0, 1) := dk_3 (dk_at dksX1_tale_0 19 rfl rfl)
theorem dX1_tale_20 : decode cX1_tale 20 = .ok (.sipush 9999, 3) := dk_17 39 15 (dk_at dksX1_tale_0 20 rfl rfl)
theorem dX1_tale_23 : decode cX1_tale 23 = .ok (.invokestatic 148, 3) := dk_184 0 148 (dk_at dksX1_tale_1 0 rfl rfl)
theorem dX1_tale_26 : decode cX1_tale 26 = .ok (.ifCond .eq 12, 3) := dk_153 0 12 (dk_at dksX1_tale_1 3 rfl rfl)
theorem dX1_tale_29 : decode cX1_tale 29 = .ok (.aload_n 0, 1) := dk_42 (dk_at dksX1_tale_1 6 rfl rfl)
theorem dX1_tale_30 : decode cX1_tale 30 = .ok (.getfield 123, 3) := dk_180 0 123 (dk_at dksX1_tale_1 7 rfl rfl)
theorem dX1_tale_33 : decode cX1_tale 33 = .ok (.bipush 8, 2) := dk_16 8 (dk_at dksX1_tale_1 10 rfl rfl)
theorem dX1_tale_35 : decode cX1_tale 35 = .ok (.if_icmp .ne 5, 3) := dk_160 0 5 (dk_at dksX1_tale_1 12 rfl rfl)
theorem dX1_tale_38 : decode cX1_tale 38 = .ok (.iconst 0, 1) := dk_3 (dk_at dksX1_tale_1 15 rfl rfl)
theorem dX1_tale_39 : decode cX1_tale 39 = .ok (.ireturn, 1) := dk_172 (dk_at dksX1_tale_1 16 rfl rfl)
theorem dX1_tale_40 : decode cX1_tale 40 = .ok (.aload_n 0, 1) := dk_42 (dk_at dksX1_tale_1 17 rfl rfl)
theorem dX1_tale_41 : decode cX1_tale 41 = .ok (.getfield 78, 3) := dk_180 0 78 (dk_at dksX1_tale_1 18 rfl rfl)
theorem dX1_tale_44 : decode cX1_tale 44 = .ok (.aload_n 0, 1) := dk_42 (dk_at dksX1_tale_1 21 rfl rfl)
theorem dX1_tale_45 : decode cX1_tale 45 = .ok (.getfield 123, 3) := dk_180 0 123 (dk_at dksX1_tale_2 0 rfl rfl)
theorem dX1_tale_48 : decode cX1_tale 48 = .ok (.iload_n 1, 1) := dk_27 (dk_at dksX1_tale_2 3 rfl rfl)
theorem dX1_tale_49 : decode cX1_tale 49 = .ok (.iastore, 1) := dk_79 (dk_at dksX1_tale_2 4 rfl rfl)
theorem dX1_tale_50 : decode cX1_tale 50 = .ok (.aload_n 0, 1) := dk_42 (dk_at dksX1_tale_2 5 rfl rfl)
theorem dX1_tale_51 : decode cX1_tale 51 = .ok (.getfield 81, 3) := dk_180 0 81 (dk_at dksX1_tale_2 6 rfl rfl)
theorem dX1_tale_54 : decode cX1_tale 54 = .ok (.aload_n 0, 1) := dk_42 (dk_at dksX1_tale_2 9 rfl rfl)
theorem dX1_tale_55 : decode cX1_tale 55 = .ok (.getfield 123, 3) := dk_180 0 123 (dk_at dksX1_tale_2 10 rfl rfl)
theorem dX1_tale_58 : decode cX1_tale 58 = .ok (.iload_n 2, 1) := dk_28 (dk_at dksX1_tale_2 13 rfl rfl)
theorem dX1_tale_59 : decode cX1_tale 59 = .ok (.iastore, 1) := dk_79 (dk_at dksX1_tale_2 14 rfl rfl)
theorem dX1_tale_60 : decode cX1_tale 60 = .ok (.aload_n 0, 1) := dk_42 (dk_at dksX1_tale_2 15 rfl rfl)
theorem dX1_tale_61 : decode cX1_tale 61 = .ok (.getfield 84, 3) := dk_180 0 84 (dk_at dksX1_tale_2 16 rfl rfl)
theorem dX1_tale_64 : decode cX1_tale 64 = .ok (.aload_n 0, 1) := dk_42 (dk_at dksX1_tale_2 19 rfl rfl)
theorem dX1_tale_65 : decode cX1_tale 65 = .ok (.dup, 1) := dk_89 (dk_at dksX1_tale_2 20 rfl rfl)
theorem dX1_tale_66 : decode cX1_tale 66 = .ok (.getfield 123, 3) := dk_180 0 123 (dk_at dksX1_tale_2 21 rfl rfl)
theorem dX1_tale_69 : decode cX1_tale 69 = .ok (.dup_x1, 1) := dk_90 (dk_at dksX1_tale_3 0 rfl rfl)
theorem dX1_tale_70 : decode cX1_tale 70 = .ok (.iconst 1, 1) := dk_4 (dk_at dksX1_tale_3 1 rfl rfl)
theorem dX1_tale_71 : decode cX1_tale 71 = .ok (.iadd, 1) := dk_96 (dk_at dksX1_tale_3 2 rfl rfl)
theorem dX1_tale_72 : decode cX1_tale 72 = .ok (.putfield 123, 3) := dk_181 0 123 (dk_at dksX1_tale_3 3 rfl rfl)
theorem dX1_tale_75 : decode cX1_tale 75 = .ok (.iload_n 3, 1) := dk_29 (dk_at dksX1_tale_3 6 rfl rfl)
theorem dX1_tale_76 : decode cX1_tale 76 = .ok (.iastore, 1) := dk_79 (dk_at dksX1_tale_3 7 rfl rfl)
theorem dX1_tale_77 : decode cX1_tale 77 = .ok (.iconst 1, 1) := dk_4 (dk_at dksX1_tale_3 8 rfl rfl)
theorem dX1_tale_78 : decode cX1_tale 78 = .ok (.ireturn, 1) := dk_172 (dk_at dksX1_tale_3 9 rfl rfl)
abbrev cX1_how : ByteArray := prog_1_method_55_code
def yX1_how : MethodName := ⟨RX1, "how", "()I"⟩
def dkwX1_how_0 : List UInt8 := [187, 1, 156, 89, 42, 183, 1, 158, 76, 42, 43, 182, 1, 22, 43, 180, 1, 159, 172]
abbrev dktX1_how_0 : List UInt8 := dkwX1_how_0 ++ []
theorem dksX1_how_0 : cX1_how.data.toList.drop 0 = dktX1_how_0 := by decide +kernel
theorem dX1_how_0 : decode cX1_how 0 = .ok (.new 412, 3) := dk_187 1 156 (dk_at dksX1_how_0 0 rfl rfl)
theorem dX1_how_3 : decode cX1_how 3 = .ok (.dup, 1) := dk_89 (dk_at dksX1_how_0 3 rfl rfl)
theorem dX1_how_4 : decode cX1_how 4 = .ok (.aload_n 0, 1) := dk_42 (dk_at dksX1_how_0 4 rfl rfl)
theorem dX1_how_5 : decode cX1_how 5 = .ok (.invokespecial 414, 3) := dk_183 1 158 (dk_at dksX1_how_0 5 rfl rfl)
theorem dX1_how_8 : decode cX1_how 8 = .ok (.astore_n 1, 1) := dk_76 (dk_at dksX1_how_0 8 rfl rfl)
theorem dX1_how_9 : decode cX1_how 9 = .ok (.aload_n 0, 1) := dk_42 (dk_at dksX1_how_0 9 rfl rfl)
theorem dX1_how_10 : decode cX1_how 10 = .ok (.aload_n 1, 1) := dk_43 (dk_at dksX1_how_0 10 rfl rfl)
theorem dX1_how_11 : decode cX1_how 11 = .ok (.invokevirtual 278, 3) := dk_182 1 22 (dk_at dksX1_how_0 11 rfl rfl)
theorem dX1_how_14 : decode cX1_how 14 = .ok (.aload_n 1, 1) := dk_43 (dk_at dksX1_how_0 14 rfl rfl)
theorem dX1_how_15 : decode cX1_how 15 = .ok (.getfield 415, 3) := dk_180 1 159 (dk_at dksX1_how_0 15 rfl rfl)
theorem dX1_how_18 : decode cX1_how 18 = .ok (.ireturn, 1) := dk_172 (dk_at dksX1_how_0 18 rfl rfl)
abbrev cX1_who : ByteArray := prog_1_method_56_code
def yX1_who : MethodName := ⟨RX1, "who", "(I)I"⟩
def dkwX1_who_2 : List UInt8 := [44, 180, 1, 162, 27, 46, 184, 1, 170, 172]
abbrev dktX1_who_2 : List UInt8 := dkwX1_who_2 ++ []
def dkwX1_who_1 : List UInt8 := [44, 180, 1, 159, 153, 0, 16, 44, 180, 1, 162, 27, 46, 184, 1, 165, 4, 164, 0, 7, 2, 167, 0, 12]
abbrev dktX1_who_1 : List UInt8 := dkwX1_who_1 ++ dktX1_who_2
def dkwX1_who_0 : List UInt8 := [42, 27, 182, 0, 163, 154, 0, 5, 2, 172, 187, 1, 156, 89, 42, 183, 1, 158, 77, 42, 44, 182, 1, 22]
abbrev dktX1_who_0 : List UInt8 := dkwX1_who_0 ++ dktX1_who_1
theorem dksX1_who_0 : cX1_who.data.toList.drop 0 = dktX1_who_0 := by decide +kernel
theorem dksX1_who_1 : cX1_who.data.toList.drop 24 = dktX1_who_1 := dk_seg dksX1_who_0 24 rfl rfl
theorem dksX1_who_2 : cX1_who.data.toList.drop 48 = dktX1_who_2 := dk_seg dksX1_who_1 24 rfl rfl
theorem dX1_who_0 : decode cX1_who 0 = .ok (.aload_n 0, 1) := dk_42 (dk_at dksX1_who_0 0 rfl rfl)
theorem dX1_who_1 : decode cX1_who 1 = .ok (.iload_n 1, 1) := dk_27 (dk_at dksX1_who_0 1 rfl rfl)
theorem dX1_who_2 : decode cX1_who 2 = .ok (.invokevirtual 163, 3) := dk_182 0 163 (dk_at dksX1_who_0 2 rfl rfl)
theorem dX1_who_5 : decode cX1_who 5 = .ok (.ifCond .ne 5, 3) := dk_154 0 5 (dk_at dksX1_who_0 5 rfl rfl)
theorem dX1_who_8 : decode cX1_who 8 = .ok (.iconst (-1), 1) := dk_2 (dk_at dksX1_who_0 8 rfl rfl)
theorem dX1_who_9 : decode cX1_who 9 = .ok (.ireturn, 1) := dk_172 (dk_at dksX1_who_0 9 rfl rfl)
theorem dX1_who_10 : decode cX1_who 10 = .ok (.new 412, 3) := dk_187 1 156 (dk_at dksX1_who_0 10 rfl rfl)
theorem dX1_who_13 : decode cX1_who 13 = .ok (.dup, 1) := dk_89 (dk_at dksX1_who_0 13 rfl rfl)
theorem dX1_who_14 : decode cX1_who 14 = .ok (.aload_n 0, 1) := dk_42 (dk_at dksX1_who_0 14 rfl rfl)
theorem dX1_who_15 : decode cX1_who 15 = .ok (.invokespecial 414, 3) := dk_183 1 158 (dk_at dksX1_who_0 15 rfl rfl)
theorem dX1_who_18 : decode cX1_who 18 = .ok (.astore_n 2, 1) := dk_77 (dk_at dksX1_who_0 18 rfl rfl)
theorem dX1_who_19 : decode cX1_who 19 = .ok (.aload_n 0, 1) := dk_42 (dk_at dksX1_who_0 19 rfl rfl)
theorem dX1_who_20 : decode cX1_who 20 = .ok (.aload_n 2, 1) := dk_44 (dk_at dksX1_who_0 20 rfl rfl)
theorem dX1_who_21 : decode cX1_who 21 = .ok (.invokevirtual 278, 3) := dk_182 1 22 (dk_at dksX1_who_0 21 rfl rfl)
theorem dX1_who_24 : decode cX1_who 24 = .ok (.aload_n 2, 1) := dk_44 (dk_at dksX1_who_1 0 rfl rfl)
theorem dX1_who_25 : decode cX1_who 25 = .ok (.getfield 415, 3) := dk_180 1 159 (dk_at dksX1_who_1 1 rfl rfl)
theorem dX1_who_28 : decode cX1_who 28 = .ok (.ifCond .eq 16, 3) := dk_153 0 16 (dk_at dksX1_who_1 4 rfl rfl)
theorem dX1_who_31 : decode cX1_who 31 = .ok (.aload_n 2, 1) := dk_44 (dk_at dksX1_who_1 7 rfl rfl)
theorem dX1_who_32 : decode cX1_who 32 = .ok (.getfield 418, 3) := dk_180 1 162 (dk_at dksX1_who_1 8 rfl rfl)
theorem dX1_who_35 : decode cX1_who 35 = .ok (.iload_n 1, 1) := dk_27 (dk_at dksX1_who_1 11 rfl rfl)
theorem dX1_who_36 : decode cX1_who 36 = .ok (.iaload, 1) := dk_46 (dk_at dksX1_who_1 12 rfl rfl)
theorem dX1_who_37 : decode cX1_who 37 = .ok (.invokestatic 421, 3) := dk_184 1 165 (dk_at dksX1_who_1 13 rfl rfl)
theorem dX1_who_40 : decode cX1_who 40 = .ok (.iconst 1, 1) := dk_4 (dk_at dksX1_who_1 16 rfl rfl)
theorem dX1_who_41 : decode cX1_who 41 = .ok (.if_icmp .le 7, 3) := dk_164 0 7 (dk_at dksX1_who_1 17 rfl rfl)
theorem dX1_who_44 : decode cX1_who 44 = .ok (.iconst (-1), 1) := dk_2 (dk_at dksX1_who_1 20 rfl rfl)
theorem dX1_who_45 : decode cX1_who 45 = .ok (.goto 12, 3) := dk_167 0 12 (dk_at dksX1_who_1 21 rfl rfl)
theorem dX1_who_48 : decode cX1_who 48 = .ok (.aload_n 2, 1) := dk_44 (dk_at dksX1_who_2 0 rfl rfl)
theorem dX1_who_49 : decode cX1_who 49 = .ok (.getfield 418, 3) := dk_180 1 162 (dk_at dksX1_who_2 1 rfl rfl)
theorem dX1_who_52 : decode cX1_who 52 = .ok (.iload_n 1, 1) := dk_27 (dk_at dksX1_who_2 4 rfl rfl)
theorem dX1_who_53 : decode cX1_who 53 = .ok (.iaload, 1) := dk_46 (dk_at dksX1_who_2 5 rfl rfl)
theorem dX1_who_54 : decode cX1_who 54 = .ok (.invokestatic 426, 3) := dk_184 1 170 (dk_at dksX1_who_2 6 rfl rfl)
theorem dX1_who_57 : decode cX1_who 57 = .ok (.ireturn, 1) := dk_172 (dk_at dksX1_who_2 9 rfl rfl)
abbrev cX1_ask : ByteArray := prog_1_method_57_code
def yX1_ask : MethodName := ⟨RX1, "ask", "()I"⟩
def dkwX1_ask_4 : List UInt8 := [104, 21, 4, 96, 61, 132, 4, 1, 167, 255, 176, 132, 3, 1, 167, 255, 159, 28, 172]
abbrev dktX1_ask_4 : List UInt8 := dkwX1_ask_4 ++ []
def dkwX1_ask_3 : List UInt8 := [182, 1, 22, 25, 5, 180, 1, 179, 27, 161, 0, 6, 167, 0, 17, 25, 5, 180, 1, 179, 60, 29, 16, 8]
abbrev dktX1_ask_3 : List UInt8 := dkwX1_ask_3 ++ dktX1_ask_4
def dkwX1_ask_2 : List UInt8 := [132, 5, 1, 167, 255, 237, 187, 1, 176, 89, 42, 29, 21, 4, 183, 1, 178, 58, 5, 42, 25, 5]
abbrev dktX1_ask_2 : List UInt8 := dkwX1_ask_2 ++ dktX1_ask_3
def dkwX1_ask_1 : List UInt8 := [163, 0, 79, 3, 54, 5, 21, 5, 17, 39, 15, 163, 0, 17, 42, 180, 0, 92, 21, 5, 3, 79]
abbrev dktX1_ask_1 : List UInt8 := dkwX1_ask_1 ++ dktX1_ask_2
def dkwX1_ask_0 : List UInt8 := [42, 182, 1, 173, 60, 2, 61, 3, 62, 29, 42, 182, 0, 146, 162, 0, 95, 4, 54, 4, 21, 4, 16, 7]
abbrev dktX1_ask_0 : List UInt8 := dkwX1_ask_0 ++ dktX1_ask_1
theorem dksX1_ask_0 : cX1_ask.data.toList.drop 0 = dktX1_ask_0 := by decide +kernel
theorem dksX1_ask_1 : cX1_ask.data.toList.drop 24 = dktX1_ask_1 := dk_seg dksX1_ask_0 24 rfl rfl
theorem dksX1_ask_2 : cX1_ask.data.toList.drop 46 = dktX1_ask_2 := dk_seg dksX1_ask_1 22 rfl rfl
theorem dksX1_ask_3 : cX1_ask.data.toList.drop 68 = dktX1_ask_3 := dk_seg dksX1_ask_2 22 rfl rfl
theorem dksX1_ask_4 : cX1_ask.data.toList.drop 92 = dktX1_ask_4 := dk_seg dksX1_ask_3 24 rfl rfl
theorem dX1_ask_0 : decode cX1_ask 0 = .ok (.aload_n 0, 1) := dk_42 (dk_at dksX1_ask_0 0 rfl rfl)
theorem dX1_ask_1 : decode cX1_ask 1 = .ok (.invokevirtual 429, 3) := dk_182 1 173 (dk_at dksX1_ask_0 1 rfl rfl)
theorem dX1_ask_4 : decode cX1_ask 4 = .ok (.istore_n 1, 1) := dk_60 (dk_at dksX1_ask_0 4 rfl rfl)
theorem dX1_ask_5 : decode cX1_ask 5 = .ok (.iconst (-1), 1) := dk_2 (dk_at dksX1_ask_0 5 rfl rfl)
theorem dX1_ask_6 : decode cX1_ask 6 = .ok (.istore_n 2, 1) := dk_61 (dk_at dksX1_ask_0 6 rfl rfl)
theorem dX1_ask_7 : decode cX1_ask 7 = .ok (.iconst 0, 1) := dk_3 (dk_at dksX1_ask_0 7 rfl rfl)
theorem dX1_ask_8 : decode cX1_ask 8 = .ok (.istore_n 3, 1) := dk_62 (dk_at dksX1_ask_0 8 rfl rfl)
theorem dX1_ask_9 : decode cX1_ask 9 = .ok (.iload_n 3, 1) := dk_29 (dk_at dksX1_ask_0 9 rfl rfl)
theorem dX1_ask_10 : decode cX1_ask 10 = .ok (.aload_n 0, 1) := dk_42 (dk_at dksX1_ask_0 10 rfl rfl)
theorem dX1_ask_11 : decode cX1_ask 11 = .ok (.invokevirtual 146, 3) := dk_182 0 146 (dk_at dksX1_ask_0 11 rfl rfl)
theorem dX1_ask_14 : decode cX1_ask 14 = .ok (.if_icmp .ge 95, 3) := dk_162 0 95 (dk_at dksX1_ask_0 14 rfl rfl)
theorem dX1_ask_17 : decode cX1_ask 17 = .ok (.iconst 1, 1) := dk_4 (dk_at dksX1_ask_0 17 rfl rfl)
theorem dX1_ask_18 : decode cX1_ask 18 = .ok (.istore 4, 2) := dk_54 4 (dk_at dksX1_ask_0 18 rfl rfl)
theorem dX1_ask_20 : decode cX1_ask 20 = .ok (.iload 4, 2) := dk_21 4 (dk_at dksX1_ask_0 20 rfl rfl)
theorem dX1_ask_22 : decode cX1_ask 22 = .ok (.bipush 7, 2) := dk_16 7 (dk_at dksX1_ask_0 22 rfl rfl)
theorem dX1_ask_24 : decode cX1_ask 24 = .ok (.if_icmp .gt 79, 3) := dk_163 0 79 (dk_at dksX1_ask_1 0 rfl rfl)
theorem dX1_ask_27 : decode cX1_ask 27 = .ok (.iconst 0, 1) := dk_3 (dk_at dksX1_ask_1 3 rfl rfl)
theorem dX1_ask_28 : decode cX1_ask 28 = .ok (.istore 5, 2) := dk_54 5 (dk_at dksX1_ask_1 4 rfl rfl)
theorem dX1_ask_30 : decode cX1_ask 30 = .ok (.iload 5, 2) := dk_21 5 (dk_at dksX1_ask_1 6 rfl rfl)
theorem dX1_ask_32 : decode cX1_ask 32 = .ok (.sipush 9999, 3) := dk_17 39 15 (dk_at dksX1_ask_1 8 rfl rfl)
theorem dX1_ask_35 : decode cX1_ask 35 = .ok (.if_icmp .gt 17, 3) := dk_163 0 17 (dk_at dksX1_ask_1 11 rfl rfl)
theorem dX1_ask_38 : decode cX1_ask 38 = .ok (.aload_n 0, 1) := dk_42 (dk_at dksX1_ask_1 14 rfl rfl)
theorem dX1_ask_39 : decode cX1_ask 39 = .ok (.getfield 92, 3) := dk_180 0 92 (dk_at dksX1_ask_1 15 rfl rfl)
theorem dX1_ask_42 : decode cX1_ask 42 = .ok (.iload 5, 2) := dk_21 5 (dk_at dksX1_ask_1 18 rfl rfl)
theorem dX1_ask_44 : decode cX1_ask 44 = .ok (.iconst 0, 1) := dk_3 (dk_at dksX1_ask_1 20 rfl rfl)
theorem dX1_ask_45 : decode cX1_ask 45 = .ok (.iastore, 1) := dk_79 (dk_at dksX1_ask_1 21 rfl rfl)
theorem dX1_ask_46 : decode cX1_ask 46 = .ok (.iinc 5 1, 3) := dk_132 5 1 (dk_at dksX1_ask_2 0 rfl rfl)
theorem dX1_ask_49 : decode cX1_ask 49 = .ok (.goto (-19), 3) := dk_167 255 237 (dk_at dksX1_ask_2 3 rfl rfl)
theorem dX1_ask_52 : decode cX1_ask 52 = .ok (.new 432, 3) := dk_187 1 176 (dk_at dksX1_ask_2 6 rfl rfl)
theorem dX1_ask_55 : decode cX1_ask 55 = .ok (.dup, 1) := dk_89 (dk_at dksX1_ask_2 9 rfl rfl)
theorem dX1_ask_56 : decode cX1_ask 56 = .ok (.aload_n 0, 1) := dk_42 (dk_at dksX1_ask_2 10 rfl rfl)
theorem dX1_ask_57 : decode cX1_ask 57 = .ok (.iload_n 3, 1) := dk_29 (dk_at dksX1_ask_2 11 rfl rfl)
theorem dX1_ask_58 : decode cX1_ask 58 = .ok (.iload 4, 2) := dk_21 4 (dk_at dksX1_ask_2 12 rfl rfl)
theorem dX1_ask_60 : decode cX1_ask 60 = .ok (.invokespecial 434, 3) := dk_183 1 178 (dk_at dksX1_ask_2 14 rfl rfl)
theorem dX1_ask_63 : decode cX1_ask 63 = .ok (.astore 5, 2) := dk_58 5 (dk_at dksX1_ask_2 17 rfl rfl)
theorem dX1_ask_65 : decode cX1_ask 65 = .ok (.aload_n 0, 1) := dk_42 (dk_at dksX1_ask_2 19 rfl rfl)
theorem dX1_ask_66 : decode cX1_ask 66 = .ok (.aload 5, 2) := dk_25 5 (dk_at dksX1_ask_2 20 rfl rfl)
theorem dX1_ask_68 : decode cX1_ask 68 = .ok (.invokevirtual 278, 3) := dk_182 1 22 (dk_at dksX1_ask_3 0 rfl rfl)
theorem dX1_ask_71 : decode cX1_ask 71 = .ok (.aload 5, 2) := dk_25 5 (dk_at dksX1_ask_3 3 rfl rfl)
theorem dX1_ask_73 : decode cX1_ask 73 = .ok (.getfield 435, 3) := dk_180 1 179 (dk_at dksX1_ask_3 5 rfl rfl)
theorem dX1_ask_76 : decode cX1_ask 76 = .ok (.iload_n 1, 1) := dk_27 (dk_at dksX1_ask_3 8 rfl rfl)
theorem dX1_ask_77 : decode cX1_ask 77 = .ok (.if_icmp .lt 6, 3) := dk_161 0 6 (dk_at dksX1_ask_3 9 rfl rfl)
theorem dX1_ask_80 : decode cX1_ask 80 = .ok (.goto 17, 3) := dk_167 0 17 (dk_at dksX1_ask_3 12 rfl rfl)
theorem dX1_ask_83 : decode cX1_ask 83 = .ok (.aload 5, 2) := dk_25 5 (dk_at dksX1_ask_3 15 rfl rfl)
theorem dX1_ask_85 : decode cX1_ask 85 = .ok (.getfield 435, 3) := dk_180 1 179 (dk_at dksX1_ask_3 17 rfl rfl)
theorem dX1_ask_88 : decode cX1_ask 88 = .ok (.istore_n 1, 1) := dk_60 (dk_at dksX1_ask_3 20 rfl rfl)
theorem dX1_ask_89 : decode cX1_ask 89 = .ok (.iload_n 3, 1) := dk_29 (dk_at dksX1_ask_3 21 rfl rfl)
theorem dX1_ask_90 : decode cX1_ask 90 = .ok (.bipush 8, 2) := dk_16 8 (dk_at dksX1_ask_3 22 rfl rfl)
theorem dX1_ask_92 : decode cX1_ask 92 = .ok (.imul, 1) := dk_104 (dk_at dksX1_ask_4 0 rfl rfl)
theorem dX1_ask_93 : decode cX1_ask 93 = .ok (.iload 4, 2) := dk_21 4 (dk_at dksX1_ask_4 1 rfl rfl)
theorem dX1_ask_95 : decode cX1_ask 95 = .ok (.iadd, 1) := dk_96 (dk_at dksX1_ask_4 3 rfl rfl)
theorem dX1_ask_96 : decode cX1_ask 96 = .ok (.istore_n 2, 1) := dk_61 (dk_at dksX1_ask_4 4 rfl rfl)
theorem dX1_ask_97 : decode cX1_ask 97 = .ok (.iinc 4 1, 3) := dk_132 4 1 (dk_at dksX1_ask_4 5 rfl rfl)
theorem dX1_ask_100 : decode cX1_ask 100 = .ok (.goto (-80), 3) := dk_167 255 176 (dk_at dksX1_ask_4 8 rfl rfl)
theorem dX1_ask_103 : decode cX1_ask 103 = .ok (.iinc 3 1, 3) := dk_132 3 1 (dk_at dksX1_ask_4 11 rfl rfl)
theorem dX1_ask_106 : decode cX1_ask 106 = .ok (.goto (-97), 3) := dk_167 255 159 (dk_at dksX1_ask_4 14 rfl rfl)
theorem dX1_ask_109 : decode cX1_ask 109 = .ok (.iload_n 2, 1) := dk_28 (dk_at dksX1_ask_4 17 rfl rfl)
theorem dX1_ask_110 : decode cX1_ask 110 = .ok (.ireturn, 1) := dk_172 (dk_at dksX1_ask_4 18 rfl rfl)
abbrev cX1_years : ByteArray := prog_1_method_61_code
def yX1_years : MethodName := ⟨RX1, "years", "(III)I"⟩
def dkwX1_years_10 : List UInt8 := [167, 0, 13, 42, 180, 0, 55, 180, 0, 177, 184, 1, 192, 172]
abbrev dktX1_years_10 : List UInt8 := dkwX1_years_10 ++ []
def dkwX1_years_9 : List UInt8 := [132, 6, 1, 167, 255, 120, 29, 154, 0, 8, 21, 4, 167, 0, 23, 29, 4, 160, 0, 8, 21, 5]
abbrev dktX1_years_9 : List UInt8 := dkwX1_years_9 ++ dktX1_years_10
def dkwX1_years_8 : List UInt8 := [96, 54, 5, 21, 4, 42, 42, 180, 0, 55, 182, 1, 91, 96, 54, 4, 42, 180, 0, 55, 182, 1, 1]
abbrev dktX1_years_8 : List UInt8 := dkwX1_years_8 ++ dktX1_years_9
def dkwX1_years_7 : List UInt8 := [180, 0, 35, 182, 1, 85, 182, 1, 88, 132, 7, 1, 167, 255, 231, 21, 5, 42, 180, 0, 55, 182, 1, 189]
abbrev dktX1_years_7 : List UInt8 := dkwX1_years_7 ++ dktX1_years_8
def dkwX1_years_6 : List UInt8 := [182, 1, 74, 155, 0, 59, 3, 54, 7, 21, 7, 16, 7, 162, 0, 24, 42, 42, 180, 0, 55, 42]
abbrev dktX1_years_6 : List UInt8 := dkwX1_years_6 ++ dktX1_years_7
def dkwX1_years_5 : List UInt8 := [180, 0, 55, 180, 0, 186, 21, 7, 16, 20, 79, 132, 7, 1, 167, 255, 209, 42, 42, 180, 0, 55]
abbrev dktX1_years_5 : List UInt8 := dkwX1_years_5 ++ dktX1_years_6
def dkwX1_years_4 : List UInt8 := [6, 182, 1, 52, 154, 0, 30, 42, 180, 0, 55, 180, 0, 177, 21, 7, 46, 16, 20, 161, 0, 15, 42]
abbrev dktX1_years_4 : List UInt8 := dkwX1_years_4 ++ dktX1_years_5
def dkwX1_years_3 : List UInt8 := [54, 5, 3, 54, 6, 21, 6, 28, 162, 0, 136, 3, 54, 7, 21, 7, 42, 182, 0, 146, 162, 0, 44, 42]
abbrev dktX1_years_3 : List UInt8 := dkwX1_years_3 ++ dktX1_years_4
def dkwX1_years_2 : List UInt8 := [182, 1, 32, 42, 180, 0, 55, 180, 1, 67, 153, 0, 10, 42, 180, 0, 55, 182, 1, 1, 3, 54, 4, 3]
abbrev dktX1_years_2 : List UInt8 := dkwX1_years_2 ++ dktX1_years_3
def dkwX1_years_1 : List UInt8 := [184, 0, 148, 154, 0, 5, 2, 172, 42, 27, 133, 181, 1, 36, 42, 180, 0, 55, 42, 180, 0, 51]
abbrev dktX1_years_1 : List UInt8 := dkwX1_years_1 ++ dktX1_years_2
def dkwX1_years_0 : List UInt8 := [27, 3, 17, 39, 15, 184, 0, 148, 153, 0, 22, 28, 4, 16, 20, 184, 0, 148, 153, 0, 12, 29, 3, 5]
abbrev dktX1_years_0 : List UInt8 := dkwX1_years_0 ++ dktX1_years_1
theorem dksX1_years_0 : cX1_years.data.toList.drop 0 = dktX1_years_0 := by decide +kernel
theorem dksX1_years_1 : cX1_years.data.toList.drop 24 = dktX1_years_1 := dk_seg dksX1_years_0 24 rfl rfl
theorem dksX1_years_2 : cX1_years.data.toList.drop 46 = dktX1_years_2 := dk_seg dksX1_years_1 22 rfl rfl
theorem dksX1_years_3 : cX1_years.data.toList.drop 70 = dktX1_years_3 := dk_seg dksX1_years_2 24 rfl rfl
theorem dksX1_years_4 : cX1_years.data.toList.drop 94 = dktX1_years_4 := dk_seg dksX1_years_3 24 rfl rfl
theorem dksX1_years_5 : cX1_years.data.toList.drop 117 = dktX1_years_5 := dk_seg dksX1_years_4 23 rfl rfl
theorem dksX1_years_6 : cX1_years.data.toList.drop 139 = dktX1_years_6 := dk_seg dksX1_years_5 22 rfl rfl
theorem dksX1_years_7 : cX1_years.data.toList.drop 161 = dktX1_years_7 := dk_seg dksX1_years_6 22 rfl rfl
theorem dksX1_years_8 : cX1_years.data.toList.drop 185 = dktX1_years_8 := dk_seg dksX1_years_7 24 rfl rfl
theorem dksX1_years_9 : cX1_years.data.toList.drop 208 = dktX1_years_9 := dk_seg dksX1_years_8 23 rfl rfl
theorem dksX1_years_10 : cX1_years.data.toList.drop 230 = dktX1_years_10 := dk_seg dksX1_years_9 22 rfl rfl
theorem dX1_years_0 : decode cX1_years 0 = .ok (.iload_n 1, 1) := dk_27 (dk_at dksX1_years_0 0 rfl rfl)
theorem dX1_years_1 : decode cX1_years 1 = .ok (.iconst 0, 1) := dk_3 (dk_at dksX1_years_0 1 rfl rfl)
theorem dX1_years_2 : decode cX1_years 2 = .ok (.sipush 9999, 3) := dk_17 39 15 (dk_at dksX1_years_0 2 rfl rfl)
theorem dX1_years_5 : decode cX1_years 5 = .ok (.invokestatic 148, 3) := dk_184 0 148 (dk_at dksX1_years_0 5 rfl rfl)
theorem dX1_years_8 : decode cX1_years 8 = .ok (.ifCond .eq 22, 3) := dk_153 0 22 (dk_at dksX1_years_0 8 rfl rfl)
theorem dX1_years_11 : decode cX1_years 11 = .ok (.iload_n 2, 1) := dk_28 (dk_at dksX1_years_0 11 rfl rfl)
theorem dX1_years_12 : decode cX1_years 12 = .ok (.iconst 1, 1) := dk_4 (dk_at dksX1_years_0 12 rfl rfl)
theorem dX1_years_13 : decode cX1_years 13 = .ok (.bipush 20, 2) := dk_16 20 (dk_at dksX1_years_0 13 rfl rfl)
theorem dX1_years_15 : decode cX1_years 15 = .ok (.invokestatic 148, 3) := dk_184 0 148 (dk_at dksX1_years_0 15 rfl rfl)
theorem dX1_years_18 : decode cX1_years 18 = .ok (.ifCond .eq 12, 3) := dk_153 0 12 (dk_at dksX1_years_0 18 rfl rfl)
theorem dX1_years_21 : decode cX1_years 21 = .ok (.iload_n 3, 1) := dk_29 (dk_at dksX1_years_0 21 rfl rfl)
theorem dX1_years_22 : decode cX1_years 22 = .ok (.iconst 0, 1) := dk_3 (dk_at dksX1_years_0 22 rfl rfl)
theorem dX1_years_23 : decode cX1_years 23 = .ok (.iconst 2, 1) := dk_5 (dk_at dksX1_years_0 23 rfl rfl)
theorem dX1_years_24 : decode cX1_years 24 = .ok (.invokestatic 148, 3) := dk_184 0 148 (dk_at dksX1_years_1 0 rfl rfl)
theorem dX1_years_27 : decode cX1_years 27 = .ok (.ifCond .ne 5, 3) := dk_154 0 5 (dk_at dksX1_years_1 3 rfl rfl)
theorem dX1_years_30 : decode cX1_years 30 = .ok (.iconst (-1), 1) := dk_2 (dk_at dksX1_years_1 6 rfl rfl)
theorem dX1_years_31 : decode cX1_years 31 = .ok (.ireturn, 1) := dk_172 (dk_at dksX1_years_1 7 rfl rfl)
theorem dX1_years_32 : decode cX1_years 32 = .ok (.aload_n 0, 1) := dk_42 (dk_at dksX1_years_1 8 rfl rfl)
theorem dX1_years_33 : decode cX1_years 33 = .ok (.iload_n 1, 1) := dk_27 (dk_at dksX1_years_1 9 rfl rfl)
theorem dX1_years_34 : decode cX1_years 34 = .ok (.i2l, 1) := dk_133 (dk_at dksX1_years_1 10 rfl rfl)
theorem dX1_years_35 : decode cX1_years 35 = .ok (.putfield 292, 3) := dk_181 1 36 (dk_at dksX1_years_1 11 rfl rfl)
theorem dX1_years_38 : decode cX1_years 38 = .ok (.aload_n 0, 1) := dk_42 (dk_at dksX1_years_1 14 rfl rfl)
theorem dX1_years_39 : decode cX1_years 39 = .ok (.getfield 55, 3) := dk_180 0 55 (dk_at dksX1_years_1 15 rfl rfl)
theorem dX1_years_42 : decode cX1_years 42 = .ok (.aload_n 0, 1) := dk_42 (dk_at dksX1_years_1 18 rfl rfl)
theorem dX1_years_43 : decode cX1_years 43 = .ok (.getfield 51, 3) := dk_180 0 51 (dk_at dksX1_years_1 19 rfl rfl)
theorem dX1_years_46 : decode cX1_years 46 = .ok (.invokevirtual 288, 3) := dk_182 1 32 (dk_at dksX1_years_2 0 rfl rfl)
theorem dX1_years_49 : decode cX1_years 49 = .ok (.aload_n 0, 1) := dk_42 (dk_at dksX1_years_2 3 rfl rfl)
theorem dX1_years_50 : decode cX1_years 50 = .ok (.getfield 55, 3) := dk_180 0 55 (dk_at dksX1_years_2 4 rfl rfl)
theorem dX1_years_53 : decode cX1_years 53 = .ok (.getfield 323, 3) := dk_180 1 67 (dk_at dksX1_years_2 7 rfl rfl)
theorem dX1_years_56 : decode cX1_years 56 = .ok (.ifCond .eq 10, 3) := dk_153 0 10 (dk_at dksX1_years_2 10 rfl rfl)
theorem dX1_years_59 : decode cX1_years 59 = .ok (.aload_n 0, 1) := dk_42 (dk_at dksX1_years_2 13 rfl rfl)
theorem dX1_years_60 : decode cX1_years 60 = .ok (.getfield 55, 3) := dk_180 0 55 (dk_at dksX1_years_2 14 rfl rfl)
theorem dX1_years_63 : decode cX1_years 63 = .ok (.invokevirtual 257, 3) := dk_182 1 1 (dk_at dksX1_years_2 17 rfl rfl)
theorem dX1_years_66 : decode cX1_years 66 = .ok (.iconst 0, 1) := dk_3 (dk_at dksX1_years_2 20 rfl rfl)
theorem dX1_years_67 : decode cX1_years 67 = .ok (.istore 4, 2) := dk_54 4 (dk_at dksX1_years_2 21 rfl rfl)
theorem dX1_years_69 : decode cX1_years 69 = .ok (.iconst 0, 1) := dk_3 (dk_at dksX1_years_2 23 rfl rfl)
theorem dX1_years_70 : decode cX1_years 70 = .ok (.istore 5, 2) := dk_54 5 (dk_at dksX1_years_3 0 rfl rfl)
theorem dX1_years_72 : decode cX1_years 72 = .ok (.iconst 0, 1) := dk_3 (dk_at dksX1_years_3 2 rfl rfl)
theorem dX1_years_73 : decode cX1_years 73 = .ok (.istore 6, 2) := dk_54 6 (dk_at dksX1_years_3 3 rfl rfl)
theorem dX1_years_75 : decode cX1_years 75 = .ok (.iload 6, 2) := dk_21 6 (dk_at dksX1_years_3 5 rfl rfl)
theorem dX1_years_77 : decode cX1_years 77 = .ok (.iload_n 2, 1) := dk_28 (dk_at dksX1_years_3 7 rfl rfl)
theorem dX1_years_78 : decode cX1_years 78 = .ok (.if_icmp .ge 136, 3) := dk_162 0 136 (dk_at dksX1_years_3 8 rfl rfl)
theorem dX1_years_81 : decode cX1_years 81 = .ok (.iconst 0, 1) := dk_3 (dk_at dksX1_years_3 11 rfl rfl)
theorem dX1_years_82 : decode cX1_years 82 = .ok (.istore 7, 2) := dk_54 7 (dk_at dksX1_years_3 12 rfl rfl)
theorem dX1_years_84 : decode cX1_years 84 = .ok (.iload 7, 2) := dk_21 7 (dk_at dksX1_years_3 14 rfl rfl)
theorem dX1_years_86 : decode cX1_years 86 = .ok (.aload_n 0, 1) := dk_42 (dk_at dksX1_years_3 16 rfl rfl)
theorem dX1_years_87 : decode cX1_years 87 = .ok (.invokevirtual 146, 3) := dk_182 0 146 (dk_at dksX1_years_3 17 rfl rfl)
theorem dX1_years_90 : decode cX1_years 90 = .ok (.if_icmp .ge 44, 3) := dk_162 0 44 (dk_at dksX1_years_3 20 rfl rfl)
theorem dX1_years_93 : decode cX1_years 93 = .ok (.aload_n 0, 1) := dk_42 (dk_at dksX1_years_3 23 rfl rfl)
theorem dX1_years_94 : decode cX1_years 94 = .ok (.iconst 3, 1) := dk_6 (dk_at dksX1_years_4 0 rfl rfl)
theorem dX1_years_95 : decode cX1_years 95 = .ok (.invokevirtual 308, 3) := dk_182 1 52 (dk_at dksX1_years_4 1 rfl rfl)
theorem dX1_years_98 : decode cX1_years 98 = .ok (.ifCond .ne 30, 3) := dk_154 0 30 (dk_at dksX1_years_4 4 rfl rfl)
theorem dX1_years_101 : decode cX1_years 101 = .ok (.aload_n 0, 1) := dk_42 (dk_at dksX1_years_4 7 rfl rfl)
theorem dX1_years_102 : decode cX1_years 102 = .ok (.getfield 55, 3) := dk_180 0 55 (dk_at dksX1_years_4 8 rfl rfl)
theorem dX1_years_105 : decode cX1_years 105 = .ok (.getfield 177, 3) := dk_180 0 177 (dk_at dksX1_years_4 11 rfl rfl)
theorem dX1_years_108 : decode cX1_years 108 = .ok (.iload 7, 2) := dk_21 7 (dk_at dksX1_years_4 14 rfl rfl)
theorem dX1_years_110 : decode cX1_years 110 = .ok (.iaload, 1) := dk_46 (dk_at dksX1_years_4 16 rfl rfl)
theorem dX1_years_111 : decode cX1_years 111 = .ok (.bipush 20, 2) := dk_16 20 (dk_at dksX1_years_4 17 rfl rfl)
theorem dX1_years_113 : decode cX1_years 113 = .ok (.if_icmp .lt 15, 3) := dk_161 0 15 (dk_at dksX1_years_4 19 rfl rfl)
theorem dX1_years_116 : decode cX1_years 116 = .ok (.aload_n 0, 1) := dk_42 (dk_at dksX1_years_4 22 rfl rfl)
theorem dX1_years_117 : decode cX1_years 117 = .ok (.getfield 55, 3) := dk_180 0 55 (dk_at dksX1_years_5 0 rfl rfl)
theorem dX1_years_120 : decode cX1_years 120 = .ok (.getfield 186, 3) := dk_180 0 186 (dk_at dksX1_years_5 3 rfl rfl)
theorem dX1_years_123 : decode cX1_years 123 = .ok (.iload 7, 2) := dk_21 7 (dk_at dksX1_years_5 6 rfl rfl)
theorem dX1_years_125 : decode cX1_years 125 = .ok (.bipush 20, 2) := dk_16 20 (dk_at dksX1_years_5 8 rfl rfl)
theorem dX1_years_127 : decode cX1_years 127 = .ok (.iastore, 1) := dk_79 (dk_at dksX1_years_5 10 rfl rfl)
theorem dX1_years_128 : decode cX1_years 128 = .ok (.iinc 7 1, 3) := dk_132 7 1 (dk_at dksX1_years_5 11 rfl rfl)
theorem dX1_years_131 : decode cX1_years 131 = .ok (.goto (-47), 3) := dk_167 255 209 (dk_at dksX1_years_5 14 rfl rfl)
theorem dX1_years_134 : decode cX1_years 134 = .ok (.aload_n 0, 1) := dk_42 (dk_at dksX1_years_5 17 rfl rfl)
theorem dX1_years_135 : decode cX1_years 135 = .ok (.aload_n 0, 1) := dk_42 (dk_at dksX1_years_5 18 rfl rfl)
theorem dX1_years_136 : decode cX1_years 136 = .ok (.getfield 55, 3) := dk_180 0 55 (dk_at dksX1_years_5 19 rfl rfl)
theorem dX1_years_139 : decode cX1_years 139 = .ok (.invokevirtual 330, 3) := dk_182 1 74 (dk_at dksX1_years_6 0 rfl rfl)
theorem dX1_years_142 : decode cX1_years 142 = .ok (.ifCond .lt 59, 3) := dk_155 0 59 (dk_at dksX1_years_6 3 rfl rfl)
theorem dX1_years_145 : decode cX1_years 145 = .ok (.iconst 0, 1) := dk_3 (dk_at dksX1_years_6 6 rfl rfl)
theorem dX1_years_146 : decode cX1_years 146 = .ok (.istore 7, 2) := dk_54 7 (dk_at dksX1_years_6 7 rfl rfl)
theorem dX1_years_148 : decode cX1_years 148 = .ok (.iload 7, 2) := dk_21 7 (dk_at dksX1_years_6 9 rfl rfl)
theorem dX1_years_150 : decode cX1_years 150 = .ok (.bipush 7, 2) := dk_16 7 (dk_at dksX1_years_6 11 rfl rfl)
theorem dX1_years_152 : decode cX1_years 152 = .ok (.if_icmp .ge 24, 3) := dk_162 0 24 (dk_at dksX1_years_6 13 rfl rfl)
theorem dX1_years_155 : decode cX1_years 155 = .ok (.aload_n 0, 1) := dk_42 (dk_at dksX1_years_6 16 rfl rfl)
theorem dX1_years_156 : decode cX1_years 156 = .ok (.aload_n 0, 1) := dk_42 (dk_at dksX1_years_6 17 rfl rfl)
theorem dX1_years_157 : decode cX1_years 157 = .ok (.getfield 55, 3) := dk_180 0 55 (dk_at dksX1_years_6 18 rfl rfl)
theorem dX1_years_160 : decode cX1_years 160 = .ok (.aload_n 0, 1) := dk_42 (dk_at dksX1_years_6 21 rfl rfl)
theorem dX1_years_161 : decode cX1_years 161 = .ok (.getfield 35, 3) := dk_180 0 35 (dk_at dksX1_years_7 0 rfl rfl)
theorem dX1_years_164 : decode cX1_years 164 = .ok (.invokevirtual 341, 3) := dk_182 1 85 (dk_at dksX1_years_7 3 rfl rfl)
theorem dX1_years_167 : decode cX1_years 167 = .ok (.invokevirtual 344, 3) := dk_182 1 88 (dk_at dksX1_years_7 6 rfl rfl)
theorem dX1_years_170 : decode cX1_years 170 = .ok (.iinc 7 1, 3) := dk_132 7 1 (dk_at dksX1_years_7 9 rfl rfl)
theorem dX1_years_173 : decode cX1_years 173 = .ok (.goto (-25), 3) := dk_167 255 231 (dk_at dksX1_years_7 12 rfl rfl)
theorem dX1_years_176 : decode cX1_years 176 = .ok (.iload 5, 2) := dk_21 5 (dk_at dksX1_years_7 15 rfl rfl)
theorem dX1_years_178 : decode cX1_years 178 = .ok (.aload_n 0, 1) := dk_42 (dk_at dksX1_years_7 17 rfl rfl)
theorem dX1_years_179 : decode cX1_years 179 = .ok (.getfield 55, 3) := dk_180 0 55 (dk_at dksX1_years_7 18 rfl rfl)
theorem dX1_years_182 : decode cX1_years 182 = .ok (.invokevirtual 445, 3) := dk_182 1 189 (dk_at dksX1_years_7 21 rfl rfl)
theorem dX1_years_185 : decode cX1_years 185 = .ok (.iadd, 1) := dk_96 (dk_at dksX1_years_8 0 rfl rfl)
theorem dX1_years_186 : decode cX1_years 186 = .ok (.istore 5, 2) := dk_54 5 (dk_at dksX1_years_8 1 rfl rfl)
theorem dX1_years_188 : decode cX1_years 188 = .ok (.iload 4, 2) := dk_21 4 (dk_at dksX1_years_8 3 rfl rfl)
theorem dX1_years_190 : decode cX1_years 190 = .ok (.aload_n 0, 1) := dk_42 (dk_at dksX1_years_8 5 rfl rfl)
theorem dX1_years_191 : decode cX1_years 191 = .ok (.aload_n 0, 1) := dk_42 (dk_at dksX1_years_8 6 rfl rfl)
theorem dX1_years_192 : decode cX1_years 192 = .ok (.getfield 55, 3) := dk_180 0 55 (dk_at dksX1_years_8 7 rfl rfl)
theorem dX1_years_195 : decode cX1_years 195 = .ok (.invokevirtual 347, 3) := dk_182 1 91 (dk_at dksX1_years_8 10 rfl rfl)
theorem dX1_years_198 : decode cX1_years 198 = .ok (.iadd, 1) := dk_96 (dk_at dksX1_years_8 13 rfl rfl)
theorem dX1_years_199 : decode cX1_years 199 = .ok (.istore 4, 2) := dk_54 4 (dk_at dksX1_years_8 14 rfl rfl)
theorem dX1_years_201 : decode cX1_years 201 = .ok (.aload_n 0, 1) := dk_42 (dk_at dksX1_years_8 16 rfl rfl)
theorem dX1_years_202 : decode cX1_years 202 = .ok (.getfield 55, 3) := dk_180 0 55 (dk_at dksX1_years_8 17 rfl rfl)
theorem dX1_years_205 : decode cX1_years 205 = .ok (.invokevirtual 257, 3) := dk_182 1 1 (dk_at dksX1_years_8 20 rfl rfl)
theorem dX1_years_208 : decode cX1_years 208 = .ok (.iinc 6 1, 3) := dk_132 6 1 (dk_at dksX1_years_9 0 rfl rfl)
theorem dX1_years_211 : decode cX1_years 211 = .ok (.goto (-136), 3) := dk_167 255 120 (dk_at dksX1_years_9 3 rfl rfl)
theorem dX1_years_214 : decode cX1_years 214 = .ok (.iload_n 3, 1) := dk_29 (dk_at dksX1_years_9 6 rfl rfl)
theorem dX1_years_215 : decode cX1_years 215 = .ok (.ifCond .ne 8, 3) := dk_154 0 8 (dk_at dksX1_years_9 7 rfl rfl)
theorem dX1_years_218 : decode cX1_years 218 = .ok (.iload 4, 2) := dk_21 4 (dk_at dksX1_years_9 10 rfl rfl)
theorem dX1_years_220 : decode cX1_years 220 = .ok (.goto 23, 3) := dk_167 0 23 (dk_at dksX1_years_9 12 rfl rfl)
theorem dX1_years_223 : decode cX1_years 223 = .ok (.iload_n 3, 1) := dk_29 (dk_at dksX1_years_9 15 rfl rfl)
theorem dX1_years_224 : decode cX1_years 224 = .ok (.iconst 1, 1) := dk_4 (dk_at dksX1_years_9 16 rfl rfl)
theorem dX1_years_225 : decode cX1_years 225 = .ok (.if_icmp .ne 8, 3) := dk_160 0 8 (dk_at dksX1_years_9 17 rfl rfl)
theorem dX1_years_228 : decode cX1_years 228 = .ok (.iload 5, 2) := dk_21 5 (dk_at dksX1_years_9 20 rfl rfl)
theorem dX1_years_230 : decode cX1_years 230 = .ok (.goto 13, 3) := dk_167 0 13 (dk_at dksX1_years_10 0 rfl rfl)
theorem dX1_years_233 : decode cX1_years 233 = .ok (.aload_n 0, 1) := dk_42 (dk_at dksX1_years_10 3 rfl rfl)
theorem dX1_years_234 : decode cX1_years 234 = .ok (.getfield 55, 3) := dk_180 0 55 (dk_at dksX1_years_10 4 rfl rfl)
theorem dX1_years_237 : decode cX1_years 237 = .ok (.getfield 177, 3) := dk_180 0 177 (dk_at dksX1_years_10 7 rfl rfl)
theorem dX1_years_240 : decode cX1_years 240 = .ok (.invokestatic 448, 3) := dk_184 1 192 (dk_at dksX1_years_10 10 rfl rfl)
theorem dX1_years_243 : decode cX1_years 243 = .ok (.ireturn, 1) := dk_172 (dk_at dksX1_years_10 13 rfl rfl)
abbrev cX1_sum : ByteArray := prog_1_method_6_code
def yX1_sum : MethodName := ⟨RX1, "sum", "([I)I"⟩
def dkwX1_sum_0 : List UInt8 := [3, 60, 3, 61, 28, 42, 190, 162, 0, 15, 27, 42, 28, 46, 96, 60, 132, 2, 1, 167, 255, 241, 27, 172]
abbrev dktX1_sum_0 : List UInt8 := dkwX1_sum_0 ++ []
theorem dksX1_sum_0 : cX1_sum.data.toList.drop 0 = dktX1_sum_0 := by decide +kernel
theorem dX1_sum_0 : decode cX1_sum 0 = .ok (.iconst 0, 1) := dk_3 (dk_at dksX1_sum_0 0 rfl rfl)
theorem dX1_sum_1 : decode cX1_sum 1 = .ok (.istore_n 1, 1) := dk_60 (dk_at dksX1_sum_0 1 rfl rfl)
theorem dX1_sum_2 : decode cX1_sum 2 = .ok (.iconst 0, 1) := dk_3 (dk_at dksX1_sum_0 2 rfl rfl)
theorem dX1_sum_3 : decode cX1_sum 3 = .ok (.istore_n 2, 1) := dk_61 (dk_at dksX1_sum_0 3 rfl rfl)
theorem dX1_sum_4 : decode cX1_sum 4 = .ok (.iload_n 2, 1) := dk_28 (dk_at dksX1_sum_0 4 rfl rfl)
theorem dX1_sum_5 : decode cX1_sum 5 = .ok (.aload_n 0, 1) := dk_42 (dk_at dksX1_sum_0 5 rfl rfl)
theorem dX1_sum_6 : decode cX1_sum 6 = .ok (.arraylength, 1) := dk_190 (dk_at dksX1_sum_0 6 rfl rfl)
theorem dX1_sum_7 : decode cX1_sum 7 = .ok (.if_icmp .ge 15, 3) := dk_162 0 15 (dk_at dksX1_sum_0 7 rfl rfl)
theorem dX1_sum_10 : decode cX1_sum 10 = .ok (.iload_n 1, 1) := dk_27 (dk_at dksX1_sum_0 10 rfl rfl)
theorem dX1_sum_11 : decode cX1_sum 11 = .ok (.aload_n 0, 1) := dk_42 (dk_at dksX1_sum_0 11 rfl rfl)
theorem dX1_sum_12 : decode cX1_sum 12 = .ok (.iload_n 2, 1) := dk_28 (dk_at dksX1_sum_0 12 rfl rfl)
theorem dX1_sum_13 : decode cX1_sum 13 = .ok (.iaload, 1) := dk_46 (dk_at dksX1_sum_0 13 rfl rfl)
theorem dX1_sum_14 : decode cX1_sum 14 = .ok (.iadd, 1) := dk_96 (dk_at dksX1_sum_0 14 rfl rfl)
theorem dX1_sum_15 : decode cX1_sum 15 = .ok (.istore_n 1, 1) := dk_60 (dk_at dksX1_sum_0 15 rfl rfl)
theorem dX1_sum_16 : decode cX1_sum 16 = .ok (.iinc 2 1, 3) := dk_132 2 1 (dk_at dksX1_sum_0 16 rfl rfl)
theorem dX1_sum_19 : decode cX1_sum 19 = .ok (.goto (-15), 3) := dk_167 255 241 (dk_at dksX1_sum_0 19 rfl rfl)
theorem dX1_sum_22 : decode cX1_sum 22 = .ok (.iload_n 1, 1) := dk_27 (dk_at dksX1_sum_0 22 rfl rfl)
theorem dX1_sum_23 : decode cX1_sum 23 = .ok (.ireturn, 1) := dk_172 (dk_at dksX1_sum_0 23 rfl rfl)
abbrev cX1_mark : ByteArray := prog_1_method_62_code
def yX1_mark : MethodName := ⟨RX1, "mark", "(IZ)Z"⟩
def dkwX1_mark_7 : List UInt8 := [184, 1, 146, 45, 42, 180, 0, 123, 181, 1, 204, 4, 172]
abbrev dktX1_mark_7 : List UInt8 := dkwX1_mark_7 ++ []
def dkwX1_mark_6 : List UInt8 := [184, 1, 146, 42, 180, 0, 81, 45, 180, 1, 200, 184, 1, 146, 42, 180, 0, 84, 45, 180, 1, 203]
abbrev dktX1_mark_6 : List UInt8 := dkwX1_mark_6 ++ dktX1_mark_7
def dkwX1_mark_5 : List UInt8 := [167, 0, 55, 45, 180, 1, 196, 42, 180, 0, 51, 182, 1, 32, 42, 180, 0, 78, 45, 180, 1, 197]
abbrev dktX1_mark_5 : List UInt8 := dkwX1_mark_5 ++ dktX1_mark_6
def dkwX1_mark_4 : List UInt8 := [180, 1, 203, 42, 180, 0, 84, 184, 1, 146, 42, 45, 180, 1, 204, 181, 0, 123, 42, 3, 181, 0, 126]
abbrev dktX1_mark_4 : List UInt8 := dkwX1_mark_4 ++ dktX1_mark_5
def dkwX1_mark_3 : List UInt8 := [180, 1, 197, 42, 180, 0, 78, 184, 1, 146, 45, 180, 1, 200, 42, 180, 0, 81, 184, 1, 146, 45]
abbrev dktX1_mark_3 : List UInt8 := dkwX1_mark_3 ++ dktX1_mark_4
def dkwX1_mark_2 : List UInt8 := [180, 0, 97, 27, 50, 78, 28, 153, 0, 63, 42, 180, 0, 51, 45, 180, 1, 196, 182, 1, 32, 45]
abbrev dktX1_mark_2 : List UInt8 := dkwX1_mark_2 ++ dktX1_mark_3
def dkwX1_mark_1 : List UInt8 := [42, 180, 0, 97, 27, 50, 199, 0, 16, 42, 180, 0, 97, 27, 187, 0, 95, 89, 183, 1, 195, 83, 42]
abbrev dktX1_mark_1 : List UInt8 := dkwX1_mark_1 ++ dktX1_mark_2
def dkwX1_mark_0 : List UInt8 := [27, 3, 6, 184, 0, 148, 153, 0, 16, 28, 153, 0, 14, 42, 180, 0, 97, 27, 50, 199, 0, 5, 3, 172]
abbrev dktX1_mark_0 : List UInt8 := dkwX1_mark_0 ++ dktX1_mark_1
theorem dksX1_mark_0 : cX1_mark.data.toList.drop 0 = dktX1_mark_0 := by decide +kernel
theorem dksX1_mark_1 : cX1_mark.data.toList.drop 24 = dktX1_mark_1 := dk_seg dksX1_mark_0 24 rfl rfl
theorem dksX1_mark_2 : cX1_mark.data.toList.drop 47 = dktX1_mark_2 := dk_seg dksX1_mark_1 23 rfl rfl
theorem dksX1_mark_3 : cX1_mark.data.toList.drop 69 = dktX1_mark_3 := dk_seg dksX1_mark_2 22 rfl rfl
theorem dksX1_mark_4 : cX1_mark.data.toList.drop 91 = dktX1_mark_4 := dk_seg dksX1_mark_3 22 rfl rfl
theorem dksX1_mark_5 : cX1_mark.data.toList.drop 114 = dktX1_mark_5 := dk_seg dksX1_mark_4 23 rfl rfl
theorem dksX1_mark_6 : cX1_mark.data.toList.drop 136 = dktX1_mark_6 := dk_seg dksX1_mark_5 22 rfl rfl
theorem dksX1_mark_7 : cX1_mark.data.toList.drop 158 = dktX1_mark_7 := dk_seg dksX1_mark_6 22 rfl rfl
theorem dX1_mark_0 : decode cX1_mark 0 = .ok (.iload_n 1, 1) := dk_27 (dk_at dksX1_mark_0 0 rfl rfl)
theorem dX1_mark_1 : decode cX1_mark 1 = .ok (.iconst 0, 1) := dk_3 (dk_at dksX1_mark_0 1 rfl rfl)
theorem dX1_mark_2 : decode cX1_mark 2 = .ok (.iconst 3, 1) := dk_6 (dk_at dksX1_mark_0 2 rfl rfl)
theorem dX1_mark_3 : decode cX1_mark 3 = .ok (.invokestatic 148, 3) := dk_184 0 148 (dk_at dksX1_mark_0 3 rfl rfl)
theorem dX1_mark_6 : decode cX1_mark 6 = .ok (.ifCond .eq 16, 3) := dk_153 0 16 (dk_at dksX1_mark_0 6 rfl rfl)
theorem dX1_mark_9 : decode cX1_mark 9 = .ok (.iload_n 2, 1) := dk_28 (dk_at dksX1_mark_0 9 rfl rfl)
theorem dX1_mark_10 : decode cX1_mark 10 = .ok (.ifCond .eq 14, 3) := dk_153 0 14 (dk_at dksX1_mark_0 10 rfl rfl)
theorem dX1_mark_13 : decode cX1_mark 13 = .ok (.aload_n 0, 1) := dk_42 (dk_at dksX1_mark_0 13 rfl rfl)
theorem dX1_mark_14 : decode cX1_mark 14 = .ok (.getfield 97, 3) := dk_180 0 97 (dk_at dksX1_mark_0 14 rfl rfl)
theorem dX1_mark_17 : decode cX1_mark 17 = .ok (.iload_n 1, 1) := dk_27 (dk_at dksX1_mark_0 17 rfl rfl)
theorem dX1_mark_18 : decode cX1_mark 18 = .ok (.aaload, 1) := dk_50 (dk_at dksX1_mark_0 18 rfl rfl)
theorem dX1_mark_19 : decode cX1_mark 19 = .ok (.ifnonnull 5, 3) := dk_199 0 5 (dk_at dksX1_mark_0 19 rfl rfl)
theorem dX1_mark_22 : decode cX1_mark 22 = .ok (.iconst 0, 1) := dk_3 (dk_at dksX1_mark_0 22 rfl rfl)
theorem dX1_mark_23 : decode cX1_mark 23 = .ok (.ireturn, 1) := dk_172 (dk_at dksX1_mark_0 23 rfl rfl)
theorem dX1_mark_24 : decode cX1_mark 24 = .ok (.aload_n 0, 1) := dk_42 (dk_at dksX1_mark_1 0 rfl rfl)
theorem dX1_mark_25 : decode cX1_mark 25 = .ok (.getfield 97, 3) := dk_180 0 97 (dk_at dksX1_mark_1 1 rfl rfl)
theorem dX1_mark_28 : decode cX1_mark 28 = .ok (.iload_n 1, 1) := dk_27 (dk_at dksX1_mark_1 4 rfl rfl)
theorem dX1_mark_29 : decode cX1_mark 29 = .ok (.aaload, 1) := dk_50 (dk_at dksX1_mark_1 5 rfl rfl)
theorem dX1_mark_30 : decode cX1_mark 30 = .ok (.ifnonnull 16, 3) := dk_199 0 16 (dk_at dksX1_mark_1 6 rfl rfl)
theorem dX1_mark_33 : decode cX1_mark 33 = .ok (.aload_n 0, 1) := dk_42 (dk_at dksX1_mark_1 9 rfl rfl)
theorem dX1_mark_34 : decode cX1_mark 34 = .ok (.getfield 97, 3) := dk_180 0 97 (dk_at dksX1_mark_1 10 rfl rfl)
theorem dX1_mark_37 : decode cX1_mark 37 = .ok (.iload_n 1, 1) := dk_27 (dk_at dksX1_mark_1 13 rfl rfl)
theorem dX1_mark_38 : decode cX1_mark 38 = .ok (.new 95, 3) := dk_187 0 95 (dk_at dksX1_mark_1 14 rfl rfl)
theorem dX1_mark_41 : decode cX1_mark 41 = .ok (.dup, 1) := dk_89 (dk_at dksX1_mark_1 17 rfl rfl)
theorem dX1_mark_42 : decode cX1_mark 42 = .ok (.invokespecial 451, 3) := dk_183 1 195 (dk_at dksX1_mark_1 18 rfl rfl)
theorem dX1_mark_45 : decode cX1_mark 45 = .ok (.aastore, 1) := dk_83 (dk_at dksX1_mark_1 21 rfl rfl)
theorem dX1_mark_46 : decode cX1_mark 46 = .ok (.aload_n 0, 1) := dk_42 (dk_at dksX1_mark_1 22 rfl rfl)
theorem dX1_mark_47 : decode cX1_mark 47 = .ok (.getfield 97, 3) := dk_180 0 97 (dk_at dksX1_mark_2 0 rfl rfl)
theorem dX1_mark_50 : decode cX1_mark 50 = .ok (.iload_n 1, 1) := dk_27 (dk_at dksX1_mark_2 3 rfl rfl)
theorem dX1_mark_51 : decode cX1_mark 51 = .ok (.aaload, 1) := dk_50 (dk_at dksX1_mark_2 4 rfl rfl)
theorem dX1_mark_52 : decode cX1_mark 52 = .ok (.astore_n 3, 1) := dk_78 (dk_at dksX1_mark_2 5 rfl rfl)
theorem dX1_mark_53 : decode cX1_mark 53 = .ok (.iload_n 2, 1) := dk_28 (dk_at dksX1_mark_2 6 rfl rfl)
theorem dX1_mark_54 : decode cX1_mark 54 = .ok (.ifCond .eq 63, 3) := dk_153 0 63 (dk_at dksX1_mark_2 7 rfl rfl)
theorem dX1_mark_57 : decode cX1_mark 57 = .ok (.aload_n 0, 1) := dk_42 (dk_at dksX1_mark_2 10 rfl rfl)
theorem dX1_mark_58 : decode cX1_mark 58 = .ok (.getfield 51, 3) := dk_180 0 51 (dk_at dksX1_mark_2 11 rfl rfl)
theorem dX1_mark_61 : decode cX1_mark 61 = .ok (.aload_n 3, 1) := dk_45 (dk_at dksX1_mark_2 14 rfl rfl)
theorem dX1_mark_62 : decode cX1_mark 62 = .ok (.getfield 452, 3) := dk_180 1 196 (dk_at dksX1_mark_2 15 rfl rfl)
theorem dX1_mark_65 : decode cX1_mark 65 = .ok (.invokevirtual 288, 3) := dk_182 1 32 (dk_at dksX1_mark_2 18 rfl rfl)
theorem dX1_mark_68 : decode cX1_mark 68 = .ok (.aload_n 3, 1) := dk_45 (dk_at dksX1_mark_2 21 rfl rfl)
theorem dX1_mark_69 : decode cX1_mark 69 = .ok (.getfield 453, 3) := dk_180 1 197 (dk_at dksX1_mark_3 0 rfl rfl)
theorem dX1_mark_72 : decode cX1_mark 72 = .ok (.aload_n 0, 1) := dk_42 (dk_at dksX1_mark_3 3 rfl rfl)
theorem dX1_mark_73 : decode cX1_mark 73 = .ok (.getfield 78, 3) := dk_180 0 78 (dk_at dksX1_mark_3 4 rfl rfl)
theorem dX1_mark_76 : decode cX1_mark 76 = .ok (.invokestatic 402, 3) := dk_184 1 146 (dk_at dksX1_mark_3 7 rfl rfl)
theorem dX1_mark_79 : decode cX1_mark 79 = .ok (.aload_n 3, 1) := dk_45 (dk_at dksX1_mark_3 10 rfl rfl)
theorem dX1_mark_80 : decode cX1_mark 80 = .ok (.getfield 456, 3) := dk_180 1 200 (dk_at dksX1_mark_3 11 rfl rfl)
theorem dX1_mark_83 : decode cX1_mark 83 = .ok (.aload_n 0, 1) := dk_42 (dk_at dksX1_mark_3 14 rfl rfl)
theorem dX1_mark_84 : decode cX1_mark 84 = .ok (.getfield 81, 3) := dk_180 0 81 (dk_at dksX1_mark_3 15 rfl rfl)
theorem dX1_mark_87 : decode cX1_mark 87 = .ok (.invokestatic 402, 3) := dk_184 1 146 (dk_at dksX1_mark_3 18 rfl rfl)
theorem dX1_mark_90 : decode cX1_mark 90 = .ok (.aload_n 3, 1) := dk_45 (dk_at dksX1_mark_3 21 rfl rfl)
theorem dX1_mark_91 : decode cX1_mark 91 = .ok (.getfield 459, 3) := dk_180 1 203 (dk_at dksX1_mark_4 0 rfl rfl)
theorem dX1_mark_94 : decode cX1_mark 94 = .ok (.aload_n 0, 1) := dk_42 (dk_at dksX1_mark_4 3 rfl rfl)
theorem dX1_mark_95 : decode cX1_mark 95 = .ok (.getfield 84, 3) := dk_180 0 84 (dk_at dksX1_mark_4 4 rfl rfl)
theorem dX1_mark_98 : decode cX1_mark 98 = .ok (.invokestatic 402, 3) := dk_184 1 146 (dk_at dksX1_mark_4 7 rfl rfl)
theorem dX1_mark_101 : decode cX1_mark 101 = .ok (.aload_n 0, 1) := dk_42 (dk_at dksX1_mark_4 10 rfl rfl)
theorem dX1_mark_102 : decode cX1_mark 102 = .ok (.aload_n 3, 1) := dk_45 (dk_at dksX1_mark_4 11 rfl rfl)
theorem dX1_mark_103 : decode cX1_mark 103 = .ok (.getfield 460, 3) := dk_180 1 204 (dk_at dksX1_mark_4 12 rfl rfl)
theorem dX1_mark_106 : decode cX1_mark 106 = .ok (.putfield 123, 3) := dk_181 0 123 (dk_at dksX1_mark_4 15 rfl rfl)
theorem dX1_mark_109 : decode cX1_mark 109 = .ok (.aload_n 0, 1) := dk_42 (dk_at dksX1_mark_4 18 rfl rfl)
theorem dX1_mark_110 : decode cX1_mark 110 = .ok (.iconst 0, 1) := dk_3 (dk_at dksX1_mark_4 19 rfl rfl)
theorem dX1_mark_111 : decode cX1_mark 111 = .ok (.putfield 126, 3) := dk_181 0 126 (dk_at dksX1_mark_4 20 rfl rfl)
theorem dX1_mark_114 : decode cX1_mark 114 = .ok (.goto 55, 3) := dk_167 0 55 (dk_at dksX1_mark_5 0 rfl rfl)
theorem dX1_mark_117 : decode cX1_mark 117 = .ok (.aload_n 3, 1) := dk_45 (dk_at dksX1_mark_5 3 rfl rfl)
theorem dX1_mark_118 : decode cX1_mark 118 = .ok (.getfield 452, 3) := dk_180 1 196 (dk_at dksX1_mark_5 4 rfl rfl)
theorem dX1_mark_121 : decode cX1_mark 121 = .ok (.aload_n 0, 1) := dk_42 (dk_at dksX1_mark_5 7 rfl rfl)
theorem dX1_mark_122 : decode cX1_mark 122 = .ok (.getfield 51, 3) := dk_180 0 51 (dk_at dksX1_mark_5 8 rfl rfl)
theorem dX1_mark_125 : decode cX1_mark 125 = .ok (.invokevirtual 288, 3) := dk_182 1 32 (dk_at dksX1_mark_5 11 rfl rfl)
theorem dX1_mark_128 : decode cX1_mark 128 = .ok (.aload_n 0, 1) := dk_42 (dk_at dksX1_mark_5 14 rfl rfl)
theorem dX1_mark_129 : decode cX1_mark 129 = .ok (.getfield 78, 3) := dk_180 0 78 (dk_at dksX1_mark_5 15 rfl rfl)
theorem dX1_mark_132 : decode cX1_mark 132 = .ok (.aload_n 3, 1) := dk_45 (dk_at dksX1_mark_5 18 rfl rfl)
theorem dX1_mark_133 : decode cX1_mark 133 = .ok (.getfield 453, 3) := dk_180 1 197 (dk_at dksX1_mark_5 19 rfl rfl)
theorem dX1_mark_136 : decode cX1_mark 136 = .ok (.invokestatic 402, 3) := dk_184 1 146 (dk_at dksX1_mark_6 0 rfl rfl)
theorem dX1_mark_139 : decode cX1_mark 139 = .ok (.aload_n 0, 1) := dk_42 (dk_at dksX1_mark_6 3 rfl rfl)
theorem dX1_mark_140 : decode cX1_mark 140 = .ok (.getfield 81, 3) := dk_180 0 81 (dk_at dksX1_mark_6 4 rfl rfl)
theorem dX1_mark_143 : decode cX1_mark 143 = .ok (.aload_n 3, 1) := dk_45 (dk_at dksX1_mark_6 7 rfl rfl)
theorem dX1_mark_144 : decode cX1_mark 144 = .ok (.getfield 456, 3) := dk_180 1 200 (dk_at dksX1_mark_6 8 rfl rfl)
theorem dX1_mark_147 : decode cX1_mark 147 = .ok (.invokestatic 402, 3) := dk_184 1 146 (dk_at dksX1_mark_6 11 rfl rfl)
theorem dX1_mark_150 : decode cX1_mark 150 = .ok (.aload_n 0, 1) := dk_42 (dk_at dksX1_mark_6 14 rfl rfl)
theorem dX1_mark_151 : decode cX1_mark 151 = .ok (.getfield 84, 3) := dk_180 0 84 (dk_at dksX1_mark_6 15 rfl rfl)
theorem dX1_mark_154 : decode cX1_mark 154 = .ok (.aload_n 3, 1) := dk_45 (dk_at dksX1_mark_6 18 rfl rfl)
theorem dX1_mark_155 : decode cX1_mark 155 = .ok (.getfield 459, 3) := dk_180 1 203 (dk_at dksX1_mark_6 19 rfl rfl)
theorem dX1_mark_158 : decode cX1_mark 158 = .ok (.invokestatic 402, 3) := dk_184 1 146 (dk_at dksX1_mark_7 0 rfl rfl)
theorem dX1_mark_161 : decode cX1_mark 161 = .ok (.aload_n 3, 1) := dk_45 (dk_at dksX1_mark_7 3 rfl rfl)
theorem dX1_mark_162 : decode cX1_mark 162 = .ok (.aload_n 0, 1) := dk_42 (dk_at dksX1_mark_7 4 rfl rfl)
theorem dX1_mark_163 : decode cX1_mark 163 = .ok (.getfield 123, 3) := dk_180 0 123 (dk_at dksX1_mark_7 5 rfl rfl)
theorem dX1_mark_166 : decode cX1_mark 166 = .ok (.putfield 460, 3) := dk_181 1 204 (dk_at dksX1_mark_7 8 rfl rfl)
theorem dX1_mark_169 : decode cX1_mark 169 = .ok (.iconst 1, 1) := dk_4 (dk_at dksX1_mark_7 11 rfl rfl)
theorem dX1_mark_170 : decode cX1_mark 170 = .ok (.ireturn, 1) := dk_172 (dk_at dksX1_mark_7 12 rfl rfl)
abbrev cX1_count : ByteArray := prog_1_method_63_code
def yX1_count : MethodName := ⟨RX1, "count", "(I)I"⟩
def dkwX1_count_6 : List UInt8 := [180, 0, 123, 172, 42, 180, 0, 126, 172, 42, 180, 0, 105, 172, 2, 172]
abbrev dktX1_count_6 : List UInt8 := dkwX1_count_6 ++ []
def dkwX1_count_5 : List UInt8 := [184, 1, 192, 172, 42, 180, 0, 51, 180, 0, 180, 184, 1, 192, 172, 42, 180, 0, 44, 182, 0, 136, 172, 42]
abbrev dktX1_count_5 : List UInt8 := dkwX1_count_5 ++ dktX1_count_6
def dkwX1_count_4 : List UInt8 := [180, 0, 51, 180, 0, 254, 172, 42, 180, 0, 51, 180, 0, 251, 172, 42, 180, 0, 51, 180, 0, 177]
abbrev dktX1_count_4 : List UInt8 := dkwX1_count_4 ++ dktX1_count_5
def dkwX1_count_3 : List UInt8 := [180, 0, 51, 180, 1, 67, 153, 0, 7, 4, 167, 0, 4, 3, 172, 42, 180, 0, 51, 180, 0, 245, 172, 42]
abbrev dktX1_count_3 : List UInt8 := dkwX1_count_3 ++ dktX1_count_4
def dkwX1_count_2 : List UInt8 := [42, 182, 0, 146, 172, 42, 180, 0, 35, 180, 1, 205, 172, 42, 180, 0, 35, 182, 1, 85, 172, 42]
abbrev dktX1_count_2 : List UInt8 := dkwX1_count_2 ++ dktX1_count_3
def dkwX1_count_1 : List UInt8 := [170, 0, 0, 0, 0, 0, 173, 0, 0, 0, 0, 0, 0, 0, 12, 0, 0, 0, 67, 0, 0, 0, 72, 0, 0, 0, 80, 0, 0, 0, 88, 0, 0, 0, 104, 0, 0, 0, 112, 0, 0, 0, 120, 0, 0, 0, 128, 0, 0, 0, 139, 0, 0, 0, 150, 0, 0, 0, 158, 0, 0, 0, 163, 0, 0, 0, 168]
abbrev dktX1_count_1 : List UInt8 := dkwX1_count_1 ++ dktX1_count_2
def dkwX1_count_0 : List UInt8 := [27]
abbrev dktX1_count_0 : List UInt8 := dkwX1_count_0 ++ dktX1_count_1
theorem dksX1_count_0 : cX1_count.data.toList.drop 0 = dktX1_count_0 := by decide +kernel
theorem dksX1_count_1 : cX1_count.data.toList.drop 1 = dktX1_count_1 := dk_seg dksX1_count_0 1 rfl rfl
theorem dksX1_count_2 : cX1_count.data.toList.drop 68 = dktX1_count_2 := dk_seg dksX1_count_1 67 rfl rfl
theorem dksX1_count_3 : cX1_count.data.toList.drop 90 = dktX1_count_3 := dk_seg dksX1_count_2 22 rfl rfl
theorem dksX1_count_4 : cX1_count.data.toList.drop 114 = dktX1_count_4 := dk_seg dksX1_count_3 24 rfl rfl
theorem dksX1_count_5 : cX1_count.data.toList.drop 136 = dktX1_count_5 := dk_seg dksX1_count_4 22 rfl rfl
theorem dksX1_count_6 : cX1_count.data.toList.drop 160 = dktX1_count_6 := dk_seg dksX1_count_5 24 rfl rfl
theorem dX1_count_0 : decode cX1_count 0 = .ok (.iload_n 1, 1) := dk_27 (dk_at dksX1_count_0 0 rfl rfl)
theorem dX1_count_1 : decode cX1_count 1 = .ok (.tableswitch 173 0 12 #[67, 72, 80, 88, 104, 112, 120, 128, 139, 150, 158, 163, 168], 67) := by decide +kernel
theorem dX1_count_68 : decode cX1_count 68 = .ok (.aload_n 0, 1) := dk_42 (dk_at dksX1_count_2 0 rfl rfl)
theorem dX1_count_69 : decode cX1_count 69 = .ok (.invokevirtual 146, 3) := dk_182 0 146 (dk_at dksX1_count_2 1 rfl rfl)
theorem dX1_count_72 : decode cX1_count 72 = .ok (.ireturn, 1) := dk_172 (dk_at dksX1_count_2 4 rfl rfl)
theorem dX1_count_73 : decode cX1_count 73 = .ok (.aload_n 0, 1) := dk_42 (dk_at dksX1_count_2 5 rfl rfl)
theorem dX1_count_74 : decode cX1_count 74 = .ok (.getfield 35, 3) := dk_180 0 35 (dk_at dksX1_count_2 6 rfl rfl)
theorem dX1_count_77 : decode cX1_count 77 = .ok (.getfield 461, 3) := dk_180 1 205 (dk_at dksX1_count_2 9 rfl rfl)
theorem dX1_count_80 : decode cX1_count 80 = .ok (.ireturn, 1) := dk_172 (dk_at dksX1_count_2 12 rfl rfl)
theorem dX1_count_81 : decode cX1_count 81 = .ok (.aload_n 0, 1) := dk_42 (dk_at dksX1_count_2 13 rfl rfl)
theorem dX1_count_82 : decode cX1_count 82 = .ok (.getfield 35, 3) := dk_180 0 35 (dk_at dksX1_count_2 14 rfl rfl)
theorem dX1_count_85 : decode cX1_count 85 = .ok (.invokevirtual 341, 3) := dk_182 1 85 (dk_at dksX1_count_2 17 rfl rfl)
theorem dX1_count_88 : decode cX1_count 88 = .ok (.ireturn, 1) := dk_172 (dk_at dksX1_count_2 20 rfl rfl)
theorem dX1_count_89 : decode cX1_count 89 = .ok (.aload_n 0, 1) := dk_42 (dk_at dksX1_count_2 21 rfl rfl)
theorem dX1_count_90 : decode cX1_count 90 = .ok (.getfield 51, 3) := dk_180 0 51 (dk_at dksX1_count_3 0 rfl rfl)
theorem dX1_count_93 : decode cX1_count 93 = .ok (.getfield 323, 3) := dk_180 1 67 (dk_at dksX1_count_3 3 rfl rfl)
theorem dX1_count_96 : decode cX1_count 96 = .ok (.ifCond .eq 7, 3) := dk_153 0 7 (dk_at dksX1_count_3 6 rfl rfl)
theorem dX1_count_99 : decode cX1_count 99 = .ok (.iconst 1, 1) := dk_4 (dk_at dksX1_count_3 9 rfl rfl)
theorem dX1_count_100 : decode cX1_count 100 = .ok (.goto 4, 3) := dk_167 0 4 (dk_at dksX1_count_3 10 rfl rfl)
theorem dX1_count_103 : decode cX1_count 103 = .ok (.iconst 0, 1) := dk_3 (dk_at dksX1_count_3 13 rfl rfl)
theorem dX1_count_104 : decode cX1_count 104 = .ok (.ireturn, 1) := dk_172 (dk_at dksX1_count_3 14 rfl rfl)
theorem dX1_count_105 : decode cX1_count 105 = .ok (.aload_n 0, 1) := dk_42 (dk_at dksX1_count_3 15 rfl rfl)
theorem dX1_count_106 : decode cX1_count 106 = .ok (.getfield 51, 3) := dk_180 0 51 (dk_at dksX1_count_3 16 rfl rfl)
theorem dX1_count_109 : decode cX1_count 109 = .ok (.getfield 245, 3) := dk_180 0 245 (dk_at dksX1_count_3 19 rfl rfl)
theorem dX1_count_112 : decode cX1_count 112 = .ok (.ireturn, 1) := dk_172 (dk_at dksX1_count_3 22 rfl rfl)
theorem dX1_count_113 : decode cX1_count 113 = .ok (.aload_n 0, 1) := dk_42 (dk_at dksX1_count_3 23 rfl rfl)
theorem dX1_count_114 : decode cX1_count 114 = .ok (.getfield 51, 3) := dk_180 0 51 (dk_at dksX1_count_4 0 rfl rfl)
theorem dX1_count_117 : decode cX1_count 117 = .ok (.getfield 254, 3) := dk_180 0 254 (dk_at dksX1_count_4 3 rfl rfl)
theorem dX1_count_120 : decode cX1_count 120 = .ok (.ireturn, 1) := dk_172 (dk_at dksX1_count_4 6 rfl rfl)
theorem dX1_count_121 : decode cX1_count 121 = .ok (.aload_n 0, 1) := dk_42 (dk_at dksX1_count_4 7 rfl rfl)
theorem dX1_count_122 : decode cX1_count 122 = .ok (.getfield 51, 3) := dk_180 0 51 (dk_at dksX1_count_4 8 rfl rfl)
theorem dX1_count_125 : decode cX1_count 125 = .ok (.getfield 251, 3) := dk_180 0 251 (dk_at dksX1_count_4 11 rfl rfl)
theorem dX1_count_128 : decode cX1_count 128 = .ok (.ireturn, 1) := dk_172 (dk_at dksX1_count_4 14 rfl rfl)
theorem dX1_count_129 : decode cX1_count 129 = .ok (.aload_n 0, 1) := dk_42 (dk_at dksX1_count_4 15 rfl rfl)
theorem dX1_count_130 : decode cX1_count 130 = .ok (.getfield 51, 3) := dk_180 0 51 (dk_at dksX1_count_4 16 rfl rfl)
theorem dX1_count_133 : decode cX1_count 133 = .ok (.getfield 177, 3) := dk_180 0 177 (dk_at dksX1_count_4 19 rfl rfl)
theorem dX1_count_136 : decode cX1_count 136 = .ok (.invokestatic 448, 3) := dk_184 1 192 (dk_at dksX1_count_5 0 rfl rfl)
theorem dX1_count_139 : decode cX1_count 139 = .ok (.ireturn, 1) := dk_172 (dk_at dksX1_count_5 3 rfl rfl)
theorem dX1_count_140 : decode cX1_count 140 = .ok (.aload_n 0, 1) := dk_42 (dk_at dksX1_count_5 4 rfl rfl)
theorem dX1_count_141 : decode cX1_count 141 = .ok (.getfield 51, 3) := dk_180 0 51 (dk_at dksX1_count_5 5 rfl rfl)
theorem dX1_count_144 : decode cX1_count 144 = .ok (.getfield 180, 3) := dk_180 0 180 (dk_at dksX1_count_5 8 rfl rfl)
theorem dX1_count_147 : decode cX1_count 147 = .ok (.invokestatic 448, 3) := dk_184 1 192 (dk_at dksX1_count_5 11 rfl rfl)
theorem dX1_count_150 : decode cX1_count 150 = .ok (.ireturn, 1) := dk_172 (dk_at dksX1_count_5 14 rfl rfl)
theorem dX1_count_151 : decode cX1_count 151 = .ok (.aload_n 0, 1) := dk_42 (dk_at dksX1_count_5 15 rfl rfl)
theorem dX1_count_152 : decode cX1_count 152 = .ok (.getfield 44, 3) := dk_180 0 44 (dk_at dksX1_count_5 16 rfl rfl)
theorem dX1_count_155 : decode cX1_count 155 = .ok (.invokevirtual 136, 3) := dk_182 0 136 (dk_at dksX1_count_5 19 rfl rfl)
theorem dX1_count_158 : decode cX1_count 158 = .ok (.ireturn, 1) := dk_172 (dk_at dksX1_count_5 22 rfl rfl)
theorem dX1_count_159 : decode cX1_count 159 = .ok (.aload_n 0, 1) := dk_42 (dk_at dksX1_count_5 23 rfl rfl)
theorem dX1_count_160 : decode cX1_count 160 = .ok (.getfield 123, 3) := dk_180 0 123 (dk_at dksX1_count_6 0 rfl rfl)
theorem dX1_count_163 : decode cX1_count 163 = .ok (.ireturn, 1) := dk_172 (dk_at dksX1_count_6 3 rfl rfl)
theorem dX1_count_164 : decode cX1_count 164 = .ok (.aload_n 0, 1) := dk_42 (dk_at dksX1_count_6 4 rfl rfl)
theorem dX1_count_165 : decode cX1_count 165 = .ok (.getfield 126, 3) := dk_180 0 126 (dk_at dksX1_count_6 5 rfl rfl)
theorem dX1_count_168 : decode cX1_count 168 = .ok (.ireturn, 1) := dk_172 (dk_at dksX1_count_6 8 rfl rfl)
theorem dX1_count_169 : decode cX1_count 169 = .ok (.aload_n 0, 1) := dk_42 (dk_at dksX1_count_6 9 rfl rfl)
theorem dX1_count_170 : decode cX1_count 170 = .ok (.getfield 105, 3) := dk_180 0 105 (dk_at dksX1_count_6 10 rfl rfl)
theorem dX1_count_173 : decode cX1_count 173 = .ok (.ireturn, 1) := dk_172 (dk_at dksX1_count_6 13 rfl rfl)
theorem dX1_count_174 : decode cX1_count 174 = .ok (.iconst (-1), 1) := dk_2 (dk_at dksX1_count_6 14 rfl rfl)
theorem dX1_count_175 : decode cX1_count 175 = .ok (.ireturn, 1) := dk_172 (dk_at dksX1_count_6 15 rfl rfl)
abbrev cX1_deeds : ByteArray := prog_1_method_48_code
def yX1_deeds : MethodName := ⟨RX1, "deeds", "(IIII)I"⟩
def dkwX1_deeds_7 : List UInt8 := [21, 6, 167, 0, 11, 21, 5, 29, 21, 4, 184, 1, 128, 172]
abbrev dktX1_deeds_7 : List UInt8 := dkwX1_deeds_7 ++ []
def dkwX1_deeds_6 : List UInt8 := [167, 0, 11, 21, 7, 54, 5, 21, 8, 54, 6, 132, 7, 1, 167, 255, 158, 21, 4, 2, 160, 0, 8]
abbrev dktX1_deeds_6 : List UInt8 := dkwX1_deeds_6 ++ dktX1_deeds_7
def dkwX1_deeds_5 : List UInt8 := [42, 180, 0, 55, 28, 182, 1, 135, 54, 8, 21, 5, 155, 0, 13, 21, 8, 21, 6, 163, 0, 6]
abbrev dktX1_deeds_5 : List UInt8 := dkwX1_deeds_5 ++ dktX1_deeds_6
def dkwX1_deeds_4 : List UInt8 := [182, 0, 152, 180, 0, 170, 21, 7, 29, 21, 8, 184, 1, 128, 182, 1, 131, 132, 8, 1, 167, 255, 222, 42]
abbrev dktX1_deeds_4 : List UInt8 := dkwX1_deeds_4 ++ dktX1_deeds_5
def dkwX1_deeds_3 : List UInt8 := [180, 0, 51, 182, 1, 32, 3, 54, 8, 21, 8, 29, 162, 0, 34, 42, 42, 180, 0, 55, 28, 42, 27]
abbrev dktX1_deeds_3 : List UInt8 := dkwX1_deeds_3 ++ dktX1_deeds_4
def dkwX1_deeds_2 : List UInt8 := [54, 5, 3, 54, 6, 3, 54, 7, 21, 7, 6, 29, 184, 1, 121, 162, 0, 94, 42, 180, 0, 55, 42]
abbrev dktX1_deeds_2 : List UInt8 := dkwX1_deeds_2 ++ dktX1_deeds_3
def dkwX1_deeds_1 : List UInt8 := [153, 0, 19, 21, 4, 2, 29, 4, 100, 184, 0, 148, 153, 0, 7, 4, 167, 0, 4, 3, 184, 1, 124, 2]
abbrev dktX1_deeds_1 : List UInt8 := dkwX1_deeds_1 ++ dktX1_deeds_2
def dkwX1_deeds_0 : List UInt8 := [42, 27, 182, 0, 163, 153, 0, 37, 42, 28, 182, 0, 163, 153, 0, 29, 29, 4, 16, 7, 184, 0, 148]
abbrev dktX1_deeds_0 : List UInt8 := dkwX1_deeds_0 ++ dktX1_deeds_1
theorem dksX1_deeds_0 : cX1_deeds.data.toList.drop 0 = dktX1_deeds_0 := by decide +kernel
theorem dksX1_deeds_1 : cX1_deeds.data.toList.drop 23 = dktX1_deeds_1 := dk_seg dksX1_deeds_0 23 rfl rfl
theorem dksX1_deeds_2 : cX1_deeds.data.toList.drop 47 = dktX1_deeds_2 := dk_seg dksX1_deeds_1 24 rfl rfl
theorem dksX1_deeds_3 : cX1_deeds.data.toList.drop 70 = dktX1_deeds_3 := dk_seg dksX1_deeds_2 23 rfl rfl
theorem dksX1_deeds_4 : cX1_deeds.data.toList.drop 93 = dktX1_deeds_4 := dk_seg dksX1_deeds_3 23 rfl rfl
theorem dksX1_deeds_5 : cX1_deeds.data.toList.drop 117 = dktX1_deeds_5 := dk_seg dksX1_deeds_4 24 rfl rfl
theorem dksX1_deeds_6 : cX1_deeds.data.toList.drop 139 = dktX1_deeds_6 := dk_seg dksX1_deeds_5 22 rfl rfl
theorem dksX1_deeds_7 : cX1_deeds.data.toList.drop 162 = dktX1_deeds_7 := dk_seg dksX1_deeds_6 23 rfl rfl
theorem dX1_deeds_0 : decode cX1_deeds 0 = .ok (.aload_n 0, 1) := dk_42 (dk_at dksX1_deeds_0 0 rfl rfl)
theorem dX1_deeds_1 : decode cX1_deeds 1 = .ok (.iload_n 1, 1) := dk_27 (dk_at dksX1_deeds_0 1 rfl rfl)
theorem dX1_deeds_2 : decode cX1_deeds 2 = .ok (.invokevirtual 163, 3) := dk_182 0 163 (dk_at dksX1_deeds_0 2 rfl rfl)
theorem dX1_deeds_5 : decode cX1_deeds 5 = .ok (.ifCond .eq 37, 3) := dk_153 0 37 (dk_at dksX1_deeds_0 5 rfl rfl)
theorem dX1_deeds_8 : decode cX1_deeds 8 = .ok (.aload_n 0, 1) := dk_42 (dk_at dksX1_deeds_0 8 rfl rfl)
theorem dX1_deeds_9 : decode cX1_deeds 9 = .ok (.iload_n 2, 1) := dk_28 (dk_at dksX1_deeds_0 9 rfl rfl)
theorem dX1_deeds_10 : decode cX1_deeds 10 = .ok (.invokevirtual 163, 3) := dk_182 0 163 (dk_at dksX1_deeds_0 10 rfl rfl)
theorem dX1_deeds_13 : decode cX1_deeds 13 = .ok (.ifCond .eq 29, 3) := dk_153 0 29 (dk_at dksX1_deeds_0 13 rfl rfl)
theorem dX1_deeds_16 : decode cX1_deeds 16 = .ok (.iload_n 3, 1) := dk_29 (dk_at dksX1_deeds_0 16 rfl rfl)
theorem dX1_deeds_17 : decode cX1_deeds 17 = .ok (.iconst 1, 1) := dk_4 (dk_at dksX1_deeds_0 17 rfl rfl)
theorem dX1_deeds_18 : decode cX1_deeds 18 = .ok (.bipush 7, 2) := dk_16 7 (dk_at dksX1_deeds_0 18 rfl rfl)
theorem dX1_deeds_20 : decode cX1_deeds 20 = .ok (.invokestatic 148, 3) := dk_184 0 148 (dk_at dksX1_deeds_0 20 rfl rfl)
theorem dX1_deeds_23 : decode cX1_deeds 23 = .ok (.ifCond .eq 19, 3) := dk_153 0 19 (dk_at dksX1_deeds_1 0 rfl rfl)
theorem dX1_deeds_26 : decode cX1_deeds 26 = .ok (.iload 4, 2) := dk_21 4 (dk_at dksX1_deeds_1 3 rfl rfl)
theorem dX1_deeds_28 : decode cX1_deeds 28 = .ok (.iconst (-1), 1) := dk_2 (dk_at dksX1_deeds_1 5 rfl rfl)
theorem dX1_deeds_29 : decode cX1_deeds 29 = .ok (.iload_n 3, 1) := dk_29 (dk_at dksX1_deeds_1 6 rfl rfl)
theorem dX1_deeds_30 : decode cX1_deeds 30 = .ok (.iconst 1, 1) := dk_4 (dk_at dksX1_deeds_1 7 rfl rfl)
theorem dX1_deeds_31 : decode cX1_deeds 31 = .ok (.isub, 1) := dk_100 (dk_at dksX1_deeds_1 8 rfl rfl)
theorem dX1_deeds_32 : decode cX1_deeds 32 = .ok (.invokestatic 148, 3) := dk_184 0 148 (dk_at dksX1_deeds_1 9 rfl rfl)
theorem dX1_deeds_35 : decode cX1_deeds 35 = .ok (.ifCond .eq 7, 3) := dk_153 0 7 (dk_at dksX1_deeds_1 12 rfl rfl)
theorem dX1_deeds_38 : decode cX1_deeds 38 = .ok (.iconst 1, 1) := dk_4 (dk_at dksX1_deeds_1 15 rfl rfl)
theorem dX1_deeds_39 : decode cX1_deeds 39 = .ok (.goto 4, 3) := dk_167 0 4 (dk_at dksX1_deeds_1 16 rfl rfl)
theorem dX1_deeds_42 : decode cX1_deeds 42 = .ok (.iconst 0, 1) := dk_3 (dk_at dksX1_deeds_1 19 rfl rfl)
theorem dX1_deeds_43 : decode cX1_deeds 43 = .ok (.invokestatic 380, 3) := dk_184 1 124 (dk_at dksX1_deeds_1 20 rfl rfl)
theorem dX1_deeds_46 : decode cX1_deeds 46 = .ok (.iconst (-1), 1) := dk_2 (dk_at dksX1_deeds_1 23 rfl rfl)
theorem dX1_deeds_47 : decode cX1_deeds 47 = .ok (.istore 5, 2) := dk_54 5 (dk_at dksX1_deeds_2 0 rfl rfl)
theorem dX1_deeds_49 : decode cX1_deeds 49 = .ok (.iconst 0, 1) := dk_3 (dk_at dksX1_deeds_2 2 rfl rfl)
theorem dX1_deeds_50 : decode cX1_deeds 50 = .ok (.istore 6, 2) := dk_54 6 (dk_at dksX1_deeds_2 3 rfl rfl)
theorem dX1_deeds_52 : decode cX1_deeds 52 = .ok (.iconst 0, 1) := dk_3 (dk_at dksX1_deeds_2 5 rfl rfl)
theorem dX1_deeds_53 : decode cX1_deeds 53 = .ok (.istore 7, 2) := dk_54 7 (dk_at dksX1_deeds_2 6 rfl rfl)
theorem dX1_deeds_55 : decode cX1_deeds 55 = .ok (.iload 7, 2) := dk_21 7 (dk_at dksX1_deeds_2 8 rfl rfl)
theorem dX1_deeds_57 : decode cX1_deeds 57 = .ok (.iconst 3, 1) := dk_6 (dk_at dksX1_deeds_2 10 rfl rfl)
theorem dX1_deeds_58 : decode cX1_deeds 58 = .ok (.iload_n 3, 1) := dk_29 (dk_at dksX1_deeds_2 11 rfl rfl)
theorem dX1_deeds_59 : decode cX1_deeds 59 = .ok (.invokestatic 377, 3) := dk_184 1 121 (dk_at dksX1_deeds_2 12 rfl rfl)
theorem dX1_deeds_62 : decode cX1_deeds 62 = .ok (.if_icmp .ge 94, 3) := dk_162 0 94 (dk_at dksX1_deeds_2 15 rfl rfl)
theorem dX1_deeds_65 : decode cX1_deeds 65 = .ok (.aload_n 0, 1) := dk_42 (dk_at dksX1_deeds_2 18 rfl rfl)
theorem dX1_deeds_66 : decode cX1_deeds 66 = .ok (.getfield 55, 3) := dk_180 0 55 (dk_at dksX1_deeds_2 19 rfl rfl)
theorem dX1_deeds_69 : decode cX1_deeds 69 = .ok (.aload_n 0, 1) := dk_42 (dk_at dksX1_deeds_2 22 rfl rfl)
theorem dX1_deeds_70 : decode cX1_deeds 70 = .ok (.getfield 51, 3) := dk_180 0 51 (dk_at dksX1_deeds_3 0 rfl rfl)
theorem dX1_deeds_73 : decode cX1_deeds 73 = .ok (.invokevirtual 288, 3) := dk_182 1 32 (dk_at dksX1_deeds_3 3 rfl rfl)
theorem dX1_deeds_76 : decode cX1_deeds 76 = .ok (.iconst 0, 1) := dk_3 (dk_at dksX1_deeds_3 6 rfl rfl)
theorem dX1_deeds_77 : decode cX1_deeds 77 = .ok (.istore 8, 2) := dk_54 8 (dk_at dksX1_deeds_3 7 rfl rfl)
theorem dX1_deeds_79 : decode cX1_deeds 79 = .ok (.iload 8, 2) := dk_21 8 (dk_at dksX1_deeds_3 9 rfl rfl)
theorem dX1_deeds_81 : decode cX1_deeds 81 = .ok (.iload_n 3, 1) := dk_29 (dk_at dksX1_deeds_3 11 rfl rfl)
theorem dX1_deeds_82 : decode cX1_deeds 82 = .ok (.if_icmp .ge 34, 3) := dk_162 0 34 (dk_at dksX1_deeds_3 12 rfl rfl)
theorem dX1_deeds_85 : decode cX1_deeds 85 = .ok (.aload_n 0, 1) := dk_42 (dk_at dksX1_deeds_3 15 rfl rfl)
theorem dX1_deeds_86 : decode cX1_deeds 86 = .ok (.aload_n 0, 1) := dk_42 (dk_at dksX1_deeds_3 16 rfl rfl)
theorem dX1_deeds_87 : decode cX1_deeds 87 = .ok (.getfield 55, 3) := dk_180 0 55 (dk_at dksX1_deeds_3 17 rfl rfl)
theorem dX1_deeds_90 : decode cX1_deeds 90 = .ok (.iload_n 2, 1) := dk_28 (dk_at dksX1_deeds_3 20 rfl rfl)
theorem dX1_deeds_91 : decode cX1_deeds 91 = .ok (.aload_n 0, 1) := dk_42 (dk_at dksX1_deeds_3 21 rfl rfl)
theorem dX1_deeds_92 : decode cX1_deeds 92 = .ok (.iload_n 1, 1) := dk_27 (dk_at dksX1_deeds_3 22 rfl rfl)
theorem dX1_deeds_93 : decode cX1_deeds 93 = .ok (.invokevirtual 152, 3) := dk_182 0 152 (dk_at dksX1_deeds_4 0 rfl rfl)
theorem dX1_deeds_96 : decode cX1_deeds 96 = .ok (.getfield 170, 3) := dk_180 0 170 (dk_at dksX1_deeds_4 3 rfl rfl)
theorem dX1_deeds_99 : decode cX1_deeds 99 = .ok (.iload 7, 2) := dk_21 7 (dk_at dksX1_deeds_4 6 rfl rfl)
theorem dX1_deeds_101 : decode cX1_deeds 101 = .ok (.iload_n 3, 1) := dk_29 (dk_at dksX1_deeds_4 8 rfl rfl)
theorem dX1_deeds_102 : decode cX1_deeds 102 = .ok (.iload 8, 2) := dk_21 8 (dk_at dksX1_deeds_4 9 rfl rfl)
theorem dX1_deeds_104 : decode cX1_deeds 104 = .ok (.invokestatic 384, 3) := dk_184 1 128 (dk_at dksX1_deeds_4 11 rfl rfl)
theorem dX1_deeds_107 : decode cX1_deeds 107 = .ok (.invokevirtual 387, 3) := dk_182 1 131 (dk_at dksX1_deeds_4 14 rfl rfl)
theorem dX1_deeds_110 : decode cX1_deeds 110 = .ok (.iinc 8 1, 3) := dk_132 8 1 (dk_at dksX1_deeds_4 17 rfl rfl)
theorem dX1_deeds_113 : decode cX1_deeds 113 = .ok (.goto (-34), 3) := dk_167 255 222 (dk_at dksX1_deeds_4 20 rfl rfl)
theorem dX1_deeds_116 : decode cX1_deeds 116 = .ok (.aload_n 0, 1) := dk_42 (dk_at dksX1_deeds_4 23 rfl rfl)
theorem dX1_deeds_117 : decode cX1_deeds 117 = .ok (.aload_n 0, 1) := dk_42 (dk_at dksX1_deeds_5 0 rfl rfl)
theorem dX1_deeds_118 : decode cX1_deeds 118 = .ok (.getfield 55, 3) := dk_180 0 55 (dk_at dksX1_deeds_5 1 rfl rfl)
theorem dX1_deeds_121 : decode cX1_deeds 121 = .ok (.iload_n 2, 1) := dk_28 (dk_at dksX1_deeds_5 4 rfl rfl)
theorem dX1_deeds_122 : decode cX1_deeds 122 = .ok (.invokevirtual 391, 3) := dk_182 1 135 (dk_at dksX1_deeds_5 5 rfl rfl)
theorem dX1_deeds_125 : decode cX1_deeds 125 = .ok (.istore 8, 2) := dk_54 8 (dk_at dksX1_deeds_5 8 rfl rfl)
theorem dX1_deeds_127 : decode cX1_deeds 127 = .ok (.iload 5, 2) := dk_21 5 (dk_at dksX1_deeds_5 10 rfl rfl)
theorem dX1_deeds_129 : decode cX1_deeds 129 = .ok (.ifCond .lt 13, 3) := dk_155 0 13 (dk_at dksX1_deeds_5 12 rfl rfl)
theorem dX1_deeds_132 : decode cX1_deeds 132 = .ok (.iload 8, 2) := dk_21 8 (dk_at dksX1_deeds_5 15 rfl rfl)
theorem dX1_deeds_134 : decode cX1_deeds 134 = .ok (.iload 6, 2) := dk_21 6 (dk_at dksX1_deeds_5 17 rfl rfl)
theorem dX1_deeds_136 : decode cX1_deeds 136 = .ok (.if_icmp .gt 6, 3) := dk_163 0 6 (dk_at dksX1_deeds_5 19 rfl rfl)
theorem dX1_deeds_139 : decode cX1_deeds 139 = .ok (.goto 11, 3) := dk_167 0 11 (dk_at dksX1_deeds_6 0 rfl rfl)
theorem dX1_deeds_142 : decode cX1_deeds 142 = .ok (.iload 7, 2) := dk_21 7 (dk_at dksX1_deeds_6 3 rfl rfl)
theorem dX1_deeds_144 : decode cX1_deeds 144 = .ok (.istore 5, 2) := dk_54 5 (dk_at dksX1_deeds_6 5 rfl rfl)
theorem dX1_deeds_146 : decode cX1_deeds 146 = .ok (.iload 8, 2) := dk_21 8 (dk_at dksX1_deeds_6 7 rfl rfl)
theorem dX1_deeds_148 : decode cX1_deeds 148 = .ok (.istore 6, 2) := dk_54 6 (dk_at dksX1_deeds_6 9 rfl rfl)
theorem dX1_deeds_150 : decode cX1_deeds 150 = .ok (.iinc 7 1, 3) := dk_132 7 1 (dk_at dksX1_deeds_6 11 rfl rfl)
theorem dX1_deeds_153 : decode cX1_deeds 153 = .ok (.goto (-98), 3) := dk_167 255 158 (dk_at dksX1_deeds_6 14 rfl rfl)
theorem dX1_deeds_156 : decode cX1_deeds 156 = .ok (.iload 4, 2) := dk_21 4 (dk_at dksX1_deeds_6 17 rfl rfl)
theorem dX1_deeds_158 : decode cX1_deeds 158 = .ok (.iconst (-1), 1) := dk_2 (dk_at dksX1_deeds_6 19 rfl rfl)
theorem dX1_deeds_159 : decode cX1_deeds 159 = .ok (.if_icmp .ne 8, 3) := dk_160 0 8 (dk_at dksX1_deeds_6 20 rfl rfl)
theorem dX1_deeds_162 : decode cX1_deeds 162 = .ok (.iload 6, 2) := dk_21 6 (dk_at dksX1_deeds_7 0 rfl rfl)
theorem dX1_deeds_164 : decode cX1_deeds 164 = .ok (.goto 11, 3) := dk_167 0 11 (dk_at dksX1_deeds_7 2 rfl rfl)
theorem dX1_deeds_167 : decode cX1_deeds 167 = .ok (.iload 5, 2) := dk_21 5 (dk_at dksX1_deeds_7 5 rfl rfl)
theorem dX1_deeds_169 : decode cX1_deeds 169 = .ok (.iload_n 3, 1) := dk_29 (dk_at dksX1_deeds_7 7 rfl rfl)
theorem dX1_deeds_170 : decode cX1_deeds 170 = .ok (.iload 4, 2) := dk_21 4 (dk_at dksX1_deeds_7 8 rfl rfl)
theorem dX1_deeds_172 : decode cX1_deeds 172 = .ok (.invokestatic 384, 3) := dk_184 1 128 (dk_at dksX1_deeds_7 10 rfl rfl)
theorem dX1_deeds_175 : decode cX1_deeds 175 = .ok (.ireturn, 1) := dk_172 (dk_at dksX1_deeds_7 13 rfl rfl)
abbrev cX1_need : ByteArray := prog_1_method_4_code
def yX1_need : MethodName := ⟨RX1, "need", "(Z)V"⟩
def dkwX1_need_0 : List UInt8 := [26, 154, 0, 11, 187, 0, 10, 89, 183, 0, 12, 191, 177]
abbrev dktX1_need_0 : List UInt8 := dkwX1_need_0 ++ []
theorem dksX1_need_0 : cX1_need.data.toList.drop 0 = dktX1_need_0 := by decide +kernel
theorem dX1_need_0 : decode cX1_need 0 = .ok (.iload_n 0, 1) := dk_26 (dk_at dksX1_need_0 0 rfl rfl)
theorem dX1_need_1 : decode cX1_need 1 = .ok (.ifCond .ne 11, 3) := dk_154 0 11 (dk_at dksX1_need_0 1 rfl rfl)
theorem dX1_need_4 : decode cX1_need 4 = .ok (.new 10, 3) := dk_187 0 10 (dk_at dksX1_need_0 4 rfl rfl)
theorem dX1_need_7 : decode cX1_need 7 = .ok (.dup, 1) := dk_89 (dk_at dksX1_need_0 7 rfl rfl)
theorem dX1_need_8 : decode cX1_need 8 = .ok (.invokespecial 12, 3) := dk_183 0 12 (dk_at dksX1_need_0 8 rfl rfl)
theorem dX1_need_11 : decode cX1_need 11 = .ok (.athrow, 1) := dk_191 (dk_at dksX1_need_0 11 rfl rfl)
theorem dX1_need_12 : decode cX1_need 12 = .ok (.return_, 1) := dk_177 (dk_at dksX1_need_0 12 rfl rfl)
abbrev cX1_power : ByteArray := prog_1_method_45_code
def yX1_power : MethodName := ⟨RX1, "power", "(II)I"⟩
def dkwX1_power_0 : List UInt8 := [4, 61, 3, 62, 29, 27, 162, 0, 13, 28, 26, 104, 61, 132, 3, 1, 167, 255, 244, 28, 172]
abbrev dktX1_power_0 : List UInt8 := dkwX1_power_0 ++ []
theorem dksX1_power_0 : cX1_power.data.toList.drop 0 = dktX1_power_0 := by decide +kernel
theorem dX1_power_0 : decode cX1_power 0 = .ok (.iconst 1, 1) := dk_4 (dk_at dksX1_power_0 0 rfl rfl)
theorem dX1_power_1 : decode cX1_power 1 = .ok (.istore_n 2, 1) := dk_61 (dk_at dksX1_power_0 1 rfl rfl)
theorem dX1_power_2 : decode cX1_power 2 = .ok (.iconst 0, 1) := dk_3 (dk_at dksX1_power_0 2 rfl rfl)
theorem dX1_power_3 : decode cX1_power 3 = .ok (.istore_n 3, 1) := dk_62 (dk_at dksX1_power_0 3 rfl rfl)
theorem dX1_power_4 : decode cX1_power 4 = .ok (.iload_n 3, 1) := dk_29 (dk_at dksX1_power_0 4 rfl rfl)
theorem dX1_power_5 : decode cX1_power 5 = .ok (.iload_n 1, 1) := dk_27 (dk_at dksX1_power_0 5 rfl rfl)
theorem dX1_power_6 : decode cX1_power 6 = .ok (.if_icmp .ge 13, 3) := dk_162 0 13 (dk_at dksX1_power_0 6 rfl rfl)
theorem dX1_power_9 : decode cX1_power 9 = .ok (.iload_n 2, 1) := dk_28 (dk_at dksX1_power_0 9 rfl rfl)
theorem dX1_power_10 : decode cX1_power 10 = .ok (.iload_n 0, 1) := dk_26 (dk_at dksX1_power_0 10 rfl rfl)
theorem dX1_power_11 : decode cX1_power 11 = .ok (.imul, 1) := dk_104 (dk_at dksX1_power_0 11 rfl rfl)
theorem dX1_power_12 : decode cX1_power 12 = .ok (.istore_n 2, 1) := dk_61 (dk_at dksX1_power_0 12 rfl rfl)
theorem dX1_power_13 : decode cX1_power 13 = .ok (.iinc 3 1, 3) := dk_132 3 1 (dk_at dksX1_power_0 13 rfl rfl)
theorem dX1_power_16 : decode cX1_power 16 = .ok (.goto (-12), 3) := dk_167 255 244 (dk_at dksX1_power_0 16 rfl rfl)
theorem dX1_power_19 : decode cX1_power 19 = .ok (.iload_n 2, 1) := dk_28 (dk_at dksX1_power_0 19 rfl rfl)
theorem dX1_power_20 : decode cX1_power 20 = .ok (.ireturn, 1) := dk_172 (dk_at dksX1_power_0 20 rfl rfl)
abbrev cX1_deedIn : ByteArray := prog_1_method_46_code
def yX1_deedIn : MethodName := ⟨RX1, "deedIn", "(III)I"⟩
def dkwX1_deedIn_0 : List UInt8 := [26, 6, 27, 4, 100, 28, 100, 184, 1, 121, 108, 6, 112, 172]
abbrev dktX1_deedIn_0 : List UInt8 := dkwX1_deedIn_0 ++ []
theorem dksX1_deedIn_0 : cX1_deedIn.data.toList.drop 0 = dktX1_deedIn_0 := by decide +kernel
theorem dX1_deedIn_0 : decode cX1_deedIn 0 = .ok (.iload_n 0, 1) := dk_26 (dk_at dksX1_deedIn_0 0 rfl rfl)
theorem dX1_deedIn_1 : decode cX1_deedIn 1 = .ok (.iconst 3, 1) := dk_6 (dk_at dksX1_deedIn_0 1 rfl rfl)
theorem dX1_deedIn_2 : decode cX1_deedIn 2 = .ok (.iload_n 1, 1) := dk_27 (dk_at dksX1_deedIn_0 2 rfl rfl)
theorem dX1_deedIn_3 : decode cX1_deedIn 3 = .ok (.iconst 1, 1) := dk_4 (dk_at dksX1_deedIn_0 3 rfl rfl)
theorem dX1_deedIn_4 : decode cX1_deedIn 4 = .ok (.isub, 1) := dk_100 (dk_at dksX1_deedIn_0 4 rfl rfl)
theorem dX1_deedIn_5 : decode cX1_deedIn 5 = .ok (.iload_n 2, 1) := dk_28 (dk_at dksX1_deedIn_0 5 rfl rfl)
theorem dX1_deedIn_6 : decode cX1_deedIn 6 = .ok (.isub, 1) := dk_100 (dk_at dksX1_deedIn_0 6 rfl rfl)
theorem dX1_deedIn_7 : decode cX1_deedIn 7 = .ok (.invokestatic 377, 3) := dk_184 1 121 (dk_at dksX1_deedIn_0 7 rfl rfl)
theorem dX1_deedIn_10 : decode cX1_deedIn 10 = .ok (.idiv, 1) := dk_108 (dk_at dksX1_deedIn_0 10 rfl rfl)
theorem dX1_deedIn_11 : decode cX1_deedIn 11 = .ok (.iconst 3, 1) := dk_6 (dk_at dksX1_deedIn_0 11 rfl rfl)
theorem dX1_deedIn_12 : decode cX1_deedIn 12 = .ok (.irem, 1) := dk_112 (dk_at dksX1_deedIn_0 12 rfl rfl)
theorem dX1_deedIn_13 : decode cX1_deedIn 13 = .ok (.ireturn, 1) := dk_172 (dk_at dksX1_deedIn_0 13 rfl rfl)
abbrev cX1_does : ByteArray := prog_1_method_47_code
def yX1_does : MethodName := ⟨RX1, "does", "(LBorrowedLives$State;III)V"⟩
def dkwX1_does_4 : List UInt8 := [177]
abbrev dktX1_does_4 : List UInt8 := dkwX1_does_4 ++ []
def dkwX1_does_3 : List UInt8 := [28, 16, 9, 43, 180, 0, 183, 28, 46, 29, 7, 164, 0, 7, 5, 167, 0, 4, 4, 96, 184, 0, 1, 79]
abbrev dktX1_does_3 : List UInt8 := dkwX1_does_3 ++ dktX1_does_4
def dkwX1_does_2 : List UInt8 := [92, 46, 21, 5, 100, 79, 43, 180, 0, 177, 28, 92, 46, 21, 5, 100, 79, 167, 0, 31, 43, 180, 0, 183]
abbrev dktX1_does_2 : List UInt8 := dkwX1_does_2 ++ dktX1_does_3
def dkwX1_does_1 : List UInt8 := [180, 0, 180, 28, 46, 43, 180, 0, 177, 28, 46, 184, 0, 1, 184, 0, 1, 54, 5, 43, 180, 0, 180, 28]
abbrev dktX1_does_1 : List UInt8 := dkwX1_does_1 ++ dktX1_does_2
def dkwX1_does_0 : List UInt8 := [21, 4, 154, 0, 12, 43, 28, 29, 182, 0, 225, 167, 0, 84, 21, 4, 4, 160, 0, 50, 16, 10, 43]
abbrev dktX1_does_0 : List UInt8 := dkwX1_does_0 ++ dktX1_does_1
theorem dksX1_does_0 : cX1_does.data.toList.drop 0 = dktX1_does_0 := by decide +kernel
theorem dksX1_does_1 : cX1_does.data.toList.drop 23 = dktX1_does_1 := dk_seg dksX1_does_0 23 rfl rfl
theorem dksX1_does_2 : cX1_does.data.toList.drop 47 = dktX1_does_2 := dk_seg dksX1_does_1 24 rfl rfl
theorem dksX1_does_3 : cX1_does.data.toList.drop 71 = dktX1_does_3 := dk_seg dksX1_does_2 24 rfl rfl
theorem dksX1_does_4 : cX1_does.data.toList.drop 95 = dktX1_does_4 := dk_seg dksX1_does_3 24 rfl rfl
theorem dX1_does_0 : decode cX1_does 0 = .ok (.iload 4, 2) := dk_21 4 (dk_at dksX1_does_0 0 rfl rfl)
theorem dX1_does_2 : decode cX1_does 2 = .ok (.ifCond .ne 12, 3) := dk_154 0 12 (dk_at dksX1_does_0 2 rfl rfl)
theorem dX1_does_5 : decode cX1_does 5 = .ok (.aload_n 1, 1) := dk_43 (dk_at dksX1_does_0 5 rfl rfl)
theorem dX1_does_6 : decode cX1_does 6 = .ok (.iload_n 2, 1) := dk_28 (dk_at dksX1_does_0 6 rfl rfl)
theorem dX1_does_7 : decode cX1_does 7 = .ok (.iload_n 3, 1) := dk_29 (dk_at dksX1_does_0 7 rfl rfl)
theorem dX1_does_8 : decode cX1_does 8 = .ok (.invokevirtual 225, 3) := dk_182 0 225 (dk_at dksX1_does_0 8 rfl rfl)
theorem dX1_does_11 : decode cX1_does 11 = .ok (.goto 84, 3) := dk_167 0 84 (dk_at dksX1_does_0 11 rfl rfl)
theorem dX1_does_14 : decode cX1_does 14 = .ok (.iload 4, 2) := dk_21 4 (dk_at dksX1_does_0 14 rfl rfl)
theorem dX1_does_16 : decode cX1_does 16 = .ok (.iconst 1, 1) := dk_4 (dk_at dksX1_does_0 16 rfl rfl)
theorem dX1_does_17 : decode cX1_does 17 = .ok (.if_icmp .ne 50, 3) := dk_160 0 50 (dk_at dksX1_does_0 17 rfl rfl)
theorem dX1_does_20 : decode cX1_does 20 = .ok (.bipush 10, 2) := dk_16 10 (dk_at dksX1_does_0 20 rfl rfl)
theorem dX1_does_22 : decode cX1_does 22 = .ok (.aload_n 1, 1) := dk_43 (dk_at dksX1_does_0 22 rfl rfl)
theorem dX1_does_23 : decode cX1_does 23 = .ok (.getfield 180, 3) := dk_180 0 180 (dk_at dksX1_does_1 0 rfl rfl)
theorem dX1_does_26 : decode cX1_does 26 = .ok (.iload_n 2, 1) := dk_28 (dk_at dksX1_does_1 3 rfl rfl)
theorem dX1_does_27 : decode cX1_does 27 = .ok (.iaload, 1) := dk_46 (dk_at dksX1_does_1 4 rfl rfl)
theorem dX1_does_28 : decode cX1_does 28 = .ok (.aload_n 1, 1) := dk_43 (dk_at dksX1_does_1 5 rfl rfl)
theorem dX1_does_29 : decode cX1_does 29 = .ok (.getfield 177, 3) := dk_180 0 177 (dk_at dksX1_does_1 6 rfl rfl)
theorem dX1_does_32 : decode cX1_does 32 = .ok (.iload_n 2, 1) := dk_28 (dk_at dksX1_does_1 9 rfl rfl)
theorem dX1_does_33 : decode cX1_does 33 = .ok (.iaload, 1) := dk_46 (dk_at dksX1_does_1 10 rfl rfl)
theorem dX1_does_34 : decode cX1_does 34 = .ok (.invokestatic 1, 3) := dk_184 0 1 (dk_at dksX1_does_1 11 rfl rfl)
theorem dX1_does_37 : decode cX1_does 37 = .ok (.invokestatic 1, 3) := dk_184 0 1 (dk_at dksX1_does_1 14 rfl rfl)
theorem dX1_does_40 : decode cX1_does 40 = .ok (.istore 5, 2) := dk_54 5 (dk_at dksX1_does_1 17 rfl rfl)
theorem dX1_does_42 : decode cX1_does 42 = .ok (.aload_n 1, 1) := dk_43 (dk_at dksX1_does_1 19 rfl rfl)
theorem dX1_does_43 : decode cX1_does 43 = .ok (.getfield 180, 3) := dk_180 0 180 (dk_at dksX1_does_1 20 rfl rfl)
theorem dX1_does_46 : decode cX1_does 46 = .ok (.iload_n 2, 1) := dk_28 (dk_at dksX1_does_1 23 rfl rfl)
theorem dX1_does_47 : decode cX1_does 47 = .ok (.dup2, 1) := dk_92 (dk_at dksX1_does_2 0 rfl rfl)
theorem dX1_does_48 : decode cX1_does 48 = .ok (.iaload, 1) := dk_46 (dk_at dksX1_does_2 1 rfl rfl)
theorem dX1_does_49 : decode cX1_does 49 = .ok (.iload 5, 2) := dk_21 5 (dk_at dksX1_does_2 2 rfl rfl)
theorem dX1_does_51 : decode cX1_does 51 = .ok (.isub, 1) := dk_100 (dk_at dksX1_does_2 4 rfl rfl)
theorem dX1_does_52 : decode cX1_does 52 = .ok (.iastore, 1) := dk_79 (dk_at dksX1_does_2 5 rfl rfl)
theorem dX1_does_53 : decode cX1_does 53 = .ok (.aload_n 1, 1) := dk_43 (dk_at dksX1_does_2 6 rfl rfl)
theorem dX1_does_54 : decode cX1_does 54 = .ok (.getfield 177, 3) := dk_180 0 177 (dk_at dksX1_does_2 7 rfl rfl)
theorem dX1_does_57 : decode cX1_does 57 = .ok (.iload_n 2, 1) := dk_28 (dk_at dksX1_does_2 10 rfl rfl)
theorem dX1_does_58 : decode cX1_does 58 = .ok (.dup2, 1) := dk_92 (dk_at dksX1_does_2 11 rfl rfl)
theorem dX1_does_59 : decode cX1_does 59 = .ok (.iaload, 1) := dk_46 (dk_at dksX1_does_2 12 rfl rfl)
theorem dX1_does_60 : decode cX1_does 60 = .ok (.iload 5, 2) := dk_21 5 (dk_at dksX1_does_2 13 rfl rfl)
theorem dX1_does_62 : decode cX1_does 62 = .ok (.isub, 1) := dk_100 (dk_at dksX1_does_2 15 rfl rfl)
theorem dX1_does_63 : decode cX1_does 63 = .ok (.iastore, 1) := dk_79 (dk_at dksX1_does_2 16 rfl rfl)
theorem dX1_does_64 : decode cX1_does 64 = .ok (.goto 31, 3) := dk_167 0 31 (dk_at dksX1_does_2 17 rfl rfl)
theorem dX1_does_67 : decode cX1_does 67 = .ok (.aload_n 1, 1) := dk_43 (dk_at dksX1_does_2 20 rfl rfl)
theorem dX1_does_68 : decode cX1_does 68 = .ok (.getfield 183, 3) := dk_180 0 183 (dk_at dksX1_does_2 21 rfl rfl)
theorem dX1_does_71 : decode cX1_does 71 = .ok (.iload_n 2, 1) := dk_28 (dk_at dksX1_does_3 0 rfl rfl)
theorem dX1_does_72 : decode cX1_does 72 = .ok (.bipush 9, 2) := dk_16 9 (dk_at dksX1_does_3 1 rfl rfl)
theorem dX1_does_74 : decode cX1_does 74 = .ok (.aload_n 1, 1) := dk_43 (dk_at dksX1_does_3 3 rfl rfl)
theorem dX1_does_75 : decode cX1_does 75 = .ok (.getfield 183, 3) := dk_180 0 183 (dk_at dksX1_does_3 4 rfl rfl)
theorem dX1_does_78 : decode cX1_does 78 = .ok (.iload_n 2, 1) := dk_28 (dk_at dksX1_does_3 7 rfl rfl)
theorem dX1_does_79 : decode cX1_does 79 = .ok (.iaload, 1) := dk_46 (dk_at dksX1_does_3 8 rfl rfl)
theorem dX1_does_80 : decode cX1_does 80 = .ok (.iload_n 3, 1) := dk_29 (dk_at dksX1_does_3 9 rfl rfl)
theorem dX1_does_81 : decode cX1_does 81 = .ok (.iconst 4, 1) := dk_7 (dk_at dksX1_does_3 10 rfl rfl)
theorem dX1_does_82 : decode cX1_does 82 = .ok (.if_icmp .le 7, 3) := dk_164 0 7 (dk_at dksX1_does_3 11 rfl rfl)
theorem dX1_does_85 : decode cX1_does 85 = .ok (.iconst 2, 1) := dk_5 (dk_at dksX1_does_3 14 rfl rfl)
theorem dX1_does_86 : decode cX1_does 86 = .ok (.goto 4, 3) := dk_167 0 4 (dk_at dksX1_does_3 15 rfl rfl)
theorem dX1_does_89 : decode cX1_does 89 = .ok (.iconst 1, 1) := dk_4 (dk_at dksX1_does_3 18 rfl rfl)
theorem dX1_does_90 : decode cX1_does 90 = .ok (.iadd, 1) := dk_96 (dk_at dksX1_does_3 19 rfl rfl)
theorem dX1_does_91 : decode cX1_does 91 = .ok (.invokestatic 1, 3) := dk_184 0 1 (dk_at dksX1_does_3 20 rfl rfl)
theorem dX1_does_94 : decode cX1_does 94 = .ok (.iastore, 1) := dk_79 (dk_at dksX1_does_3 23 rfl rfl)
theorem dX1_does_95 : decode cX1_does 95 = .ok (.return_, 1) := dk_177 (dk_at dksX1_does_4 0 rfl rfl)
abbrev cX1_goodOf : ByteArray := prog_1_method_44_code
def yX1_goodOf : MethodName := ⟨RX1, "goodOf", "(LBorrowedLives$State;I)I"⟩
def dkwX1_goodOf_2 : List UInt8 := [180, 0, 35, 180, 1, 118, 42, 180, 0, 61, 182, 0, 213, 172]
abbrev dktX1_goodOf_2 : List UInt8 := dkwX1_goodOf_2 ++ []
def dkwX1_goodOf_1 : List UInt8 := [42, 180, 0, 61, 4, 46, 5, 104, 100, 42, 180, 0, 61, 5, 46, 16, 10, 104, 96, 167, 0, 17, 42]
abbrev dktX1_goodOf_1 : List UInt8 := dkwX1_goodOf_1 ++ dktX1_goodOf_2
def dkwX1_goodOf_0 : List UInt8 := [42, 43, 28, 28, 3, 182, 0, 205, 42, 180, 0, 35, 180, 1, 118, 199, 0, 31, 42, 180, 0, 61, 3, 46]
abbrev dktX1_goodOf_0 : List UInt8 := dkwX1_goodOf_0 ++ dktX1_goodOf_1
theorem dksX1_goodOf_0 : cX1_goodOf.data.toList.drop 0 = dktX1_goodOf_0 := by decide +kernel
theorem dksX1_goodOf_1 : cX1_goodOf.data.toList.drop 24 = dktX1_goodOf_1 := dk_seg dksX1_goodOf_0 24 rfl rfl
theorem dksX1_goodOf_2 : cX1_goodOf.data.toList.drop 47 = dktX1_goodOf_2 := dk_seg dksX1_goodOf_1 23 rfl rfl
theorem dX1_goodOf_0 : decode cX1_goodOf 0 = .ok (.aload_n 0, 1) := dk_42 (dk_at dksX1_goodOf_0 0 rfl rfl)
theorem dX1_goodOf_1 : decode cX1_goodOf 1 = .ok (.aload_n 1, 1) := dk_43 (dk_at dksX1_goodOf_0 1 rfl rfl)
theorem dX1_goodOf_2 : decode cX1_goodOf 2 = .ok (.iload_n 2, 1) := dk_28 (dk_at dksX1_goodOf_0 2 rfl rfl)
theorem dX1_goodOf_3 : decode cX1_goodOf 3 = .ok (.iload_n 2, 1) := dk_28 (dk_at dksX1_goodOf_0 3 rfl rfl)
theorem dX1_goodOf_4 : decode cX1_goodOf 4 = .ok (.iconst 0, 1) := dk_3 (dk_at dksX1_goodOf_0 4 rfl rfl)
theorem dX1_goodOf_5 : decode cX1_goodOf 5 = .ok (.invokevirtual 205, 3) := dk_182 0 205 (dk_at dksX1_goodOf_0 5 rfl rfl)
theorem dX1_goodOf_8 : decode cX1_goodOf 8 = .ok (.aload_n 0, 1) := dk_42 (dk_at dksX1_goodOf_0 8 rfl rfl)
theorem dX1_goodOf_9 : decode cX1_goodOf 9 = .ok (.getfield 35, 3) := dk_180 0 35 (dk_at dksX1_goodOf_0 9 rfl rfl)
theorem dX1_goodOf_12 : decode cX1_goodOf 12 = .ok (.getfield 374, 3) := dk_180 1 118 (dk_at dksX1_goodOf_0 12 rfl rfl)
theorem dX1_goodOf_15 : decode cX1_goodOf 15 = .ok (.ifnonnull 31, 3) := dk_199 0 31 (dk_at dksX1_goodOf_0 15 rfl rfl)
theorem dX1_goodOf_18 : decode cX1_goodOf 18 = .ok (.aload_n 0, 1) := dk_42 (dk_at dksX1_goodOf_0 18 rfl rfl)
theorem dX1_goodOf_19 : decode cX1_goodOf 19 = .ok (.getfield 61, 3) := dk_180 0 61 (dk_at dksX1_goodOf_0 19 rfl rfl)
theorem dX1_goodOf_22 : decode cX1_goodOf 22 = .ok (.iconst 0, 1) := dk_3 (dk_at dksX1_goodOf_0 22 rfl rfl)
theorem dX1_goodOf_23 : decode cX1_goodOf 23 = .ok (.iaload, 1) := dk_46 (dk_at dksX1_goodOf_0 23 rfl rfl)
theorem dX1_goodOf_24 : decode cX1_goodOf 24 = .ok (.aload_n 0, 1) := dk_42 (dk_at dksX1_goodOf_1 0 rfl rfl)
theorem dX1_goodOf_25 : decode cX1_goodOf 25 = .ok (.getfield 61, 3) := dk_180 0 61 (dk_at dksX1_goodOf_1 1 rfl rfl)
theorem dX1_goodOf_28 : decode cX1_goodOf 28 = .ok (.iconst 1, 1) := dk_4 (dk_at dksX1_goodOf_1 4 rfl rfl)
theorem dX1_goodOf_29 : decode cX1_goodOf 29 = .ok (.iaload, 1) := dk_46 (dk_at dksX1_goodOf_1 5 rfl rfl)
theorem dX1_goodOf_30 : decode cX1_goodOf 30 = .ok (.iconst 2, 1) := dk_5 (dk_at dksX1_goodOf_1 6 rfl rfl)
theorem dX1_goodOf_31 : decode cX1_goodOf 31 = .ok (.imul, 1) := dk_104 (dk_at dksX1_goodOf_1 7 rfl rfl)
theorem dX1_goodOf_32 : decode cX1_goodOf 32 = .ok (.isub, 1) := dk_100 (dk_at dksX1_goodOf_1 8 rfl rfl)
theorem dX1_goodOf_33 : decode cX1_goodOf 33 = .ok (.aload_n 0, 1) := dk_42 (dk_at dksX1_goodOf_1 9 rfl rfl)
theorem dX1_goodOf_34 : decode cX1_goodOf 34 = .ok (.getfield 61, 3) := dk_180 0 61 (dk_at dksX1_goodOf_1 10 rfl rfl)
theorem dX1_goodOf_37 : decode cX1_goodOf 37 = .ok (.iconst 2, 1) := dk_5 (dk_at dksX1_goodOf_1 13 rfl rfl)
theorem dX1_goodOf_38 : decode cX1_goodOf 38 = .ok (.iaload, 1) := dk_46 (dk_at dksX1_goodOf_1 14 rfl rfl)
theorem dX1_goodOf_39 : decode cX1_goodOf 39 = .ok (.bipush 10, 2) := dk_16 10 (dk_at dksX1_goodOf_1 15 rfl rfl)
theorem dX1_goodOf_41 : decode cX1_goodOf 41 = .ok (.imul, 1) := dk_104 (dk_at dksX1_goodOf_1 17 rfl rfl)
theorem dX1_goodOf_42 : decode cX1_goodOf 42 = .ok (.iadd, 1) := dk_96 (dk_at dksX1_goodOf_1 18 rfl rfl)
theorem dX1_goodOf_43 : decode cX1_goodOf 43 = .ok (.goto 17, 3) := dk_167 0 17 (dk_at dksX1_goodOf_1 19 rfl rfl)
theorem dX1_goodOf_46 : decode cX1_goodOf 46 = .ok (.aload_n 0, 1) := dk_42 (dk_at dksX1_goodOf_1 22 rfl rfl)
theorem dX1_goodOf_47 : decode cX1_goodOf 47 = .ok (.getfield 35, 3) := dk_180 0 35 (dk_at dksX1_goodOf_2 0 rfl rfl)
theorem dX1_goodOf_50 : decode cX1_goodOf 50 = .ok (.getfield 374, 3) := dk_180 1 118 (dk_at dksX1_goodOf_2 3 rfl rfl)
theorem dX1_goodOf_53 : decode cX1_goodOf 53 = .ok (.aload_n 0, 1) := dk_42 (dk_at dksX1_goodOf_2 6 rfl rfl)
theorem dX1_goodOf_54 : decode cX1_goodOf 54 = .ok (.getfield 61, 3) := dk_180 0 61 (dk_at dksX1_goodOf_2 7 rfl rfl)
theorem dX1_goodOf_57 : decode cX1_goodOf 57 = .ok (.invokevirtual 213, 3) := dk_182 0 213 (dk_at dksX1_goodOf_2 10 rfl rfl)
theorem dX1_goodOf_60 : decode cX1_goodOf 60 = .ok (.ireturn, 1) := dk_172 (dk_at dksX1_goodOf_2 13 rfl rfl)
abbrev cX1_rests : ByteArray := prog_1_method_60_code
def yX1_rests : MethodName := ⟨RX1, "rests", "(IIII)I"⟩
def dkwX1_rests_5 : List UInt8 := [167, 0, 4, 3, 184, 1, 124, 21, 5, 172]
abbrev dktX1_rests_5 : List UInt8 := dkwX1_rests_5 ++ []
def dkwX1_rests_4 : List UInt8 := [172, 132, 5, 1, 132, 7, 1, 167, 255, 212, 132, 6, 1, 167, 255, 197, 21, 4, 2, 160, 0, 7, 4]
abbrev dktX1_rests_4 : List UInt8 := dkwX1_rests_4 ++ dktX1_rests_5
def dkwX1_rests_3 : List UInt8 := [184, 1, 185, 154, 0, 6, 167, 0, 22, 21, 5, 21, 4, 160, 0, 12, 21, 6, 16, 10, 104, 21, 7, 96]
abbrev dktX1_rests_3 : List UInt8 := dkwX1_rests_3 ++ dktX1_rests_4
def dkwX1_rests_2 : List UInt8 := [54, 6, 21, 6, 8, 163, 0, 59, 3, 54, 7, 21, 7, 8, 163, 0, 44, 27, 28, 29, 21, 6, 21, 7]
abbrev dktX1_rests_2 : List UInt8 := dkwX1_rests_2 ++ dktX1_rests_3
def dkwX1_rests_1 : List UInt8 := [184, 0, 148, 153, 0, 13, 21, 4, 2, 161, 0, 7, 4, 167, 0, 4, 3, 184, 1, 124, 3, 54, 5, 3]
abbrev dktX1_rests_1 : List UInt8 := dkwX1_rests_1 ++ dktX1_rests_2
def dkwX1_rests_0 : List UInt8 := [27, 3, 16, 9, 184, 0, 148, 153, 0, 33, 28, 3, 16, 9, 184, 0, 148, 153, 0, 23, 29, 3, 16, 9]
abbrev dktX1_rests_0 : List UInt8 := dkwX1_rests_0 ++ dktX1_rests_1
theorem dksX1_rests_0 : cX1_rests.data.toList.drop 0 = dktX1_rests_0 := by decide +kernel
theorem dksX1_rests_1 : cX1_rests.data.toList.drop 24 = dktX1_rests_1 := dk_seg dksX1_rests_0 24 rfl rfl
theorem dksX1_rests_2 : cX1_rests.data.toList.drop 48 = dktX1_rests_2 := dk_seg dksX1_rests_1 24 rfl rfl
theorem dksX1_rests_3 : cX1_rests.data.toList.drop 72 = dktX1_rests_3 := dk_seg dksX1_rests_2 24 rfl rfl
theorem dksX1_rests_4 : cX1_rests.data.toList.drop 96 = dktX1_rests_4 := dk_seg dksX1_rests_3 24 rfl rfl
theorem dksX1_rests_5 : cX1_rests.data.toList.drop 119 = dktX1_rests_5 := dk_seg dksX1_rests_4 23 rfl rfl
theorem dX1_rests_0 : decode cX1_rests 0 = .ok (.iload_n 1, 1) := dk_27 (dk_at dksX1_rests_0 0 rfl rfl)
theorem dX1_rests_1 : decode cX1_rests 1 = .ok (.iconst 0, 1) := dk_3 (dk_at dksX1_rests_0 1 rfl rfl)
theorem dX1_rests_2 : decode cX1_rests 2 = .ok (.bipush 9, 2) := dk_16 9 (dk_at dksX1_rests_0 2 rfl rfl)
theorem dX1_rests_4 : decode cX1_rests 4 = .ok (.invokestatic 148, 3) := dk_184 0 148 (dk_at dksX1_rests_0 4 rfl rfl)
theorem dX1_rests_7 : decode cX1_rests 7 = .ok (.ifCond .eq 33, 3) := dk_153 0 33 (dk_at dksX1_rests_0 7 rfl rfl)
theorem dX1_rests_10 : decode cX1_rests 10 = .ok (.iload_n 2, 1) := dk_28 (dk_at dksX1_rests_0 10 rfl rfl)
theorem dX1_rests_11 : decode cX1_rests 11 = .ok (.iconst 0, 1) := dk_3 (dk_at dksX1_rests_0 11 rfl rfl)
theorem dX1_rests_12 : decode cX1_rests 12 = .ok (.bipush 9, 2) := dk_16 9 (dk_at dksX1_rests_0 12 rfl rfl)
theorem dX1_rests_14 : decode cX1_rests 14 = .ok (.invokestatic 148, 3) := dk_184 0 148 (dk_at dksX1_rests_0 14 rfl rfl)
theorem dX1_rests_17 : decode cX1_rests 17 = .ok (.ifCond .eq 23, 3) := dk_153 0 23 (dk_at dksX1_rests_0 17 rfl rfl)
theorem dX1_rests_20 : decode cX1_rests 20 = .ok (.iload_n 3, 1) := dk_29 (dk_at dksX1_rests_0 20 rfl rfl)
theorem dX1_rests_21 : decode cX1_rests 21 = .ok (.iconst 0, 1) := dk_3 (dk_at dksX1_rests_0 21 rfl rfl)
theorem dX1_rests_22 : decode cX1_rests 22 = .ok (.bipush 9, 2) := dk_16 9 (dk_at dksX1_rests_0 22 rfl rfl)
theorem dX1_rests_24 : decode cX1_rests 24 = .ok (.invokestatic 148, 3) := dk_184 0 148 (dk_at dksX1_rests_1 0 rfl rfl)
theorem dX1_rests_27 : decode cX1_rests 27 = .ok (.ifCond .eq 13, 3) := dk_153 0 13 (dk_at dksX1_rests_1 3 rfl rfl)
theorem dX1_rests_30 : decode cX1_rests 30 = .ok (.iload 4, 2) := dk_21 4 (dk_at dksX1_rests_1 6 rfl rfl)
theorem dX1_rests_32 : decode cX1_rests 32 = .ok (.iconst (-1), 1) := dk_2 (dk_at dksX1_rests_1 8 rfl rfl)
theorem dX1_rests_33 : decode cX1_rests 33 = .ok (.if_icmp .lt 7, 3) := dk_161 0 7 (dk_at dksX1_rests_1 9 rfl rfl)
theorem dX1_rests_36 : decode cX1_rests 36 = .ok (.iconst 1, 1) := dk_4 (dk_at dksX1_rests_1 12 rfl rfl)
theorem dX1_rests_37 : decode cX1_rests 37 = .ok (.goto 4, 3) := dk_167 0 4 (dk_at dksX1_rests_1 13 rfl rfl)
theorem dX1_rests_40 : decode cX1_rests 40 = .ok (.iconst 0, 1) := dk_3 (dk_at dksX1_rests_1 16 rfl rfl)
theorem dX1_rests_41 : decode cX1_rests 41 = .ok (.invokestatic 380, 3) := dk_184 1 124 (dk_at dksX1_rests_1 17 rfl rfl)
theorem dX1_rests_44 : decode cX1_rests 44 = .ok (.iconst 0, 1) := dk_3 (dk_at dksX1_rests_1 20 rfl rfl)
theorem dX1_rests_45 : decode cX1_rests 45 = .ok (.istore 5, 2) := dk_54 5 (dk_at dksX1_rests_1 21 rfl rfl)
theorem dX1_rests_47 : decode cX1_rests 47 = .ok (.iconst 0, 1) := dk_3 (dk_at dksX1_rests_1 23 rfl rfl)
theorem dX1_rests_48 : decode cX1_rests 48 = .ok (.istore 6, 2) := dk_54 6 (dk_at dksX1_rests_2 0 rfl rfl)
theorem dX1_rests_50 : decode cX1_rests 50 = .ok (.iload 6, 2) := dk_21 6 (dk_at dksX1_rests_2 2 rfl rfl)
theorem dX1_rests_52 : decode cX1_rests 52 = .ok (.iconst 5, 1) := dk_8 (dk_at dksX1_rests_2 4 rfl rfl)
theorem dX1_rests_53 : decode cX1_rests 53 = .ok (.if_icmp .gt 59, 3) := dk_163 0 59 (dk_at dksX1_rests_2 5 rfl rfl)
theorem dX1_rests_56 : decode cX1_rests 56 = .ok (.iconst 0, 1) := dk_3 (dk_at dksX1_rests_2 8 rfl rfl)
theorem dX1_rests_57 : decode cX1_rests 57 = .ok (.istore 7, 2) := dk_54 7 (dk_at dksX1_rests_2 9 rfl rfl)
theorem dX1_rests_59 : decode cX1_rests 59 = .ok (.iload 7, 2) := dk_21 7 (dk_at dksX1_rests_2 11 rfl rfl)
theorem dX1_rests_61 : decode cX1_rests 61 = .ok (.iconst 5, 1) := dk_8 (dk_at dksX1_rests_2 13 rfl rfl)
theorem dX1_rests_62 : decode cX1_rests 62 = .ok (.if_icmp .gt 44, 3) := dk_163 0 44 (dk_at dksX1_rests_2 14 rfl rfl)
theorem dX1_rests_65 : decode cX1_rests 65 = .ok (.iload_n 1, 1) := dk_27 (dk_at dksX1_rests_2 17 rfl rfl)
theorem dX1_rests_66 : decode cX1_rests 66 = .ok (.iload_n 2, 1) := dk_28 (dk_at dksX1_rests_2 18 rfl rfl)
theorem dX1_rests_67 : decode cX1_rests 67 = .ok (.iload_n 3, 1) := dk_29 (dk_at dksX1_rests_2 19 rfl rfl)
theorem dX1_rests_68 : decode cX1_rests 68 = .ok (.iload 6, 2) := dk_21 6 (dk_at dksX1_rests_2 20 rfl rfl)
theorem dX1_rests_70 : decode cX1_rests 70 = .ok (.iload 7, 2) := dk_21 7 (dk_at dksX1_rests_2 22 rfl rfl)
theorem dX1_rests_72 : decode cX1_rests 72 = .ok (.invokestatic 441, 3) := dk_184 1 185 (dk_at dksX1_rests_3 0 rfl rfl)
theorem dX1_rests_75 : decode cX1_rests 75 = .ok (.ifCond .ne 6, 3) := dk_154 0 6 (dk_at dksX1_rests_3 3 rfl rfl)
theorem dX1_rests_78 : decode cX1_rests 78 = .ok (.goto 22, 3) := dk_167 0 22 (dk_at dksX1_rests_3 6 rfl rfl)
theorem dX1_rests_81 : decode cX1_rests 81 = .ok (.iload 5, 2) := dk_21 5 (dk_at dksX1_rests_3 9 rfl rfl)
theorem dX1_rests_83 : decode cX1_rests 83 = .ok (.iload 4, 2) := dk_21 4 (dk_at dksX1_rests_3 11 rfl rfl)
theorem dX1_rests_85 : decode cX1_rests 85 = .ok (.if_icmp .ne 12, 3) := dk_160 0 12 (dk_at dksX1_rests_3 13 rfl rfl)
theorem dX1_rests_88 : decode cX1_rests 88 = .ok (.iload 6, 2) := dk_21 6 (dk_at dksX1_rests_3 16 rfl rfl)
theorem dX1_rests_90 : decode cX1_rests 90 = .ok (.bipush 10, 2) := dk_16 10 (dk_at dksX1_rests_3 18 rfl rfl)
theorem dX1_rests_92 : decode cX1_rests 92 = .ok (.imul, 1) := dk_104 (dk_at dksX1_rests_3 20 rfl rfl)
theorem dX1_rests_93 : decode cX1_rests 93 = .ok (.iload 7, 2) := dk_21 7 (dk_at dksX1_rests_3 21 rfl rfl)
theorem dX1_rests_95 : decode cX1_rests 95 = .ok (.iadd, 1) := dk_96 (dk_at dksX1_rests_3 23 rfl rfl)
theorem dX1_rests_96 : decode cX1_rests 96 = .ok (.ireturn, 1) := dk_172 (dk_at dksX1_rests_4 0 rfl rfl)
theorem dX1_rests_97 : decode cX1_rests 97 = .ok (.iinc 5 1, 3) := dk_132 5 1 (dk_at dksX1_rests_4 1 rfl rfl)
theorem dX1_rests_100 : decode cX1_rests 100 = .ok (.iinc 7 1, 3) := dk_132 7 1 (dk_at dksX1_rests_4 4 rfl rfl)
theorem dX1_rests_103 : decode cX1_rests 103 = .ok (.goto (-44), 3) := dk_167 255 212 (dk_at dksX1_rests_4 7 rfl rfl)
theorem dX1_rests_106 : decode cX1_rests 106 = .ok (.iinc 6 1, 3) := dk_132 6 1 (dk_at dksX1_rests_4 10 rfl rfl)
theorem dX1_rests_109 : decode cX1_rests 109 = .ok (.goto (-59), 3) := dk_167 255 197 (dk_at dksX1_rests_4 13 rfl rfl)
theorem dX1_rests_112 : decode cX1_rests 112 = .ok (.iload 4, 2) := dk_21 4 (dk_at dksX1_rests_4 16 rfl rfl)
theorem dX1_rests_114 : decode cX1_rests 114 = .ok (.iconst (-1), 1) := dk_2 (dk_at dksX1_rests_4 18 rfl rfl)
theorem dX1_rests_115 : decode cX1_rests 115 = .ok (.if_icmp .ne 7, 3) := dk_160 0 7 (dk_at dksX1_rests_4 19 rfl rfl)
theorem dX1_rests_118 : decode cX1_rests 118 = .ok (.iconst 1, 1) := dk_4 (dk_at dksX1_rests_4 22 rfl rfl)
theorem dX1_rests_119 : decode cX1_rests 119 = .ok (.goto 4, 3) := dk_167 0 4 (dk_at dksX1_rests_5 0 rfl rfl)
theorem dX1_rests_122 : decode cX1_rests 122 = .ok (.iconst 0, 1) := dk_3 (dk_at dksX1_rests_5 3 rfl rfl)
theorem dX1_rests_123 : decode cX1_rests 123 = .ok (.invokestatic 380, 3) := dk_184 1 124 (dk_at dksX1_rests_5 4 rfl rfl)
theorem dX1_rests_126 : decode cX1_rests 126 = .ok (.iload 5, 2) := dk_21 5 (dk_at dksX1_rests_5 7 rfl rfl)
theorem dX1_rests_128 : decode cX1_rests 128 = .ok (.ireturn, 1) := dk_172 (dk_at dksX1_rests_5 9 rfl rfl)
abbrev cX1_isRest : ByteArray := prog_1_method_59_code
def yX1_isRest : MethodName := ⟨RX1, "isRest", "(IIIII)Z"⟩
def dkwX1_isRest_2 : List UInt8 := [184, 1, 182, 164, 0, 5, 3, 172, 132, 5, 1, 167, 255, 202, 4, 172]
abbrev dktX1_isRest_2 : List UInt8 := dkwX1_isRest_2 ++ []
def dkwX1_isRest_1 : List UInt8 := [21, 4, 184, 1, 182, 163, 0, 24, 26, 27, 28, 21, 5, 29, 184, 1, 182, 26, 27, 28, 21, 4, 29]
abbrev dktX1_isRest_1 : List UInt8 := dkwX1_isRest_1 ++ dktX1_isRest_2
def dkwX1_isRest_0 : List UInt8 := [3, 54, 5, 21, 5, 8, 163, 0, 54, 26, 27, 28, 21, 5, 21, 4, 184, 1, 182, 26, 27, 28, 29]
abbrev dktX1_isRest_0 : List UInt8 := dkwX1_isRest_0 ++ dktX1_isRest_1
theorem dksX1_isRest_0 : cX1_isRest.data.toList.drop 0 = dktX1_isRest_0 := by decide +kernel
theorem dksX1_isRest_1 : cX1_isRest.data.toList.drop 23 = dktX1_isRest_1 := dk_seg dksX1_isRest_0 23 rfl rfl
theorem dksX1_isRest_2 : cX1_isRest.data.toList.drop 46 = dktX1_isRest_2 := dk_seg dksX1_isRest_1 23 rfl rfl
theorem dX1_isRest_0 : decode cX1_isRest 0 = .ok (.iconst 0, 1) := dk_3 (dk_at dksX1_isRest_0 0 rfl rfl)
theorem dX1_isRest_1 : decode cX1_isRest 1 = .ok (.istore 5, 2) := dk_54 5 (dk_at dksX1_isRest_0 1 rfl rfl)
theorem dX1_isRest_3 : decode cX1_isRest 3 = .ok (.iload 5, 2) := dk_21 5 (dk_at dksX1_isRest_0 3 rfl rfl)
theorem dX1_isRest_5 : decode cX1_isRest 5 = .ok (.iconst 5, 1) := dk_8 (dk_at dksX1_isRest_0 5 rfl rfl)
theorem dX1_isRest_6 : decode cX1_isRest 6 = .ok (.if_icmp .gt 54, 3) := dk_163 0 54 (dk_at dksX1_isRest_0 6 rfl rfl)
theorem dX1_isRest_9 : decode cX1_isRest 9 = .ok (.iload_n 0, 1) := dk_26 (dk_at dksX1_isRest_0 9 rfl rfl)
theorem dX1_isRest_10 : decode cX1_isRest 10 = .ok (.iload_n 1, 1) := dk_27 (dk_at dksX1_isRest_0 10 rfl rfl)
theorem dX1_isRest_11 : decode cX1_isRest 11 = .ok (.iload_n 2, 1) := dk_28 (dk_at dksX1_isRest_0 11 rfl rfl)
theorem dX1_isRest_12 : decode cX1_isRest 12 = .ok (.iload 5, 2) := dk_21 5 (dk_at dksX1_isRest_0 12 rfl rfl)
theorem dX1_isRest_14 : decode cX1_isRest 14 = .ok (.iload 4, 2) := dk_21 4 (dk_at dksX1_isRest_0 14 rfl rfl)
theorem dX1_isRest_16 : decode cX1_isRest 16 = .ok (.invokestatic 438, 3) := dk_184 1 182 (dk_at dksX1_isRest_0 16 rfl rfl)
theorem dX1_isRest_19 : decode cX1_isRest 19 = .ok (.iload_n 0, 1) := dk_26 (dk_at dksX1_isRest_0 19 rfl rfl)
theorem dX1_isRest_20 : decode cX1_isRest 20 = .ok (.iload_n 1, 1) := dk_27 (dk_at dksX1_isRest_0 20 rfl rfl)
theorem dX1_isRest_21 : decode cX1_isRest 21 = .ok (.iload_n 2, 1) := dk_28 (dk_at dksX1_isRest_0 21 rfl rfl)
theorem dX1_isRest_22 : decode cX1_isRest 22 = .ok (.iload_n 3, 1) := dk_29 (dk_at dksX1_isRest_0 22 rfl rfl)
theorem dX1_isRest_23 : decode cX1_isRest 23 = .ok (.iload 4, 2) := dk_21 4 (dk_at dksX1_isRest_1 0 rfl rfl)
theorem dX1_isRest_25 : decode cX1_isRest 25 = .ok (.invokestatic 438, 3) := dk_184 1 182 (dk_at dksX1_isRest_1 2 rfl rfl)
theorem dX1_isRest_28 : decode cX1_isRest 28 = .ok (.if_icmp .gt 24, 3) := dk_163 0 24 (dk_at dksX1_isRest_1 5 rfl rfl)
theorem dX1_isRest_31 : decode cX1_isRest 31 = .ok (.iload_n 0, 1) := dk_26 (dk_at dksX1_isRest_1 8 rfl rfl)
theorem dX1_isRest_32 : decode cX1_isRest 32 = .ok (.iload_n 1, 1) := dk_27 (dk_at dksX1_isRest_1 9 rfl rfl)
theorem dX1_isRest_33 : decode cX1_isRest 33 = .ok (.iload_n 2, 1) := dk_28 (dk_at dksX1_isRest_1 10 rfl rfl)
theorem dX1_isRest_34 : decode cX1_isRest 34 = .ok (.iload 5, 2) := dk_21 5 (dk_at dksX1_isRest_1 11 rfl rfl)
theorem dX1_isRest_36 : decode cX1_isRest 36 = .ok (.iload_n 3, 1) := dk_29 (dk_at dksX1_isRest_1 13 rfl rfl)
theorem dX1_isRest_37 : decode cX1_isRest 37 = .ok (.invokestatic 438, 3) := dk_184 1 182 (dk_at dksX1_isRest_1 14 rfl rfl)
theorem dX1_isRest_40 : decode cX1_isRest 40 = .ok (.iload_n 0, 1) := dk_26 (dk_at dksX1_isRest_1 17 rfl rfl)
theorem dX1_isRest_41 : decode cX1_isRest 41 = .ok (.iload_n 1, 1) := dk_27 (dk_at dksX1_isRest_1 18 rfl rfl)
theorem dX1_isRest_42 : decode cX1_isRest 42 = .ok (.iload_n 2, 1) := dk_28 (dk_at dksX1_isRest_1 19 rfl rfl)
theorem dX1_isRest_43 : decode cX1_isRest 43 = .ok (.iload 4, 2) := dk_21 4 (dk_at dksX1_isRest_1 20 rfl rfl)
theorem dX1_isRest_45 : decode cX1_isRest 45 = .ok (.iload_n 3, 1) := dk_29 (dk_at dksX1_isRest_1 22 rfl rfl)
theorem dX1_isRest_46 : decode cX1_isRest 46 = .ok (.invokestatic 438, 3) := dk_184 1 182 (dk_at dksX1_isRest_2 0 rfl rfl)
theorem dX1_isRest_49 : decode cX1_isRest 49 = .ok (.if_icmp .le 5, 3) := dk_164 0 5 (dk_at dksX1_isRest_2 3 rfl rfl)
theorem dX1_isRest_52 : decode cX1_isRest 52 = .ok (.iconst 0, 1) := dk_3 (dk_at dksX1_isRest_2 6 rfl rfl)
theorem dX1_isRest_53 : decode cX1_isRest 53 = .ok (.ireturn, 1) := dk_172 (dk_at dksX1_isRest_2 7 rfl rfl)
theorem dX1_isRest_54 : decode cX1_isRest 54 = .ok (.iinc 5 1, 3) := dk_132 5 1 (dk_at dksX1_isRest_2 8 rfl rfl)
theorem dX1_isRest_57 : decode cX1_isRest 57 = .ok (.goto (-54), 3) := dk_167 255 202 (dk_at dksX1_isRest_2 11 rfl rfl)
theorem dX1_isRest_60 : decode cX1_isRest 60 = .ok (.iconst 1, 1) := dk_4 (dk_at dksX1_isRest_2 14 rfl rfl)
theorem dX1_isRest_61 : decode cX1_isRest 61 = .ok (.ireturn, 1) := dk_172 (dk_at dksX1_isRest_2 15 rfl rfl)
abbrev cX1_gets : ByteArray := prog_1_method_58_code
def yX1_gets : MethodName := ⟨RX1, "gets", "(IIIII)I"⟩
def dkwX1_gets_0 : List UInt8 := [26, 21, 4, 104, 27, 29, 21, 4, 184, 0, 1, 104, 96, 28, 29, 104, 29, 104, 100, 172]
abbrev dktX1_gets_0 : List UInt8 := dkwX1_gets_0 ++ []
theorem dksX1_gets_0 : cX1_gets.data.toList.drop 0 = dktX1_gets_0 := by decide +kernel
theorem dX1_gets_0 : decode cX1_gets 0 = .ok (.iload_n 0, 1) := dk_26 (dk_at dksX1_gets_0 0 rfl rfl)
theorem dX1_gets_1 : decode cX1_gets 1 = .ok (.iload 4, 2) := dk_21 4 (dk_at dksX1_gets_0 1 rfl rfl)
theorem dX1_gets_3 : decode cX1_gets 3 = .ok (.imul, 1) := dk_104 (dk_at dksX1_gets_0 3 rfl rfl)
theorem dX1_gets_4 : decode cX1_gets 4 = .ok (.iload_n 1, 1) := dk_27 (dk_at dksX1_gets_0 4 rfl rfl)
theorem dX1_gets_5 : decode cX1_gets 5 = .ok (.iload_n 3, 1) := dk_29 (dk_at dksX1_gets_0 5 rfl rfl)
theorem dX1_gets_6 : decode cX1_gets 6 = .ok (.iload 4, 2) := dk_21 4 (dk_at dksX1_gets_0 6 rfl rfl)
theorem dX1_gets_8 : decode cX1_gets 8 = .ok (.invokestatic 1, 3) := dk_184 0 1 (dk_at dksX1_gets_0 8 rfl rfl)
theorem dX1_gets_11 : decode cX1_gets 11 = .ok (.imul, 1) := dk_104 (dk_at dksX1_gets_0 11 rfl rfl)
theorem dX1_gets_12 : decode cX1_gets 12 = .ok (.iadd, 1) := dk_96 (dk_at dksX1_gets_0 12 rfl rfl)
theorem dX1_gets_13 : decode cX1_gets 13 = .ok (.iload_n 2, 1) := dk_28 (dk_at dksX1_gets_0 13 rfl rfl)
theorem dX1_gets_14 : decode cX1_gets 14 = .ok (.iload_n 3, 1) := dk_29 (dk_at dksX1_gets_0 14 rfl rfl)
theorem dX1_gets_15 : decode cX1_gets 15 = .ok (.imul, 1) := dk_104 (dk_at dksX1_gets_0 15 rfl rfl)
theorem dX1_gets_16 : decode cX1_gets 16 = .ok (.iload_n 3, 1) := dk_29 (dk_at dksX1_gets_0 16 rfl rfl)
theorem dX1_gets_17 : decode cX1_gets 17 = .ok (.imul, 1) := dk_104 (dk_at dksX1_gets_0 17 rfl rfl)
theorem dX1_gets_18 : decode cX1_gets 18 = .ok (.isub, 1) := dk_100 (dk_at dksX1_gets_0 18 rfl rfl)
theorem dX1_gets_19 : decode cX1_gets 19 = .ok (.ireturn, 1) := dk_172 (dk_at dksX1_gets_0 19 rfl rfl)
theorem q125 : (Jvm.Cond.initialized "BorrowedLives") ∈ lw_all := lw_g (lw_at lw_m1 1 rfl) rfl
theorem q175 : (Jvm.Cond.instantiable "BorrowedLives" (23 : Nat)) ∈ lw_all := lw_g (lw_at lw_m1 51 rfl) rfl
theorem q177 : (Jvm.Cond.instanceMethod ({ cls := "BorrowedLives", name := "<init>", desc := "()V" } : Jvm.MethodName)) ∈ lw_all := lw_g (lw_at lw_m1 53 rfl) rfl
theorem q178 : (Jvm.Cond.code ({ cls := "BorrowedLives", name := "<init>", desc := "()V" } : Jvm.MethodName) prog_1_method_7_code (1 : Nat) (Option.none : Option Jvm.ClassFile.FieldType)) ∈ lw_all := lw_g (lw_at lw_m1 54 rfl) rfl
theorem q179 : (Jvm.Cond.methodLink "BorrowedLives" (16 : Nat) ({ cls := "java/lang/Object", name := "<init>", desc := "()V" } : Jvm.MethodName)) ∈ lw_all := lw_g (lw_at lw_m1 55 rfl) rfl
theorem q182 : (Jvm.Cond.classLink "BorrowedLives" (25 : Nat) "BorrowedLives$Reader") ∈ lw_all := lw_g (lw_at lw_m1 58 rfl) rfl
theorem q184 : (Jvm.Cond.methodLinkNest "BorrowedLives" (27 : Nat) ({ cls := "BorrowedLives$Reader", name := "<init>", desc := "()V" } : Jvm.MethodName) "BorrowedLives") ∈ lw_tbl := lw_at lw_m1 60 rfl
theorem q217 : (Jvm.Cond.classLink "BorrowedLives" (32 : Nat) "BorrowedLives$Town") ∈ lw_all := lw_g (lw_at lw_m1 93 rfl) rfl
theorem q219 : (Jvm.Cond.methodLinkNest "BorrowedLives" (34 : Nat) ({ cls := "BorrowedLives$Town", name := "<init>", desc := "()V" } : Jvm.MethodName) "BorrowedLives") ∈ lw_tbl := lw_at lw_m1 95 rfl
theorem q253 : (Jvm.Cond.fieldLinkNest "BorrowedLives" (133 : Nat) "BorrowedLives$Town" "people" "Ljava/util/ArrayList;" "BorrowedLives") ∈ lw_tbl := lw_at lw_m1 129 rfl
theorem q256 : (Jvm.Cond.fieldLinkNest "BorrowedLives" (461 : Nat) "BorrowedLives$Town" "bars" "I" "BorrowedLives") ∈ lw_tbl := lw_at lw_m1 132 rfl
theorem q260 : (Jvm.Cond.fieldLinkNest "BorrowedLives" (209 : Nat) "BorrowedLives$Town" "spends" "LBorrowedLives$Expression;" "BorrowedLives") ∈ lw_tbl := lw_at lw_m1 136 rfl
theorem q262 : (Jvm.Cond.fieldLinkNest "BorrowedLives" (236 : Nat) "BorrowedLives$Town" "mends" "LBorrowedLives$Expression;" "BorrowedLives") ∈ lw_tbl := lw_at lw_m1 138 rfl
theorem q264 : (Jvm.Cond.fieldLinkNest "BorrowedLives" (374 : Nat) "BorrowedLives$Town" "good" "LBorrowedLives$Expression;" "BorrowedLives") ∈ lw_tbl := lw_at lw_m1 140 rfl
theorem q266 : (Jvm.Cond.fieldLinkNest "BorrowedLives" (393 : Nat) "BorrowedLives$Town" "wish" "LBorrowedLives$Expression;" "BorrowedLives") ∈ lw_tbl := lw_at lw_m1 142 rfl
theorem q282 : (Jvm.Cond.classLink "BorrowedLives" (39 : Nat) "java/util/ArrayList") ∈ lw_all := lw_g (lw_at lw_m1 158 rfl) rfl
theorem q283 : (Jvm.Cond.methodLink "BorrowedLives" (41 : Nat) ({ cls := "java/util/ArrayList", name := "<init>", desc := "(I)V" } : Jvm.MethodName)) ∈ lw_all := lw_g (lw_at lw_m1 159 rfl) rfl
theorem q284 : (Jvm.Cond.classLink "BorrowedLives" (48 : Nat) "BorrowedLives$State") ∈ lw_all := lw_g (lw_at lw_m1 160 rfl) rfl
theorem q286 : (Jvm.Cond.methodLinkNest "BorrowedLives" (50 : Nat) ({ cls := "BorrowedLives$State", name := "<init>", desc := "()V" } : Jvm.MethodName) "BorrowedLives") ∈ lw_tbl := lw_at lw_m1 162 rfl
theorem q292 : (Jvm.Cond.fieldLinkNest "BorrowedLives" (177 : Nat) "BorrowedLives$State" "purse" "[I" "BorrowedLives") ∈ lw_tbl := lw_at lw_m1 168 rfl
theorem q294 : (Jvm.Cond.fieldLinkNest "BorrowedLives" (180 : Nat) "BorrowedLives$State" "debt" "[I" "BorrowedLives") ∈ lw_tbl := lw_at lw_m1 170 rfl
theorem q296 : (Jvm.Cond.fieldLinkNest "BorrowedLives" (183 : Nat) "BorrowedLives$State" "home" "[I" "BorrowedLives") ∈ lw_tbl := lw_at lw_m1 172 rfl
theorem q299 : (Jvm.Cond.fieldLinkNest "BorrowedLives" (186 : Nat) "BorrowedLives$State" "hidden" "[I" "BorrowedLives") ∈ lw_tbl := lw_at lw_m1 175 rfl
theorem q303 : (Jvm.Cond.fieldLinkNest "BorrowedLives" (189 : Nat) "BorrowedLives$State" "self" "[I" "BorrowedLives") ∈ lw_tbl := lw_at lw_m1 179 rfl
theorem q309 : (Jvm.Cond.fieldLinkNest "BorrowedLives" (323 : Nat) "BorrowedLives$State" "away" "Z" "BorrowedLives") ∈ lw_tbl := lw_at lw_m1 185 rfl
theorem q312 : (Jvm.Cond.fieldLinkNest "BorrowedLives" (245 : Nat) "BorrowedLives$State" "days" "I" "BorrowedLives") ∈ lw_tbl := lw_at lw_m1 188 rfl
theorem q314 : (Jvm.Cond.fieldLinkNest "BorrowedLives" (254 : Nat) "BorrowedLives$State" "homes" "I" "BorrowedLives") ∈ lw_tbl := lw_at lw_m1 190 rfl
theorem q316 : (Jvm.Cond.fieldLinkNest "BorrowedLives" (251 : Nat) "BorrowedLives$State" "harm" "I" "BorrowedLives") ∈ lw_tbl := lw_at lw_m1 192 rfl
theorem q342 : (Jvm.Cond.classLink "BorrowedLives" (87 : Nat) "[[I") ∈ lw_all := lw_g (lw_at lw_m1 218 rfl) rfl
theorem q344 : (Jvm.Cond.classLink "BorrowedLives" (95 : Nat) "BorrowedLives$Mark") ∈ lw_all := lw_g (lw_at lw_m1 220 rfl) rfl
theorem q346 : (Jvm.Cond.methodLink "BorrowedLives" (101 : Nat) ({ cls := "BorrowedLives$State", name := "begin", desc := "(LBorrowedLives$Town;)V" } : Jvm.MethodName)) ∈ lw_all := lw_g (lw_at lw_m1 222 rfl) rfl
theorem q373 : (Jvm.Cond.fieldLink "BorrowedLives" (21 : Nat) "BorrowedLives" "tape" "[B") ∈ lw_all := lw_g (lw_at lw_m2 9 rfl) rfl
theorem q374 : (Jvm.Cond.fieldLink "BorrowedLives" (28 : Nat) "BorrowedLives" "reader" "LBorrowedLives$Reader;") ∈ lw_all := lw_g (lw_at lw_m2 10 rfl) rfl
theorem q377 : (Jvm.Cond.fieldLink "BorrowedLives" (35 : Nat) "BorrowedLives" "town" "LBorrowedLives$Town;") ∈ lw_all := lw_g (lw_at lw_m2 13 rfl) rfl
theorem q378 : (Jvm.Cond.fieldLink "BorrowedLives" (44 : Nat) "BorrowedLives" "lines" "Ljava/util/ArrayList;") ∈ lw_all := lw_g (lw_at lw_m2 14 rfl) rfl
theorem q380 : (Jvm.Cond.fieldLink "BorrowedLives" (51 : Nat) "BorrowedLives" "state" "LBorrowedLives$State;") ∈ lw_all := lw_g (lw_at lw_m2 16 rfl) rfl
theorem q382 : (Jvm.Cond.fieldLink "BorrowedLives" (55 : Nat) "BorrowedLives" "trial" "LBorrowedLives$State;") ∈ lw_all := lw_g (lw_at lw_m2 18 rfl) rfl
theorem q386 : (Jvm.Cond.fieldLink "BorrowedLives" (58 : Nat) "BorrowedLives" "week" "LBorrowedLives$State;") ∈ lw_all := lw_g (lw_at lw_m2 22 rfl) rfl
theorem q387 : (Jvm.Cond.fieldLink "BorrowedLives" (61 : Nat) "BorrowedLives" "facts" "[I") ∈ lw_all := lw_g (lw_at lw_m2 23 rfl) rfl
theorem q388 : (Jvm.Cond.fieldLink "BorrowedLives" (105 : Nat) "BorrowedLives" "taped" "I") ∈ lw_all := lw_g (lw_at lw_m2 24 rfl) rfl
theorem q389 : (Jvm.Cond.fieldLink "BorrowedLives" (65 : Nat) "BorrowedLives" "lot" "[I") ∈ lw_all := lw_g (lw_at lw_m2 25 rfl) rfl
theorem q390 : (Jvm.Cond.fieldLink "BorrowedLives" (68 : Nat) "BorrowedLives" "undone" "[LBorrowedLives$State;") ∈ lw_all := lw_g (lw_at lw_m2 26 rfl) rfl
theorem q391 : (Jvm.Cond.fieldLink "BorrowedLives" (126 : Nat) "BorrowedLives" "done" "I") ∈ lw_all := lw_g (lw_at lw_m2 27 rfl) rfl
theorem q393 : (Jvm.Cond.fieldLink "BorrowedLives" (292 : Nat) "BorrowedLives" "g" "J") ∈ lw_all := lw_g (lw_at lw_m2 29 rfl) rfl
theorem q394 : (Jvm.Cond.fieldLink "BorrowedLives" (72 : Nat) "BorrowedLives" "pairOf" "[I") ∈ lw_all := lw_g (lw_at lw_m2 30 rfl) rfl
theorem q395 : (Jvm.Cond.fieldLink "BorrowedLives" (75 : Nat) "BorrowedLives" "bestPair" "[I") ∈ lw_all := lw_g (lw_at lw_m2 31 rfl) rfl
theorem q396 : (Jvm.Cond.fieldLink "BorrowedLives" (399 : Nat) "BorrowedLives" "bestPairs" "I") ∈ lw_all := lw_g (lw_at lw_m2 32 rfl) rfl
theorem q397 : (Jvm.Cond.fieldLink "BorrowedLives" (78 : Nat) "BorrowedLives" "taleLife" "[I") ∈ lw_all := lw_g (lw_at lw_m2 33 rfl) rfl
theorem q398 : (Jvm.Cond.fieldLink "BorrowedLives" (81 : Nat) "BorrowedLives" "taleDay" "[I") ∈ lw_all := lw_g (lw_at lw_m2 34 rfl) rfl
theorem q399 : (Jvm.Cond.fieldLink "BorrowedLives" (84 : Nat) "BorrowedLives" "talePurse" "[I") ∈ lw_all := lw_g (lw_at lw_m2 35 rfl) rfl
theorem q400 : (Jvm.Cond.fieldLink "BorrowedLives" (123 : Nat) "BorrowedLives" "tales" "I") ∈ lw_all := lw_g (lw_at lw_m2 36 rfl) rfl
theorem q402 : (Jvm.Cond.fieldLink "BorrowedLives" (89 : Nat) "BorrowedLives" "held" "[[I") ∈ lw_all := lw_g (lw_at lw_m2 38 rfl) rfl
theorem q404 : (Jvm.Cond.fieldLink "BorrowedLives" (92 : Nat) "BorrowedLives" "like" "[I") ∈ lw_all := lw_g (lw_at lw_m2 40 rfl) rfl
theorem q405 : (Jvm.Cond.fieldLink "BorrowedLives" (97 : Nat) "BorrowedLives" "marks" "[LBorrowedLives$Mark;") ∈ lw_all := lw_g (lw_at lw_m2 41 rfl) rfl
theorem q406 : (Jvm.Cond.laysFinal "BorrowedLives" "BorrowedLives" "tape" "[B") ∈ lw_all := lw_g (lw_at lw_m2 42 rfl) rfl
theorem q407 : (Jvm.Cond.soleField "BorrowedLives" "tape") ∈ lw_all := lw_g (lw_at lw_m2 43 rfl) rfl
theorem q408 : (Jvm.Cond.laysFinal "BorrowedLives" "BorrowedLives" "reader" "LBorrowedLives$Reader;") ∈ lw_all := lw_g (lw_at lw_m2 44 rfl) rfl
theorem q409 : (Jvm.Cond.soleField "BorrowedLives" "reader") ∈ lw_all := lw_g (lw_at lw_m2 45 rfl) rfl
theorem q410 : (Jvm.Cond.lays "BorrowedLives" "BorrowedLives" "town" "LBorrowedLives$Town;") ∈ lw_all := lw_g (lw_at lw_m2 46 rfl) rfl
theorem q411 : (Jvm.Cond.soleField "BorrowedLives" "town") ∈ lw_all := lw_g (lw_at lw_m2 47 rfl) rfl
theorem q412 : (Jvm.Cond.lays "BorrowedLives" "BorrowedLives" "lines" "Ljava/util/ArrayList;") ∈ lw_all := lw_g (lw_at lw_m2 48 rfl) rfl
theorem q413 : (Jvm.Cond.soleField "BorrowedLives" "lines") ∈ lw_all := lw_g (lw_at lw_m2 49 rfl) rfl
theorem q414 : (Jvm.Cond.laysFinal "BorrowedLives" "BorrowedLives" "state" "LBorrowedLives$State;") ∈ lw_all := lw_g (lw_at lw_m2 50 rfl) rfl
theorem q415 : (Jvm.Cond.soleField "BorrowedLives" "state") ∈ lw_all := lw_g (lw_at lw_m2 51 rfl) rfl
theorem q416 : (Jvm.Cond.laysFinal "BorrowedLives" "BorrowedLives" "trial" "LBorrowedLives$State;") ∈ lw_all := lw_g (lw_at lw_m2 52 rfl) rfl
theorem q417 : (Jvm.Cond.soleField "BorrowedLives" "trial") ∈ lw_all := lw_g (lw_at lw_m2 53 rfl) rfl
theorem q418 : (Jvm.Cond.laysFinal "BorrowedLives" "BorrowedLives" "week" "LBorrowedLives$State;") ∈ lw_all := lw_g (lw_at lw_m2 54 rfl) rfl
theorem q419 : (Jvm.Cond.soleField "BorrowedLives" "week") ∈ lw_all := lw_g (lw_at lw_m2 55 rfl) rfl
theorem q420 : (Jvm.Cond.laysFinal "BorrowedLives" "BorrowedLives" "facts" "[I") ∈ lw_all := lw_g (lw_at lw_m2 56 rfl) rfl
theorem q421 : (Jvm.Cond.soleField "BorrowedLives" "facts") ∈ lw_all := lw_g (lw_at lw_m2 57 rfl) rfl
theorem q422 : (Jvm.Cond.lays "BorrowedLives" "BorrowedLives" "taped" "I") ∈ lw_all := lw_g (lw_at lw_m2 58 rfl) rfl
theorem q423 : (Jvm.Cond.soleField "BorrowedLives" "taped") ∈ lw_all := lw_g (lw_at lw_m2 59 rfl) rfl
theorem q424 : (Jvm.Cond.laysFinal "BorrowedLives" "BorrowedLives" "lot" "[I") ∈ lw_all := lw_g (lw_at lw_m2 60 rfl) rfl
theorem q425 : (Jvm.Cond.soleField "BorrowedLives" "lot") ∈ lw_all := lw_g (lw_at lw_m2 61 rfl) rfl
theorem q426 : (Jvm.Cond.laysFinal "BorrowedLives" "BorrowedLives" "undone" "[LBorrowedLives$State;") ∈ lw_all := lw_g (lw_at lw_m2 62 rfl) rfl
theorem q427 : (Jvm.Cond.soleField "BorrowedLives" "undone") ∈ lw_all := lw_g (lw_at lw_m2 63 rfl) rfl
theorem q428 : (Jvm.Cond.lays "BorrowedLives" "BorrowedLives" "done" "I") ∈ lw_all := lw_g (lw_at lw_m2 64 rfl) rfl
theorem q429 : (Jvm.Cond.soleField "BorrowedLives" "done") ∈ lw_all := lw_g (lw_at lw_m2 65 rfl) rfl
theorem q430 : (Jvm.Cond.lays "BorrowedLives" "BorrowedLives" "g" "J") ∈ lw_all := lw_g (lw_at lw_m2 66 rfl) rfl
theorem q431 : (Jvm.Cond.soleField "BorrowedLives" "g") ∈ lw_all := lw_g (lw_at lw_m2 67 rfl) rfl
theorem q432 : (Jvm.Cond.laysFinal "BorrowedLives" "BorrowedLives" "pairOf" "[I") ∈ lw_all := lw_g (lw_at lw_m2 68 rfl) rfl
theorem q433 : (Jvm.Cond.soleField "BorrowedLives" "pairOf") ∈ lw_all := lw_g (lw_at lw_m2 69 rfl) rfl
theorem q434 : (Jvm.Cond.laysFinal "BorrowedLives" "BorrowedLives" "bestPair" "[I") ∈ lw_all := lw_g (lw_at lw_m2 70 rfl) rfl
theorem q435 : (Jvm.Cond.soleField "BorrowedLives" "bestPair") ∈ lw_all := lw_g (lw_at lw_m2 71 rfl) rfl
theorem q436 : (Jvm.Cond.lays "BorrowedLives" "BorrowedLives" "bestPairs" "I") ∈ lw_all := lw_g (lw_at lw_m2 72 rfl) rfl
theorem q437 : (Jvm.Cond.soleField "BorrowedLives" "bestPairs") ∈ lw_all := lw_g (lw_at lw_m2 73 rfl) rfl
theorem q438 : (Jvm.Cond.laysFinal "BorrowedLives" "BorrowedLives" "taleLife" "[I") ∈ lw_all := lw_g (lw_at lw_m2 74 rfl) rfl
theorem q439 : (Jvm.Cond.soleField "BorrowedLives" "taleLife") ∈ lw_all := lw_g (lw_at lw_m2 75 rfl) rfl
theorem q440 : (Jvm.Cond.laysFinal "BorrowedLives" "BorrowedLives" "taleDay" "[I") ∈ lw_all := lw_g (lw_at lw_m2 76 rfl) rfl
theorem q441 : (Jvm.Cond.soleField "BorrowedLives" "taleDay") ∈ lw_all := lw_g (lw_at lw_m2 77 rfl) rfl
theorem q442 : (Jvm.Cond.laysFinal "BorrowedLives" "BorrowedLives" "talePurse" "[I") ∈ lw_all := lw_g (lw_at lw_m2 78 rfl) rfl
theorem q443 : (Jvm.Cond.soleField "BorrowedLives" "talePurse") ∈ lw_all := lw_g (lw_at lw_m2 79 rfl) rfl
theorem q444 : (Jvm.Cond.lays "BorrowedLives" "BorrowedLives" "tales" "I") ∈ lw_all := lw_g (lw_at lw_m2 80 rfl) rfl
theorem q445 : (Jvm.Cond.soleField "BorrowedLives" "tales") ∈ lw_all := lw_g (lw_at lw_m2 81 rfl) rfl
theorem q446 : (Jvm.Cond.laysFinal "BorrowedLives" "BorrowedLives" "held" "[[I") ∈ lw_all := lw_g (lw_at lw_m2 82 rfl) rfl
theorem q447 : (Jvm.Cond.soleField "BorrowedLives" "held") ∈ lw_all := lw_g (lw_at lw_m2 83 rfl) rfl
theorem q448 : (Jvm.Cond.laysFinal "BorrowedLives" "BorrowedLives" "like" "[I") ∈ lw_all := lw_g (lw_at lw_m2 84 rfl) rfl
theorem q449 : (Jvm.Cond.soleField "BorrowedLives" "like") ∈ lw_all := lw_g (lw_at lw_m2 85 rfl) rfl
theorem q450 : (Jvm.Cond.laysFinal "BorrowedLives" "BorrowedLives" "marks" "[LBorrowedLives$Mark;") ∈ lw_all := lw_g (lw_at lw_m2 86 rfl) rfl
theorem q451 : (Jvm.Cond.soleField "BorrowedLives" "marks") ∈ lw_all := lw_g (lw_at lw_m2 87 rfl) rfl
theorem q452 : (Jvm.Cond.superclass "BorrowedLives" "java/lang/Object") ∈ lw_all := lw_g (lw_at lw_m2 88 rfl) rfl
theorem q454 : (Jvm.Cond.instanceMethod ({ cls := "BorrowedLives", name := "feed", desc := "(JJJ)I" } : Jvm.MethodName)) ∈ lw_all := lw_g (lw_at lw_m2 90 rfl) rfl
theorem q455 : (Jvm.Cond.selects "BorrowedLives" ({ cls := "BorrowedLives", name := "feed", desc := "(JJJ)I" } : Jvm.MethodName) ({ cls := "BorrowedLives", name := "feed", desc := "(JJJ)I" } : Jvm.MethodName)) ∈ lw_all := lw_g (lw_at lw_m2 91 rfl) rfl
theorem q456 : (Jvm.Cond.code ({ cls := "BorrowedLives", name := "feed", desc := "(JJJ)I" } : Jvm.MethodName) prog_1_method_8_code (9 : Nat) (Option.some Jvm.ClassFile.FieldType.int)) ∈ lw_all := lw_g (lw_at lw_m2 92 rfl) rfl
theorem q458 : (Jvm.Cond.instanceMethod ({ cls := "BorrowedLives", name := "town", desc := "()I" } : Jvm.MethodName)) ∈ lw_all := lw_g (lw_at lw_m2 94 rfl) rfl
theorem q459 : (Jvm.Cond.selects "BorrowedLives" ({ cls := "BorrowedLives", name := "town", desc := "()I" } : Jvm.MethodName) ({ cls := "BorrowedLives", name := "town", desc := "()I" } : Jvm.MethodName)) ∈ lw_all := lw_g (lw_at lw_m2 95 rfl) rfl
theorem q460 : (Jvm.Cond.codeWith ({ cls := "BorrowedLives", name := "town", desc := "()I" } : Jvm.MethodName) prog_1_method_10_code (2 : Nat) (Option.some Jvm.ClassFile.FieldType.int) [((4 : Nat), (15 : Nat), (18 : Nat), (118 : Nat))]) ∈ lw_all := lw_g (lw_at lw_m2 96 rfl) rfl
theorem q461 : (Jvm.Cond.classLink "BorrowedLives" (118 : Nat) "BorrowedLives$Wrong") ∈ lw_all := lw_g (lw_at lw_m2 97 rfl) rfl
theorem q462 : (Jvm.Cond.methodLink "BorrowedLives" (112 : Nat) ({ cls := "BorrowedLives", name := "reads", desc := "()V" } : Jvm.MethodName)) ∈ lw_all := lw_g (lw_at lw_m2 98 rfl) rfl
theorem q463 : (Jvm.Cond.privateMethod ({ cls := "BorrowedLives", name := "reads", desc := "()V" } : Jvm.MethodName)) ∈ lw_tbl := lw_at lw_m2 99 rfl
theorem q464 : (Jvm.Cond.instanceMethod ({ cls := "BorrowedLives", name := "reads", desc := "()V" } : Jvm.MethodName)) ∈ lw_all := lw_g (lw_at lw_m2 100 rfl) rfl
theorem q465 : (Jvm.Cond.code ({ cls := "BorrowedLives", name := "reads", desc := "()V" } : Jvm.MethodName) prog_1_method_9_code (1 : Nat) (Option.none : Option Jvm.ClassFile.FieldType)) ∈ lw_all := lw_g (lw_at lw_m2 101 rfl) rfl
theorem q466 : (Jvm.Cond.methodLink "BorrowedLives" (109 : Nat) ({ cls := "BorrowedLives$Reader", name := "begin", desc := "([BI)V" } : Jvm.MethodName)) ∈ lw_all := lw_g (lw_at lw_m2 102 rfl) rfl
theorem q571 : (Jvm.Cond.methodLink "BorrowedLives" (115 : Nat) ({ cls := "BorrowedLives$Reader", name := "town", desc := "()LBorrowedLives$Town;" } : Jvm.MethodName)) ∈ lw_all := lw_g (lw_at lw_m2 207 rfl) rfl
theorem q659 : (Jvm.Cond.fieldLinkNest "BorrowedLives" (120 : Nat) "BorrowedLives$Wrong" "fault" "I" "BorrowedLives") ∈ lw_tbl := lw_at lw_m3 55 rfl
theorem q879 : (Jvm.Cond.fieldLink "BorrowedLives" (170 : Nat) "BorrowedLives$Person" "skill" "I") ∈ lw_all := lw_g (lw_at lw_m4 35 rfl) rfl
theorem q887 : (Jvm.Cond.fieldLink "BorrowedLives" (156 : Nat) "BorrowedLives$Person" "barred" "I") ∈ lw_all := lw_g (lw_at lw_m4 43 rfl) rfl
theorem q982 : (Jvm.Cond.selects "BorrowedLives" ({ cls := "java/lang/Object", name := "getClass", desc := "()Ljava/lang/Class;" } : Jvm.MethodName) ({ cls := "java/lang/Object", name := "getClass", desc := "()Ljava/lang/Class;" } : Jvm.MethodName)) ∈ lw_all := lw_g (lw_at lw_m4 138 rfl) rfl
theorem q1025 : (Jvm.Cond.static ({ cls := "BorrowedLives", name := "isIn", desc := "(II)Z" } : Jvm.MethodName)) ∈ lw_all := lw_g (lw_at lw_m4 181 rfl) rfl
theorem q1026 : (Jvm.Cond.code ({ cls := "BorrowedLives", name := "isIn", desc := "(II)Z" } : Jvm.MethodName) prog_1_method_3_code (2 : Nat) (Option.some Jvm.ClassFile.FieldType.boolean)) ∈ lw_all := lw_g (lw_at lw_m4 182 rfl) rfl
theorem q1113 : (Jvm.Cond.instanceMethod ({ cls := "BorrowedLives", name := "year", desc := "()I" } : Jvm.MethodName)) ∈ lw_all := lw_g (lw_at lw_m5 29 rfl) rfl
theorem q1114 : (Jvm.Cond.selects "BorrowedLives" ({ cls := "BorrowedLives", name := "year", desc := "()I" } : Jvm.MethodName) ({ cls := "BorrowedLives", name := "year", desc := "()I" } : Jvm.MethodName)) ∈ lw_all := lw_g (lw_at lw_m5 30 rfl) rfl
theorem q1115 : (Jvm.Cond.codeWith ({ cls := "BorrowedLives", name := "year", desc := "()I" } : Jvm.MethodName) prog_1_method_11_code (2 : Nat) (Option.some Jvm.ClassFile.FieldType.int) [((4 : Nat), (19 : Nat), (22 : Nat), (118 : Nat))]) ∈ lw_all := lw_g (lw_at lw_m5 31 rfl) rfl
theorem q1116 : (Jvm.Cond.methodLink "BorrowedLives" (129 : Nat) ({ cls := "BorrowedLives$Reader", name := "year", desc := "(LBorrowedLives$Town;)Ljava/util/ArrayList;" } : Jvm.MethodName)) ∈ lw_all := lw_g (lw_at lw_m5 32 rfl) rfl
theorem q1185 : (Jvm.Cond.instanceMethod ({ cls := "BorrowedLives", name := "person", desc := "(II)I" } : Jvm.MethodName)) ∈ lw_all := lw_g (lw_at lw_m5 101 rfl) rfl
theorem q1186 : (Jvm.Cond.selects "BorrowedLives" ({ cls := "BorrowedLives", name := "person", desc := "(II)I" } : Jvm.MethodName) ({ cls := "BorrowedLives", name := "person", desc := "(II)I" } : Jvm.MethodName)) ∈ lw_all := lw_g (lw_at lw_m5 102 rfl) rfl
theorem q1187 : (Jvm.Cond.code ({ cls := "BorrowedLives", name := "person", desc := "(II)I" } : Jvm.MethodName) prog_1_method_16_code (3 : Nat) (Option.some Jvm.ClassFile.FieldType.int)) ∈ lw_all := lw_g (lw_at lw_m5 103 rfl) rfl
theorem q1188 : (Jvm.Cond.methodLink "BorrowedLives" (163 : Nat) ({ cls := "BorrowedLives", name := "isPerson", desc := "(I)Z" } : Jvm.MethodName)) ∈ lw_all := lw_g (lw_at lw_m5 104 rfl) rfl
theorem q1189 : (Jvm.Cond.privateMethod ({ cls := "BorrowedLives", name := "isPerson", desc := "(I)Z" } : Jvm.MethodName)) ∈ lw_tbl := lw_at lw_m5 105 rfl
theorem q1190 : (Jvm.Cond.instanceMethod ({ cls := "BorrowedLives", name := "isPerson", desc := "(I)Z" } : Jvm.MethodName)) ∈ lw_all := lw_g (lw_at lw_m5 106 rfl) rfl
theorem q1191 : (Jvm.Cond.code ({ cls := "BorrowedLives", name := "isPerson", desc := "(I)Z" } : Jvm.MethodName) prog_1_method_14_code (2 : Nat) (Option.some Jvm.ClassFile.FieldType.boolean)) ∈ lw_all := lw_g (lw_at lw_m5 107 rfl) rfl
theorem q1192 : (Jvm.Cond.methodLink "BorrowedLives" (146 : Nat) ({ cls := "BorrowedLives", name := "people", desc := "()I" } : Jvm.MethodName)) ∈ lw_all := lw_g (lw_at lw_m5 108 rfl) rfl
theorem q1193 : (Jvm.Cond.privateMethod ({ cls := "BorrowedLives", name := "people", desc := "()I" } : Jvm.MethodName)) ∈ lw_tbl := lw_at lw_m5 109 rfl
theorem q1194 : (Jvm.Cond.instanceMethod ({ cls := "BorrowedLives", name := "people", desc := "()I" } : Jvm.MethodName)) ∈ lw_all := lw_g (lw_at lw_m5 110 rfl) rfl
theorem q1195 : (Jvm.Cond.code ({ cls := "BorrowedLives", name := "people", desc := "()I" } : Jvm.MethodName) prog_1_method_12_code (1 : Nat) (Option.some Jvm.ClassFile.FieldType.int)) ∈ lw_all := lw_g (lw_at lw_m5 111 rfl) rfl
theorem q1196 : (Jvm.Cond.methodLink "BorrowedLives" (136 : Nat) ({ cls := "java/util/ArrayList", name := "size", desc := "()I" } : Jvm.MethodName)) ∈ lw_all := lw_g (lw_at lw_m5 112 rfl) rfl
theorem q1197 : (Jvm.Cond.methodLink "BorrowedLives" (148 : Nat) ({ cls := "BorrowedLives", name := "in", desc := "(III)Z" } : Jvm.MethodName)) ∈ lw_all := lw_g (lw_at lw_m5 113 rfl) rfl
theorem q1198 : (Jvm.Cond.static ({ cls := "BorrowedLives", name := "in", desc := "(III)Z" } : Jvm.MethodName)) ∈ lw_all := lw_g (lw_at lw_m5 114 rfl) rfl
theorem q1199 : (Jvm.Cond.code ({ cls := "BorrowedLives", name := "in", desc := "(III)Z" } : Jvm.MethodName) prog_1_method_1_code (3 : Nat) (Option.some Jvm.ClassFile.FieldType.boolean)) ∈ lw_all := lw_g (lw_at lw_m5 115 rfl) rfl
theorem q1200 : (Jvm.Cond.methodLink "BorrowedLives" (152 : Nat) ({ cls := "BorrowedLives", name := "person", desc := "(I)LBorrowedLives$Person;" } : Jvm.MethodName)) ∈ lw_all := lw_g (lw_at lw_m5 116 rfl) rfl
theorem q1201 : (Jvm.Cond.privateMethod ({ cls := "BorrowedLives", name := "person", desc := "(I)LBorrowedLives$Person;" } : Jvm.MethodName)) ∈ lw_tbl := lw_at lw_m5 117 rfl
theorem q1202 : (Jvm.Cond.instanceMethod ({ cls := "BorrowedLives", name := "person", desc := "(I)LBorrowedLives$Person;" } : Jvm.MethodName)) ∈ lw_all := lw_g (lw_at lw_m5 118 rfl) rfl
theorem q1203 : (Jvm.Cond.code ({ cls := "BorrowedLives", name := "person", desc := "(I)LBorrowedLives$Person;" } : Jvm.MethodName) prog_1_method_13_code (2 : Nat) (Option.some (Jvm.ClassFile.FieldType.object "BorrowedLives$Person"))) ∈ lw_all := lw_g (lw_at lw_m5 119 rfl) rfl
theorem q1204 : (Jvm.Cond.methodLink "BorrowedLives" (140 : Nat) ({ cls := "java/util/ArrayList", name := "get", desc := "(I)Ljava/lang/Object;" } : Jvm.MethodName)) ∈ lw_all := lw_g (lw_at lw_m5 120 rfl) rfl
theorem q1205 : (Jvm.Cond.classLink "BorrowedLives" (144 : Nat) "BorrowedLives$Person") ∈ lw_all := lw_g (lw_at lw_m5 121 rfl) rfl
theorem q1206 : (Jvm.Cond.methodLink "BorrowedLives" (167 : Nat) ({ cls := "BorrowedLives$Person", name := "kind", desc := "()I" } : Jvm.MethodName)) ∈ lw_all := lw_g (lw_at lw_m5 122 rfl) rfl
theorem q1220 : (Jvm.Cond.methodLink "BorrowedLives" (173 : Nat) ({ cls := "BorrowedLives$State", name := "lifeOf", desc := "(I)I" } : Jvm.MethodName)) ∈ lw_all := lw_g (lw_at lw_m5 136 rfl) rfl
theorem q1225 : (Jvm.Cond.instanceMethod ({ cls := "BorrowedLives", name := "life", desc := "(II)I" } : Jvm.MethodName)) ∈ lw_all := lw_g (lw_at lw_m5 141 rfl) rfl
theorem q1226 : (Jvm.Cond.selects "BorrowedLives" ({ cls := "BorrowedLives", name := "life", desc := "(II)I" } : Jvm.MethodName) ({ cls := "BorrowedLives", name := "life", desc := "(II)I" } : Jvm.MethodName)) ∈ lw_all := lw_g (lw_at lw_m5 142 rfl) rfl
theorem q1227 : (Jvm.Cond.code ({ cls := "BorrowedLives", name := "life", desc := "(II)I" } : Jvm.MethodName) prog_1_method_17_code (3 : Nat) (Option.some Jvm.ClassFile.FieldType.int)) ∈ lw_all := lw_g (lw_at lw_m5 143 rfl) rfl
theorem q1228 : (Jvm.Cond.methodLink "BorrowedLives" (192 : Nat) ({ cls := "BorrowedLives$State", name := "harmOf", desc := "(I)I" } : Jvm.MethodName)) ∈ lw_all := lw_g (lw_at lw_m5 144 rfl) rfl
theorem q1233 : (Jvm.Cond.methodLink "BorrowedLives" (195 : Nat) ({ cls := "BorrowedLives$State", name := "goodOf", desc := "(I)I" } : Jvm.MethodName)) ∈ lw_all := lw_g (lw_at lw_m5 149 rfl) rfl
theorem q1238 : (Jvm.Cond.instanceMethod ({ cls := "BorrowedLives", name := "may", desc := "(II)Z" } : Jvm.MethodName)) ∈ lw_all := lw_g (lw_at lw_m5 154 rfl) rfl
theorem q1239 : (Jvm.Cond.selects "BorrowedLives" ({ cls := "BorrowedLives", name := "may", desc := "(II)Z" } : Jvm.MethodName) ({ cls := "BorrowedLives", name := "may", desc := "(II)Z" } : Jvm.MethodName)) ∈ lw_all := lw_g (lw_at lw_m5 155 rfl) rfl
theorem q1240 : (Jvm.Cond.code ({ cls := "BorrowedLives", name := "may", desc := "(II)Z" } : Jvm.MethodName) prog_1_method_18_code (3 : Nat) (Option.some Jvm.ClassFile.FieldType.boolean)) ∈ lw_all := lw_g (lw_at lw_m5 156 rfl) rfl
theorem q1241 : (Jvm.Cond.methodLink "BorrowedLives" (198 : Nat) ({ cls := "BorrowedLives", name := "mayBe", desc := "(II)Z" } : Jvm.MethodName)) ∈ lw_all := lw_g (lw_at lw_m5 157 rfl) rfl
theorem q1242 : (Jvm.Cond.privateMethod ({ cls := "BorrowedLives", name := "mayBe", desc := "(II)Z" } : Jvm.MethodName)) ∈ lw_tbl := lw_at lw_m5 158 rfl
theorem q1243 : (Jvm.Cond.instanceMethod ({ cls := "BorrowedLives", name := "mayBe", desc := "(II)Z" } : Jvm.MethodName)) ∈ lw_all := lw_g (lw_at lw_m5 159 rfl) rfl
theorem q1244 : (Jvm.Cond.code ({ cls := "BorrowedLives", name := "mayBe", desc := "(II)Z" } : Jvm.MethodName) prog_1_method_15_code (3 : Nat) (Option.some Jvm.ClassFile.FieldType.boolean)) ∈ lw_all := lw_g (lw_at lw_m5 160 rfl) rfl
theorem q1245 : (Jvm.Cond.methodLink "BorrowedLives" (159 : Nat) ({ cls := "BorrowedLives", name := "isIn", desc := "(II)Z" } : Jvm.MethodName)) ∈ lw_all := lw_g (lw_at lw_m5 161 rfl) rfl
theorem q1247 : (Jvm.Cond.instanceMethod ({ cls := "BorrowedLives", name := "lots", desc := "()I" } : Jvm.MethodName)) ∈ lw_all := lw_g (lw_at lw_m5 163 rfl) rfl
theorem q1248 : (Jvm.Cond.selects "BorrowedLives" ({ cls := "BorrowedLives", name := "lots", desc := "()I" } : Jvm.MethodName) ({ cls := "BorrowedLives", name := "lots", desc := "()I" } : Jvm.MethodName)) ∈ lw_all := lw_g (lw_at lw_m5 164 rfl) rfl
theorem q1249 : (Jvm.Cond.code ({ cls := "BorrowedLives", name := "lots", desc := "()I" } : Jvm.MethodName) prog_1_method_27_code (2 : Nat) (Option.some Jvm.ClassFile.FieldType.int)) ∈ lw_all := lw_g (lw_at lw_m5 165 rfl) rfl
theorem q1250 : (Jvm.Cond.classLink "BorrowedLives" (273 : Nat) "BorrowedLives$Counts") ∈ lw_all := lw_g (lw_at lw_m5 166 rfl) rfl
theorem q1252 : (Jvm.Cond.methodLink "BorrowedLives" (275 : Nat) ({ cls := "BorrowedLives$Counts", name := "<init>", desc := "(LBorrowedLives;II)V" } : Jvm.MethodName)) ∈ lw_all := lw_g (lw_at lw_m5 168 rfl) rfl
theorem q1262 : (Jvm.Cond.fieldLinkNest "BorrowedLives" (283 : Nat) "BorrowedLives$Counts" "hits" "I" "BorrowedLives") ∈ lw_tbl := lw_at lw_m5 178 rfl
theorem q1268 : (Jvm.Cond.fieldLink "BorrowedLives" (260 : Nat) "BorrowedLives$Looker" "lots" "I") ∈ lw_all := lw_g (lw_at lw_m5 184 rfl) rfl
theorem q1269 : (Jvm.Cond.fieldLink "BorrowedLives" (282 : Nat) "BorrowedLives$Counts" "lots" "I") ∈ lw_all := lw_g (lw_at lw_m5 185 rfl) rfl
theorem q1271 : (Jvm.Cond.fieldLink "BorrowedLives" (361 : Nat) "BorrowedLives$Least" "lots" "I") ∈ lw_all := lw_g (lw_at lw_m5 187 rfl) rfl
theorem q1272 : (Jvm.Cond.fieldLink "BorrowedLives" (369 : Nat) "BorrowedLives$Harms" "lots" "I") ∈ lw_all := lw_g (lw_at lw_m5 188 rfl) rfl
theorem q1288 : (Jvm.Cond.methodLink "BorrowedLives" (278 : Nat) ({ cls := "BorrowedLives", name := "shows", desc := "(LBorrowedLives$Looker;)V" } : Jvm.MethodName)) ∈ lw_all := lw_g (lw_at lw_m5 204 rfl) rfl
theorem q1289 : (Jvm.Cond.privateMethod ({ cls := "BorrowedLives", name := "shows", desc := "(LBorrowedLives$Looker;)V" } : Jvm.MethodName)) ∈ lw_tbl := lw_at lw_m5 205 rfl
theorem q1290 : (Jvm.Cond.instanceMethod ({ cls := "BorrowedLives", name := "shows", desc := "(LBorrowedLives$Looker;)V" } : Jvm.MethodName)) ∈ lw_all := lw_g (lw_at lw_m5 206 rfl) rfl
theorem q1291 : (Jvm.Cond.code ({ cls := "BorrowedLives", name := "shows", desc := "(LBorrowedLives$Looker;)V" } : Jvm.MethodName) prog_1_method_26_code (3 : Nat) (Option.none : Option Jvm.ClassFile.FieldType)) ∈ lw_all := lw_g (lw_at lw_m5 207 rfl) rfl
theorem q1292 : (Jvm.Cond.methodLink "BorrowedLives" (269 : Nat) ({ cls := "BorrowedLives", name := "gives", desc := "(LBorrowedLives$Looker;II)V" } : Jvm.MethodName)) ∈ lw_all := lw_g (lw_at lw_m5 208 rfl) rfl
theorem q1293 : (Jvm.Cond.privateMethod ({ cls := "BorrowedLives", name := "gives", desc := "(LBorrowedLives$Looker;II)V" } : Jvm.MethodName)) ∈ lw_tbl := lw_at lw_m5 209 rfl
theorem q1294 : (Jvm.Cond.instanceMethod ({ cls := "BorrowedLives", name := "gives", desc := "(LBorrowedLives$Looker;II)V" } : Jvm.MethodName)) ∈ lw_all := lw_g (lw_at lw_m5 210 rfl) rfl
theorem q1295 : (Jvm.Cond.code ({ cls := "BorrowedLives", name := "gives", desc := "(LBorrowedLives$Looker;II)V" } : Jvm.MethodName) prog_1_method_25_code (5 : Nat) (Option.none : Option Jvm.ClassFile.FieldType)) ∈ lw_all := lw_g (lw_at lw_m5 211 rfl) rfl
theorem q1296 : (Jvm.Cond.methodLink "BorrowedLives" (265 : Nat) ({ cls := "BorrowedLives$Looker", name := "sees", desc := "([I)V" } : Jvm.MethodName)) ∈ lw_all := lw_g (lw_at lw_m5 212 rfl) rfl
theorem q1303 : (Jvm.Cond.privateMethod ({ cls := "BorrowedLives", name := "fits", desc := "([I)Z" } : Jvm.MethodName)) ∈ lw_tbl := lw_at lw_m5 219 rfl
theorem q1304 : (Jvm.Cond.instanceMethod ({ cls := "BorrowedLives", name := "fits", desc := "([I)Z" } : Jvm.MethodName)) ∈ lw_all := lw_g (lw_at lw_m5 220 rfl) rfl
theorem q1305 : (Jvm.Cond.code ({ cls := "BorrowedLives", name := "fits", desc := "([I)Z" } : Jvm.MethodName) prog_1_method_54_code (3 : Nat) (Option.some Jvm.ClassFile.FieldType.boolean)) ∈ lw_all := lw_g (lw_at lw_m5 221 rfl) rfl
theorem q1306 : (Jvm.Cond.methodLink "BorrowedLives" (288 : Nat) ({ cls := "BorrowedLives$State", name := "be", desc := "(LBorrowedLives$State;)V" } : Jvm.MethodName)) ∈ lw_all := lw_g (lw_at lw_m5 222 rfl) rfl
theorem q1311 : (Jvm.Cond.static ({ cls := "BorrowedLives", name := "copies", desc := "([I[I)V" } : Jvm.MethodName)) ∈ lw_all := lw_g (lw_at lw_m5 227 rfl) rfl
theorem q1312 : (Jvm.Cond.code ({ cls := "BorrowedLives", name := "copies", desc := "([I[I)V" } : Jvm.MethodName) prog_1_method_5_code (3 : Nat) (Option.none : Option Jvm.ClassFile.FieldType)) ∈ lw_all := lw_g (lw_at lw_m5 228 rfl) rfl
theorem q1313 : (Jvm.Cond.methodLink "BorrowedLives" (317 : Nat) ({ cls := "BorrowedLives$State", name := "goes", desc := "([I)V" } : Jvm.MethodName)) ∈ lw_all := lw_g (lw_at lw_m5 229 rfl) rfl
theorem q1317 : (Jvm.Cond.methodLink "BorrowedLives" (341 : Nat) ({ cls := "BorrowedLives$Town", name := "sign", desc := "()I" } : Jvm.MethodName)) ∈ lw_all := lw_g (lw_at lw_m5 233 rfl) rfl
theorem q1321 : (Jvm.Cond.methodLink "BorrowedLives" (344 : Nat) ({ cls := "BorrowedLives", name := "passes", desc := "(LBorrowedLives$State;I)V" } : Jvm.MethodName)) ∈ lw_all := lw_g (lw_at lw_m5 237 rfl) rfl
theorem q1322 : (Jvm.Cond.privateMethod ({ cls := "BorrowedLives", name := "passes", desc := "(LBorrowedLives$State;I)V" } : Jvm.MethodName)) ∈ lw_tbl := lw_at lw_m5 238 rfl
theorem q1323 : (Jvm.Cond.instanceMethod ({ cls := "BorrowedLives", name := "passes", desc := "(LBorrowedLives$State;I)V" } : Jvm.MethodName)) ∈ lw_all := lw_g (lw_at lw_m5 239 rfl) rfl
theorem q1324 : (Jvm.Cond.code ({ cls := "BorrowedLives", name := "passes", desc := "(LBorrowedLives$State;I)V" } : Jvm.MethodName) prog_1_method_23_code (4 : Nat) (Option.none : Option Jvm.ClassFile.FieldType)) ∈ lw_all := lw_g (lw_at lw_m6 0 rfl) rfl
theorem q1325 : (Jvm.Cond.methodLink "BorrowedLives" (239 : Nat) ({ cls := "BorrowedLives", name := "spends", desc := "(LBorrowedLives$State;II)V" } : Jvm.MethodName)) ∈ lw_all := lw_g (lw_at lw_m6 1 rfl) rfl
theorem q1326 : (Jvm.Cond.privateMethod ({ cls := "BorrowedLives", name := "spends", desc := "(LBorrowedLives$State;II)V" } : Jvm.MethodName)) ∈ lw_tbl := lw_at lw_m6 2 rfl
theorem q1327 : (Jvm.Cond.instanceMethod ({ cls := "BorrowedLives", name := "spends", desc := "(LBorrowedLives$State;II)V" } : Jvm.MethodName)) ∈ lw_all := lw_g (lw_at lw_m6 3 rfl) rfl
theorem q1328 : (Jvm.Cond.code ({ cls := "BorrowedLives", name := "spends", desc := "(LBorrowedLives$State;II)V" } : Jvm.MethodName) prog_1_method_21_code (9 : Nat) (Option.none : Option Jvm.ClassFile.FieldType)) ∈ lw_all := lw_g (lw_at lw_m6 4 rfl) rfl
theorem q1329 : (Jvm.Cond.methodLink "BorrowedLives" (201 : Nat) ({ cls := "BorrowedLives$Person", name := "findsHidden", desc := "()Z" } : Jvm.MethodName)) ∈ lw_all := lw_g (lw_at lw_m6 5 rfl) rfl
theorem q1339 : (Jvm.Cond.methodLink "BorrowedLives" (205 : Nat) ({ cls := "BorrowedLives", name := "lays", desc := "(LBorrowedLives$State;IIZ)V" } : Jvm.MethodName)) ∈ lw_all := lw_g (lw_at lw_m6 15 rfl) rfl
theorem q1340 : (Jvm.Cond.privateMethod ({ cls := "BorrowedLives", name := "lays", desc := "(LBorrowedLives$State;IIZ)V" } : Jvm.MethodName)) ∈ lw_tbl := lw_at lw_m6 16 rfl
theorem q1341 : (Jvm.Cond.instanceMethod ({ cls := "BorrowedLives", name := "lays", desc := "(LBorrowedLives$State;IIZ)V" } : Jvm.MethodName)) ∈ lw_all := lw_g (lw_at lw_m6 17 rfl) rfl
theorem q1342 : (Jvm.Cond.code ({ cls := "BorrowedLives", name := "lays", desc := "(LBorrowedLives$State;IIZ)V" } : Jvm.MethodName) prog_1_method_19_code (5 : Nat) (Option.none : Option Jvm.ClassFile.FieldType)) ∈ lw_all := lw_g (lw_at lw_m6 18 rfl) rfl
theorem q1343 : (Jvm.Cond.methodLink "BorrowedLives" (7 : Nat) ({ cls := "java/lang/Math", name := "max", desc := "(II)I" } : Jvm.MethodName)) ∈ lw_all := lw_g (lw_at lw_m6 19 rfl) rfl
theorem q1344 : (Jvm.Cond.methodLink "BorrowedLives" (213 : Nat) ({ cls := "BorrowedLives$Expression", name := "worked", desc := "([I)I" } : Jvm.MethodName)) ∈ lw_all := lw_g (lw_at lw_m6 20 rfl) rfl
theorem q1361 : (Jvm.Cond.methodLink "BorrowedLives" (1 : Nat) ({ cls := "java/lang/Math", name := "min", desc := "(II)I" } : Jvm.MethodName)) ∈ lw_all := lw_g (lw_at lw_m6 37 rfl) rfl
theorem q1362 : (Jvm.Cond.methodLink "BorrowedLives" (219 : Nat) ({ cls := "BorrowedLives", name := "between", desc := "(III)I" } : Jvm.MethodName)) ∈ lw_all := lw_g (lw_at lw_m6 38 rfl) rfl
theorem q1363 : (Jvm.Cond.static ({ cls := "BorrowedLives", name := "between", desc := "(III)I" } : Jvm.MethodName)) ∈ lw_all := lw_g (lw_at lw_m6 39 rfl) rfl
theorem q1364 : (Jvm.Cond.code ({ cls := "BorrowedLives", name := "between", desc := "(III)I" } : Jvm.MethodName) prog_1_method_2_code (3 : Nat) (Option.some Jvm.ClassFile.FieldType.int)) ∈ lw_all := lw_g (lw_at lw_m6 40 rfl) rfl
theorem q1365 : (Jvm.Cond.methodLink "BorrowedLives" (223 : Nat) ({ cls := "BorrowedLives$Person", name := "spends", desc := "(I)I" } : Jvm.MethodName)) ∈ lw_all := lw_g (lw_at lw_m6 41 rfl) rfl
theorem q1375 : (Jvm.Cond.methodLink "BorrowedLives" (225 : Nat) ({ cls := "BorrowedLives$State", name := "gets", desc := "(II)V" } : Jvm.MethodName)) ∈ lw_all := lw_g (lw_at lw_m6 51 rfl) rfl
theorem q1380 : (Jvm.Cond.methodLink "BorrowedLives" (229 : Nat) ({ cls := "BorrowedLives$Person", name := "paysDebts", desc := "()Z" } : Jvm.MethodName)) ∈ lw_all := lw_g (lw_at lw_m6 56 rfl) rfl
theorem q1390 : (Jvm.Cond.methodLink "BorrowedLives" (232 : Nat) ({ cls := "BorrowedLives", name := "poorest", desc := "(LBorrowedLives$State;I)I" } : Jvm.MethodName)) ∈ lw_all := lw_g (lw_at lw_m6 66 rfl) rfl
theorem q1391 : (Jvm.Cond.privateMethod ({ cls := "BorrowedLives", name := "poorest", desc := "(LBorrowedLives$State;I)I" } : Jvm.MethodName)) ∈ lw_tbl := lw_at lw_m6 67 rfl
theorem q1392 : (Jvm.Cond.instanceMethod ({ cls := "BorrowedLives", name := "poorest", desc := "(LBorrowedLives$State;I)I" } : Jvm.MethodName)) ∈ lw_all := lw_g (lw_at lw_m6 68 rfl) rfl
theorem q1393 : (Jvm.Cond.code ({ cls := "BorrowedLives", name := "poorest", desc := "(LBorrowedLives$State;I)I" } : Jvm.MethodName) prog_1_method_20_code (5 : Nat) (Option.some Jvm.ClassFile.FieldType.int)) ∈ lw_all := lw_g (lw_at lw_m6 69 rfl) rfl
theorem q1394 : (Jvm.Cond.methodLink "BorrowedLives" (242 : Nat) ({ cls := "BorrowedLives", name := "mends", desc := "(LBorrowedLives$State;I)V" } : Jvm.MethodName)) ∈ lw_all := lw_g (lw_at lw_m6 70 rfl) rfl
theorem q1395 : (Jvm.Cond.privateMethod ({ cls := "BorrowedLives", name := "mends", desc := "(LBorrowedLives$State;I)V" } : Jvm.MethodName)) ∈ lw_tbl := lw_at lw_m6 71 rfl
theorem q1396 : (Jvm.Cond.instanceMethod ({ cls := "BorrowedLives", name := "mends", desc := "(LBorrowedLives$State;I)V" } : Jvm.MethodName)) ∈ lw_all := lw_g (lw_at lw_m6 72 rfl) rfl
theorem q1397 : (Jvm.Cond.code ({ cls := "BorrowedLives", name := "mends", desc := "(LBorrowedLives$State;I)V" } : Jvm.MethodName) prog_1_method_22_code (6 : Nat) (Option.none : Option Jvm.ClassFile.FieldType)) ∈ lw_all := lw_g (lw_at lw_m6 73 rfl) rfl
theorem q1398 : (Jvm.Cond.methodLink "BorrowedLives" (402 : Nat) ({ cls := "BorrowedLives", name := "copies", desc := "([I[I)V" } : Jvm.MethodName)) ∈ lw_all := lw_g (lw_at lw_m6 74 rfl) rfl
theorem q1440 : (Jvm.Cond.instanceMethod ({ cls := "BorrowedLives", name := "odds", desc := "(II)I" } : Jvm.MethodName)) ∈ lw_all := lw_g (lw_at lw_m6 116 rfl) rfl
theorem q1441 : (Jvm.Cond.selects "BorrowedLives" ({ cls := "BorrowedLives", name := "odds", desc := "(II)I" } : Jvm.MethodName) ({ cls := "BorrowedLives", name := "odds", desc := "(II)I" } : Jvm.MethodName)) ∈ lw_all := lw_g (lw_at lw_m6 117 rfl) rfl
theorem q1442 : (Jvm.Cond.code ({ cls := "BorrowedLives", name := "odds", desc := "(II)I" } : Jvm.MethodName) prog_1_method_28_code (4 : Nat) (Option.some Jvm.ClassFile.FieldType.int)) ∈ lw_all := lw_g (lw_at lw_m6 118 rfl) rfl
theorem q1443 : (Jvm.Cond.constantLong "BorrowedLives" (286 : Nat) (1000000 : Int64)) ∈ lw_all := lw_g (lw_at lw_m6 119 rfl) rfl
theorem q1445 : (Jvm.Cond.instanceMethod ({ cls := "BorrowedLives", name := "hide", desc := "(II)Z" } : Jvm.MethodName)) ∈ lw_all := lw_g (lw_at lw_m6 121 rfl) rfl
theorem q1446 : (Jvm.Cond.selects "BorrowedLives" ({ cls := "BorrowedLives", name := "hide", desc := "(II)Z" } : Jvm.MethodName) ({ cls := "BorrowedLives", name := "hide", desc := "(II)Z" } : Jvm.MethodName)) ∈ lw_all := lw_g (lw_at lw_m6 122 rfl) rfl
theorem q1447 : (Jvm.Cond.code ({ cls := "BorrowedLives", name := "hide", desc := "(II)Z" } : Jvm.MethodName) prog_1_method_32_code (3 : Nat) (Option.some Jvm.ClassFile.FieldType.boolean)) ∈ lw_all := lw_g (lw_at lw_m6 123 rfl) rfl
theorem q1448 : (Jvm.Cond.methodLink "BorrowedLives" (327 : Nat) ({ cls := "BorrowedLives", name := "keeps", desc := "()V" } : Jvm.MethodName)) ∈ lw_all := lw_g (lw_at lw_m6 124 rfl) rfl
theorem q1449 : (Jvm.Cond.privateMethod ({ cls := "BorrowedLives", name := "keeps", desc := "()V" } : Jvm.MethodName)) ∈ lw_tbl := lw_at lw_m6 125 rfl
theorem q1450 : (Jvm.Cond.instanceMethod ({ cls := "BorrowedLives", name := "keeps", desc := "()V" } : Jvm.MethodName)) ∈ lw_all := lw_g (lw_at lw_m6 126 rfl) rfl
theorem q1451 : (Jvm.Cond.code ({ cls := "BorrowedLives", name := "keeps", desc := "()V" } : Jvm.MethodName) prog_1_method_29_code (3 : Nat) (Option.none : Option Jvm.ClassFile.FieldType)) ∈ lw_all := lw_g (lw_at lw_m6 127 rfl) rfl
theorem q1453 : (Jvm.Cond.instanceMethod ({ cls := "BorrowedLives", name := "lot", desc := "(I)I" } : Jvm.MethodName)) ∈ lw_all := lw_g (lw_at lw_m6 129 rfl) rfl
theorem q1454 : (Jvm.Cond.selects "BorrowedLives" ({ cls := "BorrowedLives", name := "lot", desc := "(I)I" } : Jvm.MethodName) ({ cls := "BorrowedLives", name := "lot", desc := "(I)I" } : Jvm.MethodName)) ∈ lw_all := lw_g (lw_at lw_m6 130 rfl) rfl
theorem q1455 : (Jvm.Cond.code ({ cls := "BorrowedLives", name := "lot", desc := "(I)I" } : Jvm.MethodName) prog_1_method_33_code (2 : Nat) (Option.some Jvm.ClassFile.FieldType.int)) ∈ lw_all := lw_g (lw_at lw_m6 131 rfl) rfl
theorem q1456 : (Jvm.Cond.methodLink "BorrowedLives" (304 : Nat) ({ cls := "BorrowedLives", name := "lots", desc := "()I" } : Jvm.MethodName)) ∈ lw_all := lw_g (lw_at lw_m6 132 rfl) rfl
theorem q1457 : (Jvm.Cond.methodLink "BorrowedLives" (330 : Nat) ({ cls := "BorrowedLives", name := "drawsLot", desc := "(LBorrowedLives$State;)I" } : Jvm.MethodName)) ∈ lw_all := lw_g (lw_at lw_m6 133 rfl) rfl
theorem q1458 : (Jvm.Cond.privateMethod ({ cls := "BorrowedLives", name := "drawsLot", desc := "(LBorrowedLives$State;)I" } : Jvm.MethodName)) ∈ lw_tbl := lw_at lw_m6 134 rfl
theorem q1459 : (Jvm.Cond.instanceMethod ({ cls := "BorrowedLives", name := "drawsLot", desc := "(LBorrowedLives$State;)I" } : Jvm.MethodName)) ∈ lw_all := lw_g (lw_at lw_m6 135 rfl) rfl
theorem q1460 : (Jvm.Cond.code ({ cls := "BorrowedLives", name := "drawsLot", desc := "(LBorrowedLives$State;)I" } : Jvm.MethodName) prog_1_method_31_code (4 : Nat) (Option.some Jvm.ClassFile.FieldType.int)) ∈ lw_all := lw_g (lw_at lw_m6 136 rfl) rfl
theorem q1461 : (Jvm.Cond.classLink "BorrowedLives" (306 : Nat) "BorrowedLives$Takes") ∈ lw_all := lw_g (lw_at lw_m6 137 rfl) rfl
theorem q1463 : (Jvm.Cond.methodLink "BorrowedLives" (308 : Nat) ({ cls := "BorrowedLives", name := "draws", desc := "(I)I" } : Jvm.MethodName)) ∈ lw_all := lw_g (lw_at lw_m6 139 rfl) rfl
theorem q1464 : (Jvm.Cond.privateMethod ({ cls := "BorrowedLives", name := "draws", desc := "(I)I" } : Jvm.MethodName)) ∈ lw_tbl := lw_at lw_m6 140 rfl
theorem q1465 : (Jvm.Cond.instanceMethod ({ cls := "BorrowedLives", name := "draws", desc := "(I)I" } : Jvm.MethodName)) ∈ lw_all := lw_g (lw_at lw_m6 141 rfl) rfl
theorem q1466 : (Jvm.Cond.code ({ cls := "BorrowedLives", name := "draws", desc := "(I)I" } : Jvm.MethodName) prog_1_method_30_code (2 : Nat) (Option.some Jvm.ClassFile.FieldType.int)) ∈ lw_all := lw_g (lw_at lw_m6 142 rfl) rfl
theorem q1467 : (Jvm.Cond.constantLong "BorrowedLives" (296 : Nat) (1103515245 : Int64)) ∈ lw_all := lw_g (lw_at lw_m6 143 rfl) rfl
theorem q1468 : (Jvm.Cond.constantLong "BorrowedLives" (298 : Nat) (12345 : Int64)) ∈ lw_all := lw_g (lw_at lw_m6 144 rfl) rfl
theorem q1469 : (Jvm.Cond.constantLong "BorrowedLives" (300 : Nat) (2147483648 : Int64)) ∈ lw_all := lw_g (lw_at lw_m6 145 rfl) rfl
theorem q1470 : (Jvm.Cond.constantLong "BorrowedLives" (302 : Nat) (65536 : Int64)) ∈ lw_all := lw_g (lw_at lw_m6 146 rfl) rfl
theorem q1471 : (Jvm.Cond.methodLink "BorrowedLives" (311 : Nat) ({ cls := "BorrowedLives$Takes", name := "<init>", desc := "(LBorrowedLives;I)V" } : Jvm.MethodName)) ∈ lw_all := lw_g (lw_at lw_m6 147 rfl) rfl
theorem q1476 : (Jvm.Cond.fieldLinkNest "BorrowedLives" (320 : Nat) "BorrowedLives$Takes" "place" "I" "BorrowedLives") ∈ lw_tbl := lw_at lw_m6 152 rfl
theorem q1478 : (Jvm.Cond.fieldLinkNest "BorrowedLives" (314 : Nat) "BorrowedLives$Takes" "taken" "[I" "BorrowedLives") ∈ lw_tbl := lw_at lw_m6 154 rfl
theorem q1490 : (Jvm.Cond.instanceMethod ({ cls := "BorrowedLives", name := "swap", desc := "(II)Z" } : Jvm.MethodName)) ∈ lw_all := lw_g (lw_at lw_m6 166 rfl) rfl
theorem q1491 : (Jvm.Cond.selects "BorrowedLives" ({ cls := "BorrowedLives", name := "swap", desc := "(II)Z" } : Jvm.MethodName) ({ cls := "BorrowedLives", name := "swap", desc := "(II)Z" } : Jvm.MethodName)) ∈ lw_all := lw_g (lw_at lw_m6 167 rfl) rfl
theorem q1492 : (Jvm.Cond.code ({ cls := "BorrowedLives", name := "swap", desc := "(II)Z" } : Jvm.MethodName) prog_1_method_36_code (3 : Nat) (Option.some Jvm.ClassFile.FieldType.boolean)) ∈ lw_all := lw_g (lw_at lw_m6 168 rfl) rfl
theorem q1493 : (Jvm.Cond.methodLink "BorrowedLives" (334 : Nat) ({ cls := "BorrowedLives", name := "canSwap", desc := "(LBorrowedLives$State;II)Z" } : Jvm.MethodName)) ∈ lw_all := lw_g (lw_at lw_m6 169 rfl) rfl
theorem q1494 : (Jvm.Cond.privateMethod ({ cls := "BorrowedLives", name := "canSwap", desc := "(LBorrowedLives$State;II)Z" } : Jvm.MethodName)) ∈ lw_tbl := lw_at lw_m6 170 rfl
theorem q1495 : (Jvm.Cond.instanceMethod ({ cls := "BorrowedLives", name := "canSwap", desc := "(LBorrowedLives$State;II)Z" } : Jvm.MethodName)) ∈ lw_all := lw_g (lw_at lw_m6 171 rfl) rfl
theorem q1496 : (Jvm.Cond.code ({ cls := "BorrowedLives", name := "canSwap", desc := "(LBorrowedLives$State;II)Z" } : Jvm.MethodName) prog_1_method_34_code (4 : Nat) (Option.some Jvm.ClassFile.FieldType.boolean)) ∈ lw_all := lw_g (lw_at lw_m6 172 rfl) rfl
theorem q1497 : (Jvm.Cond.methodLink "BorrowedLives" (338 : Nat) ({ cls := "BorrowedLives", name := "swaps", desc := "(LBorrowedLives$State;II)V" } : Jvm.MethodName)) ∈ lw_all := lw_g (lw_at lw_m6 173 rfl) rfl
theorem q1498 : (Jvm.Cond.privateMethod ({ cls := "BorrowedLives", name := "swaps", desc := "(LBorrowedLives$State;II)V" } : Jvm.MethodName)) ∈ lw_tbl := lw_at lw_m6 174 rfl
theorem q1499 : (Jvm.Cond.instanceMethod ({ cls := "BorrowedLives", name := "swaps", desc := "(LBorrowedLives$State;II)V" } : Jvm.MethodName)) ∈ lw_all := lw_g (lw_at lw_m6 175 rfl) rfl
theorem q1500 : (Jvm.Cond.code ({ cls := "BorrowedLives", name := "swaps", desc := "(LBorrowedLives$State;II)V" } : Jvm.MethodName) prog_1_method_35_code (6 : Nat) (Option.none : Option Jvm.ClassFile.FieldType)) ∈ lw_all := lw_g (lw_at lw_m6 176 rfl) rfl
theorem q1502 : (Jvm.Cond.instanceMethod ({ cls := "BorrowedLives", name := "day", desc := "()I" } : Jvm.MethodName)) ∈ lw_all := lw_g (lw_at lw_m6 178 rfl) rfl
theorem q1503 : (Jvm.Cond.selects "BorrowedLives" ({ cls := "BorrowedLives", name := "day", desc := "()I" } : Jvm.MethodName) ({ cls := "BorrowedLives", name := "day", desc := "()I" } : Jvm.MethodName)) ∈ lw_all := lw_g (lw_at lw_m6 179 rfl) rfl
theorem q1504 : (Jvm.Cond.code ({ cls := "BorrowedLives", name := "day", desc := "()I" } : Jvm.MethodName) prog_1_method_37_code (1 : Nat) (Option.some Jvm.ClassFile.FieldType.int)) ∈ lw_all := lw_g (lw_at lw_m6 180 rfl) rfl
theorem q1506 : (Jvm.Cond.instanceMethod ({ cls := "BorrowedLives", name := "home", desc := "()I" } : Jvm.MethodName)) ∈ lw_all := lw_g (lw_at lw_m6 182 rfl) rfl
theorem q1507 : (Jvm.Cond.selects "BorrowedLives" ({ cls := "BorrowedLives", name := "home", desc := "()I" } : Jvm.MethodName) ({ cls := "BorrowedLives", name := "home", desc := "()I" } : Jvm.MethodName)) ∈ lw_all := lw_g (lw_at lw_m6 183 rfl) rfl
theorem q1508 : (Jvm.Cond.code ({ cls := "BorrowedLives", name := "home", desc := "()I" } : Jvm.MethodName) prog_1_method_38_code (1 : Nat) (Option.some Jvm.ClassFile.FieldType.int)) ∈ lw_all := lw_g (lw_at lw_m6 184 rfl) rfl
theorem q1509 : (Jvm.Cond.methodLink "BorrowedLives" (347 : Nat) ({ cls := "BorrowedLives", name := "comesHome", desc := "(LBorrowedLives$State;)I" } : Jvm.MethodName)) ∈ lw_all := lw_g (lw_at lw_m6 185 rfl) rfl
theorem q1510 : (Jvm.Cond.privateMethod ({ cls := "BorrowedLives", name := "comesHome", desc := "(LBorrowedLives$State;)I" } : Jvm.MethodName)) ∈ lw_tbl := lw_at lw_m6 186 rfl
theorem q1511 : (Jvm.Cond.instanceMethod ({ cls := "BorrowedLives", name := "comesHome", desc := "(LBorrowedLives$State;)I" } : Jvm.MethodName)) ∈ lw_all := lw_g (lw_at lw_m6 187 rfl) rfl
theorem q1512 : (Jvm.Cond.code ({ cls := "BorrowedLives", name := "comesHome", desc := "(LBorrowedLives$State;)I" } : Jvm.MethodName) prog_1_method_24_code (3 : Nat) (Option.some Jvm.ClassFile.FieldType.int)) ∈ lw_all := lw_g (lw_at lw_m6 188 rfl) rfl
theorem q1513 : (Jvm.Cond.methodLink "BorrowedLives" (248 : Nat) ({ cls := "BorrowedLives$State", name := "harmOfAll", desc := "()I" } : Jvm.MethodName)) ∈ lw_all := lw_g (lw_at lw_m6 189 rfl) rfl
theorem q1514 : (Jvm.Cond.methodLink "BorrowedLives" (257 : Nat) ({ cls := "BorrowedLives$State", name := "allAreHome", desc := "()V" } : Jvm.MethodName)) ∈ lw_all := lw_g (lw_at lw_m6 190 rfl) rfl
theorem q1516 : (Jvm.Cond.instanceMethod ({ cls := "BorrowedLives", name := "undo", desc := "()Z" } : Jvm.MethodName)) ∈ lw_all := lw_g (lw_at lw_m6 192 rfl) rfl
theorem q1517 : (Jvm.Cond.selects "BorrowedLives" ({ cls := "BorrowedLives", name := "undo", desc := "()Z" } : Jvm.MethodName) ({ cls := "BorrowedLives", name := "undo", desc := "()Z" } : Jvm.MethodName)) ∈ lw_all := lw_g (lw_at lw_m6 193 rfl) rfl
theorem q1518 : (Jvm.Cond.code ({ cls := "BorrowedLives", name := "undo", desc := "()Z" } : Jvm.MethodName) prog_1_method_39_code (1 : Nat) (Option.some Jvm.ClassFile.FieldType.boolean)) ∈ lw_all := lw_g (lw_at lw_m6 194 rfl) rfl
theorem q1520 : (Jvm.Cond.instanceMethod ({ cls := "BorrowedLives", name := "judged", desc := "(I)I" } : Jvm.MethodName)) ∈ lw_all := lw_g (lw_at lw_m6 196 rfl) rfl
theorem q1521 : (Jvm.Cond.selects "BorrowedLives" ({ cls := "BorrowedLives", name := "judged", desc := "(I)I" } : Jvm.MethodName) ({ cls := "BorrowedLives", name := "judged", desc := "(I)I" } : Jvm.MethodName)) ∈ lw_all := lw_g (lw_at lw_m6 197 rfl) rfl
theorem q1522 : (Jvm.Cond.code ({ cls := "BorrowedLives", name := "judged", desc := "(I)I" } : Jvm.MethodName) prog_1_method_40_code (4 : Nat) (Option.some Jvm.ClassFile.FieldType.int)) ∈ lw_all := lw_g (lw_at lw_m6 198 rfl) rfl
theorem q1523 : (Jvm.Cond.classLink "BorrowedLives" (350 : Nat) "BorrowedLives$Line") ∈ lw_all := lw_g (lw_at lw_m6 199 rfl) rfl
theorem q1524 : (Jvm.Cond.methodLink "BorrowedLives" (352 : Nat) ({ cls := "BorrowedLives$Line", name := "isDone", desc := "(LBorrowedLives;LBorrowedLives$State;)Z" } : Jvm.MethodName)) ∈ lw_all := lw_g (lw_at lw_m6 200 rfl) rfl
theorem q1549 : (Jvm.Cond.instanceMethod ({ cls := "BorrowedLives", name := "least", desc := "(I)I" } : Jvm.MethodName)) ∈ lw_all := lw_g (lw_at lw_m6 225 rfl) rfl
theorem q1550 : (Jvm.Cond.selects "BorrowedLives" ({ cls := "BorrowedLives", name := "least", desc := "(I)I" } : Jvm.MethodName) ({ cls := "BorrowedLives", name := "least", desc := "(I)I" } : Jvm.MethodName)) ∈ lw_all := lw_g (lw_at lw_m6 226 rfl) rfl
theorem q1551 : (Jvm.Cond.code ({ cls := "BorrowedLives", name := "least", desc := "(I)I" } : Jvm.MethodName) prog_1_method_41_code (3 : Nat) (Option.some Jvm.ClassFile.FieldType.int)) ∈ lw_all := lw_g (lw_at lw_m6 227 rfl) rfl
theorem q1552 : (Jvm.Cond.classLink "BorrowedLives" (356 : Nat) "BorrowedLives$Least") ∈ lw_all := lw_g (lw_at lw_m6 228 rfl) rfl
theorem q1554 : (Jvm.Cond.methodLinkNest "BorrowedLives" (358 : Nat) ({ cls := "BorrowedLives$Least", name := "<init>", desc := "(LBorrowedLives;)V" } : Jvm.MethodName) "BorrowedLives") ∈ lw_tbl := lw_at lw_m6 230 rfl
theorem q1559 : (Jvm.Cond.fieldLinkNest "BorrowedLives" (363 : Nat) "BorrowedLives$Least" "best" "[I" "BorrowedLives") ∈ lw_tbl := lw_at lw_m6 235 rfl
theorem q1561 : (Jvm.Cond.fieldLinkNest "BorrowedLives" (362 : Nat) "BorrowedLives$Least" "harm" "I" "BorrowedLives") ∈ lw_tbl := lw_at lw_m6 237 rfl
theorem q1573 : (Jvm.Cond.instanceMethod ({ cls := "BorrowedLives", name := "prepare", desc := "(II)I" } : Jvm.MethodName)) ∈ lw_all := lw_g (lw_at lw_m7 9 rfl) rfl
theorem q1574 : (Jvm.Cond.selects "BorrowedLives" ({ cls := "BorrowedLives", name := "prepare", desc := "(II)I" } : Jvm.MethodName) ({ cls := "BorrowedLives", name := "prepare", desc := "(II)I" } : Jvm.MethodName)) ∈ lw_all := lw_g (lw_at lw_m7 10 rfl) rfl
theorem q1575 : (Jvm.Cond.code ({ cls := "BorrowedLives", name := "prepare", desc := "(II)I" } : Jvm.MethodName) prog_1_method_42_code (10 : Nat) (Option.some Jvm.ClassFile.FieldType.int)) ∈ lw_all := lw_g (lw_at lw_m7 11 rfl) rfl
theorem q1576 : (Jvm.Cond.classLink "BorrowedLives" (366 : Nat) "BorrowedLives$Harms") ∈ lw_all := lw_g (lw_at lw_m7 12 rfl) rfl
theorem q1578 : (Jvm.Cond.methodLink "BorrowedLives" (368 : Nat) ({ cls := "BorrowedLives$Harms", name := "<init>", desc := "(LBorrowedLives;II)V" } : Jvm.MethodName)) ∈ lw_all := lw_g (lw_at lw_m7 14 rfl) rfl
theorem q1585 : (Jvm.Cond.fieldLinkNest "BorrowedLives" (370 : Nat) "BorrowedLives$Harms" "harm" "J" "BorrowedLives") ∈ lw_tbl := lw_at lw_m7 21 rfl
theorem q1598 : (Jvm.Cond.constantLong "BorrowedLives" (372 : Nat) (1000 : Int64)) ∈ lw_all := lw_g (lw_at lw_m7 34 rfl) rfl
theorem q1600 : (Jvm.Cond.instanceMethod ({ cls := "BorrowedLives", name := "law", desc := "(I)I" } : Jvm.MethodName)) ∈ lw_all := lw_g (lw_at lw_m7 36 rfl) rfl
theorem q1601 : (Jvm.Cond.selects "BorrowedLives" ({ cls := "BorrowedLives", name := "law", desc := "(I)I" } : Jvm.MethodName) ({ cls := "BorrowedLives", name := "law", desc := "(I)I" } : Jvm.MethodName)) ∈ lw_all := lw_g (lw_at lw_m7 37 rfl) rfl
theorem q1602 : (Jvm.Cond.code ({ cls := "BorrowedLives", name := "law", desc := "(I)I" } : Jvm.MethodName) prog_1_method_43_code (3 : Nat) (Option.some Jvm.ClassFile.FieldType.int)) ∈ lw_all := lw_g (lw_at lw_m7 38 rfl) rfl
theorem q1604 : (Jvm.Cond.instanceMethod ({ cls := "BorrowedLives", name := "pairs", desc := "(I)I" } : Jvm.MethodName)) ∈ lw_all := lw_g (lw_at lw_m7 40 rfl) rfl
theorem q1605 : (Jvm.Cond.selects "BorrowedLives" ({ cls := "BorrowedLives", name := "pairs", desc := "(I)I" } : Jvm.MethodName) ({ cls := "BorrowedLives", name := "pairs", desc := "(I)I" } : Jvm.MethodName)) ∈ lw_all := lw_g (lw_at lw_m7 41 rfl) rfl
theorem q1606 : (Jvm.Cond.code ({ cls := "BorrowedLives", name := "pairs", desc := "(I)I" } : Jvm.MethodName) prog_1_method_52_code (3 : Nat) (Option.some Jvm.ClassFile.FieldType.int)) ∈ lw_all := lw_g (lw_at lw_m7 42 rfl) rfl
theorem q1607 : (Jvm.Cond.methodLink "BorrowedLives" (406 : Nat) ({ cls := "BorrowedLives", name := "pairs", desc := "(II)V" } : Jvm.MethodName)) ∈ lw_all := lw_g (lw_at lw_m7 43 rfl) rfl
theorem q1608 : (Jvm.Cond.privateMethod ({ cls := "BorrowedLives", name := "pairs", desc := "(II)V" } : Jvm.MethodName)) ∈ lw_tbl := lw_at lw_m7 44 rfl
theorem q1609 : (Jvm.Cond.instanceMethod ({ cls := "BorrowedLives", name := "pairs", desc := "(II)V" } : Jvm.MethodName)) ∈ lw_all := lw_g (lw_at lw_m7 45 rfl) rfl
theorem q1610 : (Jvm.Cond.code ({ cls := "BorrowedLives", name := "pairs", desc := "(II)V" } : Jvm.MethodName) prog_1_method_51_code (4 : Nat) (Option.none : Option Jvm.ClassFile.FieldType)) ∈ lw_all := lw_g (lw_at lw_m7 46 rfl) rfl
theorem q1611 : (Jvm.Cond.methodLink "BorrowedLives" (409 : Nat) ({ cls := "BorrowedLives", name := "wouldSwap", desc := "(II)Z" } : Jvm.MethodName)) ∈ lw_all := lw_g (lw_at lw_m7 47 rfl) rfl
theorem q1612 : (Jvm.Cond.privateMethod ({ cls := "BorrowedLives", name := "wouldSwap", desc := "(II)Z" } : Jvm.MethodName)) ∈ lw_tbl := lw_at lw_m7 48 rfl
theorem q1613 : (Jvm.Cond.instanceMethod ({ cls := "BorrowedLives", name := "wouldSwap", desc := "(II)Z" } : Jvm.MethodName)) ∈ lw_all := lw_g (lw_at lw_m7 49 rfl) rfl
theorem q1614 : (Jvm.Cond.code ({ cls := "BorrowedLives", name := "wouldSwap", desc := "(II)Z" } : Jvm.MethodName) prog_1_method_50_code (3 : Nat) (Option.some Jvm.ClassFile.FieldType.boolean)) ∈ lw_all := lw_g (lw_at lw_m7 50 rfl) rfl
theorem q1615 : (Jvm.Cond.methodLink "BorrowedLives" (396 : Nat) ({ cls := "BorrowedLives", name := "wishOf", desc := "(II)I" } : Jvm.MethodName)) ∈ lw_all := lw_g (lw_at lw_m7 51 rfl) rfl
theorem q1616 : (Jvm.Cond.privateMethod ({ cls := "BorrowedLives", name := "wishOf", desc := "(II)I" } : Jvm.MethodName)) ∈ lw_tbl := lw_at lw_m7 52 rfl
theorem q1617 : (Jvm.Cond.instanceMethod ({ cls := "BorrowedLives", name := "wishOf", desc := "(II)I" } : Jvm.MethodName)) ∈ lw_all := lw_g (lw_at lw_m7 53 rfl) rfl
theorem q1618 : (Jvm.Cond.code ({ cls := "BorrowedLives", name := "wishOf", desc := "(II)I" } : Jvm.MethodName) prog_1_method_49_code (3 : Nat) (Option.some Jvm.ClassFile.FieldType.int)) ∈ lw_all := lw_g (lw_at lw_m7 54 rfl) rfl
theorem q1620 : (Jvm.Cond.instanceMethod ({ cls := "BorrowedLives", name := "tale", desc := "(III)Z" } : Jvm.MethodName)) ∈ lw_all := lw_g (lw_at lw_m7 56 rfl) rfl
theorem q1621 : (Jvm.Cond.selects "BorrowedLives" ({ cls := "BorrowedLives", name := "tale", desc := "(III)Z" } : Jvm.MethodName) ({ cls := "BorrowedLives", name := "tale", desc := "(III)Z" } : Jvm.MethodName)) ∈ lw_all := lw_g (lw_at lw_m7 57 rfl) rfl
theorem q1622 : (Jvm.Cond.code ({ cls := "BorrowedLives", name := "tale", desc := "(III)Z" } : Jvm.MethodName) prog_1_method_53_code (4 : Nat) (Option.some Jvm.ClassFile.FieldType.boolean)) ∈ lw_all := lw_g (lw_at lw_m7 58 rfl) rfl
theorem q1624 : (Jvm.Cond.instanceMethod ({ cls := "BorrowedLives", name := "how", desc := "()I" } : Jvm.MethodName)) ∈ lw_all := lw_g (lw_at lw_m7 60 rfl) rfl
theorem q1625 : (Jvm.Cond.selects "BorrowedLives" ({ cls := "BorrowedLives", name := "how", desc := "()I" } : Jvm.MethodName) ({ cls := "BorrowedLives", name := "how", desc := "()I" } : Jvm.MethodName)) ∈ lw_all := lw_g (lw_at lw_m7 61 rfl) rfl
theorem q1626 : (Jvm.Cond.code ({ cls := "BorrowedLives", name := "how", desc := "()I" } : Jvm.MethodName) prog_1_method_55_code (2 : Nat) (Option.some Jvm.ClassFile.FieldType.int)) ∈ lw_all := lw_g (lw_at lw_m7 62 rfl) rfl
theorem q1627 : (Jvm.Cond.classLink "BorrowedLives" (412 : Nat) "BorrowedLives$Fits") ∈ lw_all := lw_g (lw_at lw_m7 63 rfl) rfl
theorem q1629 : (Jvm.Cond.methodLinkNest "BorrowedLives" (414 : Nat) ({ cls := "BorrowedLives$Fits", name := "<init>", desc := "(LBorrowedLives;)V" } : Jvm.MethodName) "BorrowedLives") ∈ lw_tbl := lw_at lw_m7 65 rfl
theorem q1634 : (Jvm.Cond.fieldLinkNest "BorrowedLives" (418 : Nat) "BorrowedLives$Fits" "selves" "[I" "BorrowedLives") ∈ lw_tbl := lw_at lw_m7 70 rfl
theorem q1636 : (Jvm.Cond.fieldLinkNest "BorrowedLives" (415 : Nat) "BorrowedLives$Fits" "many" "I" "BorrowedLives") ∈ lw_tbl := lw_at lw_m7 72 rfl
theorem q1648 : (Jvm.Cond.instanceMethod ({ cls := "BorrowedLives", name := "who", desc := "(I)I" } : Jvm.MethodName)) ∈ lw_all := lw_g (lw_at lw_m7 84 rfl) rfl
theorem q1649 : (Jvm.Cond.selects "BorrowedLives" ({ cls := "BorrowedLives", name := "who", desc := "(I)I" } : Jvm.MethodName) ({ cls := "BorrowedLives", name := "who", desc := "(I)I" } : Jvm.MethodName)) ∈ lw_all := lw_g (lw_at lw_m7 85 rfl) rfl
theorem q1650 : (Jvm.Cond.code ({ cls := "BorrowedLives", name := "who", desc := "(I)I" } : Jvm.MethodName) prog_1_method_56_code (3 : Nat) (Option.some Jvm.ClassFile.FieldType.int)) ∈ lw_all := lw_g (lw_at lw_m7 86 rfl) rfl
theorem q1651 : (Jvm.Cond.methodLink "BorrowedLives" (421 : Nat) ({ cls := "java/lang/Integer", name := "bitCount", desc := "(I)I" } : Jvm.MethodName)) ∈ lw_all := lw_g (lw_at lw_m7 87 rfl) rfl
theorem q1657 : (Jvm.Cond.methodLink "BorrowedLives" (426 : Nat) ({ cls := "java/lang/Integer", name := "numberOfTrailingZeros", desc := "(I)I" } : Jvm.MethodName)) ∈ lw_all := lw_g (lw_at lw_m7 93 rfl) rfl
theorem q1662 : (Jvm.Cond.instanceMethod ({ cls := "BorrowedLives", name := "ask", desc := "()I" } : Jvm.MethodName)) ∈ lw_all := lw_g (lw_at lw_m7 98 rfl) rfl
theorem q1663 : (Jvm.Cond.selects "BorrowedLives" ({ cls := "BorrowedLives", name := "ask", desc := "()I" } : Jvm.MethodName) ({ cls := "BorrowedLives", name := "ask", desc := "()I" } : Jvm.MethodName)) ∈ lw_all := lw_g (lw_at lw_m7 99 rfl) rfl
theorem q1664 : (Jvm.Cond.code ({ cls := "BorrowedLives", name := "ask", desc := "()I" } : Jvm.MethodName) prog_1_method_57_code (6 : Nat) (Option.some Jvm.ClassFile.FieldType.int)) ∈ lw_all := lw_g (lw_at lw_m7 100 rfl) rfl
theorem q1665 : (Jvm.Cond.methodLink "BorrowedLives" (429 : Nat) ({ cls := "BorrowedLives", name := "how", desc := "()I" } : Jvm.MethodName)) ∈ lw_all := lw_g (lw_at lw_m7 101 rfl) rfl
theorem q1666 : (Jvm.Cond.classLink "BorrowedLives" (432 : Nat) "BorrowedLives$Alike") ∈ lw_all := lw_g (lw_at lw_m7 102 rfl) rfl
theorem q1668 : (Jvm.Cond.methodLink "BorrowedLives" (434 : Nat) ({ cls := "BorrowedLives$Alike", name := "<init>", desc := "(LBorrowedLives;II)V" } : Jvm.MethodName)) ∈ lw_all := lw_g (lw_at lw_m7 104 rfl) rfl
theorem q1675 : (Jvm.Cond.fieldLinkNest "BorrowedLives" (435 : Nat) "BorrowedLives$Alike" "most" "I" "BorrowedLives") ∈ lw_tbl := lw_at lw_m7 111 rfl
theorem q1689 : (Jvm.Cond.instanceMethod ({ cls := "BorrowedLives", name := "years", desc := "(III)I" } : Jvm.MethodName)) ∈ lw_all := lw_g (lw_at lw_m7 125 rfl) rfl
theorem q1690 : (Jvm.Cond.selects "BorrowedLives" ({ cls := "BorrowedLives", name := "years", desc := "(III)I" } : Jvm.MethodName) ({ cls := "BorrowedLives", name := "years", desc := "(III)I" } : Jvm.MethodName)) ∈ lw_all := lw_g (lw_at lw_m7 126 rfl) rfl
theorem q1691 : (Jvm.Cond.code ({ cls := "BorrowedLives", name := "years", desc := "(III)I" } : Jvm.MethodName) prog_1_method_61_code (8 : Nat) (Option.some Jvm.ClassFile.FieldType.int)) ∈ lw_all := lw_g (lw_at lw_m7 127 rfl) rfl
theorem q1692 : (Jvm.Cond.methodLink "BorrowedLives" (445 : Nat) ({ cls := "BorrowedLives$State", name := "goodOfAll", desc := "()I" } : Jvm.MethodName)) ∈ lw_all := lw_g (lw_at lw_m7 128 rfl) rfl
theorem q1697 : (Jvm.Cond.methodLink "BorrowedLives" (448 : Nat) ({ cls := "BorrowedLives", name := "sum", desc := "([I)I" } : Jvm.MethodName)) ∈ lw_all := lw_g (lw_at lw_m7 133 rfl) rfl
theorem q1698 : (Jvm.Cond.static ({ cls := "BorrowedLives", name := "sum", desc := "([I)I" } : Jvm.MethodName)) ∈ lw_all := lw_g (lw_at lw_m7 134 rfl) rfl
theorem q1699 : (Jvm.Cond.code ({ cls := "BorrowedLives", name := "sum", desc := "([I)I" } : Jvm.MethodName) prog_1_method_6_code (3 : Nat) (Option.some Jvm.ClassFile.FieldType.int)) ∈ lw_all := lw_g (lw_at lw_m7 135 rfl) rfl
theorem q1701 : (Jvm.Cond.instanceMethod ({ cls := "BorrowedLives", name := "mark", desc := "(IZ)Z" } : Jvm.MethodName)) ∈ lw_all := lw_g (lw_at lw_m7 137 rfl) rfl
theorem q1702 : (Jvm.Cond.selects "BorrowedLives" ({ cls := "BorrowedLives", name := "mark", desc := "(IZ)Z" } : Jvm.MethodName) ({ cls := "BorrowedLives", name := "mark", desc := "(IZ)Z" } : Jvm.MethodName)) ∈ lw_all := lw_g (lw_at lw_m7 138 rfl) rfl
theorem q1703 : (Jvm.Cond.code ({ cls := "BorrowedLives", name := "mark", desc := "(IZ)Z" } : Jvm.MethodName) prog_1_method_62_code (4 : Nat) (Option.some Jvm.ClassFile.FieldType.boolean)) ∈ lw_all := lw_g (lw_at lw_m7 139 rfl) rfl
theorem q1705 : (Jvm.Cond.methodLinkNest "BorrowedLives" (451 : Nat) ({ cls := "BorrowedLives$Mark", name := "<init>", desc := "()V" } : Jvm.MethodName) "BorrowedLives") ∈ lw_tbl := lw_at lw_m7 141 rfl
theorem q1712 : (Jvm.Cond.fieldLinkNest "BorrowedLives" (452 : Nat) "BorrowedLives$Mark" "state" "LBorrowedLives$State;" "BorrowedLives") ∈ lw_tbl := lw_at lw_m7 148 rfl
theorem q1714 : (Jvm.Cond.fieldLinkNest "BorrowedLives" (453 : Nat) "BorrowedLives$Mark" "life" "[I" "BorrowedLives") ∈ lw_tbl := lw_at lw_m7 150 rfl
theorem q1716 : (Jvm.Cond.fieldLinkNest "BorrowedLives" (456 : Nat) "BorrowedLives$Mark" "day" "[I" "BorrowedLives") ∈ lw_tbl := lw_at lw_m7 152 rfl
theorem q1718 : (Jvm.Cond.fieldLinkNest "BorrowedLives" (459 : Nat) "BorrowedLives$Mark" "purse" "[I" "BorrowedLives") ∈ lw_tbl := lw_at lw_m7 154 rfl
theorem q1719 : (Jvm.Cond.fieldLinkNest "BorrowedLives" (460 : Nat) "BorrowedLives$Mark" "tales" "I" "BorrowedLives") ∈ lw_tbl := lw_at lw_m7 155 rfl
theorem q1732 : (Jvm.Cond.instanceMethod ({ cls := "BorrowedLives", name := "count", desc := "(I)I" } : Jvm.MethodName)) ∈ lw_all := lw_g (lw_at lw_m7 168 rfl) rfl
theorem q1733 : (Jvm.Cond.selects "BorrowedLives" ({ cls := "BorrowedLives", name := "count", desc := "(I)I" } : Jvm.MethodName) ({ cls := "BorrowedLives", name := "count", desc := "(I)I" } : Jvm.MethodName)) ∈ lw_all := lw_g (lw_at lw_m7 169 rfl) rfl
theorem q1734 : (Jvm.Cond.code ({ cls := "BorrowedLives", name := "count", desc := "(I)I" } : Jvm.MethodName) prog_1_method_63_code (2 : Nat) (Option.some Jvm.ClassFile.FieldType.int)) ∈ lw_all := lw_g (lw_at lw_m7 170 rfl) rfl
theorem q1740 : (Jvm.Cond.instanceMethod ({ cls := "BorrowedLives", name := "deeds", desc := "(IIII)I" } : Jvm.MethodName)) ∈ lw_all := lw_g (lw_at lw_m7 176 rfl) rfl
theorem q1741 : (Jvm.Cond.selects "BorrowedLives" ({ cls := "BorrowedLives", name := "deeds", desc := "(IIII)I" } : Jvm.MethodName) ({ cls := "BorrowedLives", name := "deeds", desc := "(IIII)I" } : Jvm.MethodName)) ∈ lw_all := lw_g (lw_at lw_m7 177 rfl) rfl
theorem q1742 : (Jvm.Cond.code ({ cls := "BorrowedLives", name := "deeds", desc := "(IIII)I" } : Jvm.MethodName) prog_1_method_48_code (9 : Nat) (Option.some Jvm.ClassFile.FieldType.int)) ∈ lw_all := lw_g (lw_at lw_m7 178 rfl) rfl
theorem q1743 : (Jvm.Cond.methodLink "BorrowedLives" (380 : Nat) ({ cls := "BorrowedLives", name := "need", desc := "(Z)V" } : Jvm.MethodName)) ∈ lw_all := lw_g (lw_at lw_m7 179 rfl) rfl
theorem q1744 : (Jvm.Cond.static ({ cls := "BorrowedLives", name := "need", desc := "(Z)V" } : Jvm.MethodName)) ∈ lw_all := lw_g (lw_at lw_m7 180 rfl) rfl
theorem q1745 : (Jvm.Cond.code ({ cls := "BorrowedLives", name := "need", desc := "(Z)V" } : Jvm.MethodName) prog_1_method_4_code (1 : Nat) (Option.none : Option Jvm.ClassFile.FieldType)) ∈ lw_all := lw_g (lw_at lw_m7 181 rfl) rfl
theorem q1746 : (Jvm.Cond.classLink "BorrowedLives" (10 : Nat) "java/util/NoSuchElementException") ∈ lw_all := lw_g (lw_at lw_m7 182 rfl) rfl
theorem q1755 : (Jvm.Cond.methodLink "BorrowedLives" (12 : Nat) ({ cls := "java/util/NoSuchElementException", name := "<init>", desc := "()V" } : Jvm.MethodName)) ∈ lw_all := lw_g (lw_at lw_m7 191 rfl) rfl
theorem q1767 : (Jvm.Cond.methodLink "BorrowedLives" (377 : Nat) ({ cls := "BorrowedLives", name := "power", desc := "(II)I" } : Jvm.MethodName)) ∈ lw_all := lw_g (lw_at lw_m7 203 rfl) rfl
theorem q1768 : (Jvm.Cond.static ({ cls := "BorrowedLives", name := "power", desc := "(II)I" } : Jvm.MethodName)) ∈ lw_all := lw_g (lw_at lw_m7 204 rfl) rfl
theorem q1769 : (Jvm.Cond.code ({ cls := "BorrowedLives", name := "power", desc := "(II)I" } : Jvm.MethodName) prog_1_method_45_code (4 : Nat) (Option.some Jvm.ClassFile.FieldType.int)) ∈ lw_all := lw_g (lw_at lw_m7 205 rfl) rfl
theorem q1770 : (Jvm.Cond.methodLink "BorrowedLives" (384 : Nat) ({ cls := "BorrowedLives", name := "deedIn", desc := "(III)I" } : Jvm.MethodName)) ∈ lw_all := lw_g (lw_at lw_m7 206 rfl) rfl
theorem q1771 : (Jvm.Cond.static ({ cls := "BorrowedLives", name := "deedIn", desc := "(III)I" } : Jvm.MethodName)) ∈ lw_all := lw_g (lw_at lw_m7 207 rfl) rfl
theorem q1772 : (Jvm.Cond.code ({ cls := "BorrowedLives", name := "deedIn", desc := "(III)I" } : Jvm.MethodName) prog_1_method_46_code (3 : Nat) (Option.some Jvm.ClassFile.FieldType.int)) ∈ lw_all := lw_g (lw_at lw_m7 208 rfl) rfl
theorem q1773 : (Jvm.Cond.methodLink "BorrowedLives" (387 : Nat) ({ cls := "BorrowedLives", name := "does", desc := "(LBorrowedLives$State;III)V" } : Jvm.MethodName)) ∈ lw_all := lw_g (lw_at lw_m7 209 rfl) rfl
theorem q1774 : (Jvm.Cond.privateMethod ({ cls := "BorrowedLives", name := "does", desc := "(LBorrowedLives$State;III)V" } : Jvm.MethodName)) ∈ lw_tbl := lw_at lw_m7 210 rfl
theorem q1775 : (Jvm.Cond.instanceMethod ({ cls := "BorrowedLives", name := "does", desc := "(LBorrowedLives$State;III)V" } : Jvm.MethodName)) ∈ lw_all := lw_g (lw_at lw_m7 211 rfl) rfl
theorem q1776 : (Jvm.Cond.code ({ cls := "BorrowedLives", name := "does", desc := "(LBorrowedLives$State;III)V" } : Jvm.MethodName) prog_1_method_47_code (6 : Nat) (Option.none : Option Jvm.ClassFile.FieldType)) ∈ lw_all := lw_g (lw_at lw_m7 212 rfl) rfl
theorem q1777 : (Jvm.Cond.methodLink "BorrowedLives" (391 : Nat) ({ cls := "BorrowedLives", name := "goodOf", desc := "(LBorrowedLives$State;I)I" } : Jvm.MethodName)) ∈ lw_all := lw_g (lw_at lw_m7 213 rfl) rfl
theorem q1778 : (Jvm.Cond.privateMethod ({ cls := "BorrowedLives", name := "goodOf", desc := "(LBorrowedLives$State;I)I" } : Jvm.MethodName)) ∈ lw_tbl := lw_at lw_m7 214 rfl
theorem q1779 : (Jvm.Cond.instanceMethod ({ cls := "BorrowedLives", name := "goodOf", desc := "(LBorrowedLives$State;I)I" } : Jvm.MethodName)) ∈ lw_all := lw_g (lw_at lw_m7 215 rfl) rfl
theorem q1780 : (Jvm.Cond.code ({ cls := "BorrowedLives", name := "goodOf", desc := "(LBorrowedLives$State;I)I" } : Jvm.MethodName) prog_1_method_44_code (3 : Nat) (Option.some Jvm.ClassFile.FieldType.int)) ∈ lw_all := lw_g (lw_at lw_m7 216 rfl) rfl
theorem q1785 : (Jvm.Cond.instanceMethod ({ cls := "BorrowedLives", name := "rests", desc := "(IIII)I" } : Jvm.MethodName)) ∈ lw_all := lw_g (lw_at lw_m7 221 rfl) rfl
theorem q1786 : (Jvm.Cond.selects "BorrowedLives" ({ cls := "BorrowedLives", name := "rests", desc := "(IIII)I" } : Jvm.MethodName) ({ cls := "BorrowedLives", name := "rests", desc := "(IIII)I" } : Jvm.MethodName)) ∈ lw_all := lw_g (lw_at lw_m7 222 rfl) rfl
theorem q1787 : (Jvm.Cond.code ({ cls := "BorrowedLives", name := "rests", desc := "(IIII)I" } : Jvm.MethodName) prog_1_method_60_code (8 : Nat) (Option.some Jvm.ClassFile.FieldType.int)) ∈ lw_all := lw_g (lw_at lw_m7 223 rfl) rfl
theorem q1788 : (Jvm.Cond.methodLink "BorrowedLives" (441 : Nat) ({ cls := "BorrowedLives", name := "isRest", desc := "(IIIII)Z" } : Jvm.MethodName)) ∈ lw_all := lw_g (lw_at lw_m7 224 rfl) rfl
theorem q1789 : (Jvm.Cond.static ({ cls := "BorrowedLives", name := "isRest", desc := "(IIIII)Z" } : Jvm.MethodName)) ∈ lw_all := lw_g (lw_at lw_m7 225 rfl) rfl
theorem q1790 : (Jvm.Cond.code ({ cls := "BorrowedLives", name := "isRest", desc := "(IIIII)Z" } : Jvm.MethodName) prog_1_method_59_code (6 : Nat) (Option.some Jvm.ClassFile.FieldType.boolean)) ∈ lw_all := lw_g (lw_at lw_m7 226 rfl) rfl
theorem q1791 : (Jvm.Cond.methodLink "BorrowedLives" (438 : Nat) ({ cls := "BorrowedLives", name := "gets", desc := "(IIIII)I" } : Jvm.MethodName)) ∈ lw_all := lw_g (lw_at lw_m7 227 rfl) rfl
theorem q1792 : (Jvm.Cond.static ({ cls := "BorrowedLives", name := "gets", desc := "(IIIII)I" } : Jvm.MethodName)) ∈ lw_all := lw_g (lw_at lw_m7 228 rfl) rfl
theorem q1793 : (Jvm.Cond.code ({ cls := "BorrowedLives", name := "gets", desc := "(IIIII)I" } : Jvm.MethodName) prog_1_method_58_code (5 : Nat) (Option.some Jvm.ClassFile.FieldType.int)) ∈ lw_all := lw_g (lw_at lw_m7 229 rfl) rfl
theorem q2415 : (Jvm.Cond.castable "BorrowedLives" "java/lang/Object") ∈ lw_tbl := lw_at lw_m10 131 rfl
theorem in_X1 : ∀ w ∈ wsX10, w ∈ lw_all := lw_in wsX10 [406, 408, 410, 412, 414, 416, 418, 420, 422, 424, 426, 428, 430, 432, 434, 436, 438, 440, 442, 444, 446, 448, 450] (by decide +kernel) (by decide +kernel)
