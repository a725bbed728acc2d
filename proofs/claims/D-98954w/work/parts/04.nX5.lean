/-! BorrowedLivesModel -/
set_option maxRecDepth 100000
def RX5 : String := "BorrowedLivesModel"
def TX5 : u_T := fun k => match k with
  | 0 => ("BorrowedLivesModel", "thrown", "I", false)
  | 1 => ("BorrowedLivesModel", "tape", "[I", true)
  | 2 => ("BorrowedLivesModel", "taped", "I", false)
  | 3 => ("BorrowedLivesModel", "size", "I", false)
  | 4 => ("BorrowedLivesModel", "sort", "[I", true)
  | 5 => ("BorrowedLivesModel", "place", "[I", true)
  | 6 => ("BorrowedLivesModel", "value", "[J", true)
  | 7 => ("BorrowedLivesModel", "at", "I", false)
  | 8 => ("BorrowedLivesModel", "fault", "I", false)
  | 9 => ("BorrowedLivesModel", "words", "[J", true)
  | 10 => ("BorrowedLivesModel", "towns", "[I", true)
  | 11 => ("BorrowedLivesModel", "op", "[I", true)
  | 12 => ("BorrowedLivesModel", "arg", "[I", true)
  | 13 => ("BorrowedLivesModel", "codes", "I", false)
  | 14 => ("BorrowedLivesModel", "names", "[J", true)
  | 15 => ("BorrowedLivesModel", "readNames", "[J", true)
  | 16 => ("BorrowedLivesModel", "namesMany", "I", false)
  | 17 => ("BorrowedLivesModel", "readMany", "I", false)
  | 18 => ("BorrowedLivesModel", "hasSigned", "Z", false)
  | 19 => ("BorrowedLivesModel", "factsHere", "I", false)
  | 20 => ("BorrowedLivesModel", "lines", "[I", true)
  | 21 => ("BorrowedLivesModel", "facts", "[I", true)
  | 22 => ("BorrowedLivesModel", "pile", "[I", true)
  | 23 => ("BorrowedLivesModel", "state", "[I", true)
  | 24 => ("BorrowedLivesModel", "undos", "I", false)
  | 25 => ("BorrowedLivesModel", "isMarked", "[Z", true)
  | 26 => ("BorrowedLivesModel", "signed", "I", false)
  | 27 => ("BorrowedLivesModel", "lotRows", "[I", true)
  | 28 => ("BorrowedLivesModel", "lotRow", "[I", true)
  | 29 => ("BorrowedLivesModel", "lotsMany", "I", false)
  | 30 => ("BorrowedLivesModel", "g", "J", false)
  | 31 => ("BorrowedLivesModel", "deed", "[I", true)
  | 32 => ("BorrowedLivesModel", "bestDeeds", "[I", true)
  | 33 => ("BorrowedLivesModel", "mostGood", "I", false)
  | 34 => ("BorrowedLivesModel", "isFound", "Z", false)
  | 35 => ("BorrowedLivesModel", "deedsMany", "I", false)
  | 36 => ("BorrowedLivesModel", "would", "[Z", true)
  | 37 => ("BorrowedLivesModel", "pairRow", "[I", true)
  | 38 => ("BorrowedLivesModel", "bestPairs", "[I", true)
  | 39 => ("BorrowedLivesModel", "mostPairs", "I", false)
  | 40 => ("BorrowedLivesModel", "purses", "[I", true)
  | 41 => ("BorrowedLivesModel", "fits", "[Z", true)
  | _ => ("BorrowedLivesModel", "fitting", "I", false)
def tyX5 : Nat → FieldType := fun k => match k with
  | 0 => .int
  | 1 => .array .int
  | 2 => .int
  | 3 => .int
  | 4 => .array .int
  | 5 => .array .int
  | 6 => .array .long
  | 7 => .int
  | 8 => .int
  | 9 => .array .long
  | 10 => .array .int
  | 11 => .array .int
  | 12 => .array .int
  | 13 => .int
  | 14 => .array .long
  | 15 => .array .long
  | 16 => .int
  | 17 => .int
  | 18 => .boolean
  | 19 => .int
  | 20 => .array .int
  | 21 => .array .int
  | 22 => .array .int
  | 23 => .array .int
  | 24 => .int
  | 25 => .array .boolean
  | 26 => .int
  | 27 => .array .int
  | 28 => .array .int
  | 29 => .int
  | 30 => .long
  | 31 => .array .int
  | 32 => .array .int
  | 33 => .int
  | 34 => .boolean
  | 35 => .int
  | 36 => .array .boolean
  | 37 => .array .int
  | 38 => .array .int
  | 39 => .int
  | 40 => .array .int
  | 41 => .array .boolean
  | _ => .int
abbrev wsX50 : List Cond := u_ws RX5 TX5 43
set_option maxRecDepth 100000 in
theorem nmX5 : ∀ a, a < 43 → ∀ b, b < 43 → a ≠ b → (TX5 a).2.1 ≠ (TX5 b).2.1 := by decide +kernel
set_option maxRecDepth 100000 in
theorem tyX5_ok : ∀ k, k < 43 → parseFieldDescriptor (TX5 k).2.2.1 = some (tyX5 k) := by decide +kernel
abbrev cX5_thrown : ByteArray := prog_30_method_1_code
def yX5_thrown : MethodName := ⟨RX5, "thrown", "()I"⟩
theorem dX5_thrown_0 : decode cX5_thrown 0 = .ok (.aload_n 0, 1) := by decide +kernel
theorem dX5_thrown_1 : decode cX5_thrown 1 = .ok (.getfield 1, 3) := by decide +kernel
theorem dX5_thrown_4 : decode cX5_thrown 4 = .ok (.ireturn, 1) := by decide +kernel
abbrev cX5_feed : ByteArray := prog_30_method_2_code
def yX5_feed : MethodName := ⟨RX5, "feed", "(JJJ)I"⟩
def dkwX5_feed_1 : List UInt8 := [180, 0, 11, 172]
abbrev dktX5_feed_1 : List UInt8 := dkwX5_feed_1 ++ []
def dkwX5_feed_0 : List UInt8 := [42, 3, 181, 0, 1, 42, 31, 182, 0, 7, 42, 33, 182, 0, 7, 42, 22, 5, 182, 0, 7, 42]
abbrev dktX5_feed_0 : List UInt8 := dkwX5_feed_0 ++ dktX5_feed_1
theorem dksX5_feed_0 : cX5_feed.data.toList.drop 0 = dktX5_feed_0 := by decide +kernel
theorem dksX5_feed_1 : cX5_feed.data.toList.drop 22 = dktX5_feed_1 := dk_seg dksX5_feed_0 22 rfl rfl
theorem dX5_feed_0 : decode cX5_feed 0 = .ok (.aload_n 0, 1) := dk_42 (dk_at dksX5_feed_0 0 rfl rfl)
theorem dX5_feed_1 : decode cX5_feed 1 = .ok (.iconst 0, 1) := dk_3 (dk_at dksX5_feed_0 1 rfl rfl)
theorem dX5_feed_2 : decode cX5_feed 2 = .ok (.putfield 1, 3) := dk_181 0 1 (dk_at dksX5_feed_0 2 rfl rfl)
theorem dX5_feed_5 : decode cX5_feed 5 = .ok (.aload_n 0, 1) := dk_42 (dk_at dksX5_feed_0 5 rfl rfl)
theorem dX5_feed_6 : decode cX5_feed 6 = .ok (.lload_n 1, 1) := dk_31 (dk_at dksX5_feed_0 6 rfl rfl)
theorem dX5_feed_7 : decode cX5_feed 7 = .ok (.invokevirtual 7, 3) := dk_182 0 7 (dk_at dksX5_feed_0 7 rfl rfl)
theorem dX5_feed_10 : decode cX5_feed 10 = .ok (.aload_n 0, 1) := dk_42 (dk_at dksX5_feed_0 10 rfl rfl)
theorem dX5_feed_11 : decode cX5_feed 11 = .ok (.lload_n 3, 1) := dk_33 (dk_at dksX5_feed_0 11 rfl rfl)
theorem dX5_feed_12 : decode cX5_feed 12 = .ok (.invokevirtual 7, 3) := dk_182 0 7 (dk_at dksX5_feed_0 12 rfl rfl)
theorem dX5_feed_15 : decode cX5_feed 15 = .ok (.aload_n 0, 1) := dk_42 (dk_at dksX5_feed_0 15 rfl rfl)
theorem dX5_feed_16 : decode cX5_feed 16 = .ok (.lload 5, 2) := dk_22 5 (dk_at dksX5_feed_0 16 rfl rfl)
theorem dX5_feed_18 : decode cX5_feed 18 = .ok (.invokevirtual 7, 3) := dk_182 0 7 (dk_at dksX5_feed_0 18 rfl rfl)
theorem dX5_feed_21 : decode cX5_feed 21 = .ok (.aload_n 0, 1) := dk_42 (dk_at dksX5_feed_0 21 rfl rfl)
theorem dX5_feed_22 : decode cX5_feed 22 = .ok (.getfield 11, 3) := dk_180 0 11 (dk_at dksX5_feed_1 0 rfl rfl)
theorem dX5_feed_25 : decode cX5_feed 25 = .ok (.ireturn, 1) := dk_172 (dk_at dksX5_feed_1 3 rfl rfl)
abbrev cX5_lay : ByteArray := prog_30_method_3_code
def yX5_lay : MethodName := ⟨RX5, "lay", "(J)V"⟩
def dkwX5_lay_3 : List UInt8 := [167, 255, 187, 177]
abbrev dktX5_lay_3 : List UInt8 := dkwX5_lay_3 ++ []
def dkwX5_lay_2 : List UInt8 := [42, 180, 0, 14, 42, 180, 0, 11, 21, 4, 79, 42, 89, 180, 0, 11, 4, 96, 181, 0, 11, 132, 3, 248]
abbrev dktX5_lay_2 : List UInt8 := dkwX5_lay_2 ++ dktX5_lay_3
def dkwX5_lay_1 : List UInt8 := [21, 4, 16, 32, 161, 0, 41, 21, 4, 16, 126, 163, 0, 34, 42, 180, 0, 11, 17, 3, 232, 162, 0, 24]
abbrev dktX5_lay_1 : List UInt8 := dkwX5_lay_1 ++ dktX5_lay_2
def dkwX5_lay_0 : List UInt8 := [16, 56, 62, 29, 155, 0, 71, 31, 29, 123, 136, 17, 0, 255, 126, 54, 4, 21, 4, 16, 10, 159, 0, 17]
abbrev dktX5_lay_0 : List UInt8 := dkwX5_lay_0 ++ dktX5_lay_1
theorem dksX5_lay_0 : cX5_lay.data.toList.drop 0 = dktX5_lay_0 := by decide +kernel
theorem dksX5_lay_1 : cX5_lay.data.toList.drop 24 = dktX5_lay_1 := dk_seg dksX5_lay_0 24 rfl rfl
theorem dksX5_lay_2 : cX5_lay.data.toList.drop 48 = dktX5_lay_2 := dk_seg dksX5_lay_1 24 rfl rfl
theorem dksX5_lay_3 : cX5_lay.data.toList.drop 72 = dktX5_lay_3 := dk_seg dksX5_lay_2 24 rfl rfl
theorem dX5_lay_0 : decode cX5_lay 0 = .ok (.bipush 56, 2) := dk_16 56 (dk_at dksX5_lay_0 0 rfl rfl)
theorem dX5_lay_2 : decode cX5_lay 2 = .ok (.istore_n 3, 1) := dk_62 (dk_at dksX5_lay_0 2 rfl rfl)
theorem dX5_lay_3 : decode cX5_lay 3 = .ok (.iload_n 3, 1) := dk_29 (dk_at dksX5_lay_0 3 rfl rfl)
theorem dX5_lay_4 : decode cX5_lay 4 = .ok (.ifCond .lt 71, 3) := dk_155 0 71 (dk_at dksX5_lay_0 4 rfl rfl)
theorem dX5_lay_7 : decode cX5_lay 7 = .ok (.lload_n 1, 1) := dk_31 (dk_at dksX5_lay_0 7 rfl rfl)
theorem dX5_lay_8 : decode cX5_lay 8 = .ok (.iload_n 3, 1) := dk_29 (dk_at dksX5_lay_0 8 rfl rfl)
theorem dX5_lay_9 : decode cX5_lay 9 = .ok (.lshr, 1) := dk_123 (dk_at dksX5_lay_0 9 rfl rfl)
theorem dX5_lay_10 : decode cX5_lay 10 = .ok (.l2i, 1) := dk_136 (dk_at dksX5_lay_0 10 rfl rfl)
theorem dX5_lay_11 : decode cX5_lay 11 = .ok (.sipush 255, 3) := dk_17 0 255 (dk_at dksX5_lay_0 11 rfl rfl)
theorem dX5_lay_14 : decode cX5_lay 14 = .ok (.iand, 1) := dk_126 (dk_at dksX5_lay_0 14 rfl rfl)
theorem dX5_lay_15 : decode cX5_lay 15 = .ok (.istore 4, 2) := dk_54 4 (dk_at dksX5_lay_0 15 rfl rfl)
theorem dX5_lay_17 : decode cX5_lay 17 = .ok (.iload 4, 2) := dk_21 4 (dk_at dksX5_lay_0 17 rfl rfl)
theorem dX5_lay_19 : decode cX5_lay 19 = .ok (.bipush 10, 2) := dk_16 10 (dk_at dksX5_lay_0 19 rfl rfl)
theorem dX5_lay_21 : decode cX5_lay 21 = .ok (.if_icmp .eq 17, 3) := dk_159 0 17 (dk_at dksX5_lay_0 21 rfl rfl)
theorem dX5_lay_24 : decode cX5_lay 24 = .ok (.iload 4, 2) := dk_21 4 (dk_at dksX5_lay_1 0 rfl rfl)
theorem dX5_lay_26 : decode cX5_lay 26 = .ok (.bipush 32, 2) := dk_16 32 (dk_at dksX5_lay_1 2 rfl rfl)
theorem dX5_lay_28 : decode cX5_lay 28 = .ok (.if_icmp .lt 41, 3) := dk_161 0 41 (dk_at dksX5_lay_1 4 rfl rfl)
theorem dX5_lay_31 : decode cX5_lay 31 = .ok (.iload 4, 2) := dk_21 4 (dk_at dksX5_lay_1 7 rfl rfl)
theorem dX5_lay_33 : decode cX5_lay 33 = .ok (.bipush 126, 2) := dk_16 126 (dk_at dksX5_lay_1 9 rfl rfl)
theorem dX5_lay_35 : decode cX5_lay 35 = .ok (.if_icmp .gt 34, 3) := dk_163 0 34 (dk_at dksX5_lay_1 11 rfl rfl)
theorem dX5_lay_38 : decode cX5_lay 38 = .ok (.aload_n 0, 1) := dk_42 (dk_at dksX5_lay_1 14 rfl rfl)
theorem dX5_lay_39 : decode cX5_lay 39 = .ok (.getfield 11, 3) := dk_180 0 11 (dk_at dksX5_lay_1 15 rfl rfl)
theorem dX5_lay_42 : decode cX5_lay 42 = .ok (.sipush 1000, 3) := dk_17 3 232 (dk_at dksX5_lay_1 18 rfl rfl)
theorem dX5_lay_45 : decode cX5_lay 45 = .ok (.if_icmp .ge 24, 3) := dk_162 0 24 (dk_at dksX5_lay_1 21 rfl rfl)
theorem dX5_lay_48 : decode cX5_lay 48 = .ok (.aload_n 0, 1) := dk_42 (dk_at dksX5_lay_2 0 rfl rfl)
theorem dX5_lay_49 : decode cX5_lay 49 = .ok (.getfield 14, 3) := dk_180 0 14 (dk_at dksX5_lay_2 1 rfl rfl)
theorem dX5_lay_52 : decode cX5_lay 52 = .ok (.aload_n 0, 1) := dk_42 (dk_at dksX5_lay_2 4 rfl rfl)
theorem dX5_lay_53 : decode cX5_lay 53 = .ok (.getfield 11, 3) := dk_180 0 11 (dk_at dksX5_lay_2 5 rfl rfl)
theorem dX5_lay_56 : decode cX5_lay 56 = .ok (.iload 4, 2) := dk_21 4 (dk_at dksX5_lay_2 8 rfl rfl)
theorem dX5_lay_58 : decode cX5_lay 58 = .ok (.iastore, 1) := dk_79 (dk_at dksX5_lay_2 10 rfl rfl)
theorem dX5_lay_59 : decode cX5_lay 59 = .ok (.aload_n 0, 1) := dk_42 (dk_at dksX5_lay_2 11 rfl rfl)
theorem dX5_lay_60 : decode cX5_lay 60 = .ok (.dup, 1) := dk_89 (dk_at dksX5_lay_2 12 rfl rfl)
theorem dX5_lay_61 : decode cX5_lay 61 = .ok (.getfield 11, 3) := dk_180 0 11 (dk_at dksX5_lay_2 13 rfl rfl)
theorem dX5_lay_64 : decode cX5_lay 64 = .ok (.iconst 1, 1) := dk_4 (dk_at dksX5_lay_2 16 rfl rfl)
theorem dX5_lay_65 : decode cX5_lay 65 = .ok (.iadd, 1) := dk_96 (dk_at dksX5_lay_2 17 rfl rfl)
theorem dX5_lay_66 : decode cX5_lay 66 = .ok (.putfield 11, 3) := dk_181 0 11 (dk_at dksX5_lay_2 18 rfl rfl)
theorem dX5_lay_69 : decode cX5_lay 69 = .ok (.iinc 3 (-8), 3) := dk_132 3 248 (dk_at dksX5_lay_2 21 rfl rfl)
theorem dX5_lay_72 : decode cX5_lay 72 = .ok (.goto (-69), 3) := dk_167 255 187 (dk_at dksX5_lay_3 0 rfl rfl)
theorem dX5_lay_75 : decode cX5_lay 75 = .ok (.return_, 1) := dk_177 (dk_at dksX5_lay_3 3 rfl rfl)
abbrev cX5_init : ByteArray := prog_30_method_4_code
def yX5_init : MethodName := ⟨RX5, "<init>", "()V"⟩
def dkwX5_init_16 : List UInt8 := [42, 17, 1, 9, 188, 4, 181, 0, 146, 42, 3, 182, 0, 149, 42, 182, 0, 153, 177]
abbrev dktX5_init_16 : List UInt8 := dkwX5_init_16 ++ []
def dkwX5_init_15 : List UInt8 := [16, 6, 188, 10, 181, 0, 137, 42, 16, 6, 188, 10, 181, 0, 140, 42, 17, 6, 54, 188, 10, 181, 0, 143]
abbrev dktX5_init_15 : List UInt8 := dkwX5_init_15 ++ dktX5_init_16
def dkwX5_init_14 : List UInt8 := [16, 7, 188, 10, 181, 0, 128, 42, 16, 7, 188, 10, 181, 0, 131, 42, 16, 36, 188, 4, 181, 0, 134, 42]
abbrev dktX5_init_14 : List UInt8 := dkwX5_init_14 ++ dktX5_init_15
def dkwX5_init_13 : List UInt8 := [7, 188, 4, 181, 0, 118, 42, 17, 1, 9, 188, 10, 181, 0, 122, 42, 16, 6, 188, 10, 181, 0, 125, 42]
abbrev dktX5_init_13 : List UInt8 := dkwX5_init_13 ++ dktX5_init_14
def dkwX5_init_12 : List UInt8 := [188, 10, 181, 0, 109, 42, 17, 4, 76, 188, 10, 181, 0, 112, 42, 17, 6, 120, 188, 10, 181, 0, 115, 42]
abbrev dktX5_init_12 : List UInt8 := dkwX5_init_12 ++ dktX5_init_13
def dkwX5_init_11 : List UInt8 := [188, 11, 181, 0, 100, 42, 16, 6, 188, 11, 181, 0, 103, 42, 17, 0, 250, 188, 10, 181, 0, 106, 42, 8]
abbrev dktX5_init_11 : List UInt8 := dkwX5_init_11 ++ dktX5_init_12
def dkwX5_init_10 : List UInt8 := [181, 0, 91, 42, 17, 8, 152, 188, 10, 181, 0, 94, 42, 17, 8, 152, 188, 10, 181, 0, 97, 42, 16, 6]
abbrev dktX5_init_10 : List UInt8 := dkwX5_init_10 ++ dktX5_init_11
def dkwX5_init_9 : List UInt8 := [80, 89, 16, 25, 20, 0, 84, 80, 89, 16, 26, 20, 0, 86, 80, 181, 0, 88, 42, 17, 0, 160, 188, 10]
abbrev dktX5_init_9 : List UInt8 := dkwX5_init_9 ++ dktX5_init_10
def dkwX5_init_8 : List UInt8 := [20, 0, 76, 80, 89, 16, 22, 20, 0, 78, 80, 89, 16, 23, 20, 0, 80, 80, 89, 16, 24, 20, 0, 82]
abbrev dktX5_init_8 : List UInt8 := dkwX5_init_8 ++ dktX5_init_9
def dkwX5_init_7 : List UInt8 := [16, 18, 20, 0, 70, 80, 89, 16, 19, 20, 0, 72, 80, 89, 16, 20, 20, 0, 74, 80, 89, 16, 21]
abbrev dktX5_init_7 : List UInt8 := dkwX5_init_7 ++ dktX5_init_8
def dkwX5_init_6 : List UInt8 := [80, 89, 16, 15, 20, 0, 64, 80, 89, 16, 16, 20, 0, 66, 80, 89, 16, 17, 20, 0, 68, 80, 89]
abbrev dktX5_init_6 : List UInt8 := dkwX5_init_6 ++ dktX5_init_7
def dkwX5_init_5 : List UInt8 := [20, 0, 56, 80, 89, 16, 12, 20, 0, 58, 80, 89, 16, 13, 20, 0, 60, 80, 89, 16, 14, 20, 0, 62]
abbrev dktX5_init_5 : List UInt8 := dkwX5_init_5 ++ dktX5_init_6
def dkwX5_init_4 : List UInt8 := [89, 16, 8, 20, 0, 50, 80, 89, 16, 9, 20, 0, 52, 80, 89, 16, 10, 20, 0, 54, 80, 89, 16, 11]
abbrev dktX5_init_4 : List UInt8 := dkwX5_init_4 ++ dktX5_init_5
def dkwX5_init_3 : List UInt8 := [20, 0, 42, 80, 89, 8, 20, 0, 44, 80, 89, 16, 6, 20, 0, 46, 80, 89, 16, 7, 20, 0, 48, 80]
abbrev dktX5_init_3 : List UInt8 := dkwX5_init_3 ++ dktX5_init_4
def dkwX5_init_2 : List UInt8 := [20, 0, 34, 80, 89, 4, 20, 0, 36, 80, 89, 5, 20, 0, 38, 80, 89, 6, 20, 0, 40, 80, 89, 7]
abbrev dktX5_init_2 : List UInt8 := dkwX5_init_2 ++ dktX5_init_3
def dkwX5_init_1 : List UInt8 := [17, 3, 234, 188, 10, 181, 0, 27, 42, 17, 3, 234, 188, 11, 181, 0, 30, 42, 16, 27, 188, 11, 89, 3]
abbrev dktX5_init_1 : List UInt8 := dkwX5_init_1 ++ dktX5_init_2
def dkwX5_init_0 : List UInt8 := [42, 183, 0, 18, 42, 17, 3, 232, 188, 10, 181, 0, 14, 42, 17, 3, 234, 188, 10, 181, 0, 24, 42]
abbrev dktX5_init_0 : List UInt8 := dkwX5_init_0 ++ dktX5_init_1
theorem dksX5_init_0 : cX5_init.data.toList.drop 0 = dktX5_init_0 := by decide +kernel
theorem dksX5_init_1 : cX5_init.data.toList.drop 23 = dktX5_init_1 := dk_seg dksX5_init_0 23 rfl rfl
theorem dksX5_init_2 : cX5_init.data.toList.drop 47 = dktX5_init_2 := dk_seg dksX5_init_1 24 rfl rfl
theorem dksX5_init_3 : cX5_init.data.toList.drop 71 = dktX5_init_3 := dk_seg dksX5_init_2 24 rfl rfl
theorem dksX5_init_4 : cX5_init.data.toList.drop 95 = dktX5_init_4 := dk_seg dksX5_init_3 24 rfl rfl
theorem dksX5_init_5 : cX5_init.data.toList.drop 119 = dktX5_init_5 := dk_seg dksX5_init_4 24 rfl rfl
theorem dksX5_init_6 : cX5_init.data.toList.drop 143 = dktX5_init_6 := dk_seg dksX5_init_5 24 rfl rfl
theorem dksX5_init_7 : cX5_init.data.toList.drop 166 = dktX5_init_7 := dk_seg dksX5_init_6 23 rfl rfl
theorem dksX5_init_8 : cX5_init.data.toList.drop 189 = dktX5_init_8 := dk_seg dksX5_init_7 23 rfl rfl
theorem dksX5_init_9 : cX5_init.data.toList.drop 213 = dktX5_init_9 := dk_seg dksX5_init_8 24 rfl rfl
theorem dksX5_init_10 : cX5_init.data.toList.drop 237 = dktX5_init_10 := dk_seg dksX5_init_9 24 rfl rfl
theorem dksX5_init_11 : cX5_init.data.toList.drop 261 = dktX5_init_11 := dk_seg dksX5_init_10 24 rfl rfl
theorem dksX5_init_12 : cX5_init.data.toList.drop 285 = dktX5_init_12 := dk_seg dksX5_init_11 24 rfl rfl
theorem dksX5_init_13 : cX5_init.data.toList.drop 309 = dktX5_init_13 := dk_seg dksX5_init_12 24 rfl rfl
theorem dksX5_init_14 : cX5_init.data.toList.drop 333 = dktX5_init_14 := dk_seg dksX5_init_13 24 rfl rfl
theorem dksX5_init_15 : cX5_init.data.toList.drop 357 = dktX5_init_15 := dk_seg dksX5_init_14 24 rfl rfl
theorem dksX5_init_16 : cX5_init.data.toList.drop 381 = dktX5_init_16 := dk_seg dksX5_init_15 24 rfl rfl
theorem dX5_init_0 : decode cX5_init 0 = .ok (.aload_n 0, 1) := dk_42 (dk_at dksX5_init_0 0 rfl rfl)
theorem dX5_init_1 : decode cX5_init 1 = .ok (.invokespecial 18, 3) := dk_183 0 18 (dk_at dksX5_init_0 1 rfl rfl)
theorem dX5_init_4 : decode cX5_init 4 = .ok (.aload_n 0, 1) := dk_42 (dk_at dksX5_init_0 4 rfl rfl)
theorem dX5_init_5 : decode cX5_init 5 = .ok (.sipush 1000, 3) := dk_17 3 232 (dk_at dksX5_init_0 5 rfl rfl)
theorem dX5_init_8 : decode cX5_init 8 = .ok (.newarray .int, 2) := dk_188_10 (dk_at dksX5_init_0 8 rfl rfl)
theorem dX5_init_10 : decode cX5_init 10 = .ok (.putfield 14, 3) := dk_181 0 14 (dk_at dksX5_init_0 10 rfl rfl)
theorem dX5_init_13 : decode cX5_init 13 = .ok (.aload_n 0, 1) := dk_42 (dk_at dksX5_init_0 13 rfl rfl)
theorem dX5_init_14 : decode cX5_init 14 = .ok (.sipush 1002, 3) := dk_17 3 234 (dk_at dksX5_init_0 14 rfl rfl)
theorem dX5_init_17 : decode cX5_init 17 = .ok (.newarray .int, 2) := dk_188_10 (dk_at dksX5_init_0 17 rfl rfl)
theorem dX5_init_19 : decode cX5_init 19 = .ok (.putfield 24, 3) := dk_181 0 24 (dk_at dksX5_init_0 19 rfl rfl)
theorem dX5_init_22 : decode cX5_init 22 = .ok (.aload_n 0, 1) := dk_42 (dk_at dksX5_init_0 22 rfl rfl)
theorem dX5_init_23 : decode cX5_init 23 = .ok (.sipush 1002, 3) := dk_17 3 234 (dk_at dksX5_init_1 0 rfl rfl)
theorem dX5_init_26 : decode cX5_init 26 = .ok (.newarray .int, 2) := dk_188_10 (dk_at dksX5_init_1 3 rfl rfl)
theorem dX5_init_28 : decode cX5_init 28 = .ok (.putfield 27, 3) := dk_181 0 27 (dk_at dksX5_init_1 5 rfl rfl)
theorem dX5_init_31 : decode cX5_init 31 = .ok (.aload_n 0, 1) := dk_42 (dk_at dksX5_init_1 8 rfl rfl)
theorem dX5_init_32 : decode cX5_init 32 = .ok (.sipush 1002, 3) := dk_17 3 234 (dk_at dksX5_init_1 9 rfl rfl)
theorem dX5_init_35 : decode cX5_init 35 = .ok (.newarray .long, 2) := dk_188_11 (dk_at dksX5_init_1 12 rfl rfl)
theorem dX5_init_37 : decode cX5_init 37 = .ok (.putfield 30, 3) := dk_181 0 30 (dk_at dksX5_init_1 14 rfl rfl)
theorem dX5_init_40 : decode cX5_init 40 = .ok (.aload_n 0, 1) := dk_42 (dk_at dksX5_init_1 17 rfl rfl)
theorem dX5_init_41 : decode cX5_init 41 = .ok (.bipush 27, 2) := dk_16 27 (dk_at dksX5_init_1 18 rfl rfl)
theorem dX5_init_43 : decode cX5_init 43 = .ok (.newarray .long, 2) := dk_188_11 (dk_at dksX5_init_1 20 rfl rfl)
theorem dX5_init_45 : decode cX5_init 45 = .ok (.dup, 1) := dk_89 (dk_at dksX5_init_1 22 rfl rfl)
theorem dX5_init_46 : decode cX5_init 46 = .ok (.iconst 0, 1) := dk_3 (dk_at dksX5_init_1 23 rfl rfl)
theorem dX5_init_47 : decode cX5_init 47 = .ok (.ldc2_w 34, 3) := dk_20 0 34 (dk_at dksX5_init_2 0 rfl rfl)
theorem dX5_init_50 : decode cX5_init 50 = .ok (.lastore, 1) := dk_80 (dk_at dksX5_init_2 3 rfl rfl)
theorem dX5_init_51 : decode cX5_init 51 = .ok (.dup, 1) := dk_89 (dk_at dksX5_init_2 4 rfl rfl)
theorem dX5_init_52 : decode cX5_init 52 = .ok (.iconst 1, 1) := dk_4 (dk_at dksX5_init_2 5 rfl rfl)
theorem dX5_init_53 : decode cX5_init 53 = .ok (.ldc2_w 36, 3) := dk_20 0 36 (dk_at dksX5_init_2 6 rfl rfl)
theorem dX5_init_56 : decode cX5_init 56 = .ok (.lastore, 1) := dk_80 (dk_at dksX5_init_2 9 rfl rfl)
theorem dX5_init_57 : decode cX5_init 57 = .ok (.dup, 1) := dk_89 (dk_at dksX5_init_2 10 rfl rfl)
theorem dX5_init_58 : decode cX5_init 58 = .ok (.iconst 2, 1) := dk_5 (dk_at dksX5_init_2 11 rfl rfl)
theorem dX5_init_59 : decode cX5_init 59 = .ok (.ldc2_w 38, 3) := dk_20 0 38 (dk_at dksX5_init_2 12 rfl rfl)
theorem dX5_init_62 : decode cX5_init 62 = .ok (.lastore, 1) := dk_80 (dk_at dksX5_init_2 15 rfl rfl)
theorem dX5_init_63 : decode cX5_init 63 = .ok (.dup, 1) := dk_89 (dk_at dksX5_init_2 16 rfl rfl)
theorem dX5_init_64 : decode cX5_init 64 = .ok (.iconst 3, 1) := dk_6 (dk_at dksX5_init_2 17 rfl rfl)
theorem dX5_init_65 : decode cX5_init 65 = .ok (.ldc2_w 40, 3) := dk_20 0 40 (dk_at dksX5_init_2 18 rfl rfl)
theorem dX5_init_68 : decode cX5_init 68 = .ok (.lastore, 1) := dk_80 (dk_at dksX5_init_2 21 rfl rfl)
theorem dX5_init_69 : decode cX5_init 69 = .ok (.dup, 1) := dk_89 (dk_at dksX5_init_2 22 rfl rfl)
theorem dX5_init_70 : decode cX5_init 70 = .ok (.iconst 4, 1) := dk_7 (dk_at dksX5_init_2 23 rfl rfl)
theorem dX5_init_71 : decode cX5_init 71 = .ok (.ldc2_w 42, 3) := dk_20 0 42 (dk_at dksX5_init_3 0 rfl rfl)
theorem dX5_init_74 : decode cX5_init 74 = .ok (.lastore, 1) := dk_80 (dk_at dksX5_init_3 3 rfl rfl)
theorem dX5_init_75 : decode cX5_init 75 = .ok (.dup, 1) := dk_89 (dk_at dksX5_init_3 4 rfl rfl)
theorem dX5_init_76 : decode cX5_init 76 = .ok (.iconst 5, 1) := dk_8 (dk_at dksX5_init_3 5 rfl rfl)
theorem dX5_init_77 : decode cX5_init 77 = .ok (.ldc2_w 44, 3) := dk_20 0 44 (dk_at dksX5_init_3 6 rfl rfl)
theorem dX5_init_80 : decode cX5_init 80 = .ok (.lastore, 1) := dk_80 (dk_at dksX5_init_3 9 rfl rfl)
theorem dX5_init_81 : decode cX5_init 81 = .ok (.dup, 1) := dk_89 (dk_at dksX5_init_3 10 rfl rfl)
theorem dX5_init_82 : decode cX5_init 82 = .ok (.bipush 6, 2) := dk_16 6 (dk_at dksX5_init_3 11 rfl rfl)
theorem dX5_init_84 : decode cX5_init 84 = .ok (.ldc2_w 46, 3) := dk_20 0 46 (dk_at dksX5_init_3 13 rfl rfl)
theorem dX5_init_87 : decode cX5_init 87 = .ok (.lastore, 1) := dk_80 (dk_at dksX5_init_3 16 rfl rfl)
theorem dX5_init_88 : decode cX5_init 88 = .ok (.dup, 1) := dk_89 (dk_at dksX5_init_3 17 rfl rfl)
theorem dX5_init_89 : decode cX5_init 89 = .ok (.bipush 7, 2) := dk_16 7 (dk_at dksX5_init_3 18 rfl rfl)
theorem dX5_init_91 : decode cX5_init 91 = .ok (.ldc2_w 48, 3) := dk_20 0 48 (dk_at dksX5_init_3 20 rfl rfl)
theorem dX5_init_94 : decode cX5_init 94 = .ok (.lastore, 1) := dk_80 (dk_at dksX5_init_3 23 rfl rfl)
theorem dX5_init_95 : decode cX5_init 95 = .ok (.dup, 1) := dk_89 (dk_at dksX5_init_4 0 rfl rfl)
theorem dX5_init_96 : decode cX5_init 96 = .ok (.bipush 8, 2) := dk_16 8 (dk_at dksX5_init_4 1 rfl rfl)
theorem dX5_init_98 : decode cX5_init 98 = .ok (.ldc2_w 50, 3) := dk_20 0 50 (dk_at dksX5_init_4 3 rfl rfl)
theorem dX5_init_101 : decode cX5_init 101 = .ok (.lastore, 1) := dk_80 (dk_at dksX5_init_4 6 rfl rfl)
theorem dX5_init_102 : decode cX5_init 102 = .ok (.dup, 1) := dk_89 (dk_at dksX5_init_4 7 rfl rfl)
theorem dX5_init_103 : decode cX5_init 103 = .ok (.bipush 9, 2) := dk_16 9 (dk_at dksX5_init_4 8 rfl rfl)
theorem dX5_init_105 : decode cX5_init 105 = .ok (.ldc2_w 52, 3) := dk_20 0 52 (dk_at dksX5_init_4 10 rfl rfl)
theorem dX5_init_108 : decode cX5_init 108 = .ok (.lastore, 1) := dk_80 (dk_at dksX5_init_4 13 rfl rfl)
theorem dX5_init_109 : decode cX5_init 109 = .ok (.dup, 1) := dk_89 (dk_at dksX5_init_4 14 rfl rfl)
theorem dX5_init_110 : decode cX5_init 110 = .ok (.bipush 10, 2) := dk_16 10 (dk_at dksX5_init_4 15 rfl rfl)
theorem dX5_init_112 : decode cX5_init 112 = .ok (.ldc2_w 54, 3) := dk_20 0 54 (dk_at dksX5_init_4 17 rfl rfl)
theorem dX5_init_115 : decode cX5_init 115 = .ok (.lastore, 1) := dk_80 (dk_at dksX5_init_4 20 rfl rfl)
theorem dX5_init_116 : decode cX5_init 116 = .ok (.dup, 1) := dk_89 (dk_at dksX5_init_4 21 rfl rfl)
theorem dX5_init_117 : decode cX5_init 117 = .ok (.bipush 11, 2) := dk_16 11 (dk_at dksX5_init_4 22 rfl rfl)
theorem dX5_init_119 : decode cX5_init 119 = .ok (.ldc2_w 56, 3) := dk_20 0 56 (dk_at dksX5_init_5 0 rfl rfl)
theorem dX5_init_122 : decode cX5_init 122 = .ok (.lastore, 1) := dk_80 (dk_at dksX5_init_5 3 rfl rfl)
theorem dX5_init_123 : decode cX5_init 123 = .ok (.dup, 1) := dk_89 (dk_at dksX5_init_5 4 rfl rfl)
theorem dX5_init_124 : decode cX5_init 124 = .ok (.bipush 12, 2) := dk_16 12 (dk_at dksX5_init_5 5 rfl rfl)
theorem dX5_init_126 : decode cX5_init 126 = .ok (.ldc2_w 58, 3) := dk_20 0 58 (dk_at dksX5_init_5 7 rfl rfl)
theorem dX5_init_129 : decode cX5_init 129 = .ok (.lastore, 1) := dk_80 (dk_at dksX5_init_5 10 rfl rfl)
theorem dX5_init_130 : decode cX5_init 130 = .ok (.dup, 1) := dk_89 (dk_at dksX5_init_5 11 rfl rfl)
theorem dX5_init_131 : decode cX5_init 131 = .ok (.bipush 13, 2) := dk_16 13 (dk_at dksX5_init_5 12 rfl rfl)
theorem dX5_init_133 : decode cX5_init 133 = .ok (.ldc2_w 60, 3) := dk_20 0 60 (dk_at dksX5_init_5 14 rfl rfl)
theorem dX5_init_136 : decode cX5_init 136 = .ok (.lastore, 1) := dk_80 (dk_at dksX5_init_5 17 rfl rfl)
theorem dX5_init_137 : decode cX5_init 137 = .ok (.dup, 1) := dk_89 (dk_at dksX5_init_5 18 rfl rfl)
theorem dX5_init_138 : decode cX5_init 138 = .ok (.bipush 14, 2) := dk_16 14 (dk_at dksX5_init_5 19 rfl rfl)
theorem dX5_init_140 : decode cX5_init 140 = .ok (.ldc2_w 62, 3) := dk_20 0 62 (dk_at dksX5_init_5 21 rfl rfl)
theorem dX5_init_143 : decode cX5_init 143 = .ok (.lastore, 1) := dk_80 (dk_at dksX5_init_6 0 rfl rfl)
theorem dX5_init_144 : decode cX5_init 144 = .ok (.dup, 1) := dk_89 (dk_at dksX5_init_6 1 rfl rfl)
theorem dX5_init_145 : decode cX5_init 145 = .ok (.bipush 15, 2) := dk_16 15 (dk_at dksX5_init_6 2 rfl rfl)
theorem dX5_init_147 : decode cX5_init 147 = .ok (.ldc2_w 64, 3) := dk_20 0 64 (dk_at dksX5_init_6 4 rfl rfl)
theorem dX5_init_150 : decode cX5_init 150 = .ok (.lastore, 1) := dk_80 (dk_at dksX5_init_6 7 rfl rfl)
theorem dX5_init_151 : decode cX5_init 151 = .ok (.dup, 1) := dk_89 (dk_at dksX5_init_6 8 rfl rfl)
theorem dX5_init_152 : decode cX5_init 152 = .ok (.bipush 16, 2) := dk_16 16 (dk_at dksX5_init_6 9 rfl rfl)
theorem dX5_init_154 : decode cX5_init 154 = .ok (.ldc2_w 66, 3) := dk_20 0 66 (dk_at dksX5_init_6 11 rfl rfl)
theorem dX5_init_157 : decode cX5_init 157 = .ok (.lastore, 1) := dk_80 (dk_at dksX5_init_6 14 rfl rfl)
theorem dX5_init_158 : decode cX5_init 158 = .ok (.dup, 1) := dk_89 (dk_at dksX5_init_6 15 rfl rfl)
theorem dX5_init_159 : decode cX5_init 159 = .ok (.bipush 17, 2) := dk_16 17 (dk_at dksX5_init_6 16 rfl rfl)
theorem dX5_init_161 : decode cX5_init 161 = .ok (.ldc2_w 68, 3) := dk_20 0 68 (dk_at dksX5_init_6 18 rfl rfl)
theorem dX5_init_164 : decode cX5_init 164 = .ok (.lastore, 1) := dk_80 (dk_at dksX5_init_6 21 rfl rfl)
theorem dX5_init_165 : decode cX5_init 165 = .ok (.dup, 1) := dk_89 (dk_at dksX5_init_6 22 rfl rfl)
theorem dX5_init_166 : decode cX5_init 166 = .ok (.bipush 18, 2) := dk_16 18 (dk_at dksX5_init_7 0 rfl rfl)
theorem dX5_init_168 : decode cX5_init 168 = .ok (.ldc2_w 70, 3) := dk_20 0 70 (dk_at dksX5_init_7 2 rfl rfl)
theorem dX5_init_171 : decode cX5_init 171 = .ok (.lastore, 1) := dk_80 (dk_at dksX5_init_7 5 rfl rfl)
theorem dX5_init_172 : decode cX5_init 172 = .ok (.dup, 1) := dk_89 (dk_at dksX5_init_7 6 rfl rfl)
theorem dX5_init_173 : decode cX5_init 173 = .ok (.bipush 19, 2) := dk_16 19 (dk_at dksX5_init_7 7 rfl rfl)
theorem dX5_init_175 : decode cX5_init 175 = .ok (.ldc2_w 72, 3) := dk_20 0 72 (dk_at dksX5_init_7 9 rfl rfl)
theorem dX5_init_178 : decode cX5_init 178 = .ok (.lastore, 1) := dk_80 (dk_at dksX5_init_7 12 rfl rfl)
theorem dX5_init_179 : decode cX5_init 179 = .ok (.dup, 1) := dk_89 (dk_at dksX5_init_7 13 rfl rfl)
theorem dX5_init_180 : decode cX5_init 180 = .ok (.bipush 20, 2) := dk_16 20 (dk_at dksX5_init_7 14 rfl rfl)
theorem dX5_init_182 : decode cX5_init 182 = .ok (.ldc2_w 74, 3) := dk_20 0 74 (dk_at dksX5_init_7 16 rfl rfl)
theorem dX5_init_185 : decode cX5_init 185 = .ok (.lastore, 1) := dk_80 (dk_at dksX5_init_7 19 rfl rfl)
theorem dX5_init_186 : decode cX5_init 186 = .ok (.dup, 1) := dk_89 (dk_at dksX5_init_7 20 rfl rfl)
theorem dX5_init_187 : decode cX5_init 187 = .ok (.bipush 21, 2) := dk_16 21 (dk_at dksX5_init_7 21 rfl rfl)
theorem dX5_init_189 : decode cX5_init 189 = .ok (.ldc2_w 76, 3) := dk_20 0 76 (dk_at dksX5_init_8 0 rfl rfl)
theorem dX5_init_192 : decode cX5_init 192 = .ok (.lastore, 1) := dk_80 (dk_at dksX5_init_8 3 rfl rfl)
theorem dX5_init_193 : decode cX5_init 193 = .ok (.dup, 1) := dk_89 (dk_at dksX5_init_8 4 rfl rfl)
theorem dX5_init_194 : decode cX5_init 194 = .ok (.bipush 22, 2) := dk_16 22 (dk_at dksX5_init_8 5 rfl rfl)
theorem dX5_init_196 : decode cX5_init 196 = .ok (.ldc2_w 78, 3) := dk_20 0 78 (dk_at dksX5_init_8 7 rfl rfl)
theorem dX5_init_199 : decode cX5_init 199 = .ok (.lastore, 1) := dk_80 (dk_at dksX5_init_8 10 rfl rfl)
theorem dX5_init_200 : decode cX5_init 200 = .ok (.dup, 1) := dk_89 (dk_at dksX5_init_8 11 rfl rfl)
theorem dX5_init_201 : decode cX5_init 201 = .ok (.bipush 23, 2) := dk_16 23 (dk_at dksX5_init_8 12 rfl rfl)
theorem dX5_init_203 : decode cX5_init 203 = .ok (.ldc2_w 80, 3) := dk_20 0 80 (dk_at dksX5_init_8 14 rfl rfl)
theorem dX5_init_206 : decode cX5_init 206 = .ok (.lastore, 1) := dk_80 (dk_at dksX5_init_8 17 rfl rfl)
theorem dX5_init_207 : decode cX5_init 207 = .ok (.dup, 1) := dk_89 (dk_at dksX5_init_8 18 rfl rfl)
theorem dX5_init_208 : decode cX5_init 208 = .ok (.bipush 24, 2) := dk_16 24 (dk_at dksX5_init_8 19 rfl rfl)
theorem dX5_init_210 : decode cX5_init 210 = .ok (.ldc2_w 82, 3) := dk_20 0 82 (dk_at dksX5_init_8 21 rfl rfl)
theorem dX5_init_213 : decode cX5_init 213 = .ok (.lastore, 1) := dk_80 (dk_at dksX5_init_9 0 rfl rfl)
theorem dX5_init_214 : decode cX5_init 214 = .ok (.dup, 1) := dk_89 (dk_at dksX5_init_9 1 rfl rfl)
theorem dX5_init_215 : decode cX5_init 215 = .ok (.bipush 25, 2) := dk_16 25 (dk_at dksX5_init_9 2 rfl rfl)
theorem dX5_init_217 : decode cX5_init 217 = .ok (.ldc2_w 84, 3) := dk_20 0 84 (dk_at dksX5_init_9 4 rfl rfl)
theorem dX5_init_220 : decode cX5_init 220 = .ok (.lastore, 1) := dk_80 (dk_at dksX5_init_9 7 rfl rfl)
theorem dX5_init_221 : decode cX5_init 221 = .ok (.dup, 1) := dk_89 (dk_at dksX5_init_9 8 rfl rfl)
theorem dX5_init_222 : decode cX5_init 222 = .ok (.bipush 26, 2) := dk_16 26 (dk_at dksX5_init_9 9 rfl rfl)
theorem dX5_init_224 : decode cX5_init 224 = .ok (.ldc2_w 86, 3) := dk_20 0 86 (dk_at dksX5_init_9 11 rfl rfl)
theorem dX5_init_227 : decode cX5_init 227 = .ok (.lastore, 1) := dk_80 (dk_at dksX5_init_9 14 rfl rfl)
theorem dX5_init_228 : decode cX5_init 228 = .ok (.putfield 88, 3) := dk_181 0 88 (dk_at dksX5_init_9 15 rfl rfl)
theorem dX5_init_231 : decode cX5_init 231 = .ok (.aload_n 0, 1) := dk_42 (dk_at dksX5_init_9 18 rfl rfl)
theorem dX5_init_232 : decode cX5_init 232 = .ok (.sipush 160, 3) := dk_17 0 160 (dk_at dksX5_init_9 19 rfl rfl)
theorem dX5_init_235 : decode cX5_init 235 = .ok (.newarray .int, 2) := dk_188_10 (dk_at dksX5_init_9 22 rfl rfl)
theorem dX5_init_237 : decode cX5_init 237 = .ok (.putfield 91, 3) := dk_181 0 91 (dk_at dksX5_init_10 0 rfl rfl)
theorem dX5_init_240 : decode cX5_init 240 = .ok (.aload_n 0, 1) := dk_42 (dk_at dksX5_init_10 3 rfl rfl)
theorem dX5_init_241 : decode cX5_init 241 = .ok (.sipush 2200, 3) := dk_17 8 152 (dk_at dksX5_init_10 4 rfl rfl)
theorem dX5_init_244 : decode cX5_init 244 = .ok (.newarray .int, 2) := dk_188_10 (dk_at dksX5_init_10 7 rfl rfl)
theorem dX5_init_246 : decode cX5_init 246 = .ok (.putfield 94, 3) := dk_181 0 94 (dk_at dksX5_init_10 9 rfl rfl)
theorem dX5_init_249 : decode cX5_init 249 = .ok (.aload_n 0, 1) := dk_42 (dk_at dksX5_init_10 12 rfl rfl)
theorem dX5_init_250 : decode cX5_init 250 = .ok (.sipush 2200, 3) := dk_17 8 152 (dk_at dksX5_init_10 13 rfl rfl)
theorem dX5_init_253 : decode cX5_init 253 = .ok (.newarray .int, 2) := dk_188_10 (dk_at dksX5_init_10 16 rfl rfl)
theorem dX5_init_255 : decode cX5_init 255 = .ok (.putfield 97, 3) := dk_181 0 97 (dk_at dksX5_init_10 18 rfl rfl)
theorem dX5_init_258 : decode cX5_init 258 = .ok (.aload_n 0, 1) := dk_42 (dk_at dksX5_init_10 21 rfl rfl)
theorem dX5_init_259 : decode cX5_init 259 = .ok (.bipush 6, 2) := dk_16 6 (dk_at dksX5_init_10 22 rfl rfl)
theorem dX5_init_261 : decode cX5_init 261 = .ok (.newarray .long, 2) := dk_188_11 (dk_at dksX5_init_11 0 rfl rfl)
theorem dX5_init_263 : decode cX5_init 263 = .ok (.putfield 100, 3) := dk_181 0 100 (dk_at dksX5_init_11 2 rfl rfl)
theorem dX5_init_266 : decode cX5_init 266 = .ok (.aload_n 0, 1) := dk_42 (dk_at dksX5_init_11 5 rfl rfl)
theorem dX5_init_267 : decode cX5_init 267 = .ok (.bipush 6, 2) := dk_16 6 (dk_at dksX5_init_11 6 rfl rfl)
theorem dX5_init_269 : decode cX5_init 269 = .ok (.newarray .long, 2) := dk_188_11 (dk_at dksX5_init_11 8 rfl rfl)
theorem dX5_init_271 : decode cX5_init 271 = .ok (.putfield 103, 3) := dk_181 0 103 (dk_at dksX5_init_11 10 rfl rfl)
theorem dX5_init_274 : decode cX5_init 274 = .ok (.aload_n 0, 1) := dk_42 (dk_at dksX5_init_11 13 rfl rfl)
theorem dX5_init_275 : decode cX5_init 275 = .ok (.sipush 250, 3) := dk_17 0 250 (dk_at dksX5_init_11 14 rfl rfl)
theorem dX5_init_278 : decode cX5_init 278 = .ok (.newarray .int, 2) := dk_188_10 (dk_at dksX5_init_11 17 rfl rfl)
theorem dX5_init_280 : decode cX5_init 280 = .ok (.putfield 106, 3) := dk_181 0 106 (dk_at dksX5_init_11 19 rfl rfl)
theorem dX5_init_283 : decode cX5_init 283 = .ok (.aload_n 0, 1) := dk_42 (dk_at dksX5_init_11 22 rfl rfl)
theorem dX5_init_284 : decode cX5_init 284 = .ok (.iconst 5, 1) := dk_8 (dk_at dksX5_init_11 23 rfl rfl)
theorem dX5_init_285 : decode cX5_init 285 = .ok (.newarray .int, 2) := dk_188_10 (dk_at dksX5_init_12 0 rfl rfl)
theorem dX5_init_287 : decode cX5_init 287 = .ok (.putfield 109, 3) := dk_181 0 109 (dk_at dksX5_init_12 2 rfl rfl)
theorem dX5_init_290 : decode cX5_init 290 = .ok (.aload_n 0, 1) := dk_42 (dk_at dksX5_init_12 5 rfl rfl)
theorem dX5_init_291 : decode cX5_init 291 = .ok (.sipush 1100, 3) := dk_17 4 76 (dk_at dksX5_init_12 6 rfl rfl)
theorem dX5_init_294 : decode cX5_init 294 = .ok (.newarray .int, 2) := dk_188_10 (dk_at dksX5_init_12 9 rfl rfl)
theorem dX5_init_296 : decode cX5_init 296 = .ok (.putfield 112, 3) := dk_181 0 112 (dk_at dksX5_init_12 11 rfl rfl)
theorem dX5_init_299 : decode cX5_init 299 = .ok (.aload_n 0, 1) := dk_42 (dk_at dksX5_init_12 14 rfl rfl)
theorem dX5_init_300 : decode cX5_init 300 = .ok (.sipush 1656, 3) := dk_17 6 120 (dk_at dksX5_init_12 15 rfl rfl)
theorem dX5_init_303 : decode cX5_init 303 = .ok (.newarray .int, 2) := dk_188_10 (dk_at dksX5_init_12 18 rfl rfl)
theorem dX5_init_305 : decode cX5_init 305 = .ok (.putfield 115, 3) := dk_181 0 115 (dk_at dksX5_init_12 20 rfl rfl)
theorem dX5_init_308 : decode cX5_init 308 = .ok (.aload_n 0, 1) := dk_42 (dk_at dksX5_init_12 23 rfl rfl)
theorem dX5_init_309 : decode cX5_init 309 = .ok (.iconst 4, 1) := dk_7 (dk_at dksX5_init_13 0 rfl rfl)
theorem dX5_init_310 : decode cX5_init 310 = .ok (.newarray .boolean, 2) := dk_188_4 (dk_at dksX5_init_13 1 rfl rfl)
theorem dX5_init_312 : decode cX5_init 312 = .ok (.putfield 118, 3) := dk_181 0 118 (dk_at dksX5_init_13 3 rfl rfl)
theorem dX5_init_315 : decode cX5_init 315 = .ok (.aload_n 0, 1) := dk_42 (dk_at dksX5_init_13 6 rfl rfl)
theorem dX5_init_316 : decode cX5_init 316 = .ok (.sipush 265, 3) := dk_17 1 9 (dk_at dksX5_init_13 7 rfl rfl)
theorem dX5_init_319 : decode cX5_init 319 = .ok (.newarray .int, 2) := dk_188_10 (dk_at dksX5_init_13 10 rfl rfl)
theorem dX5_init_321 : decode cX5_init 321 = .ok (.putfield 122, 3) := dk_181 0 122 (dk_at dksX5_init_13 12 rfl rfl)
theorem dX5_init_324 : decode cX5_init 324 = .ok (.aload_n 0, 1) := dk_42 (dk_at dksX5_init_13 15 rfl rfl)
theorem dX5_init_325 : decode cX5_init 325 = .ok (.bipush 6, 2) := dk_16 6 (dk_at dksX5_init_13 16 rfl rfl)
theorem dX5_init_327 : decode cX5_init 327 = .ok (.newarray .int, 2) := dk_188_10 (dk_at dksX5_init_13 18 rfl rfl)
theorem dX5_init_329 : decode cX5_init 329 = .ok (.putfield 125, 3) := dk_181 0 125 (dk_at dksX5_init_13 20 rfl rfl)
theorem dX5_init_332 : decode cX5_init 332 = .ok (.aload_n 0, 1) := dk_42 (dk_at dksX5_init_13 23 rfl rfl)
theorem dX5_init_333 : decode cX5_init 333 = .ok (.bipush 7, 2) := dk_16 7 (dk_at dksX5_init_14 0 rfl rfl)
theorem dX5_init_335 : decode cX5_init 335 = .ok (.newarray .int, 2) := dk_188_10 (dk_at dksX5_init_14 2 rfl rfl)
theorem dX5_init_337 : decode cX5_init 337 = .ok (.putfield 128, 3) := dk_181 0 128 (dk_at dksX5_init_14 4 rfl rfl)
theorem dX5_init_340 : decode cX5_init 340 = .ok (.aload_n 0, 1) := dk_42 (dk_at dksX5_init_14 7 rfl rfl)
theorem dX5_init_341 : decode cX5_init 341 = .ok (.bipush 7, 2) := dk_16 7 (dk_at dksX5_init_14 8 rfl rfl)
theorem dX5_init_343 : decode cX5_init 343 = .ok (.newarray .int, 2) := dk_188_10 (dk_at dksX5_init_14 10 rfl rfl)
theorem dX5_init_345 : decode cX5_init 345 = .ok (.putfield 131, 3) := dk_181 0 131 (dk_at dksX5_init_14 12 rfl rfl)
theorem dX5_init_348 : decode cX5_init 348 = .ok (.aload_n 0, 1) := dk_42 (dk_at dksX5_init_14 15 rfl rfl)
theorem dX5_init_349 : decode cX5_init 349 = .ok (.bipush 36, 2) := dk_16 36 (dk_at dksX5_init_14 16 rfl rfl)
theorem dX5_init_351 : decode cX5_init 351 = .ok (.newarray .boolean, 2) := dk_188_4 (dk_at dksX5_init_14 18 rfl rfl)
theorem dX5_init_353 : decode cX5_init 353 = .ok (.putfield 134, 3) := dk_181 0 134 (dk_at dksX5_init_14 20 rfl rfl)
theorem dX5_init_356 : decode cX5_init 356 = .ok (.aload_n 0, 1) := dk_42 (dk_at dksX5_init_14 23 rfl rfl)
theorem dX5_init_357 : decode cX5_init 357 = .ok (.bipush 6, 2) := dk_16 6 (dk_at dksX5_init_15 0 rfl rfl)
theorem dX5_init_359 : decode cX5_init 359 = .ok (.newarray .int, 2) := dk_188_10 (dk_at dksX5_init_15 2 rfl rfl)
theorem dX5_init_361 : decode cX5_init 361 = .ok (.putfield 137, 3) := dk_181 0 137 (dk_at dksX5_init_15 4 rfl rfl)
theorem dX5_init_364 : decode cX5_init 364 = .ok (.aload_n 0, 1) := dk_42 (dk_at dksX5_init_15 7 rfl rfl)
theorem dX5_init_365 : decode cX5_init 365 = .ok (.bipush 6, 2) := dk_16 6 (dk_at dksX5_init_15 8 rfl rfl)
theorem dX5_init_367 : decode cX5_init 367 = .ok (.newarray .int, 2) := dk_188_10 (dk_at dksX5_init_15 10 rfl rfl)
theorem dX5_init_369 : decode cX5_init 369 = .ok (.putfield 140, 3) := dk_181 0 140 (dk_at dksX5_init_15 12 rfl rfl)
theorem dX5_init_372 : decode cX5_init 372 = .ok (.aload_n 0, 1) := dk_42 (dk_at dksX5_init_15 15 rfl rfl)
theorem dX5_init_373 : decode cX5_init 373 = .ok (.sipush 1590, 3) := dk_17 6 54 (dk_at dksX5_init_15 16 rfl rfl)
theorem dX5_init_376 : decode cX5_init 376 = .ok (.newarray .int, 2) := dk_188_10 (dk_at dksX5_init_15 19 rfl rfl)
theorem dX5_init_378 : decode cX5_init 378 = .ok (.putfield 143, 3) := dk_181 0 143 (dk_at dksX5_init_15 21 rfl rfl)
theorem dX5_init_381 : decode cX5_init 381 = .ok (.aload_n 0, 1) := dk_42 (dk_at dksX5_init_16 0 rfl rfl)
theorem dX5_init_382 : decode cX5_init 382 = .ok (.sipush 265, 3) := dk_17 1 9 (dk_at dksX5_init_16 1 rfl rfl)
theorem dX5_init_385 : decode cX5_init 385 = .ok (.newarray .boolean, 2) := dk_188_4 (dk_at dksX5_init_16 4 rfl rfl)
theorem dX5_init_387 : decode cX5_init 387 = .ok (.putfield 146, 3) := dk_181 0 146 (dk_at dksX5_init_16 6 rfl rfl)
theorem dX5_init_390 : decode cX5_init 390 = .ok (.aload_n 0, 1) := dk_42 (dk_at dksX5_init_16 9 rfl rfl)
theorem dX5_init_391 : decode cX5_init 391 = .ok (.iconst 0, 1) := dk_3 (dk_at dksX5_init_16 10 rfl rfl)
theorem dX5_init_392 : decode cX5_init 392 = .ok (.invokevirtual 149, 3) := dk_182 0 149 (dk_at dksX5_init_16 11 rfl rfl)
theorem dX5_init_395 : decode cX5_init 395 = .ok (.aload_n 0, 1) := dk_42 (dk_at dksX5_init_16 14 rfl rfl)
theorem dX5_init_396 : decode cX5_init 396 = .ok (.invokevirtual 153, 3) := dk_182 0 153 (dk_at dksX5_init_16 15 rfl rfl)
theorem dX5_init_399 : decode cX5_init 399 = .ok (.return_, 1) := dk_177 (dk_at dksX5_init_16 18 rfl rfl)
abbrev cX5_standsAsAlways : ByteArray := prog_30_method_18_code
def yX5_standsAsAlways : MethodName := ⟨RX5, "standsAsAlways", "(I)V"⟩
def dkwX5_standsAsAlways_2 : List UInt8 := [96, 2, 79, 132, 2, 1, 167, 255, 237, 177]
abbrev dktX5_standsAsAlways_2 : List UInt8 := dkwX5_standsAsAlways_2 ++ []
def dkwX5_standsAsAlways_1 : List UInt8 := [180, 0, 91, 27, 5, 96, 16, 50, 79, 3, 61, 28, 7, 162, 0, 20, 42, 180, 0, 91, 27, 6, 96, 28]
abbrev dktX5_standsAsAlways_1 : List UInt8 := dkwX5_standsAsAlways_1 ++ dktX5_standsAsAlways_2
def dkwX5_standsAsAlways_0 : List UInt8 := [3, 61, 28, 16, 80, 162, 0, 18, 42, 180, 0, 91, 27, 28, 96, 3, 79, 132, 2, 1, 167, 255, 238, 42]
abbrev dktX5_standsAsAlways_0 : List UInt8 := dkwX5_standsAsAlways_0 ++ dktX5_standsAsAlways_1
theorem dksX5_standsAsAlways_0 : cX5_standsAsAlways.data.toList.drop 0 = dktX5_standsAsAlways_0 := by decide +kernel
theorem dksX5_standsAsAlways_1 : cX5_standsAsAlways.data.toList.drop 24 = dktX5_standsAsAlways_1 := dk_seg dksX5_standsAsAlways_0 24 rfl rfl
theorem dksX5_standsAsAlways_2 : cX5_standsAsAlways.data.toList.drop 48 = dktX5_standsAsAlways_2 := dk_seg dksX5_standsAsAlways_1 24 rfl rfl
theorem dX5_standsAsAlways_0 : decode cX5_standsAsAlways 0 = .ok (.iconst 0, 1) := dk_3 (dk_at dksX5_standsAsAlways_0 0 rfl rfl)
theorem dX5_standsAsAlways_1 : decode cX5_standsAsAlways 1 = .ok (.istore_n 2, 1) := dk_61 (dk_at dksX5_standsAsAlways_0 1 rfl rfl)
theorem dX5_standsAsAlways_2 : decode cX5_standsAsAlways 2 = .ok (.iload_n 2, 1) := dk_28 (dk_at dksX5_standsAsAlways_0 2 rfl rfl)
theorem dX5_standsAsAlways_3 : decode cX5_standsAsAlways 3 = .ok (.bipush 80, 2) := dk_16 80 (dk_at dksX5_standsAsAlways_0 3 rfl rfl)
theorem dX5_standsAsAlways_5 : decode cX5_standsAsAlways 5 = .ok (.if_icmp .ge 18, 3) := dk_162 0 18 (dk_at dksX5_standsAsAlways_0 5 rfl rfl)
theorem dX5_standsAsAlways_8 : decode cX5_standsAsAlways 8 = .ok (.aload_n 0, 1) := dk_42 (dk_at dksX5_standsAsAlways_0 8 rfl rfl)
theorem dX5_standsAsAlways_9 : decode cX5_standsAsAlways 9 = .ok (.getfield 91, 3) := dk_180 0 91 (dk_at dksX5_standsAsAlways_0 9 rfl rfl)
theorem dX5_standsAsAlways_12 : decode cX5_standsAsAlways 12 = .ok (.iload_n 1, 1) := dk_27 (dk_at dksX5_standsAsAlways_0 12 rfl rfl)
theorem dX5_standsAsAlways_13 : decode cX5_standsAsAlways 13 = .ok (.iload_n 2, 1) := dk_28 (dk_at dksX5_standsAsAlways_0 13 rfl rfl)
theorem dX5_standsAsAlways_14 : decode cX5_standsAsAlways 14 = .ok (.iadd, 1) := dk_96 (dk_at dksX5_standsAsAlways_0 14 rfl rfl)
theorem dX5_standsAsAlways_15 : decode cX5_standsAsAlways 15 = .ok (.iconst 0, 1) := dk_3 (dk_at dksX5_standsAsAlways_0 15 rfl rfl)
theorem dX5_standsAsAlways_16 : decode cX5_standsAsAlways 16 = .ok (.iastore, 1) := dk_79 (dk_at dksX5_standsAsAlways_0 16 rfl rfl)
theorem dX5_standsAsAlways_17 : decode cX5_standsAsAlways 17 = .ok (.iinc 2 1, 3) := dk_132 2 1 (dk_at dksX5_standsAsAlways_0 17 rfl rfl)
theorem dX5_standsAsAlways_20 : decode cX5_standsAsAlways 20 = .ok (.goto (-18), 3) := dk_167 255 238 (dk_at dksX5_standsAsAlways_0 20 rfl rfl)
theorem dX5_standsAsAlways_23 : decode cX5_standsAsAlways 23 = .ok (.aload_n 0, 1) := dk_42 (dk_at dksX5_standsAsAlways_0 23 rfl rfl)
theorem dX5_standsAsAlways_24 : decode cX5_standsAsAlways 24 = .ok (.getfield 91, 3) := dk_180 0 91 (dk_at dksX5_standsAsAlways_1 0 rfl rfl)
theorem dX5_standsAsAlways_27 : decode cX5_standsAsAlways 27 = .ok (.iload_n 1, 1) := dk_27 (dk_at dksX5_standsAsAlways_1 3 rfl rfl)
theorem dX5_standsAsAlways_28 : decode cX5_standsAsAlways 28 = .ok (.iconst 2, 1) := dk_5 (dk_at dksX5_standsAsAlways_1 4 rfl rfl)
theorem dX5_standsAsAlways_29 : decode cX5_standsAsAlways 29 = .ok (.iadd, 1) := dk_96 (dk_at dksX5_standsAsAlways_1 5 rfl rfl)
theorem dX5_standsAsAlways_30 : decode cX5_standsAsAlways 30 = .ok (.bipush 50, 2) := dk_16 50 (dk_at dksX5_standsAsAlways_1 6 rfl rfl)
theorem dX5_standsAsAlways_32 : decode cX5_standsAsAlways 32 = .ok (.iastore, 1) := dk_79 (dk_at dksX5_standsAsAlways_1 8 rfl rfl)
theorem dX5_standsAsAlways_33 : decode cX5_standsAsAlways 33 = .ok (.iconst 0, 1) := dk_3 (dk_at dksX5_standsAsAlways_1 9 rfl rfl)
theorem dX5_standsAsAlways_34 : decode cX5_standsAsAlways 34 = .ok (.istore_n 2, 1) := dk_61 (dk_at dksX5_standsAsAlways_1 10 rfl rfl)
theorem dX5_standsAsAlways_35 : decode cX5_standsAsAlways 35 = .ok (.iload_n 2, 1) := dk_28 (dk_at dksX5_standsAsAlways_1 11 rfl rfl)
theorem dX5_standsAsAlways_36 : decode cX5_standsAsAlways 36 = .ok (.iconst 4, 1) := dk_7 (dk_at dksX5_standsAsAlways_1 12 rfl rfl)
theorem dX5_standsAsAlways_37 : decode cX5_standsAsAlways 37 = .ok (.if_icmp .ge 20, 3) := dk_162 0 20 (dk_at dksX5_standsAsAlways_1 13 rfl rfl)
theorem dX5_standsAsAlways_40 : decode cX5_standsAsAlways 40 = .ok (.aload_n 0, 1) := dk_42 (dk_at dksX5_standsAsAlways_1 16 rfl rfl)
theorem dX5_standsAsAlways_41 : decode cX5_standsAsAlways 41 = .ok (.getfield 91, 3) := dk_180 0 91 (dk_at dksX5_standsAsAlways_1 17 rfl rfl)
theorem dX5_standsAsAlways_44 : decode cX5_standsAsAlways 44 = .ok (.iload_n 1, 1) := dk_27 (dk_at dksX5_standsAsAlways_1 20 rfl rfl)
theorem dX5_standsAsAlways_45 : decode cX5_standsAsAlways 45 = .ok (.iconst 3, 1) := dk_6 (dk_at dksX5_standsAsAlways_1 21 rfl rfl)
theorem dX5_standsAsAlways_46 : decode cX5_standsAsAlways 46 = .ok (.iadd, 1) := dk_96 (dk_at dksX5_standsAsAlways_1 22 rfl rfl)
theorem dX5_standsAsAlways_47 : decode cX5_standsAsAlways 47 = .ok (.iload_n 2, 1) := dk_28 (dk_at dksX5_standsAsAlways_1 23 rfl rfl)
theorem dX5_standsAsAlways_48 : decode cX5_standsAsAlways 48 = .ok (.iadd, 1) := dk_96 (dk_at dksX5_standsAsAlways_2 0 rfl rfl)
theorem dX5_standsAsAlways_49 : decode cX5_standsAsAlways 49 = .ok (.iconst (-1), 1) := dk_2 (dk_at dksX5_standsAsAlways_2 1 rfl rfl)
theorem dX5_standsAsAlways_50 : decode cX5_standsAsAlways 50 = .ok (.iastore, 1) := dk_79 (dk_at dksX5_standsAsAlways_2 2 rfl rfl)
theorem dX5_standsAsAlways_51 : decode cX5_standsAsAlways 51 = .ok (.iinc 2 1, 3) := dk_132 2 1 (dk_at dksX5_standsAsAlways_2 3 rfl rfl)
theorem dX5_standsAsAlways_54 : decode cX5_standsAsAlways 54 = .ok (.goto (-19), 3) := dk_167 255 237 (dk_at dksX5_standsAsAlways_2 6 rfl rfl)
theorem dX5_standsAsAlways_57 : decode cX5_standsAsAlways 57 = .ok (.return_, 1) := dk_177 (dk_at dksX5_standsAsAlways_2 9 rfl rfl)
abbrev cX5_begins : ByteArray := prog_30_method_44_code
def yX5_begins : MethodName := ⟨RX5, "begins", "()V"⟩
def dkwX5_begins_2 : List UInt8 := [84, 132, 1, 1, 167, 255, 241, 42, 182, 1, 50, 177]
abbrev dktX5_begins_2 : List UInt8 := dkwX5_begins_2 ++ []
def dkwX5_begins_1 : List UInt8 := [180, 0, 106, 3, 3, 79, 42, 3, 181, 1, 47, 3, 60, 27, 7, 162, 0, 16, 42, 180, 0, 118, 27, 3]
abbrev dktX5_begins_1 : List UInt8 := dkwX5_begins_1 ++ dktX5_begins_2
def dkwX5_begins_0 : List UInt8 := [42, 42, 180, 0, 91, 5, 46, 181, 1, 41, 42, 3, 182, 1, 44, 42, 180, 0, 115, 16, 46, 3, 79, 42]
abbrev dktX5_begins_0 : List UInt8 := dkwX5_begins_0 ++ dktX5_begins_1
theorem dksX5_begins_0 : cX5_begins.data.toList.drop 0 = dktX5_begins_0 := by decide +kernel
theorem dksX5_begins_1 : cX5_begins.data.toList.drop 24 = dktX5_begins_1 := dk_seg dksX5_begins_0 24 rfl rfl
theorem dksX5_begins_2 : cX5_begins.data.toList.drop 48 = dktX5_begins_2 := dk_seg dksX5_begins_1 24 rfl rfl
theorem dX5_begins_0 : decode cX5_begins 0 = .ok (.aload_n 0, 1) := dk_42 (dk_at dksX5_begins_0 0 rfl rfl)
theorem dX5_begins_1 : decode cX5_begins 1 = .ok (.aload_n 0, 1) := dk_42 (dk_at dksX5_begins_0 1 rfl rfl)
theorem dX5_begins_2 : decode cX5_begins 2 = .ok (.getfield 91, 3) := dk_180 0 91 (dk_at dksX5_begins_0 2 rfl rfl)
theorem dX5_begins_5 : decode cX5_begins 5 = .ok (.iconst 2, 1) := dk_5 (dk_at dksX5_begins_0 5 rfl rfl)
theorem dX5_begins_6 : decode cX5_begins 6 = .ok (.iaload, 1) := dk_46 (dk_at dksX5_begins_0 6 rfl rfl)
theorem dX5_begins_7 : decode cX5_begins 7 = .ok (.putfield 297, 3) := dk_181 1 41 (dk_at dksX5_begins_0 7 rfl rfl)
theorem dX5_begins_10 : decode cX5_begins 10 = .ok (.aload_n 0, 1) := dk_42 (dk_at dksX5_begins_0 10 rfl rfl)
theorem dX5_begins_11 : decode cX5_begins 11 = .ok (.iconst 0, 1) := dk_3 (dk_at dksX5_begins_0 11 rfl rfl)
theorem dX5_begins_12 : decode cX5_begins 12 = .ok (.invokevirtual 300, 3) := dk_182 1 44 (dk_at dksX5_begins_0 12 rfl rfl)
theorem dX5_begins_15 : decode cX5_begins 15 = .ok (.aload_n 0, 1) := dk_42 (dk_at dksX5_begins_0 15 rfl rfl)
theorem dX5_begins_16 : decode cX5_begins 16 = .ok (.getfield 115, 3) := dk_180 0 115 (dk_at dksX5_begins_0 16 rfl rfl)
theorem dX5_begins_19 : decode cX5_begins 19 = .ok (.bipush 46, 2) := dk_16 46 (dk_at dksX5_begins_0 19 rfl rfl)
theorem dX5_begins_21 : decode cX5_begins 21 = .ok (.iconst 0, 1) := dk_3 (dk_at dksX5_begins_0 21 rfl rfl)
theorem dX5_begins_22 : decode cX5_begins 22 = .ok (.iastore, 1) := dk_79 (dk_at dksX5_begins_0 22 rfl rfl)
theorem dX5_begins_23 : decode cX5_begins 23 = .ok (.aload_n 0, 1) := dk_42 (dk_at dksX5_begins_0 23 rfl rfl)
theorem dX5_begins_24 : decode cX5_begins 24 = .ok (.getfield 106, 3) := dk_180 0 106 (dk_at dksX5_begins_1 0 rfl rfl)
theorem dX5_begins_27 : decode cX5_begins 27 = .ok (.iconst 0, 1) := dk_3 (dk_at dksX5_begins_1 3 rfl rfl)
theorem dX5_begins_28 : decode cX5_begins 28 = .ok (.iconst 0, 1) := dk_3 (dk_at dksX5_begins_1 4 rfl rfl)
theorem dX5_begins_29 : decode cX5_begins 29 = .ok (.iastore, 1) := dk_79 (dk_at dksX5_begins_1 5 rfl rfl)
theorem dX5_begins_30 : decode cX5_begins 30 = .ok (.aload_n 0, 1) := dk_42 (dk_at dksX5_begins_1 6 rfl rfl)
theorem dX5_begins_31 : decode cX5_begins 31 = .ok (.iconst 0, 1) := dk_3 (dk_at dksX5_begins_1 7 rfl rfl)
theorem dX5_begins_32 : decode cX5_begins 32 = .ok (.putfield 303, 3) := dk_181 1 47 (dk_at dksX5_begins_1 8 rfl rfl)
theorem dX5_begins_35 : decode cX5_begins 35 = .ok (.iconst 0, 1) := dk_3 (dk_at dksX5_begins_1 11 rfl rfl)
theorem dX5_begins_36 : decode cX5_begins 36 = .ok (.istore_n 1, 1) := dk_60 (dk_at dksX5_begins_1 12 rfl rfl)
theorem dX5_begins_37 : decode cX5_begins 37 = .ok (.iload_n 1, 1) := dk_27 (dk_at dksX5_begins_1 13 rfl rfl)
theorem dX5_begins_38 : decode cX5_begins 38 = .ok (.iconst 4, 1) := dk_7 (dk_at dksX5_begins_1 14 rfl rfl)
theorem dX5_begins_39 : decode cX5_begins 39 = .ok (.if_icmp .ge 16, 3) := dk_162 0 16 (dk_at dksX5_begins_1 15 rfl rfl)
theorem dX5_begins_42 : decode cX5_begins 42 = .ok (.aload_n 0, 1) := dk_42 (dk_at dksX5_begins_1 18 rfl rfl)
theorem dX5_begins_43 : decode cX5_begins 43 = .ok (.getfield 118, 3) := dk_180 0 118 (dk_at dksX5_begins_1 19 rfl rfl)
theorem dX5_begins_46 : decode cX5_begins 46 = .ok (.iload_n 1, 1) := dk_27 (dk_at dksX5_begins_1 22 rfl rfl)
theorem dX5_begins_47 : decode cX5_begins 47 = .ok (.iconst 0, 1) := dk_3 (dk_at dksX5_begins_1 23 rfl rfl)
theorem dX5_begins_48 : decode cX5_begins 48 = .ok (.bastore, 1) := dk_84 (dk_at dksX5_begins_2 0 rfl rfl)
theorem dX5_begins_49 : decode cX5_begins 49 = .ok (.iinc 1 1, 3) := dk_132 1 1 (dk_at dksX5_begins_2 1 rfl rfl)
theorem dX5_begins_52 : decode cX5_begins 52 = .ok (.goto (-15), 3) := dk_167 255 241 (dk_at dksX5_begins_2 4 rfl rfl)
theorem dX5_begins_55 : decode cX5_begins 55 = .ok (.aload_n 0, 1) := dk_42 (dk_at dksX5_begins_2 7 rfl rfl)
theorem dX5_begins_56 : decode cX5_begins 56 = .ok (.invokevirtual 306, 3) := dk_182 1 50 (dk_at dksX5_begins_2 8 rfl rfl)
theorem dX5_begins_59 : decode cX5_begins 59 = .ok (.return_, 1) := dk_177 (dk_at dksX5_begins_2 11 rfl rfl)
abbrev cX5_starts : ByteArray := prog_30_method_43_code
def yX5_starts : MethodName := ⟨RX5, "starts", "(I)V"⟩
def dkwX5_starts_4 : List UInt8 := [132, 2, 1, 167, 255, 183, 177]
abbrev dktX5_starts_4 : List UInt8 := dkwX5_starts_4 ++ []
def dkwX5_starts_3 : List UInt8 := [16, 16, 96, 28, 96, 42, 28, 7, 182, 1, 38, 79, 42, 180, 0, 115, 27, 16, 28, 96, 28, 96, 28, 79]
abbrev dktX5_starts_3 : List UInt8 := dkwX5_starts_3 ++ dktX5_starts_4
def dkwX5_starts_2 : List UInt8 := [79, 42, 180, 0, 115, 27, 16, 10, 96, 28, 96, 42, 28, 6, 182, 1, 38, 79, 42, 180, 0, 115, 27]
abbrev dktX5_starts_2 : List UInt8 := dkwX5_starts_2 ++ dktX5_starts_3
def dkwX5_starts_1 : List UInt8 := [61, 28, 42, 182, 1, 35, 162, 0, 71, 42, 180, 0, 115, 27, 7, 96, 28, 96, 42, 28, 5, 182, 1, 38]
abbrev dktX5_starts_1 : List UInt8 := dkwX5_starts_1 ++ dktX5_starts_2
def dkwX5_starts_0 : List UInt8 := [3, 61, 28, 16, 46, 162, 0, 18, 42, 180, 0, 115, 27, 28, 96, 3, 79, 132, 2, 1, 167, 255, 238, 3]
abbrev dktX5_starts_0 : List UInt8 := dkwX5_starts_0 ++ dktX5_starts_1
theorem dksX5_starts_0 : cX5_starts.data.toList.drop 0 = dktX5_starts_0 := by decide +kernel
theorem dksX5_starts_1 : cX5_starts.data.toList.drop 24 = dktX5_starts_1 := dk_seg dksX5_starts_0 24 rfl rfl
theorem dksX5_starts_2 : cX5_starts.data.toList.drop 48 = dktX5_starts_2 := dk_seg dksX5_starts_1 24 rfl rfl
theorem dksX5_starts_3 : cX5_starts.data.toList.drop 71 = dktX5_starts_3 := dk_seg dksX5_starts_2 23 rfl rfl
theorem dksX5_starts_4 : cX5_starts.data.toList.drop 95 = dktX5_starts_4 := dk_seg dksX5_starts_3 24 rfl rfl
theorem dX5_starts_0 : decode cX5_starts 0 = .ok (.iconst 0, 1) := dk_3 (dk_at dksX5_starts_0 0 rfl rfl)
theorem dX5_starts_1 : decode cX5_starts 1 = .ok (.istore_n 2, 1) := dk_61 (dk_at dksX5_starts_0 1 rfl rfl)
theorem dX5_starts_2 : decode cX5_starts 2 = .ok (.iload_n 2, 1) := dk_28 (dk_at dksX5_starts_0 2 rfl rfl)
theorem dX5_starts_3 : decode cX5_starts 3 = .ok (.bipush 46, 2) := dk_16 46 (dk_at dksX5_starts_0 3 rfl rfl)
theorem dX5_starts_5 : decode cX5_starts 5 = .ok (.if_icmp .ge 18, 3) := dk_162 0 18 (dk_at dksX5_starts_0 5 rfl rfl)
theorem dX5_starts_8 : decode cX5_starts 8 = .ok (.aload_n 0, 1) := dk_42 (dk_at dksX5_starts_0 8 rfl rfl)
theorem dX5_starts_9 : decode cX5_starts 9 = .ok (.getfield 115, 3) := dk_180 0 115 (dk_at dksX5_starts_0 9 rfl rfl)
theorem dX5_starts_12 : decode cX5_starts 12 = .ok (.iload_n 1, 1) := dk_27 (dk_at dksX5_starts_0 12 rfl rfl)
theorem dX5_starts_13 : decode cX5_starts 13 = .ok (.iload_n 2, 1) := dk_28 (dk_at dksX5_starts_0 13 rfl rfl)
theorem dX5_starts_14 : decode cX5_starts 14 = .ok (.iadd, 1) := dk_96 (dk_at dksX5_starts_0 14 rfl rfl)
theorem dX5_starts_15 : decode cX5_starts 15 = .ok (.iconst 0, 1) := dk_3 (dk_at dksX5_starts_0 15 rfl rfl)
theorem dX5_starts_16 : decode cX5_starts 16 = .ok (.iastore, 1) := dk_79 (dk_at dksX5_starts_0 16 rfl rfl)
theorem dX5_starts_17 : decode cX5_starts 17 = .ok (.iinc 2 1, 3) := dk_132 2 1 (dk_at dksX5_starts_0 17 rfl rfl)
theorem dX5_starts_20 : decode cX5_starts 20 = .ok (.goto (-18), 3) := dk_167 255 238 (dk_at dksX5_starts_0 20 rfl rfl)
theorem dX5_starts_23 : decode cX5_starts 23 = .ok (.iconst 0, 1) := dk_3 (dk_at dksX5_starts_0 23 rfl rfl)
theorem dX5_starts_24 : decode cX5_starts 24 = .ok (.istore_n 2, 1) := dk_61 (dk_at dksX5_starts_1 0 rfl rfl)
theorem dX5_starts_25 : decode cX5_starts 25 = .ok (.iload_n 2, 1) := dk_28 (dk_at dksX5_starts_1 1 rfl rfl)
theorem dX5_starts_26 : decode cX5_starts 26 = .ok (.aload_n 0, 1) := dk_42 (dk_at dksX5_starts_1 2 rfl rfl)
theorem dX5_starts_27 : decode cX5_starts 27 = .ok (.invokevirtual 291, 3) := dk_182 1 35 (dk_at dksX5_starts_1 3 rfl rfl)
theorem dX5_starts_30 : decode cX5_starts 30 = .ok (.if_icmp .ge 71, 3) := dk_162 0 71 (dk_at dksX5_starts_1 6 rfl rfl)
theorem dX5_starts_33 : decode cX5_starts 33 = .ok (.aload_n 0, 1) := dk_42 (dk_at dksX5_starts_1 9 rfl rfl)
theorem dX5_starts_34 : decode cX5_starts 34 = .ok (.getfield 115, 3) := dk_180 0 115 (dk_at dksX5_starts_1 10 rfl rfl)
theorem dX5_starts_37 : decode cX5_starts 37 = .ok (.iload_n 1, 1) := dk_27 (dk_at dksX5_starts_1 13 rfl rfl)
theorem dX5_starts_38 : decode cX5_starts 38 = .ok (.iconst 4, 1) := dk_7 (dk_at dksX5_starts_1 14 rfl rfl)
theorem dX5_starts_39 : decode cX5_starts 39 = .ok (.iadd, 1) := dk_96 (dk_at dksX5_starts_1 15 rfl rfl)
theorem dX5_starts_40 : decode cX5_starts 40 = .ok (.iload_n 2, 1) := dk_28 (dk_at dksX5_starts_1 16 rfl rfl)
theorem dX5_starts_41 : decode cX5_starts 41 = .ok (.iadd, 1) := dk_96 (dk_at dksX5_starts_1 17 rfl rfl)
theorem dX5_starts_42 : decode cX5_starts 42 = .ok (.aload_n 0, 1) := dk_42 (dk_at dksX5_starts_1 18 rfl rfl)
theorem dX5_starts_43 : decode cX5_starts 43 = .ok (.iload_n 2, 1) := dk_28 (dk_at dksX5_starts_1 19 rfl rfl)
theorem dX5_starts_44 : decode cX5_starts 44 = .ok (.iconst 2, 1) := dk_5 (dk_at dksX5_starts_1 20 rfl rfl)
theorem dX5_starts_45 : decode cX5_starts 45 = .ok (.invokevirtual 294, 3) := dk_182 1 38 (dk_at dksX5_starts_1 21 rfl rfl)
theorem dX5_starts_48 : decode cX5_starts 48 = .ok (.iastore, 1) := dk_79 (dk_at dksX5_starts_2 0 rfl rfl)
theorem dX5_starts_49 : decode cX5_starts 49 = .ok (.aload_n 0, 1) := dk_42 (dk_at dksX5_starts_2 1 rfl rfl)
theorem dX5_starts_50 : decode cX5_starts 50 = .ok (.getfield 115, 3) := dk_180 0 115 (dk_at dksX5_starts_2 2 rfl rfl)
theorem dX5_starts_53 : decode cX5_starts 53 = .ok (.iload_n 1, 1) := dk_27 (dk_at dksX5_starts_2 5 rfl rfl)
theorem dX5_starts_54 : decode cX5_starts 54 = .ok (.bipush 10, 2) := dk_16 10 (dk_at dksX5_starts_2 6 rfl rfl)
theorem dX5_starts_56 : decode cX5_starts 56 = .ok (.iadd, 1) := dk_96 (dk_at dksX5_starts_2 8 rfl rfl)
theorem dX5_starts_57 : decode cX5_starts 57 = .ok (.iload_n 2, 1) := dk_28 (dk_at dksX5_starts_2 9 rfl rfl)
theorem dX5_starts_58 : decode cX5_starts 58 = .ok (.iadd, 1) := dk_96 (dk_at dksX5_starts_2 10 rfl rfl)
theorem dX5_starts_59 : decode cX5_starts 59 = .ok (.aload_n 0, 1) := dk_42 (dk_at dksX5_starts_2 11 rfl rfl)
theorem dX5_starts_60 : decode cX5_starts 60 = .ok (.iload_n 2, 1) := dk_28 (dk_at dksX5_starts_2 12 rfl rfl)
theorem dX5_starts_61 : decode cX5_starts 61 = .ok (.iconst 3, 1) := dk_6 (dk_at dksX5_starts_2 13 rfl rfl)
theorem dX5_starts_62 : decode cX5_starts 62 = .ok (.invokevirtual 294, 3) := dk_182 1 38 (dk_at dksX5_starts_2 14 rfl rfl)
theorem dX5_starts_65 : decode cX5_starts 65 = .ok (.iastore, 1) := dk_79 (dk_at dksX5_starts_2 17 rfl rfl)
theorem dX5_starts_66 : decode cX5_starts 66 = .ok (.aload_n 0, 1) := dk_42 (dk_at dksX5_starts_2 18 rfl rfl)
theorem dX5_starts_67 : decode cX5_starts 67 = .ok (.getfield 115, 3) := dk_180 0 115 (dk_at dksX5_starts_2 19 rfl rfl)
theorem dX5_starts_70 : decode cX5_starts 70 = .ok (.iload_n 1, 1) := dk_27 (dk_at dksX5_starts_2 22 rfl rfl)
theorem dX5_starts_71 : decode cX5_starts 71 = .ok (.bipush 16, 2) := dk_16 16 (dk_at dksX5_starts_3 0 rfl rfl)
theorem dX5_starts_73 : decode cX5_starts 73 = .ok (.iadd, 1) := dk_96 (dk_at dksX5_starts_3 2 rfl rfl)
theorem dX5_starts_74 : decode cX5_starts 74 = .ok (.iload_n 2, 1) := dk_28 (dk_at dksX5_starts_3 3 rfl rfl)
theorem dX5_starts_75 : decode cX5_starts 75 = .ok (.iadd, 1) := dk_96 (dk_at dksX5_starts_3 4 rfl rfl)
theorem dX5_starts_76 : decode cX5_starts 76 = .ok (.aload_n 0, 1) := dk_42 (dk_at dksX5_starts_3 5 rfl rfl)
theorem dX5_starts_77 : decode cX5_starts 77 = .ok (.iload_n 2, 1) := dk_28 (dk_at dksX5_starts_3 6 rfl rfl)
theorem dX5_starts_78 : decode cX5_starts 78 = .ok (.iconst 4, 1) := dk_7 (dk_at dksX5_starts_3 7 rfl rfl)
theorem dX5_starts_79 : decode cX5_starts 79 = .ok (.invokevirtual 294, 3) := dk_182 1 38 (dk_at dksX5_starts_3 8 rfl rfl)
theorem dX5_starts_82 : decode cX5_starts 82 = .ok (.iastore, 1) := dk_79 (dk_at dksX5_starts_3 11 rfl rfl)
theorem dX5_starts_83 : decode cX5_starts 83 = .ok (.aload_n 0, 1) := dk_42 (dk_at dksX5_starts_3 12 rfl rfl)
theorem dX5_starts_84 : decode cX5_starts 84 = .ok (.getfield 115, 3) := dk_180 0 115 (dk_at dksX5_starts_3 13 rfl rfl)
theorem dX5_starts_87 : decode cX5_starts 87 = .ok (.iload_n 1, 1) := dk_27 (dk_at dksX5_starts_3 16 rfl rfl)
theorem dX5_starts_88 : decode cX5_starts 88 = .ok (.bipush 28, 2) := dk_16 28 (dk_at dksX5_starts_3 17 rfl rfl)
theorem dX5_starts_90 : decode cX5_starts 90 = .ok (.iadd, 1) := dk_96 (dk_at dksX5_starts_3 19 rfl rfl)
theorem dX5_starts_91 : decode cX5_starts 91 = .ok (.iload_n 2, 1) := dk_28 (dk_at dksX5_starts_3 20 rfl rfl)
theorem dX5_starts_92 : decode cX5_starts 92 = .ok (.iadd, 1) := dk_96 (dk_at dksX5_starts_3 21 rfl rfl)
theorem dX5_starts_93 : decode cX5_starts 93 = .ok (.iload_n 2, 1) := dk_28 (dk_at dksX5_starts_3 22 rfl rfl)
theorem dX5_starts_94 : decode cX5_starts 94 = .ok (.iastore, 1) := dk_79 (dk_at dksX5_starts_3 23 rfl rfl)
theorem dX5_starts_95 : decode cX5_starts 95 = .ok (.iinc 2 1, 3) := dk_132 2 1 (dk_at dksX5_starts_4 0 rfl rfl)
theorem dX5_starts_98 : decode cX5_starts 98 = .ok (.goto (-73), 3) := dk_167 255 183 (dk_at dksX5_starts_4 3 rfl rfl)
theorem dX5_starts_101 : decode cX5_starts 101 = .ok (.return_, 1) := dk_177 (dk_at dksX5_starts_4 6 rfl rfl)
abbrev cX5_people : ByteArray := prog_30_method_46_code
def yX5_people : MethodName := ⟨RX5, "people", "()I"⟩
def dkwX5_people_0 : List UInt8 := [42, 180, 0, 91, 3, 46, 172]
abbrev dktX5_people_0 : List UInt8 := dkwX5_people_0 ++ []
theorem dksX5_people_0 : cX5_people.data.toList.drop 0 = dktX5_people_0 := by decide +kernel
theorem dX5_people_0 : decode cX5_people 0 = .ok (.aload_n 0, 1) := dk_42 (dk_at dksX5_people_0 0 rfl rfl)
theorem dX5_people_1 : decode cX5_people 1 = .ok (.getfield 91, 3) := dk_180 0 91 (dk_at dksX5_people_0 1 rfl rfl)
theorem dX5_people_4 : decode cX5_people 4 = .ok (.iconst 0, 1) := dk_3 (dk_at dksX5_people_0 4 rfl rfl)
theorem dX5_people_5 : decode cX5_people 5 = .ok (.iaload, 1) := dk_46 (dk_at dksX5_people_0 5 rfl rfl)
theorem dX5_people_6 : decode cX5_people 6 = .ok (.ireturn, 1) := dk_172 (dk_at dksX5_people_0 6 rfl rfl)
abbrev cX5_personOf : ByteArray := prog_30_method_47_code
def yX5_personOf : MethodName := ⟨RX5, "personOf", "(II)I"⟩
def dkwX5_personOf_0 : List UInt8 := [42, 180, 0, 91, 16, 8, 8, 27, 104, 96, 28, 96, 46, 172]
abbrev dktX5_personOf_0 : List UInt8 := dkwX5_personOf_0 ++ []
theorem dksX5_personOf_0 : cX5_personOf.data.toList.drop 0 = dktX5_personOf_0 := by decide +kernel
theorem dX5_personOf_0 : decode cX5_personOf 0 = .ok (.aload_n 0, 1) := dk_42 (dk_at dksX5_personOf_0 0 rfl rfl)
theorem dX5_personOf_1 : decode cX5_personOf 1 = .ok (.getfield 91, 3) := dk_180 0 91 (dk_at dksX5_personOf_0 1 rfl rfl)
theorem dX5_personOf_4 : decode cX5_personOf 4 = .ok (.bipush 8, 2) := dk_16 8 (dk_at dksX5_personOf_0 4 rfl rfl)
theorem dX5_personOf_6 : decode cX5_personOf 6 = .ok (.iconst 5, 1) := dk_8 (dk_at dksX5_personOf_0 6 rfl rfl)
theorem dX5_personOf_7 : decode cX5_personOf 7 = .ok (.iload_n 1, 1) := dk_27 (dk_at dksX5_personOf_0 7 rfl rfl)
theorem dX5_personOf_8 : decode cX5_personOf 8 = .ok (.imul, 1) := dk_104 (dk_at dksX5_personOf_0 8 rfl rfl)
theorem dX5_personOf_9 : decode cX5_personOf 9 = .ok (.iadd, 1) := dk_96 (dk_at dksX5_personOf_0 9 rfl rfl)
theorem dX5_personOf_10 : decode cX5_personOf 10 = .ok (.iload_n 2, 1) := dk_28 (dk_at dksX5_personOf_0 10 rfl rfl)
theorem dX5_personOf_11 : decode cX5_personOf 11 = .ok (.iadd, 1) := dk_96 (dk_at dksX5_personOf_0 11 rfl rfl)
theorem dX5_personOf_12 : decode cX5_personOf 12 = .ok (.iaload, 1) := dk_46 (dk_at dksX5_personOf_0 12 rfl rfl)
theorem dX5_personOf_13 : decode cX5_personOf 13 = .ok (.ireturn, 1) := dk_172 (dk_at dksX5_personOf_0 13 rfl rfl)
abbrev cX5_findLots : ByteArray := prog_30_method_50_code
def yX5_findLots : MethodName := ⟨RX5, "findLots", "()V"⟩
def dkwX5_findLots_0 : List UInt8 := [42, 3, 181, 1, 57, 42, 182, 1, 35, 158, 0, 9, 42, 3, 3, 182, 1, 60, 177]
abbrev dktX5_findLots_0 : List UInt8 := dkwX5_findLots_0 ++ []
theorem dksX5_findLots_0 : cX5_findLots.data.toList.drop 0 = dktX5_findLots_0 := by decide +kernel
theorem dX5_findLots_0 : decode cX5_findLots 0 = .ok (.aload_n 0, 1) := dk_42 (dk_at dksX5_findLots_0 0 rfl rfl)
theorem dX5_findLots_1 : decode cX5_findLots 1 = .ok (.iconst 0, 1) := dk_3 (dk_at dksX5_findLots_0 1 rfl rfl)
theorem dX5_findLots_2 : decode cX5_findLots 2 = .ok (.putfield 313, 3) := dk_181 1 57 (dk_at dksX5_findLots_0 2 rfl rfl)
theorem dX5_findLots_5 : decode cX5_findLots 5 = .ok (.aload_n 0, 1) := dk_42 (dk_at dksX5_findLots_0 5 rfl rfl)
theorem dX5_findLots_6 : decode cX5_findLots 6 = .ok (.invokevirtual 291, 3) := dk_182 1 35 (dk_at dksX5_findLots_0 6 rfl rfl)
theorem dX5_findLots_9 : decode cX5_findLots 9 = .ok (.ifCond .le 9, 3) := dk_158 0 9 (dk_at dksX5_findLots_0 9 rfl rfl)
theorem dX5_findLots_12 : decode cX5_findLots 12 = .ok (.aload_n 0, 1) := dk_42 (dk_at dksX5_findLots_0 12 rfl rfl)
theorem dX5_findLots_13 : decode cX5_findLots 13 = .ok (.iconst 0, 1) := dk_3 (dk_at dksX5_findLots_0 13 rfl rfl)
theorem dX5_findLots_14 : decode cX5_findLots 14 = .ok (.iconst 0, 1) := dk_3 (dk_at dksX5_findLots_0 14 rfl rfl)
theorem dX5_findLots_15 : decode cX5_findLots 15 = .ok (.invokevirtual 316, 3) := dk_182 1 60 (dk_at dksX5_findLots_0 15 rfl rfl)
theorem dX5_findLots_18 : decode cX5_findLots 18 = .ok (.return_, 1) := dk_177 (dk_at dksX5_findLots_0 18 rfl rfl)
abbrev cX5_lotsFrom : ByteArray := prog_30_method_52_code
def yX5_lotsFrom : MethodName := ⟨RX5, "lotsFrom", "(II)V"⟩
def dkwX5_lotsFrom_5 : List UInt8 := [177]
abbrev dktX5_lotsFrom_5 : List UInt8 := dkwX5_lotsFrom_5 ++ []
def dkwX5_lotsFrom_4 : List UInt8 := [180, 0, 125, 27, 29, 79, 42, 27, 4, 96, 28, 4, 29, 120, 128, 182, 1, 60, 132, 3, 1, 167, 255, 209]
abbrev dktX5_lotsFrom_4 : List UInt8 := dkwX5_lotsFrom_4 ++ dktX5_lotsFrom_5
def dkwX5_lotsFrom_3 : List UInt8 := [182, 1, 35, 162, 0, 45, 28, 29, 122, 4, 126, 154, 0, 31, 42, 29, 27, 182, 1, 63, 153, 0, 22, 42]
abbrev dktX5_lotsFrom_3 : List UInt8 := dkwX5_lotsFrom_3 ++ dktX5_lotsFrom_4
def dkwX5_lotsFrom_2 : List UInt8 := [79, 132, 3, 1, 167, 255, 226, 42, 89, 180, 1, 57, 4, 96, 181, 1, 57, 177, 3, 62, 29, 42]
abbrev dktX5_lotsFrom_2 : List UInt8 := dkwX5_lotsFrom_2 ++ dktX5_lotsFrom_3
def dkwX5_lotsFrom_1 : List UInt8 := [162, 0, 31, 42, 180, 0, 122, 42, 180, 1, 57, 92, 46, 42, 180, 0, 125, 29, 46, 6, 29, 104, 120, 128]
abbrev dktX5_lotsFrom_1 : List UInt8 := dkwX5_lotsFrom_1 ++ dktX5_lotsFrom_2
def dkwX5_lotsFrom_0 : List UInt8 := [27, 42, 182, 1, 35, 160, 0, 59, 42, 180, 0, 122, 42, 180, 1, 57, 3, 79, 3, 62, 29, 27]
abbrev dktX5_lotsFrom_0 : List UInt8 := dkwX5_lotsFrom_0 ++ dktX5_lotsFrom_1
theorem dksX5_lotsFrom_0 : cX5_lotsFrom.data.toList.drop 0 = dktX5_lotsFrom_0 := by decide +kernel
theorem dksX5_lotsFrom_1 : cX5_lotsFrom.data.toList.drop 22 = dktX5_lotsFrom_1 := dk_seg dksX5_lotsFrom_0 22 rfl rfl
theorem dksX5_lotsFrom_2 : cX5_lotsFrom.data.toList.drop 46 = dktX5_lotsFrom_2 := dk_seg dksX5_lotsFrom_1 24 rfl rfl
theorem dksX5_lotsFrom_3 : cX5_lotsFrom.data.toList.drop 68 = dktX5_lotsFrom_3 := dk_seg dksX5_lotsFrom_2 22 rfl rfl
theorem dksX5_lotsFrom_4 : cX5_lotsFrom.data.toList.drop 92 = dktX5_lotsFrom_4 := dk_seg dksX5_lotsFrom_3 24 rfl rfl
theorem dksX5_lotsFrom_5 : cX5_lotsFrom.data.toList.drop 116 = dktX5_lotsFrom_5 := dk_seg dksX5_lotsFrom_4 24 rfl rfl
theorem dX5_lotsFrom_0 : decode cX5_lotsFrom 0 = .ok (.iload_n 1, 1) := dk_27 (dk_at dksX5_lotsFrom_0 0 rfl rfl)
theorem dX5_lotsFrom_1 : decode cX5_lotsFrom 1 = .ok (.aload_n 0, 1) := dk_42 (dk_at dksX5_lotsFrom_0 1 rfl rfl)
theorem dX5_lotsFrom_2 : decode cX5_lotsFrom 2 = .ok (.invokevirtual 291, 3) := dk_182 1 35 (dk_at dksX5_lotsFrom_0 2 rfl rfl)
theorem dX5_lotsFrom_5 : decode cX5_lotsFrom 5 = .ok (.if_icmp .ne 59, 3) := dk_160 0 59 (dk_at dksX5_lotsFrom_0 5 rfl rfl)
theorem dX5_lotsFrom_8 : decode cX5_lotsFrom 8 = .ok (.aload_n 0, 1) := dk_42 (dk_at dksX5_lotsFrom_0 8 rfl rfl)
theorem dX5_lotsFrom_9 : decode cX5_lotsFrom 9 = .ok (.getfield 122, 3) := dk_180 0 122 (dk_at dksX5_lotsFrom_0 9 rfl rfl)
theorem dX5_lotsFrom_12 : decode cX5_lotsFrom 12 = .ok (.aload_n 0, 1) := dk_42 (dk_at dksX5_lotsFrom_0 12 rfl rfl)
theorem dX5_lotsFrom_13 : decode cX5_lotsFrom 13 = .ok (.getfield 313, 3) := dk_180 1 57 (dk_at dksX5_lotsFrom_0 13 rfl rfl)
theorem dX5_lotsFrom_16 : decode cX5_lotsFrom 16 = .ok (.iconst 0, 1) := dk_3 (dk_at dksX5_lotsFrom_0 16 rfl rfl)
theorem dX5_lotsFrom_17 : decode cX5_lotsFrom 17 = .ok (.iastore, 1) := dk_79 (dk_at dksX5_lotsFrom_0 17 rfl rfl)
theorem dX5_lotsFrom_18 : decode cX5_lotsFrom 18 = .ok (.iconst 0, 1) := dk_3 (dk_at dksX5_lotsFrom_0 18 rfl rfl)
theorem dX5_lotsFrom_19 : decode cX5_lotsFrom 19 = .ok (.istore_n 3, 1) := dk_62 (dk_at dksX5_lotsFrom_0 19 rfl rfl)
theorem dX5_lotsFrom_20 : decode cX5_lotsFrom 20 = .ok (.iload_n 3, 1) := dk_29 (dk_at dksX5_lotsFrom_0 20 rfl rfl)
theorem dX5_lotsFrom_21 : decode cX5_lotsFrom 21 = .ok (.iload_n 1, 1) := dk_27 (dk_at dksX5_lotsFrom_0 21 rfl rfl)
theorem dX5_lotsFrom_22 : decode cX5_lotsFrom 22 = .ok (.if_icmp .ge 31, 3) := dk_162 0 31 (dk_at dksX5_lotsFrom_1 0 rfl rfl)
theorem dX5_lotsFrom_25 : decode cX5_lotsFrom 25 = .ok (.aload_n 0, 1) := dk_42 (dk_at dksX5_lotsFrom_1 3 rfl rfl)
theorem dX5_lotsFrom_26 : decode cX5_lotsFrom 26 = .ok (.getfield 122, 3) := dk_180 0 122 (dk_at dksX5_lotsFrom_1 4 rfl rfl)
theorem dX5_lotsFrom_29 : decode cX5_lotsFrom 29 = .ok (.aload_n 0, 1) := dk_42 (dk_at dksX5_lotsFrom_1 7 rfl rfl)
theorem dX5_lotsFrom_30 : decode cX5_lotsFrom 30 = .ok (.getfield 313, 3) := dk_180 1 57 (dk_at dksX5_lotsFrom_1 8 rfl rfl)
theorem dX5_lotsFrom_33 : decode cX5_lotsFrom 33 = .ok (.dup2, 1) := dk_92 (dk_at dksX5_lotsFrom_1 11 rfl rfl)
theorem dX5_lotsFrom_34 : decode cX5_lotsFrom 34 = .ok (.iaload, 1) := dk_46 (dk_at dksX5_lotsFrom_1 12 rfl rfl)
theorem dX5_lotsFrom_35 : decode cX5_lotsFrom 35 = .ok (.aload_n 0, 1) := dk_42 (dk_at dksX5_lotsFrom_1 13 rfl rfl)
theorem dX5_lotsFrom_36 : decode cX5_lotsFrom 36 = .ok (.getfield 125, 3) := dk_180 0 125 (dk_at dksX5_lotsFrom_1 14 rfl rfl)
theorem dX5_lotsFrom_39 : decode cX5_lotsFrom 39 = .ok (.iload_n 3, 1) := dk_29 (dk_at dksX5_lotsFrom_1 17 rfl rfl)
theorem dX5_lotsFrom_40 : decode cX5_lotsFrom 40 = .ok (.iaload, 1) := dk_46 (dk_at dksX5_lotsFrom_1 18 rfl rfl)
theorem dX5_lotsFrom_41 : decode cX5_lotsFrom 41 = .ok (.iconst 3, 1) := dk_6 (dk_at dksX5_lotsFrom_1 19 rfl rfl)
theorem dX5_lotsFrom_42 : decode cX5_lotsFrom 42 = .ok (.iload_n 3, 1) := dk_29 (dk_at dksX5_lotsFrom_1 20 rfl rfl)
theorem dX5_lotsFrom_43 : decode cX5_lotsFrom 43 = .ok (.imul, 1) := dk_104 (dk_at dksX5_lotsFrom_1 21 rfl rfl)
theorem dX5_lotsFrom_44 : decode cX5_lotsFrom 44 = .ok (.ishl, 1) := dk_120 (dk_at dksX5_lotsFrom_1 22 rfl rfl)
theorem dX5_lotsFrom_45 : decode cX5_lotsFrom 45 = .ok (.ior, 1) := dk_128 (dk_at dksX5_lotsFrom_1 23 rfl rfl)
theorem dX5_lotsFrom_46 : decode cX5_lotsFrom 46 = .ok (.iastore, 1) := dk_79 (dk_at dksX5_lotsFrom_2 0 rfl rfl)
theorem dX5_lotsFrom_47 : decode cX5_lotsFrom 47 = .ok (.iinc 3 1, 3) := dk_132 3 1 (dk_at dksX5_lotsFrom_2 1 rfl rfl)
theorem dX5_lotsFrom_50 : decode cX5_lotsFrom 50 = .ok (.goto (-30), 3) := dk_167 255 226 (dk_at dksX5_lotsFrom_2 4 rfl rfl)
theorem dX5_lotsFrom_53 : decode cX5_lotsFrom 53 = .ok (.aload_n 0, 1) := dk_42 (dk_at dksX5_lotsFrom_2 7 rfl rfl)
theorem dX5_lotsFrom_54 : decode cX5_lotsFrom 54 = .ok (.dup, 1) := dk_89 (dk_at dksX5_lotsFrom_2 8 rfl rfl)
theorem dX5_lotsFrom_55 : decode cX5_lotsFrom 55 = .ok (.getfield 313, 3) := dk_180 1 57 (dk_at dksX5_lotsFrom_2 9 rfl rfl)
theorem dX5_lotsFrom_58 : decode cX5_lotsFrom 58 = .ok (.iconst 1, 1) := dk_4 (dk_at dksX5_lotsFrom_2 12 rfl rfl)
theorem dX5_lotsFrom_59 : decode cX5_lotsFrom 59 = .ok (.iadd, 1) := dk_96 (dk_at dksX5_lotsFrom_2 13 rfl rfl)
theorem dX5_lotsFrom_60 : decode cX5_lotsFrom 60 = .ok (.putfield 313, 3) := dk_181 1 57 (dk_at dksX5_lotsFrom_2 14 rfl rfl)
theorem dX5_lotsFrom_63 : decode cX5_lotsFrom 63 = .ok (.return_, 1) := dk_177 (dk_at dksX5_lotsFrom_2 17 rfl rfl)
theorem dX5_lotsFrom_64 : decode cX5_lotsFrom 64 = .ok (.iconst 0, 1) := dk_3 (dk_at dksX5_lotsFrom_2 18 rfl rfl)
theorem dX5_lotsFrom_65 : decode cX5_lotsFrom 65 = .ok (.istore_n 3, 1) := dk_62 (dk_at dksX5_lotsFrom_2 19 rfl rfl)
theorem dX5_lotsFrom_66 : decode cX5_lotsFrom 66 = .ok (.iload_n 3, 1) := dk_29 (dk_at dksX5_lotsFrom_2 20 rfl rfl)
theorem dX5_lotsFrom_67 : decode cX5_lotsFrom 67 = .ok (.aload_n 0, 1) := dk_42 (dk_at dksX5_lotsFrom_2 21 rfl rfl)
theorem dX5_lotsFrom_68 : decode cX5_lotsFrom 68 = .ok (.invokevirtual 291, 3) := dk_182 1 35 (dk_at dksX5_lotsFrom_3 0 rfl rfl)
theorem dX5_lotsFrom_71 : decode cX5_lotsFrom 71 = .ok (.if_icmp .ge 45, 3) := dk_162 0 45 (dk_at dksX5_lotsFrom_3 3 rfl rfl)
theorem dX5_lotsFrom_74 : decode cX5_lotsFrom 74 = .ok (.iload_n 2, 1) := dk_28 (dk_at dksX5_lotsFrom_3 6 rfl rfl)
theorem dX5_lotsFrom_75 : decode cX5_lotsFrom 75 = .ok (.iload_n 3, 1) := dk_29 (dk_at dksX5_lotsFrom_3 7 rfl rfl)
theorem dX5_lotsFrom_76 : decode cX5_lotsFrom 76 = .ok (.ishr, 1) := dk_122 (dk_at dksX5_lotsFrom_3 8 rfl rfl)
theorem dX5_lotsFrom_77 : decode cX5_lotsFrom 77 = .ok (.iconst 1, 1) := dk_4 (dk_at dksX5_lotsFrom_3 9 rfl rfl)
theorem dX5_lotsFrom_78 : decode cX5_lotsFrom 78 = .ok (.iand, 1) := dk_126 (dk_at dksX5_lotsFrom_3 10 rfl rfl)
theorem dX5_lotsFrom_79 : decode cX5_lotsFrom 79 = .ok (.ifCond .ne 31, 3) := dk_154 0 31 (dk_at dksX5_lotsFrom_3 11 rfl rfl)
theorem dX5_lotsFrom_82 : decode cX5_lotsFrom 82 = .ok (.aload_n 0, 1) := dk_42 (dk_at dksX5_lotsFrom_3 14 rfl rfl)
theorem dX5_lotsFrom_83 : decode cX5_lotsFrom 83 = .ok (.iload_n 3, 1) := dk_29 (dk_at dksX5_lotsFrom_3 15 rfl rfl)
theorem dX5_lotsFrom_84 : decode cX5_lotsFrom 84 = .ok (.iload_n 1, 1) := dk_27 (dk_at dksX5_lotsFrom_3 16 rfl rfl)
theorem dX5_lotsFrom_85 : decode cX5_lotsFrom 85 = .ok (.invokevirtual 319, 3) := dk_182 1 63 (dk_at dksX5_lotsFrom_3 17 rfl rfl)
theorem dX5_lotsFrom_88 : decode cX5_lotsFrom 88 = .ok (.ifCond .eq 22, 3) := dk_153 0 22 (dk_at dksX5_lotsFrom_3 20 rfl rfl)
theorem dX5_lotsFrom_91 : decode cX5_lotsFrom 91 = .ok (.aload_n 0, 1) := dk_42 (dk_at dksX5_lotsFrom_3 23 rfl rfl)
theorem dX5_lotsFrom_92 : decode cX5_lotsFrom 92 = .ok (.getfield 125, 3) := dk_180 0 125 (dk_at dksX5_lotsFrom_4 0 rfl rfl)
theorem dX5_lotsFrom_95 : decode cX5_lotsFrom 95 = .ok (.iload_n 1, 1) := dk_27 (dk_at dksX5_lotsFrom_4 3 rfl rfl)
theorem dX5_lotsFrom_96 : decode cX5_lotsFrom 96 = .ok (.iload_n 3, 1) := dk_29 (dk_at dksX5_lotsFrom_4 4 rfl rfl)
theorem dX5_lotsFrom_97 : decode cX5_lotsFrom 97 = .ok (.iastore, 1) := dk_79 (dk_at dksX5_lotsFrom_4 5 rfl rfl)
theorem dX5_lotsFrom_98 : decode cX5_lotsFrom 98 = .ok (.aload_n 0, 1) := dk_42 (dk_at dksX5_lotsFrom_4 6 rfl rfl)
theorem dX5_lotsFrom_99 : decode cX5_lotsFrom 99 = .ok (.iload_n 1, 1) := dk_27 (dk_at dksX5_lotsFrom_4 7 rfl rfl)
theorem dX5_lotsFrom_100 : decode cX5_lotsFrom 100 = .ok (.iconst 1, 1) := dk_4 (dk_at dksX5_lotsFrom_4 8 rfl rfl)
theorem dX5_lotsFrom_101 : decode cX5_lotsFrom 101 = .ok (.iadd, 1) := dk_96 (dk_at dksX5_lotsFrom_4 9 rfl rfl)
theorem dX5_lotsFrom_102 : decode cX5_lotsFrom 102 = .ok (.iload_n 2, 1) := dk_28 (dk_at dksX5_lotsFrom_4 10 rfl rfl)
theorem dX5_lotsFrom_103 : decode cX5_lotsFrom 103 = .ok (.iconst 1, 1) := dk_4 (dk_at dksX5_lotsFrom_4 11 rfl rfl)
theorem dX5_lotsFrom_104 : decode cX5_lotsFrom 104 = .ok (.iload_n 3, 1) := dk_29 (dk_at dksX5_lotsFrom_4 12 rfl rfl)
theorem dX5_lotsFrom_105 : decode cX5_lotsFrom 105 = .ok (.ishl, 1) := dk_120 (dk_at dksX5_lotsFrom_4 13 rfl rfl)
theorem dX5_lotsFrom_106 : decode cX5_lotsFrom 106 = .ok (.ior, 1) := dk_128 (dk_at dksX5_lotsFrom_4 14 rfl rfl)
theorem dX5_lotsFrom_107 : decode cX5_lotsFrom 107 = .ok (.invokevirtual 316, 3) := dk_182 1 60 (dk_at dksX5_lotsFrom_4 15 rfl rfl)
theorem dX5_lotsFrom_110 : decode cX5_lotsFrom 110 = .ok (.iinc 3 1, 3) := dk_132 3 1 (dk_at dksX5_lotsFrom_4 18 rfl rfl)
theorem dX5_lotsFrom_113 : decode cX5_lotsFrom 113 = .ok (.goto (-47), 3) := dk_167 255 209 (dk_at dksX5_lotsFrom_4 21 rfl rfl)
theorem dX5_lotsFrom_116 : decode cX5_lotsFrom 116 = .ok (.return_, 1) := dk_177 (dk_at dksX5_lotsFrom_5 0 rfl rfl)
abbrev cX5_mayBe : ByteArray := prog_30_method_49_code
def yX5_mayBe : MethodName := ⟨RX5, "mayBe", "(II)Z"⟩
def dkwX5_mayBe_1 : List UInt8 := [167, 0, 4, 3, 172]
abbrev dktX5_mayBe_1 : List UInt8 := dkwX5_mayBe_1 ++ []
def dkwX5_mayBe_0 : List UInt8 := [27, 28, 159, 0, 24, 42, 180, 0, 91, 16, 38, 16, 6, 27, 104, 96, 28, 96, 46, 154, 0, 7, 4]
abbrev dktX5_mayBe_0 : List UInt8 := dkwX5_mayBe_0 ++ dktX5_mayBe_1
theorem dksX5_mayBe_0 : cX5_mayBe.data.toList.drop 0 = dktX5_mayBe_0 := by decide +kernel
theorem dksX5_mayBe_1 : cX5_mayBe.data.toList.drop 23 = dktX5_mayBe_1 := dk_seg dksX5_mayBe_0 23 rfl rfl
theorem dX5_mayBe_0 : decode cX5_mayBe 0 = .ok (.iload_n 1, 1) := dk_27 (dk_at dksX5_mayBe_0 0 rfl rfl)
theorem dX5_mayBe_1 : decode cX5_mayBe 1 = .ok (.iload_n 2, 1) := dk_28 (dk_at dksX5_mayBe_0 1 rfl rfl)
theorem dX5_mayBe_2 : decode cX5_mayBe 2 = .ok (.if_icmp .eq 24, 3) := dk_159 0 24 (dk_at dksX5_mayBe_0 2 rfl rfl)
theorem dX5_mayBe_5 : decode cX5_mayBe 5 = .ok (.aload_n 0, 1) := dk_42 (dk_at dksX5_mayBe_0 5 rfl rfl)
theorem dX5_mayBe_6 : decode cX5_mayBe 6 = .ok (.getfield 91, 3) := dk_180 0 91 (dk_at dksX5_mayBe_0 6 rfl rfl)
theorem dX5_mayBe_9 : decode cX5_mayBe 9 = .ok (.bipush 38, 2) := dk_16 38 (dk_at dksX5_mayBe_0 9 rfl rfl)
theorem dX5_mayBe_11 : decode cX5_mayBe 11 = .ok (.bipush 6, 2) := dk_16 6 (dk_at dksX5_mayBe_0 11 rfl rfl)
theorem dX5_mayBe_13 : decode cX5_mayBe 13 = .ok (.iload_n 1, 1) := dk_27 (dk_at dksX5_mayBe_0 13 rfl rfl)
theorem dX5_mayBe_14 : decode cX5_mayBe 14 = .ok (.imul, 1) := dk_104 (dk_at dksX5_mayBe_0 14 rfl rfl)
theorem dX5_mayBe_15 : decode cX5_mayBe 15 = .ok (.iadd, 1) := dk_96 (dk_at dksX5_mayBe_0 15 rfl rfl)
theorem dX5_mayBe_16 : decode cX5_mayBe 16 = .ok (.iload_n 2, 1) := dk_28 (dk_at dksX5_mayBe_0 16 rfl rfl)
theorem dX5_mayBe_17 : decode cX5_mayBe 17 = .ok (.iadd, 1) := dk_96 (dk_at dksX5_mayBe_0 17 rfl rfl)
theorem dX5_mayBe_18 : decode cX5_mayBe 18 = .ok (.iaload, 1) := dk_46 (dk_at dksX5_mayBe_0 18 rfl rfl)
theorem dX5_mayBe_19 : decode cX5_mayBe 19 = .ok (.ifCond .ne 7, 3) := dk_154 0 7 (dk_at dksX5_mayBe_0 19 rfl rfl)
theorem dX5_mayBe_22 : decode cX5_mayBe 22 = .ok (.iconst 1, 1) := dk_4 (dk_at dksX5_mayBe_0 22 rfl rfl)
theorem dX5_mayBe_23 : decode cX5_mayBe 23 = .ok (.goto 4, 3) := dk_167 0 4 (dk_at dksX5_mayBe_1 0 rfl rfl)
theorem dX5_mayBe_26 : decode cX5_mayBe 26 = .ok (.iconst 0, 1) := dk_3 (dk_at dksX5_mayBe_1 3 rfl rfl)
theorem dX5_mayBe_27 : decode cX5_mayBe 27 = .ok (.ireturn, 1) := dk_172 (dk_at dksX5_mayBe_1 4 rfl rfl)
abbrev cX5_town : ByteArray := prog_30_method_27_code
def yX5_town : MethodName := ⟨RX5, "town", "()I"⟩
def dkwX5_town_9 : List UInt8 := [180, 0, 207, 181, 0, 210, 42, 182, 0, 153, 3, 172]
abbrev dktX5_town_9 : List UInt8 := dkwX5_town_9 ++ []
def dkwX5_town_8 : List UInt8 := [162, 0, 21, 42, 180, 0, 100, 27, 42, 180, 0, 103, 27, 47, 80, 132, 1, 1, 167, 255, 233, 42, 42]
abbrev dktX5_town_8 : List UInt8 := dkwX5_town_8 ++ dktX5_town_9
def dkwX5_town_7 : List UInt8 := [42, 180, 0, 97, 17, 4, 76, 27, 96, 46, 79, 132, 1, 1, 167, 255, 213, 3, 60, 27, 42, 180, 0, 207]
abbrev dktX5_town_7 : List UInt8 := dkwX5_town_7 ++ dktX5_town_8
def dkwX5_town_6 : List UInt8 := [162, 0, 41, 42, 180, 0, 94, 27, 42, 180, 0, 94, 17, 4, 76, 27, 96, 46, 79, 42, 180, 0, 97, 27]
abbrev dktX5_town_6 : List UInt8 := dkwX5_town_6 ++ dktX5_town_7
def dkwX5_town_5 : List UInt8 := [42, 180, 0, 91, 16, 80, 27, 96, 46, 79, 132, 1, 1, 167, 255, 232, 3, 60, 27, 42, 180, 0, 227]
abbrev dktX5_town_5 : List UInt8 := dkwX5_town_5 ++ dktX5_town_6
def dkwX5_town_4 : List UInt8 := [180, 0, 182, 158, 0, 8, 42, 180, 0, 182, 172, 3, 60, 27, 16, 80, 162, 0, 24, 42, 180, 0, 91, 27]
abbrev dktX5_town_4 : List UInt8 := dkwX5_town_4 ++ dktX5_town_5
def dkwX5_town_3 : List UInt8 := [153, 0, 10, 42, 182, 0, 237, 167, 0, 7, 42, 182, 0, 240, 42, 16, 59, 182, 0, 243, 167, 255, 197, 42]
abbrev dktX5_town_3 : List UInt8 := dkwX5_town_3 ++ dktX5_town_4
def dkwX5_town_2 : List UInt8 := [153, 0, 46, 42, 3, 182, 0, 191, 153, 0, 10, 42, 182, 0, 234, 167, 0, 22, 42, 8, 182, 0, 191]
abbrev dktX5_town_2 : List UInt8 := dkwX5_town_2 ++ dktX5_town_3
def dkwX5_town_1 : List UInt8 := [42, 16, 80, 182, 0, 149, 42, 180, 0, 182, 154, 0, 58, 42, 180, 0, 24, 42, 180, 0, 179, 46]
abbrev dktX5_town_1 : List UInt8 := dkwX5_town_1 ++ dktX5_town_2
def dkwX5_town_0 : List UInt8 := [42, 3, 181, 0, 1, 42, 182, 0, 224, 42, 3, 181, 0, 227, 42, 3, 181, 0, 207, 42, 3, 181, 0, 230]
abbrev dktX5_town_0 : List UInt8 := dkwX5_town_0 ++ dktX5_town_1
theorem dksX5_town_0 : cX5_town.data.toList.drop 0 = dktX5_town_0 := by decide +kernel
theorem dksX5_town_1 : cX5_town.data.toList.drop 24 = dktX5_town_1 := dk_seg dksX5_town_0 24 rfl rfl
theorem dksX5_town_2 : cX5_town.data.toList.drop 46 = dktX5_town_2 := dk_seg dksX5_town_1 22 rfl rfl
theorem dksX5_town_3 : cX5_town.data.toList.drop 69 = dktX5_town_3 := dk_seg dksX5_town_2 23 rfl rfl
theorem dksX5_town_4 : cX5_town.data.toList.drop 93 = dktX5_town_4 := dk_seg dksX5_town_3 24 rfl rfl
theorem dksX5_town_5 : cX5_town.data.toList.drop 117 = dktX5_town_5 := dk_seg dksX5_town_4 24 rfl rfl
theorem dksX5_town_6 : cX5_town.data.toList.drop 140 = dktX5_town_6 := dk_seg dksX5_town_5 23 rfl rfl
theorem dksX5_town_7 : cX5_town.data.toList.drop 164 = dktX5_town_7 := dk_seg dksX5_town_6 24 rfl rfl
theorem dksX5_town_8 : cX5_town.data.toList.drop 188 = dktX5_town_8 := dk_seg dksX5_town_7 24 rfl rfl
theorem dksX5_town_9 : cX5_town.data.toList.drop 211 = dktX5_town_9 := dk_seg dksX5_town_8 23 rfl rfl
theorem dX5_town_0 : decode cX5_town 0 = .ok (.aload_n 0, 1) := dk_42 (dk_at dksX5_town_0 0 rfl rfl)
theorem dX5_town_1 : decode cX5_town 1 = .ok (.iconst 0, 1) := dk_3 (dk_at dksX5_town_0 1 rfl rfl)
theorem dX5_town_2 : decode cX5_town 2 = .ok (.putfield 1, 3) := dk_181 0 1 (dk_at dksX5_town_0 2 rfl rfl)
theorem dX5_town_5 : decode cX5_town 5 = .ok (.aload_n 0, 1) := dk_42 (dk_at dksX5_town_0 5 rfl rfl)
theorem dX5_town_6 : decode cX5_town 6 = .ok (.invokevirtual 224, 3) := dk_182 0 224 (dk_at dksX5_town_0 6 rfl rfl)
theorem dX5_town_9 : decode cX5_town 9 = .ok (.aload_n 0, 1) := dk_42 (dk_at dksX5_town_0 9 rfl rfl)
theorem dX5_town_10 : decode cX5_town 10 = .ok (.iconst 0, 1) := dk_3 (dk_at dksX5_town_0 10 rfl rfl)
theorem dX5_town_11 : decode cX5_town 11 = .ok (.putfield 227, 3) := dk_181 0 227 (dk_at dksX5_town_0 11 rfl rfl)
theorem dX5_town_14 : decode cX5_town 14 = .ok (.aload_n 0, 1) := dk_42 (dk_at dksX5_town_0 14 rfl rfl)
theorem dX5_town_15 : decode cX5_town 15 = .ok (.iconst 0, 1) := dk_3 (dk_at dksX5_town_0 15 rfl rfl)
theorem dX5_town_16 : decode cX5_town 16 = .ok (.putfield 207, 3) := dk_181 0 207 (dk_at dksX5_town_0 16 rfl rfl)
theorem dX5_town_19 : decode cX5_town 19 = .ok (.aload_n 0, 1) := dk_42 (dk_at dksX5_town_0 19 rfl rfl)
theorem dX5_town_20 : decode cX5_town 20 = .ok (.iconst 0, 1) := dk_3 (dk_at dksX5_town_0 20 rfl rfl)
theorem dX5_town_21 : decode cX5_town 21 = .ok (.putfield 230, 3) := dk_181 0 230 (dk_at dksX5_town_0 21 rfl rfl)
theorem dX5_town_24 : decode cX5_town 24 = .ok (.aload_n 0, 1) := dk_42 (dk_at dksX5_town_1 0 rfl rfl)
theorem dX5_town_25 : decode cX5_town 25 = .ok (.bipush 80, 2) := dk_16 80 (dk_at dksX5_town_1 1 rfl rfl)
theorem dX5_town_27 : decode cX5_town 27 = .ok (.invokevirtual 149, 3) := dk_182 0 149 (dk_at dksX5_town_1 3 rfl rfl)
theorem dX5_town_30 : decode cX5_town 30 = .ok (.aload_n 0, 1) := dk_42 (dk_at dksX5_town_1 6 rfl rfl)
theorem dX5_town_31 : decode cX5_town 31 = .ok (.getfield 182, 3) := dk_180 0 182 (dk_at dksX5_town_1 7 rfl rfl)
theorem dX5_town_34 : decode cX5_town 34 = .ok (.ifCond .ne 58, 3) := dk_154 0 58 (dk_at dksX5_town_1 10 rfl rfl)
theorem dX5_town_37 : decode cX5_town 37 = .ok (.aload_n 0, 1) := dk_42 (dk_at dksX5_town_1 13 rfl rfl)
theorem dX5_town_38 : decode cX5_town 38 = .ok (.getfield 24, 3) := dk_180 0 24 (dk_at dksX5_town_1 14 rfl rfl)
theorem dX5_town_41 : decode cX5_town 41 = .ok (.aload_n 0, 1) := dk_42 (dk_at dksX5_town_1 17 rfl rfl)
theorem dX5_town_42 : decode cX5_town 42 = .ok (.getfield 179, 3) := dk_180 0 179 (dk_at dksX5_town_1 18 rfl rfl)
theorem dX5_town_45 : decode cX5_town 45 = .ok (.iaload, 1) := dk_46 (dk_at dksX5_town_1 21 rfl rfl)
theorem dX5_town_46 : decode cX5_town 46 = .ok (.ifCond .eq 46, 3) := dk_153 0 46 (dk_at dksX5_town_2 0 rfl rfl)
theorem dX5_town_49 : decode cX5_town 49 = .ok (.aload_n 0, 1) := dk_42 (dk_at dksX5_town_2 3 rfl rfl)
theorem dX5_town_50 : decode cX5_town 50 = .ok (.iconst 0, 1) := dk_3 (dk_at dksX5_town_2 4 rfl rfl)
theorem dX5_town_51 : decode cX5_town 51 = .ok (.invokevirtual 191, 3) := dk_182 0 191 (dk_at dksX5_town_2 5 rfl rfl)
theorem dX5_town_54 : decode cX5_town 54 = .ok (.ifCond .eq 10, 3) := dk_153 0 10 (dk_at dksX5_town_2 8 rfl rfl)
theorem dX5_town_57 : decode cX5_town 57 = .ok (.aload_n 0, 1) := dk_42 (dk_at dksX5_town_2 11 rfl rfl)
theorem dX5_town_58 : decode cX5_town 58 = .ok (.invokevirtual 234, 3) := dk_182 0 234 (dk_at dksX5_town_2 12 rfl rfl)
theorem dX5_town_61 : decode cX5_town 61 = .ok (.goto 22, 3) := dk_167 0 22 (dk_at dksX5_town_2 15 rfl rfl)
theorem dX5_town_64 : decode cX5_town 64 = .ok (.aload_n 0, 1) := dk_42 (dk_at dksX5_town_2 18 rfl rfl)
theorem dX5_town_65 : decode cX5_town 65 = .ok (.iconst 5, 1) := dk_8 (dk_at dksX5_town_2 19 rfl rfl)
theorem dX5_town_66 : decode cX5_town 66 = .ok (.invokevirtual 191, 3) := dk_182 0 191 (dk_at dksX5_town_2 20 rfl rfl)
theorem dX5_town_69 : decode cX5_town 69 = .ok (.ifCond .eq 10, 3) := dk_153 0 10 (dk_at dksX5_town_3 0 rfl rfl)
theorem dX5_town_72 : decode cX5_town 72 = .ok (.aload_n 0, 1) := dk_42 (dk_at dksX5_town_3 3 rfl rfl)
theorem dX5_town_73 : decode cX5_town 73 = .ok (.invokevirtual 237, 3) := dk_182 0 237 (dk_at dksX5_town_3 4 rfl rfl)
theorem dX5_town_76 : decode cX5_town 76 = .ok (.goto 7, 3) := dk_167 0 7 (dk_at dksX5_town_3 7 rfl rfl)
theorem dX5_town_79 : decode cX5_town 79 = .ok (.aload_n 0, 1) := dk_42 (dk_at dksX5_town_3 10 rfl rfl)
theorem dX5_town_80 : decode cX5_town 80 = .ok (.invokevirtual 240, 3) := dk_182 0 240 (dk_at dksX5_town_3 11 rfl rfl)
theorem dX5_town_83 : decode cX5_town 83 = .ok (.aload_n 0, 1) := dk_42 (dk_at dksX5_town_3 14 rfl rfl)
theorem dX5_town_84 : decode cX5_town 84 = .ok (.bipush 59, 2) := dk_16 59 (dk_at dksX5_town_3 15 rfl rfl)
theorem dX5_town_86 : decode cX5_town 86 = .ok (.invokevirtual 243, 3) := dk_182 0 243 (dk_at dksX5_town_3 17 rfl rfl)
theorem dX5_town_89 : decode cX5_town 89 = .ok (.goto (-59), 3) := dk_167 255 197 (dk_at dksX5_town_3 20 rfl rfl)
theorem dX5_town_92 : decode cX5_town 92 = .ok (.aload_n 0, 1) := dk_42 (dk_at dksX5_town_3 23 rfl rfl)
theorem dX5_town_93 : decode cX5_town 93 = .ok (.getfield 182, 3) := dk_180 0 182 (dk_at dksX5_town_4 0 rfl rfl)
theorem dX5_town_96 : decode cX5_town 96 = .ok (.ifCond .le 8, 3) := dk_158 0 8 (dk_at dksX5_town_4 3 rfl rfl)
theorem dX5_town_99 : decode cX5_town 99 = .ok (.aload_n 0, 1) := dk_42 (dk_at dksX5_town_4 6 rfl rfl)
theorem dX5_town_100 : decode cX5_town 100 = .ok (.getfield 182, 3) := dk_180 0 182 (dk_at dksX5_town_4 7 rfl rfl)
theorem dX5_town_103 : decode cX5_town 103 = .ok (.ireturn, 1) := dk_172 (dk_at dksX5_town_4 10 rfl rfl)
theorem dX5_town_104 : decode cX5_town 104 = .ok (.iconst 0, 1) := dk_3 (dk_at dksX5_town_4 11 rfl rfl)
theorem dX5_town_105 : decode cX5_town 105 = .ok (.istore_n 1, 1) := dk_60 (dk_at dksX5_town_4 12 rfl rfl)
theorem dX5_town_106 : decode cX5_town 106 = .ok (.iload_n 1, 1) := dk_27 (dk_at dksX5_town_4 13 rfl rfl)
theorem dX5_town_107 : decode cX5_town 107 = .ok (.bipush 80, 2) := dk_16 80 (dk_at dksX5_town_4 14 rfl rfl)
theorem dX5_town_109 : decode cX5_town 109 = .ok (.if_icmp .ge 24, 3) := dk_162 0 24 (dk_at dksX5_town_4 16 rfl rfl)
theorem dX5_town_112 : decode cX5_town 112 = .ok (.aload_n 0, 1) := dk_42 (dk_at dksX5_town_4 19 rfl rfl)
theorem dX5_town_113 : decode cX5_town 113 = .ok (.getfield 91, 3) := dk_180 0 91 (dk_at dksX5_town_4 20 rfl rfl)
theorem dX5_town_116 : decode cX5_town 116 = .ok (.iload_n 1, 1) := dk_27 (dk_at dksX5_town_4 23 rfl rfl)
theorem dX5_town_117 : decode cX5_town 117 = .ok (.aload_n 0, 1) := dk_42 (dk_at dksX5_town_5 0 rfl rfl)
theorem dX5_town_118 : decode cX5_town 118 = .ok (.getfield 91, 3) := dk_180 0 91 (dk_at dksX5_town_5 1 rfl rfl)
theorem dX5_town_121 : decode cX5_town 121 = .ok (.bipush 80, 2) := dk_16 80 (dk_at dksX5_town_5 4 rfl rfl)
theorem dX5_town_123 : decode cX5_town 123 = .ok (.iload_n 1, 1) := dk_27 (dk_at dksX5_town_5 6 rfl rfl)
theorem dX5_town_124 : decode cX5_town 124 = .ok (.iadd, 1) := dk_96 (dk_at dksX5_town_5 7 rfl rfl)
theorem dX5_town_125 : decode cX5_town 125 = .ok (.iaload, 1) := dk_46 (dk_at dksX5_town_5 8 rfl rfl)
theorem dX5_town_126 : decode cX5_town 126 = .ok (.iastore, 1) := dk_79 (dk_at dksX5_town_5 9 rfl rfl)
theorem dX5_town_127 : decode cX5_town 127 = .ok (.iinc 1 1, 3) := dk_132 1 1 (dk_at dksX5_town_5 10 rfl rfl)
theorem dX5_town_130 : decode cX5_town 130 = .ok (.goto (-24), 3) := dk_167 255 232 (dk_at dksX5_town_5 13 rfl rfl)
theorem dX5_town_133 : decode cX5_town 133 = .ok (.iconst 0, 1) := dk_3 (dk_at dksX5_town_5 16 rfl rfl)
theorem dX5_town_134 : decode cX5_town 134 = .ok (.istore_n 1, 1) := dk_60 (dk_at dksX5_town_5 17 rfl rfl)
theorem dX5_town_135 : decode cX5_town 135 = .ok (.iload_n 1, 1) := dk_27 (dk_at dksX5_town_5 18 rfl rfl)
theorem dX5_town_136 : decode cX5_town 136 = .ok (.aload_n 0, 1) := dk_42 (dk_at dksX5_town_5 19 rfl rfl)
theorem dX5_town_137 : decode cX5_town 137 = .ok (.getfield 227, 3) := dk_180 0 227 (dk_at dksX5_town_5 20 rfl rfl)
theorem dX5_town_140 : decode cX5_town 140 = .ok (.if_icmp .ge 41, 3) := dk_162 0 41 (dk_at dksX5_town_6 0 rfl rfl)
theorem dX5_town_143 : decode cX5_town 143 = .ok (.aload_n 0, 1) := dk_42 (dk_at dksX5_town_6 3 rfl rfl)
theorem dX5_town_144 : decode cX5_town 144 = .ok (.getfield 94, 3) := dk_180 0 94 (dk_at dksX5_town_6 4 rfl rfl)
theorem dX5_town_147 : decode cX5_town 147 = .ok (.iload_n 1, 1) := dk_27 (dk_at dksX5_town_6 7 rfl rfl)
theorem dX5_town_148 : decode cX5_town 148 = .ok (.aload_n 0, 1) := dk_42 (dk_at dksX5_town_6 8 rfl rfl)
theorem dX5_town_149 : decode cX5_town 149 = .ok (.getfield 94, 3) := dk_180 0 94 (dk_at dksX5_town_6 9 rfl rfl)
theorem dX5_town_152 : decode cX5_town 152 = .ok (.sipush 1100, 3) := dk_17 4 76 (dk_at dksX5_town_6 12 rfl rfl)
theorem dX5_town_155 : decode cX5_town 155 = .ok (.iload_n 1, 1) := dk_27 (dk_at dksX5_town_6 15 rfl rfl)
theorem dX5_town_156 : decode cX5_town 156 = .ok (.iadd, 1) := dk_96 (dk_at dksX5_town_6 16 rfl rfl)
theorem dX5_town_157 : decode cX5_town 157 = .ok (.iaload, 1) := dk_46 (dk_at dksX5_town_6 17 rfl rfl)
theorem dX5_town_158 : decode cX5_town 158 = .ok (.iastore, 1) := dk_79 (dk_at dksX5_town_6 18 rfl rfl)
theorem dX5_town_159 : decode cX5_town 159 = .ok (.aload_n 0, 1) := dk_42 (dk_at dksX5_town_6 19 rfl rfl)
theorem dX5_town_160 : decode cX5_town 160 = .ok (.getfield 97, 3) := dk_180 0 97 (dk_at dksX5_town_6 20 rfl rfl)
theorem dX5_town_163 : decode cX5_town 163 = .ok (.iload_n 1, 1) := dk_27 (dk_at dksX5_town_6 23 rfl rfl)
theorem dX5_town_164 : decode cX5_town 164 = .ok (.aload_n 0, 1) := dk_42 (dk_at dksX5_town_7 0 rfl rfl)
theorem dX5_town_165 : decode cX5_town 165 = .ok (.getfield 97, 3) := dk_180 0 97 (dk_at dksX5_town_7 1 rfl rfl)
theorem dX5_town_168 : decode cX5_town 168 = .ok (.sipush 1100, 3) := dk_17 4 76 (dk_at dksX5_town_7 4 rfl rfl)
theorem dX5_town_171 : decode cX5_town 171 = .ok (.iload_n 1, 1) := dk_27 (dk_at dksX5_town_7 7 rfl rfl)
theorem dX5_town_172 : decode cX5_town 172 = .ok (.iadd, 1) := dk_96 (dk_at dksX5_town_7 8 rfl rfl)
theorem dX5_town_173 : decode cX5_town 173 = .ok (.iaload, 1) := dk_46 (dk_at dksX5_town_7 9 rfl rfl)
theorem dX5_town_174 : decode cX5_town 174 = .ok (.iastore, 1) := dk_79 (dk_at dksX5_town_7 10 rfl rfl)
theorem dX5_town_175 : decode cX5_town 175 = .ok (.iinc 1 1, 3) := dk_132 1 1 (dk_at dksX5_town_7 11 rfl rfl)
theorem dX5_town_178 : decode cX5_town 178 = .ok (.goto (-43), 3) := dk_167 255 213 (dk_at dksX5_town_7 14 rfl rfl)
theorem dX5_town_181 : decode cX5_town 181 = .ok (.iconst 0, 1) := dk_3 (dk_at dksX5_town_7 17 rfl rfl)
theorem dX5_town_182 : decode cX5_town 182 = .ok (.istore_n 1, 1) := dk_60 (dk_at dksX5_town_7 18 rfl rfl)
theorem dX5_town_183 : decode cX5_town 183 = .ok (.iload_n 1, 1) := dk_27 (dk_at dksX5_town_7 19 rfl rfl)
theorem dX5_town_184 : decode cX5_town 184 = .ok (.aload_n 0, 1) := dk_42 (dk_at dksX5_town_7 20 rfl rfl)
theorem dX5_town_185 : decode cX5_town 185 = .ok (.getfield 207, 3) := dk_180 0 207 (dk_at dksX5_town_7 21 rfl rfl)
theorem dX5_town_188 : decode cX5_town 188 = .ok (.if_icmp .ge 21, 3) := dk_162 0 21 (dk_at dksX5_town_8 0 rfl rfl)
theorem dX5_town_191 : decode cX5_town 191 = .ok (.aload_n 0, 1) := dk_42 (dk_at dksX5_town_8 3 rfl rfl)
theorem dX5_town_192 : decode cX5_town 192 = .ok (.getfield 100, 3) := dk_180 0 100 (dk_at dksX5_town_8 4 rfl rfl)
theorem dX5_town_195 : decode cX5_town 195 = .ok (.iload_n 1, 1) := dk_27 (dk_at dksX5_town_8 7 rfl rfl)
theorem dX5_town_196 : decode cX5_town 196 = .ok (.aload_n 0, 1) := dk_42 (dk_at dksX5_town_8 8 rfl rfl)
theorem dX5_town_197 : decode cX5_town 197 = .ok (.getfield 103, 3) := dk_180 0 103 (dk_at dksX5_town_8 9 rfl rfl)
theorem dX5_town_200 : decode cX5_town 200 = .ok (.iload_n 1, 1) := dk_27 (dk_at dksX5_town_8 12 rfl rfl)
theorem dX5_town_201 : decode cX5_town 201 = .ok (.laload, 1) := dk_47 (dk_at dksX5_town_8 13 rfl rfl)
theorem dX5_town_202 : decode cX5_town 202 = .ok (.lastore, 1) := dk_80 (dk_at dksX5_town_8 14 rfl rfl)
theorem dX5_town_203 : decode cX5_town 203 = .ok (.iinc 1 1, 3) := dk_132 1 1 (dk_at dksX5_town_8 15 rfl rfl)
theorem dX5_town_206 : decode cX5_town 206 = .ok (.goto (-23), 3) := dk_167 255 233 (dk_at dksX5_town_8 18 rfl rfl)
theorem dX5_town_209 : decode cX5_town 209 = .ok (.aload_n 0, 1) := dk_42 (dk_at dksX5_town_8 21 rfl rfl)
theorem dX5_town_210 : decode cX5_town 210 = .ok (.aload_n 0, 1) := dk_42 (dk_at dksX5_town_8 22 rfl rfl)
theorem dX5_town_211 : decode cX5_town 211 = .ok (.getfield 207, 3) := dk_180 0 207 (dk_at dksX5_town_9 0 rfl rfl)
theorem dX5_town_214 : decode cX5_town 214 = .ok (.putfield 210, 3) := dk_181 0 210 (dk_at dksX5_town_9 3 rfl rfl)
theorem dX5_town_217 : decode cX5_town 217 = .ok (.aload_n 0, 1) := dk_42 (dk_at dksX5_town_9 6 rfl rfl)
theorem dX5_town_218 : decode cX5_town 218 = .ok (.invokevirtual 153, 3) := dk_182 0 153 (dk_at dksX5_town_9 7 rfl rfl)
theorem dX5_town_221 : decode cX5_town 221 = .ok (.iconst 0, 1) := dk_3 (dk_at dksX5_town_9 10 rfl rfl)
theorem dX5_town_222 : decode cX5_town 222 = .ok (.ireturn, 1) := dk_172 (dk_at dksX5_town_9 11 rfl rfl)
abbrev cX5_cutAll : ByteArray := prog_30_method_9_code
def yX5_cutAll : MethodName := ⟨RX5, "cutAll", "()V"⟩
def dkwX5_cutAll_13 : List UInt8 := [181, 0, 182, 177]
abbrev dktX5_cutAll_13 : List UInt8 := dkwX5_cutAll_13 ++ []
def dkwX5_cutAll_12 : List UInt8 := [180, 0, 24, 27, 3, 79, 42, 180, 0, 27, 27, 42, 180, 0, 160, 79, 42, 3, 181, 0, 179, 42, 3]
abbrev dktX5_cutAll_12 : List UInt8 := dkwX5_cutAll_12 ++ dktX5_cutAll_13
def dkwX5_cutAll_11 : List UInt8 := [6, 167, 0, 4, 7, 79, 132, 2, 1, 42, 180, 0, 30, 27, 22, 5, 80, 132, 1, 1, 167, 254, 253, 42]
abbrev dktX5_cutAll_11 : List UInt8 := dkwX5_cutAll_11 ++ dktX5_cutAll_12
def dkwX5_cutAll_10 : List UInt8 := [167, 0, 4, 5, 79, 167, 0, 28, 29, 133, 55, 5, 42, 180, 0, 24, 27, 29, 184, 0, 176, 153, 0, 7]
abbrev dktX5_cutAll_10 : List UInt8 := dkwX5_cutAll_10 ++ dktX5_cutAll_11
def dkwX5_cutAll_9 : List UInt8 := [22, 5, 55, 5, 132, 2, 1, 167, 255, 200, 42, 180, 0, 24, 27, 28, 21, 4, 100, 7, 164, 0, 7, 7]
abbrev dktX5_cutAll_9 : List UInt8 := dkwX5_cutAll_9 ++ dktX5_cutAll_10
def dkwX5_cutAll_8 : List UInt8 := [162, 0, 24, 20, 0, 172, 22, 5, 105, 42, 180, 0, 14, 28, 46, 133, 97, 20, 0, 174, 101, 167, 0, 5]
abbrev dktX5_cutAll_8 : List UInt8 := dkwX5_cutAll_8 ++ dktX5_cutAll_9
def dkwX5_cutAll_7 : List UInt8 := [180, 0, 160, 162, 0, 54, 42, 180, 0, 14, 28, 46, 184, 0, 169, 153, 0, 42, 28, 21, 4, 100, 7]
abbrev dktX5_cutAll_7 : List UInt8 := dkwX5_cutAll_7 ++ dktX5_cutAll_8
def dkwX5_cutAll_6 : List UInt8 := [16, 8, 164, 0, 7, 7, 167, 0, 4, 4, 79, 167, 0, 116, 29, 184, 0, 169, 153, 0, 84, 28, 42]
abbrev dktX5_cutAll_6 : List UInt8 := dkwX5_cutAll_6 ++ dktX5_cutAll_7
def dkwX5_cutAll_5 : List UInt8 := [97, 167, 0, 5, 22, 5, 55, 5, 132, 2, 1, 167, 255, 200, 42, 180, 0, 24, 27, 28, 21, 4, 100]
abbrev dktX5_cutAll_5 : List UInt8 := dkwX5_cutAll_5 ++ dktX5_cutAll_6
def dkwX5_cutAll_4 : List UInt8 := [21, 4, 100, 16, 8, 162, 0, 23, 20, 0, 163, 22, 5, 105, 42, 180, 0, 14, 28, 46, 184, 0, 165, 133]
abbrev dktX5_cutAll_4 : List UInt8 := dkwX5_cutAll_4 ++ dktX5_cutAll_5
def dkwX5_cutAll_3 : List UInt8 := [153, 0, 85, 28, 42, 180, 0, 160, 162, 0, 54, 42, 180, 0, 14, 28, 46, 184, 0, 156, 153, 0, 42, 28]
abbrev dktX5_cutAll_3 : List UInt8 := dkwX5_cutAll_3 ++ dktX5_cutAll_4
def dkwX5_cutAll_2 : List UInt8 := [132, 2, 1, 167, 255, 226, 28, 54, 4, 9, 55, 5, 42, 180, 0, 27, 27, 28, 79, 29, 184, 0, 156]
abbrev dktX5_cutAll_2 : List UInt8 := dkwX5_cutAll_2 ++ dktX5_cutAll_3
def dkwX5_cutAll_1 : List UInt8 := [162, 1, 1, 42, 180, 0, 14, 28, 46, 62, 29, 16, 10, 159, 0, 9, 29, 16, 32, 160, 0, 9]
abbrev dktX5_cutAll_1 : List UInt8 := dkwX5_cutAll_1 ++ dktX5_cutAll_2
def dkwX5_cutAll_0 : List UInt8 := [42, 42, 180, 0, 11, 181, 0, 160, 42, 3, 181, 0, 11, 3, 60, 3, 61, 28, 42, 180, 0, 160]
abbrev dktX5_cutAll_0 : List UInt8 := dkwX5_cutAll_0 ++ dktX5_cutAll_1
theorem dksX5_cutAll_0 : cX5_cutAll.data.toList.drop 0 = dktX5_cutAll_0 := by decide +kernel
theorem dksX5_cutAll_1 : cX5_cutAll.data.toList.drop 22 = dktX5_cutAll_1 := dk_seg dksX5_cutAll_0 22 rfl rfl
theorem dksX5_cutAll_2 : cX5_cutAll.data.toList.drop 44 = dktX5_cutAll_2 := dk_seg dksX5_cutAll_1 22 rfl rfl
theorem dksX5_cutAll_3 : cX5_cutAll.data.toList.drop 67 = dktX5_cutAll_3 := dk_seg dksX5_cutAll_2 23 rfl rfl
theorem dksX5_cutAll_4 : cX5_cutAll.data.toList.drop 91 = dktX5_cutAll_4 := dk_seg dksX5_cutAll_3 24 rfl rfl
theorem dksX5_cutAll_5 : cX5_cutAll.data.toList.drop 115 = dktX5_cutAll_5 := dk_seg dksX5_cutAll_4 24 rfl rfl
theorem dksX5_cutAll_6 : cX5_cutAll.data.toList.drop 138 = dktX5_cutAll_6 := dk_seg dksX5_cutAll_5 23 rfl rfl
theorem dksX5_cutAll_7 : cX5_cutAll.data.toList.drop 161 = dktX5_cutAll_7 := dk_seg dksX5_cutAll_6 23 rfl rfl
theorem dksX5_cutAll_8 : cX5_cutAll.data.toList.drop 184 = dktX5_cutAll_8 := dk_seg dksX5_cutAll_7 23 rfl rfl
theorem dksX5_cutAll_9 : cX5_cutAll.data.toList.drop 208 = dktX5_cutAll_9 := dk_seg dksX5_cutAll_8 24 rfl rfl
theorem dksX5_cutAll_10 : cX5_cutAll.data.toList.drop 232 = dktX5_cutAll_10 := dk_seg dksX5_cutAll_9 24 rfl rfl
theorem dksX5_cutAll_11 : cX5_cutAll.data.toList.drop 256 = dktX5_cutAll_11 := dk_seg dksX5_cutAll_10 24 rfl rfl
theorem dksX5_cutAll_12 : cX5_cutAll.data.toList.drop 280 = dktX5_cutAll_12 := dk_seg dksX5_cutAll_11 24 rfl rfl
theorem dksX5_cutAll_13 : cX5_cutAll.data.toList.drop 303 = dktX5_cutAll_13 := dk_seg dksX5_cutAll_12 23 rfl rfl
theorem dX5_cutAll_0 : decode cX5_cutAll 0 = .ok (.aload_n 0, 1) := dk_42 (dk_at dksX5_cutAll_0 0 rfl rfl)
theorem dX5_cutAll_1 : decode cX5_cutAll 1 = .ok (.aload_n 0, 1) := dk_42 (dk_at dksX5_cutAll_0 1 rfl rfl)
theorem dX5_cutAll_2 : decode cX5_cutAll 2 = .ok (.getfield 11, 3) := dk_180 0 11 (dk_at dksX5_cutAll_0 2 rfl rfl)
theorem dX5_cutAll_5 : decode cX5_cutAll 5 = .ok (.putfield 160, 3) := dk_181 0 160 (dk_at dksX5_cutAll_0 5 rfl rfl)
theorem dX5_cutAll_8 : decode cX5_cutAll 8 = .ok (.aload_n 0, 1) := dk_42 (dk_at dksX5_cutAll_0 8 rfl rfl)
theorem dX5_cutAll_9 : decode cX5_cutAll 9 = .ok (.iconst 0, 1) := dk_3 (dk_at dksX5_cutAll_0 9 rfl rfl)
theorem dX5_cutAll_10 : decode cX5_cutAll 10 = .ok (.putfield 11, 3) := dk_181 0 11 (dk_at dksX5_cutAll_0 10 rfl rfl)
theorem dX5_cutAll_13 : decode cX5_cutAll 13 = .ok (.iconst 0, 1) := dk_3 (dk_at dksX5_cutAll_0 13 rfl rfl)
theorem dX5_cutAll_14 : decode cX5_cutAll 14 = .ok (.istore_n 1, 1) := dk_60 (dk_at dksX5_cutAll_0 14 rfl rfl)
theorem dX5_cutAll_15 : decode cX5_cutAll 15 = .ok (.iconst 0, 1) := dk_3 (dk_at dksX5_cutAll_0 15 rfl rfl)
theorem dX5_cutAll_16 : decode cX5_cutAll 16 = .ok (.istore_n 2, 1) := dk_61 (dk_at dksX5_cutAll_0 16 rfl rfl)
theorem dX5_cutAll_17 : decode cX5_cutAll 17 = .ok (.iload_n 2, 1) := dk_28 (dk_at dksX5_cutAll_0 17 rfl rfl)
theorem dX5_cutAll_18 : decode cX5_cutAll 18 = .ok (.aload_n 0, 1) := dk_42 (dk_at dksX5_cutAll_0 18 rfl rfl)
theorem dX5_cutAll_19 : decode cX5_cutAll 19 = .ok (.getfield 160, 3) := dk_180 0 160 (dk_at dksX5_cutAll_0 19 rfl rfl)
theorem dX5_cutAll_22 : decode cX5_cutAll 22 = .ok (.if_icmp .ge 257, 3) := dk_162 1 1 (dk_at dksX5_cutAll_1 0 rfl rfl)
theorem dX5_cutAll_25 : decode cX5_cutAll 25 = .ok (.aload_n 0, 1) := dk_42 (dk_at dksX5_cutAll_1 3 rfl rfl)
theorem dX5_cutAll_26 : decode cX5_cutAll 26 = .ok (.getfield 14, 3) := dk_180 0 14 (dk_at dksX5_cutAll_1 4 rfl rfl)
theorem dX5_cutAll_29 : decode cX5_cutAll 29 = .ok (.iload_n 2, 1) := dk_28 (dk_at dksX5_cutAll_1 7 rfl rfl)
theorem dX5_cutAll_30 : decode cX5_cutAll 30 = .ok (.iaload, 1) := dk_46 (dk_at dksX5_cutAll_1 8 rfl rfl)
theorem dX5_cutAll_31 : decode cX5_cutAll 31 = .ok (.istore_n 3, 1) := dk_62 (dk_at dksX5_cutAll_1 9 rfl rfl)
theorem dX5_cutAll_32 : decode cX5_cutAll 32 = .ok (.iload_n 3, 1) := dk_29 (dk_at dksX5_cutAll_1 10 rfl rfl)
theorem dX5_cutAll_33 : decode cX5_cutAll 33 = .ok (.bipush 10, 2) := dk_16 10 (dk_at dksX5_cutAll_1 11 rfl rfl)
theorem dX5_cutAll_35 : decode cX5_cutAll 35 = .ok (.if_icmp .eq 9, 3) := dk_159 0 9 (dk_at dksX5_cutAll_1 13 rfl rfl)
theorem dX5_cutAll_38 : decode cX5_cutAll 38 = .ok (.iload_n 3, 1) := dk_29 (dk_at dksX5_cutAll_1 16 rfl rfl)
theorem dX5_cutAll_39 : decode cX5_cutAll 39 = .ok (.bipush 32, 2) := dk_16 32 (dk_at dksX5_cutAll_1 17 rfl rfl)
theorem dX5_cutAll_41 : decode cX5_cutAll 41 = .ok (.if_icmp .ne 9, 3) := dk_160 0 9 (dk_at dksX5_cutAll_1 19 rfl rfl)
theorem dX5_cutAll_44 : decode cX5_cutAll 44 = .ok (.iinc 2 1, 3) := dk_132 2 1 (dk_at dksX5_cutAll_2 0 rfl rfl)
theorem dX5_cutAll_47 : decode cX5_cutAll 47 = .ok (.goto (-30), 3) := dk_167 255 226 (dk_at dksX5_cutAll_2 3 rfl rfl)
theorem dX5_cutAll_50 : decode cX5_cutAll 50 = .ok (.iload_n 2, 1) := dk_28 (dk_at dksX5_cutAll_2 6 rfl rfl)
theorem dX5_cutAll_51 : decode cX5_cutAll 51 = .ok (.istore 4, 2) := dk_54 4 (dk_at dksX5_cutAll_2 7 rfl rfl)
theorem dX5_cutAll_53 : decode cX5_cutAll 53 = .ok (.lconst 0, 1) := dk_9 (dk_at dksX5_cutAll_2 9 rfl rfl)
theorem dX5_cutAll_54 : decode cX5_cutAll 54 = .ok (.lstore 5, 2) := dk_55 5 (dk_at dksX5_cutAll_2 10 rfl rfl)
theorem dX5_cutAll_56 : decode cX5_cutAll 56 = .ok (.aload_n 0, 1) := dk_42 (dk_at dksX5_cutAll_2 12 rfl rfl)
theorem dX5_cutAll_57 : decode cX5_cutAll 57 = .ok (.getfield 27, 3) := dk_180 0 27 (dk_at dksX5_cutAll_2 13 rfl rfl)
theorem dX5_cutAll_60 : decode cX5_cutAll 60 = .ok (.iload_n 1, 1) := dk_27 (dk_at dksX5_cutAll_2 16 rfl rfl)
theorem dX5_cutAll_61 : decode cX5_cutAll 61 = .ok (.iload_n 2, 1) := dk_28 (dk_at dksX5_cutAll_2 17 rfl rfl)
theorem dX5_cutAll_62 : decode cX5_cutAll 62 = .ok (.iastore, 1) := dk_79 (dk_at dksX5_cutAll_2 18 rfl rfl)
theorem dX5_cutAll_63 : decode cX5_cutAll 63 = .ok (.iload_n 3, 1) := dk_29 (dk_at dksX5_cutAll_2 19 rfl rfl)
theorem dX5_cutAll_64 : decode cX5_cutAll 64 = .ok (.invokestatic 156, 3) := dk_184 0 156 (dk_at dksX5_cutAll_2 20 rfl rfl)
theorem dX5_cutAll_67 : decode cX5_cutAll 67 = .ok (.ifCond .eq 85, 3) := dk_153 0 85 (dk_at dksX5_cutAll_3 0 rfl rfl)
theorem dX5_cutAll_70 : decode cX5_cutAll 70 = .ok (.iload_n 2, 1) := dk_28 (dk_at dksX5_cutAll_3 3 rfl rfl)
theorem dX5_cutAll_71 : decode cX5_cutAll 71 = .ok (.aload_n 0, 1) := dk_42 (dk_at dksX5_cutAll_3 4 rfl rfl)
theorem dX5_cutAll_72 : decode cX5_cutAll 72 = .ok (.getfield 160, 3) := dk_180 0 160 (dk_at dksX5_cutAll_3 5 rfl rfl)
theorem dX5_cutAll_75 : decode cX5_cutAll 75 = .ok (.if_icmp .ge 54, 3) := dk_162 0 54 (dk_at dksX5_cutAll_3 8 rfl rfl)
theorem dX5_cutAll_78 : decode cX5_cutAll 78 = .ok (.aload_n 0, 1) := dk_42 (dk_at dksX5_cutAll_3 11 rfl rfl)
theorem dX5_cutAll_79 : decode cX5_cutAll 79 = .ok (.getfield 14, 3) := dk_180 0 14 (dk_at dksX5_cutAll_3 12 rfl rfl)
theorem dX5_cutAll_82 : decode cX5_cutAll 82 = .ok (.iload_n 2, 1) := dk_28 (dk_at dksX5_cutAll_3 15 rfl rfl)
theorem dX5_cutAll_83 : decode cX5_cutAll 83 = .ok (.iaload, 1) := dk_46 (dk_at dksX5_cutAll_3 16 rfl rfl)
theorem dX5_cutAll_84 : decode cX5_cutAll 84 = .ok (.invokestatic 156, 3) := dk_184 0 156 (dk_at dksX5_cutAll_3 17 rfl rfl)
theorem dX5_cutAll_87 : decode cX5_cutAll 87 = .ok (.ifCond .eq 42, 3) := dk_153 0 42 (dk_at dksX5_cutAll_3 20 rfl rfl)
theorem dX5_cutAll_90 : decode cX5_cutAll 90 = .ok (.iload_n 2, 1) := dk_28 (dk_at dksX5_cutAll_3 23 rfl rfl)
theorem dX5_cutAll_91 : decode cX5_cutAll 91 = .ok (.iload 4, 2) := dk_21 4 (dk_at dksX5_cutAll_4 0 rfl rfl)
theorem dX5_cutAll_93 : decode cX5_cutAll 93 = .ok (.isub, 1) := dk_100 (dk_at dksX5_cutAll_4 2 rfl rfl)
theorem dX5_cutAll_94 : decode cX5_cutAll 94 = .ok (.bipush 8, 2) := dk_16 8 (dk_at dksX5_cutAll_4 3 rfl rfl)
theorem dX5_cutAll_96 : decode cX5_cutAll 96 = .ok (.if_icmp .ge 23, 3) := dk_162 0 23 (dk_at dksX5_cutAll_4 5 rfl rfl)
theorem dX5_cutAll_99 : decode cX5_cutAll 99 = .ok (.ldc2_w 163, 3) := dk_20 0 163 (dk_at dksX5_cutAll_4 8 rfl rfl)
theorem dX5_cutAll_102 : decode cX5_cutAll 102 = .ok (.lload 5, 2) := dk_22 5 (dk_at dksX5_cutAll_4 11 rfl rfl)
theorem dX5_cutAll_104 : decode cX5_cutAll 104 = .ok (.lmul, 1) := dk_105 (dk_at dksX5_cutAll_4 13 rfl rfl)
theorem dX5_cutAll_105 : decode cX5_cutAll 105 = .ok (.aload_n 0, 1) := dk_42 (dk_at dksX5_cutAll_4 14 rfl rfl)
theorem dX5_cutAll_106 : decode cX5_cutAll 106 = .ok (.getfield 14, 3) := dk_180 0 14 (dk_at dksX5_cutAll_4 15 rfl rfl)
theorem dX5_cutAll_109 : decode cX5_cutAll 109 = .ok (.iload_n 2, 1) := dk_28 (dk_at dksX5_cutAll_4 18 rfl rfl)
theorem dX5_cutAll_110 : decode cX5_cutAll 110 = .ok (.iaload, 1) := dk_46 (dk_at dksX5_cutAll_4 19 rfl rfl)
theorem dX5_cutAll_111 : decode cX5_cutAll 111 = .ok (.invokestatic 165, 3) := dk_184 0 165 (dk_at dksX5_cutAll_4 20 rfl rfl)
theorem dX5_cutAll_114 : decode cX5_cutAll 114 = .ok (.i2l, 1) := dk_133 (dk_at dksX5_cutAll_4 23 rfl rfl)
theorem dX5_cutAll_115 : decode cX5_cutAll 115 = .ok (.ladd, 1) := dk_97 (dk_at dksX5_cutAll_5 0 rfl rfl)
theorem dX5_cutAll_116 : decode cX5_cutAll 116 = .ok (.goto 5, 3) := dk_167 0 5 (dk_at dksX5_cutAll_5 1 rfl rfl)
theorem dX5_cutAll_119 : decode cX5_cutAll 119 = .ok (.lload 5, 2) := dk_22 5 (dk_at dksX5_cutAll_5 4 rfl rfl)
theorem dX5_cutAll_121 : decode cX5_cutAll 121 = .ok (.lstore 5, 2) := dk_55 5 (dk_at dksX5_cutAll_5 6 rfl rfl)
theorem dX5_cutAll_123 : decode cX5_cutAll 123 = .ok (.iinc 2 1, 3) := dk_132 2 1 (dk_at dksX5_cutAll_5 8 rfl rfl)
theorem dX5_cutAll_126 : decode cX5_cutAll 126 = .ok (.goto (-56), 3) := dk_167 255 200 (dk_at dksX5_cutAll_5 11 rfl rfl)
theorem dX5_cutAll_129 : decode cX5_cutAll 129 = .ok (.aload_n 0, 1) := dk_42 (dk_at dksX5_cutAll_5 14 rfl rfl)
theorem dX5_cutAll_130 : decode cX5_cutAll 130 = .ok (.getfield 24, 3) := dk_180 0 24 (dk_at dksX5_cutAll_5 15 rfl rfl)
theorem dX5_cutAll_133 : decode cX5_cutAll 133 = .ok (.iload_n 1, 1) := dk_27 (dk_at dksX5_cutAll_5 18 rfl rfl)
theorem dX5_cutAll_134 : decode cX5_cutAll 134 = .ok (.iload_n 2, 1) := dk_28 (dk_at dksX5_cutAll_5 19 rfl rfl)
theorem dX5_cutAll_135 : decode cX5_cutAll 135 = .ok (.iload 4, 2) := dk_21 4 (dk_at dksX5_cutAll_5 20 rfl rfl)
theorem dX5_cutAll_137 : decode cX5_cutAll 137 = .ok (.isub, 1) := dk_100 (dk_at dksX5_cutAll_5 22 rfl rfl)
theorem dX5_cutAll_138 : decode cX5_cutAll 138 = .ok (.bipush 8, 2) := dk_16 8 (dk_at dksX5_cutAll_6 0 rfl rfl)
theorem dX5_cutAll_140 : decode cX5_cutAll 140 = .ok (.if_icmp .le 7, 3) := dk_164 0 7 (dk_at dksX5_cutAll_6 2 rfl rfl)
theorem dX5_cutAll_143 : decode cX5_cutAll 143 = .ok (.iconst 4, 1) := dk_7 (dk_at dksX5_cutAll_6 5 rfl rfl)
theorem dX5_cutAll_144 : decode cX5_cutAll 144 = .ok (.goto 4, 3) := dk_167 0 4 (dk_at dksX5_cutAll_6 6 rfl rfl)
theorem dX5_cutAll_147 : decode cX5_cutAll 147 = .ok (.iconst 1, 1) := dk_4 (dk_at dksX5_cutAll_6 9 rfl rfl)
theorem dX5_cutAll_148 : decode cX5_cutAll 148 = .ok (.iastore, 1) := dk_79 (dk_at dksX5_cutAll_6 10 rfl rfl)
theorem dX5_cutAll_149 : decode cX5_cutAll 149 = .ok (.goto 116, 3) := dk_167 0 116 (dk_at dksX5_cutAll_6 11 rfl rfl)
theorem dX5_cutAll_152 : decode cX5_cutAll 152 = .ok (.iload_n 3, 1) := dk_29 (dk_at dksX5_cutAll_6 14 rfl rfl)
theorem dX5_cutAll_153 : decode cX5_cutAll 153 = .ok (.invokestatic 169, 3) := dk_184 0 169 (dk_at dksX5_cutAll_6 15 rfl rfl)
theorem dX5_cutAll_156 : decode cX5_cutAll 156 = .ok (.ifCond .eq 84, 3) := dk_153 0 84 (dk_at dksX5_cutAll_6 18 rfl rfl)
theorem dX5_cutAll_159 : decode cX5_cutAll 159 = .ok (.iload_n 2, 1) := dk_28 (dk_at dksX5_cutAll_6 21 rfl rfl)
theorem dX5_cutAll_160 : decode cX5_cutAll 160 = .ok (.aload_n 0, 1) := dk_42 (dk_at dksX5_cutAll_6 22 rfl rfl)
theorem dX5_cutAll_161 : decode cX5_cutAll 161 = .ok (.getfield 160, 3) := dk_180 0 160 (dk_at dksX5_cutAll_7 0 rfl rfl)
theorem dX5_cutAll_164 : decode cX5_cutAll 164 = .ok (.if_icmp .ge 54, 3) := dk_162 0 54 (dk_at dksX5_cutAll_7 3 rfl rfl)
theorem dX5_cutAll_167 : decode cX5_cutAll 167 = .ok (.aload_n 0, 1) := dk_42 (dk_at dksX5_cutAll_7 6 rfl rfl)
theorem dX5_cutAll_168 : decode cX5_cutAll 168 = .ok (.getfield 14, 3) := dk_180 0 14 (dk_at dksX5_cutAll_7 7 rfl rfl)
theorem dX5_cutAll_171 : decode cX5_cutAll 171 = .ok (.iload_n 2, 1) := dk_28 (dk_at dksX5_cutAll_7 10 rfl rfl)
theorem dX5_cutAll_172 : decode cX5_cutAll 172 = .ok (.iaload, 1) := dk_46 (dk_at dksX5_cutAll_7 11 rfl rfl)
theorem dX5_cutAll_173 : decode cX5_cutAll 173 = .ok (.invokestatic 169, 3) := dk_184 0 169 (dk_at dksX5_cutAll_7 12 rfl rfl)
theorem dX5_cutAll_176 : decode cX5_cutAll 176 = .ok (.ifCond .eq 42, 3) := dk_153 0 42 (dk_at dksX5_cutAll_7 15 rfl rfl)
theorem dX5_cutAll_179 : decode cX5_cutAll 179 = .ok (.iload_n 2, 1) := dk_28 (dk_at dksX5_cutAll_7 18 rfl rfl)
theorem dX5_cutAll_180 : decode cX5_cutAll 180 = .ok (.iload 4, 2) := dk_21 4 (dk_at dksX5_cutAll_7 19 rfl rfl)
theorem dX5_cutAll_182 : decode cX5_cutAll 182 = .ok (.isub, 1) := dk_100 (dk_at dksX5_cutAll_7 21 rfl rfl)
theorem dX5_cutAll_183 : decode cX5_cutAll 183 = .ok (.iconst 4, 1) := dk_7 (dk_at dksX5_cutAll_7 22 rfl rfl)
theorem dX5_cutAll_184 : decode cX5_cutAll 184 = .ok (.if_icmp .ge 24, 3) := dk_162 0 24 (dk_at dksX5_cutAll_8 0 rfl rfl)
theorem dX5_cutAll_187 : decode cX5_cutAll 187 = .ok (.ldc2_w 172, 3) := dk_20 0 172 (dk_at dksX5_cutAll_8 3 rfl rfl)
theorem dX5_cutAll_190 : decode cX5_cutAll 190 = .ok (.lload 5, 2) := dk_22 5 (dk_at dksX5_cutAll_8 6 rfl rfl)
theorem dX5_cutAll_192 : decode cX5_cutAll 192 = .ok (.lmul, 1) := dk_105 (dk_at dksX5_cutAll_8 8 rfl rfl)
theorem dX5_cutAll_193 : decode cX5_cutAll 193 = .ok (.aload_n 0, 1) := dk_42 (dk_at dksX5_cutAll_8 9 rfl rfl)
theorem dX5_cutAll_194 : decode cX5_cutAll 194 = .ok (.getfield 14, 3) := dk_180 0 14 (dk_at dksX5_cutAll_8 10 rfl rfl)
theorem dX5_cutAll_197 : decode cX5_cutAll 197 = .ok (.iload_n 2, 1) := dk_28 (dk_at dksX5_cutAll_8 13 rfl rfl)
theorem dX5_cutAll_198 : decode cX5_cutAll 198 = .ok (.iaload, 1) := dk_46 (dk_at dksX5_cutAll_8 14 rfl rfl)
theorem dX5_cutAll_199 : decode cX5_cutAll 199 = .ok (.i2l, 1) := dk_133 (dk_at dksX5_cutAll_8 15 rfl rfl)
theorem dX5_cutAll_200 : decode cX5_cutAll 200 = .ok (.ladd, 1) := dk_97 (dk_at dksX5_cutAll_8 16 rfl rfl)
theorem dX5_cutAll_201 : decode cX5_cutAll 201 = .ok (.ldc2_w 174, 3) := dk_20 0 174 (dk_at dksX5_cutAll_8 17 rfl rfl)
theorem dX5_cutAll_204 : decode cX5_cutAll 204 = .ok (.lsub, 1) := dk_101 (dk_at dksX5_cutAll_8 20 rfl rfl)
theorem dX5_cutAll_205 : decode cX5_cutAll 205 = .ok (.goto 5, 3) := dk_167 0 5 (dk_at dksX5_cutAll_8 21 rfl rfl)
theorem dX5_cutAll_208 : decode cX5_cutAll 208 = .ok (.lload 5, 2) := dk_22 5 (dk_at dksX5_cutAll_9 0 rfl rfl)
theorem dX5_cutAll_210 : decode cX5_cutAll 210 = .ok (.lstore 5, 2) := dk_55 5 (dk_at dksX5_cutAll_9 2 rfl rfl)
theorem dX5_cutAll_212 : decode cX5_cutAll 212 = .ok (.iinc 2 1, 3) := dk_132 2 1 (dk_at dksX5_cutAll_9 4 rfl rfl)
theorem dX5_cutAll_215 : decode cX5_cutAll 215 = .ok (.goto (-56), 3) := dk_167 255 200 (dk_at dksX5_cutAll_9 7 rfl rfl)
theorem dX5_cutAll_218 : decode cX5_cutAll 218 = .ok (.aload_n 0, 1) := dk_42 (dk_at dksX5_cutAll_9 10 rfl rfl)
theorem dX5_cutAll_219 : decode cX5_cutAll 219 = .ok (.getfield 24, 3) := dk_180 0 24 (dk_at dksX5_cutAll_9 11 rfl rfl)
theorem dX5_cutAll_222 : decode cX5_cutAll 222 = .ok (.iload_n 1, 1) := dk_27 (dk_at dksX5_cutAll_9 14 rfl rfl)
theorem dX5_cutAll_223 : decode cX5_cutAll 223 = .ok (.iload_n 2, 1) := dk_28 (dk_at dksX5_cutAll_9 15 rfl rfl)
theorem dX5_cutAll_224 : decode cX5_cutAll 224 = .ok (.iload 4, 2) := dk_21 4 (dk_at dksX5_cutAll_9 16 rfl rfl)
theorem dX5_cutAll_226 : decode cX5_cutAll 226 = .ok (.isub, 1) := dk_100 (dk_at dksX5_cutAll_9 18 rfl rfl)
theorem dX5_cutAll_227 : decode cX5_cutAll 227 = .ok (.iconst 4, 1) := dk_7 (dk_at dksX5_cutAll_9 19 rfl rfl)
theorem dX5_cutAll_228 : decode cX5_cutAll 228 = .ok (.if_icmp .le 7, 3) := dk_164 0 7 (dk_at dksX5_cutAll_9 20 rfl rfl)
theorem dX5_cutAll_231 : decode cX5_cutAll 231 = .ok (.iconst 4, 1) := dk_7 (dk_at dksX5_cutAll_9 23 rfl rfl)
theorem dX5_cutAll_232 : decode cX5_cutAll 232 = .ok (.goto 4, 3) := dk_167 0 4 (dk_at dksX5_cutAll_10 0 rfl rfl)
theorem dX5_cutAll_235 : decode cX5_cutAll 235 = .ok (.iconst 2, 1) := dk_5 (dk_at dksX5_cutAll_10 3 rfl rfl)
theorem dX5_cutAll_236 : decode cX5_cutAll 236 = .ok (.iastore, 1) := dk_79 (dk_at dksX5_cutAll_10 4 rfl rfl)
theorem dX5_cutAll_237 : decode cX5_cutAll 237 = .ok (.goto 28, 3) := dk_167 0 28 (dk_at dksX5_cutAll_10 5 rfl rfl)
theorem dX5_cutAll_240 : decode cX5_cutAll 240 = .ok (.iload_n 3, 1) := dk_29 (dk_at dksX5_cutAll_10 8 rfl rfl)
theorem dX5_cutAll_241 : decode cX5_cutAll 241 = .ok (.i2l, 1) := dk_133 (dk_at dksX5_cutAll_10 9 rfl rfl)
theorem dX5_cutAll_242 : decode cX5_cutAll 242 = .ok (.lstore 5, 2) := dk_55 5 (dk_at dksX5_cutAll_10 10 rfl rfl)
theorem dX5_cutAll_244 : decode cX5_cutAll 244 = .ok (.aload_n 0, 1) := dk_42 (dk_at dksX5_cutAll_10 12 rfl rfl)
theorem dX5_cutAll_245 : decode cX5_cutAll 245 = .ok (.getfield 24, 3) := dk_180 0 24 (dk_at dksX5_cutAll_10 13 rfl rfl)
theorem dX5_cutAll_248 : decode cX5_cutAll 248 = .ok (.iload_n 1, 1) := dk_27 (dk_at dksX5_cutAll_10 16 rfl rfl)
theorem dX5_cutAll_249 : decode cX5_cutAll 249 = .ok (.iload_n 3, 1) := dk_29 (dk_at dksX5_cutAll_10 17 rfl rfl)
theorem dX5_cutAll_250 : decode cX5_cutAll 250 = .ok (.invokestatic 176, 3) := dk_184 0 176 (dk_at dksX5_cutAll_10 18 rfl rfl)
theorem dX5_cutAll_253 : decode cX5_cutAll 253 = .ok (.ifCond .eq 7, 3) := dk_153 0 7 (dk_at dksX5_cutAll_10 21 rfl rfl)
theorem dX5_cutAll_256 : decode cX5_cutAll 256 = .ok (.iconst 3, 1) := dk_6 (dk_at dksX5_cutAll_11 0 rfl rfl)
theorem dX5_cutAll_257 : decode cX5_cutAll 257 = .ok (.goto 4, 3) := dk_167 0 4 (dk_at dksX5_cutAll_11 1 rfl rfl)
theorem dX5_cutAll_260 : decode cX5_cutAll 260 = .ok (.iconst 4, 1) := dk_7 (dk_at dksX5_cutAll_11 4 rfl rfl)
theorem dX5_cutAll_261 : decode cX5_cutAll 261 = .ok (.iastore, 1) := dk_79 (dk_at dksX5_cutAll_11 5 rfl rfl)
theorem dX5_cutAll_262 : decode cX5_cutAll 262 = .ok (.iinc 2 1, 3) := dk_132 2 1 (dk_at dksX5_cutAll_11 6 rfl rfl)
theorem dX5_cutAll_265 : decode cX5_cutAll 265 = .ok (.aload_n 0, 1) := dk_42 (dk_at dksX5_cutAll_11 9 rfl rfl)
theorem dX5_cutAll_266 : decode cX5_cutAll 266 = .ok (.getfield 30, 3) := dk_180 0 30 (dk_at dksX5_cutAll_11 10 rfl rfl)
theorem dX5_cutAll_269 : decode cX5_cutAll 269 = .ok (.iload_n 1, 1) := dk_27 (dk_at dksX5_cutAll_11 13 rfl rfl)
theorem dX5_cutAll_270 : decode cX5_cutAll 270 = .ok (.lload 5, 2) := dk_22 5 (dk_at dksX5_cutAll_11 14 rfl rfl)
theorem dX5_cutAll_272 : decode cX5_cutAll 272 = .ok (.lastore, 1) := dk_80 (dk_at dksX5_cutAll_11 16 rfl rfl)
theorem dX5_cutAll_273 : decode cX5_cutAll 273 = .ok (.iinc 1 1, 3) := dk_132 1 1 (dk_at dksX5_cutAll_11 17 rfl rfl)
theorem dX5_cutAll_276 : decode cX5_cutAll 276 = .ok (.goto (-259), 3) := dk_167 254 253 (dk_at dksX5_cutAll_11 20 rfl rfl)
theorem dX5_cutAll_279 : decode cX5_cutAll 279 = .ok (.aload_n 0, 1) := dk_42 (dk_at dksX5_cutAll_11 23 rfl rfl)
theorem dX5_cutAll_280 : decode cX5_cutAll 280 = .ok (.getfield 24, 3) := dk_180 0 24 (dk_at dksX5_cutAll_12 0 rfl rfl)
theorem dX5_cutAll_283 : decode cX5_cutAll 283 = .ok (.iload_n 1, 1) := dk_27 (dk_at dksX5_cutAll_12 3 rfl rfl)
theorem dX5_cutAll_284 : decode cX5_cutAll 284 = .ok (.iconst 0, 1) := dk_3 (dk_at dksX5_cutAll_12 4 rfl rfl)
theorem dX5_cutAll_285 : decode cX5_cutAll 285 = .ok (.iastore, 1) := dk_79 (dk_at dksX5_cutAll_12 5 rfl rfl)
theorem dX5_cutAll_286 : decode cX5_cutAll 286 = .ok (.aload_n 0, 1) := dk_42 (dk_at dksX5_cutAll_12 6 rfl rfl)
theorem dX5_cutAll_287 : decode cX5_cutAll 287 = .ok (.getfield 27, 3) := dk_180 0 27 (dk_at dksX5_cutAll_12 7 rfl rfl)
theorem dX5_cutAll_290 : decode cX5_cutAll 290 = .ok (.iload_n 1, 1) := dk_27 (dk_at dksX5_cutAll_12 10 rfl rfl)
theorem dX5_cutAll_291 : decode cX5_cutAll 291 = .ok (.aload_n 0, 1) := dk_42 (dk_at dksX5_cutAll_12 11 rfl rfl)
theorem dX5_cutAll_292 : decode cX5_cutAll 292 = .ok (.getfield 160, 3) := dk_180 0 160 (dk_at dksX5_cutAll_12 12 rfl rfl)
theorem dX5_cutAll_295 : decode cX5_cutAll 295 = .ok (.iastore, 1) := dk_79 (dk_at dksX5_cutAll_12 15 rfl rfl)
theorem dX5_cutAll_296 : decode cX5_cutAll 296 = .ok (.aload_n 0, 1) := dk_42 (dk_at dksX5_cutAll_12 16 rfl rfl)
theorem dX5_cutAll_297 : decode cX5_cutAll 297 = .ok (.iconst 0, 1) := dk_3 (dk_at dksX5_cutAll_12 17 rfl rfl)
theorem dX5_cutAll_298 : decode cX5_cutAll 298 = .ok (.putfield 179, 3) := dk_181 0 179 (dk_at dksX5_cutAll_12 18 rfl rfl)
theorem dX5_cutAll_301 : decode cX5_cutAll 301 = .ok (.aload_n 0, 1) := dk_42 (dk_at dksX5_cutAll_12 21 rfl rfl)
theorem dX5_cutAll_302 : decode cX5_cutAll 302 = .ok (.iconst 0, 1) := dk_3 (dk_at dksX5_cutAll_12 22 rfl rfl)
theorem dX5_cutAll_303 : decode cX5_cutAll 303 = .ok (.putfield 182, 3) := dk_181 0 182 (dk_at dksX5_cutAll_13 0 rfl rfl)
theorem dX5_cutAll_306 : decode cX5_cutAll 306 = .ok (.return_, 1) := dk_177 (dk_at dksX5_cutAll_13 3 rfl rfl)
abbrev cX5_isLetter : ByteArray := prog_30_method_5_code
def yX5_isLetter : MethodName := ⟨RX5, "isLetter", "(I)Z"⟩
def dkwX5_isLetter_0 : List UInt8 := [26, 16, 97, 161, 0, 13, 26, 16, 122, 163, 0, 7, 4, 167, 0, 4, 3, 172]
abbrev dktX5_isLetter_0 : List UInt8 := dkwX5_isLetter_0 ++ []
theorem dksX5_isLetter_0 : cX5_isLetter.data.toList.drop 0 = dktX5_isLetter_0 := by decide +kernel
theorem dX5_isLetter_0 : decode cX5_isLetter 0 = .ok (.iload_n 0, 1) := dk_26 (dk_at dksX5_isLetter_0 0 rfl rfl)
theorem dX5_isLetter_1 : decode cX5_isLetter 1 = .ok (.bipush 97, 2) := dk_16 97 (dk_at dksX5_isLetter_0 1 rfl rfl)
theorem dX5_isLetter_3 : decode cX5_isLetter 3 = .ok (.if_icmp .lt 13, 3) := dk_161 0 13 (dk_at dksX5_isLetter_0 3 rfl rfl)
theorem dX5_isLetter_6 : decode cX5_isLetter 6 = .ok (.iload_n 0, 1) := dk_26 (dk_at dksX5_isLetter_0 6 rfl rfl)
theorem dX5_isLetter_7 : decode cX5_isLetter 7 = .ok (.bipush 122, 2) := dk_16 122 (dk_at dksX5_isLetter_0 7 rfl rfl)
theorem dX5_isLetter_9 : decode cX5_isLetter 9 = .ok (.if_icmp .gt 7, 3) := dk_163 0 7 (dk_at dksX5_isLetter_0 9 rfl rfl)
theorem dX5_isLetter_12 : decode cX5_isLetter 12 = .ok (.iconst 1, 1) := dk_4 (dk_at dksX5_isLetter_0 12 rfl rfl)
theorem dX5_isLetter_13 : decode cX5_isLetter 13 = .ok (.goto 4, 3) := dk_167 0 4 (dk_at dksX5_isLetter_0 13 rfl rfl)
theorem dX5_isLetter_16 : decode cX5_isLetter 16 = .ok (.iconst 0, 1) := dk_3 (dk_at dksX5_isLetter_0 16 rfl rfl)
theorem dX5_isLetter_17 : decode cX5_isLetter 17 = .ok (.ireturn, 1) := dk_172 (dk_at dksX5_isLetter_0 17 rfl rfl)
abbrev cX5_rank : ByteArray := prog_30_method_7_code
def yX5_rank : MethodName := ⟨RX5, "rank", "(I)I"⟩
def dkwX5_rank_0 : List UInt8 := [26, 184, 0, 156, 153, 0, 10, 26, 16, 96, 100, 167, 0, 7, 26, 16, 21, 100, 172]
abbrev dktX5_rank_0 : List UInt8 := dkwX5_rank_0 ++ []
theorem dksX5_rank_0 : cX5_rank.data.toList.drop 0 = dktX5_rank_0 := by decide +kernel
theorem dX5_rank_0 : decode cX5_rank 0 = .ok (.iload_n 0, 1) := dk_26 (dk_at dksX5_rank_0 0 rfl rfl)
theorem dX5_rank_1 : decode cX5_rank 1 = .ok (.invokestatic 156, 3) := dk_184 0 156 (dk_at dksX5_rank_0 1 rfl rfl)
theorem dX5_rank_4 : decode cX5_rank 4 = .ok (.ifCond .eq 10, 3) := dk_153 0 10 (dk_at dksX5_rank_0 4 rfl rfl)
theorem dX5_rank_7 : decode cX5_rank 7 = .ok (.iload_n 0, 1) := dk_26 (dk_at dksX5_rank_0 7 rfl rfl)
theorem dX5_rank_8 : decode cX5_rank 8 = .ok (.bipush 96, 2) := dk_16 96 (dk_at dksX5_rank_0 8 rfl rfl)
theorem dX5_rank_10 : decode cX5_rank 10 = .ok (.isub, 1) := dk_100 (dk_at dksX5_rank_0 10 rfl rfl)
theorem dX5_rank_11 : decode cX5_rank 11 = .ok (.goto 7, 3) := dk_167 0 7 (dk_at dksX5_rank_0 11 rfl rfl)
theorem dX5_rank_14 : decode cX5_rank 14 = .ok (.iload_n 0, 1) := dk_26 (dk_at dksX5_rank_0 14 rfl rfl)
theorem dX5_rank_15 : decode cX5_rank 15 = .ok (.bipush 21, 2) := dk_16 21 (dk_at dksX5_rank_0 15 rfl rfl)
theorem dX5_rank_17 : decode cX5_rank 17 = .ok (.isub, 1) := dk_100 (dk_at dksX5_rank_0 17 rfl rfl)
theorem dX5_rank_18 : decode cX5_rank 18 = .ok (.ireturn, 1) := dk_172 (dk_at dksX5_rank_0 18 rfl rfl)
abbrev cX5_isDigit : ByteArray := prog_30_method_6_code
def yX5_isDigit : MethodName := ⟨RX5, "isDigit", "(I)Z"⟩
def dkwX5_isDigit_0 : List UInt8 := [26, 16, 48, 161, 0, 13, 26, 16, 57, 163, 0, 7, 4, 167, 0, 4, 3, 172]
abbrev dktX5_isDigit_0 : List UInt8 := dkwX5_isDigit_0 ++ []
theorem dksX5_isDigit_0 : cX5_isDigit.data.toList.drop 0 = dktX5_isDigit_0 := by decide +kernel
theorem dX5_isDigit_0 : decode cX5_isDigit 0 = .ok (.iload_n 0, 1) := dk_26 (dk_at dksX5_isDigit_0 0 rfl rfl)
theorem dX5_isDigit_1 : decode cX5_isDigit 1 = .ok (.bipush 48, 2) := dk_16 48 (dk_at dksX5_isDigit_0 1 rfl rfl)
theorem dX5_isDigit_3 : decode cX5_isDigit 3 = .ok (.if_icmp .lt 13, 3) := dk_161 0 13 (dk_at dksX5_isDigit_0 3 rfl rfl)
theorem dX5_isDigit_6 : decode cX5_isDigit 6 = .ok (.iload_n 0, 1) := dk_26 (dk_at dksX5_isDigit_0 6 rfl rfl)
theorem dX5_isDigit_7 : decode cX5_isDigit 7 = .ok (.bipush 57, 2) := dk_16 57 (dk_at dksX5_isDigit_0 7 rfl rfl)
theorem dX5_isDigit_9 : decode cX5_isDigit 9 = .ok (.if_icmp .gt 7, 3) := dk_163 0 7 (dk_at dksX5_isDigit_0 9 rfl rfl)
theorem dX5_isDigit_12 : decode cX5_isDigit 12 = .ok (.iconst 1, 1) := dk_4 (dk_at dksX5_isDigit_0 12 rfl rfl)
theorem dX5_isDigit_13 : decode cX5_isDigit 13 = .ok (.goto 4, 3) := dk_167 0 4 (dk_at dksX5_isDigit_0 13 rfl rfl)
theorem dX5_isDigit_16 : decode cX5_isDigit 16 = .ok (.iconst 0, 1) := dk_3 (dk_at dksX5_isDigit_0 16 rfl rfl)
theorem dX5_isDigit_17 : decode cX5_isDigit 17 = .ok (.ireturn, 1) := dk_172 (dk_at dksX5_isDigit_0 17 rfl rfl)
abbrev cX5_isSignOf : ByteArray := prog_30_method_8_code
def yX5_isSignOf : MethodName := ⟨RX5, "isSignOf", "(I)Z"⟩
def dkwX5_isSignOf_2 : List UInt8 := [4, 167, 0, 4, 3, 172]
abbrev dktX5_isSignOf_2 : List UInt8 := dkwX5_isSignOf_2 ++ []
def dkwX5_isSignOf_1 : List UInt8 := [26, 16, 60, 159, 0, 21, 26, 16, 43, 159, 0, 15, 26, 16, 45, 159, 0, 9, 26, 16, 42, 160, 0, 7]
abbrev dktX5_isSignOf_1 : List UInt8 := dkwX5_isSignOf_1 ++ dktX5_isSignOf_2
def dkwX5_isSignOf_0 : List UInt8 := [26, 16, 40, 159, 0, 45, 26, 16, 41, 159, 0, 39, 26, 16, 59, 159, 0, 33, 26, 16, 61, 159, 0, 27]
abbrev dktX5_isSignOf_0 : List UInt8 := dkwX5_isSignOf_0 ++ dktX5_isSignOf_1
theorem dksX5_isSignOf_0 : cX5_isSignOf.data.toList.drop 0 = dktX5_isSignOf_0 := by decide +kernel
theorem dksX5_isSignOf_1 : cX5_isSignOf.data.toList.drop 24 = dktX5_isSignOf_1 := dk_seg dksX5_isSignOf_0 24 rfl rfl
theorem dksX5_isSignOf_2 : cX5_isSignOf.data.toList.drop 48 = dktX5_isSignOf_2 := dk_seg dksX5_isSignOf_1 24 rfl rfl
theorem dX5_isSignOf_0 : decode cX5_isSignOf 0 = .ok (.iload_n 0, 1) := dk_26 (dk_at dksX5_isSignOf_0 0 rfl rfl)
theorem dX5_isSignOf_1 : decode cX5_isSignOf 1 = .ok (.bipush 40, 2) := dk_16 40 (dk_at dksX5_isSignOf_0 1 rfl rfl)
theorem dX5_isSignOf_3 : decode cX5_isSignOf 3 = .ok (.if_icmp .eq 45, 3) := dk_159 0 45 (dk_at dksX5_isSignOf_0 3 rfl rfl)
theorem dX5_isSignOf_6 : decode cX5_isSignOf 6 = .ok (.iload_n 0, 1) := dk_26 (dk_at dksX5_isSignOf_0 6 rfl rfl)
theorem dX5_isSignOf_7 : decode cX5_isSignOf 7 = .ok (.bipush 41, 2) := dk_16 41 (dk_at dksX5_isSignOf_0 7 rfl rfl)
theorem dX5_isSignOf_9 : decode cX5_isSignOf 9 = .ok (.if_icmp .eq 39, 3) := dk_159 0 39 (dk_at dksX5_isSignOf_0 9 rfl rfl)
theorem dX5_isSignOf_12 : decode cX5_isSignOf 12 = .ok (.iload_n 0, 1) := dk_26 (dk_at dksX5_isSignOf_0 12 rfl rfl)
theorem dX5_isSignOf_13 : decode cX5_isSignOf 13 = .ok (.bipush 59, 2) := dk_16 59 (dk_at dksX5_isSignOf_0 13 rfl rfl)
theorem dX5_isSignOf_15 : decode cX5_isSignOf 15 = .ok (.if_icmp .eq 33, 3) := dk_159 0 33 (dk_at dksX5_isSignOf_0 15 rfl rfl)
theorem dX5_isSignOf_18 : decode cX5_isSignOf 18 = .ok (.iload_n 0, 1) := dk_26 (dk_at dksX5_isSignOf_0 18 rfl rfl)
theorem dX5_isSignOf_19 : decode cX5_isSignOf 19 = .ok (.bipush 61, 2) := dk_16 61 (dk_at dksX5_isSignOf_0 19 rfl rfl)
theorem dX5_isSignOf_21 : decode cX5_isSignOf 21 = .ok (.if_icmp .eq 27, 3) := dk_159 0 27 (dk_at dksX5_isSignOf_0 21 rfl rfl)
theorem dX5_isSignOf_24 : decode cX5_isSignOf 24 = .ok (.iload_n 0, 1) := dk_26 (dk_at dksX5_isSignOf_1 0 rfl rfl)
theorem dX5_isSignOf_25 : decode cX5_isSignOf 25 = .ok (.bipush 60, 2) := dk_16 60 (dk_at dksX5_isSignOf_1 1 rfl rfl)
theorem dX5_isSignOf_27 : decode cX5_isSignOf 27 = .ok (.if_icmp .eq 21, 3) := dk_159 0 21 (dk_at dksX5_isSignOf_1 3 rfl rfl)
theorem dX5_isSignOf_30 : decode cX5_isSignOf 30 = .ok (.iload_n 0, 1) := dk_26 (dk_at dksX5_isSignOf_1 6 rfl rfl)
theorem dX5_isSignOf_31 : decode cX5_isSignOf 31 = .ok (.bipush 43, 2) := dk_16 43 (dk_at dksX5_isSignOf_1 7 rfl rfl)
theorem dX5_isSignOf_33 : decode cX5_isSignOf 33 = .ok (.if_icmp .eq 15, 3) := dk_159 0 15 (dk_at dksX5_isSignOf_1 9 rfl rfl)
theorem dX5_isSignOf_36 : decode cX5_isSignOf 36 = .ok (.iload_n 0, 1) := dk_26 (dk_at dksX5_isSignOf_1 12 rfl rfl)
theorem dX5_isSignOf_37 : decode cX5_isSignOf 37 = .ok (.bipush 45, 2) := dk_16 45 (dk_at dksX5_isSignOf_1 13 rfl rfl)
theorem dX5_isSignOf_39 : decode cX5_isSignOf 39 = .ok (.if_icmp .eq 9, 3) := dk_159 0 9 (dk_at dksX5_isSignOf_1 15 rfl rfl)
theorem dX5_isSignOf_42 : decode cX5_isSignOf 42 = .ok (.iload_n 0, 1) := dk_26 (dk_at dksX5_isSignOf_1 18 rfl rfl)
theorem dX5_isSignOf_43 : decode cX5_isSignOf 43 = .ok (.bipush 42, 2) := dk_16 42 (dk_at dksX5_isSignOf_1 19 rfl rfl)
theorem dX5_isSignOf_45 : decode cX5_isSignOf 45 = .ok (.if_icmp .ne 7, 3) := dk_160 0 7 (dk_at dksX5_isSignOf_1 21 rfl rfl)
theorem dX5_isSignOf_48 : decode cX5_isSignOf 48 = .ok (.iconst 1, 1) := dk_4 (dk_at dksX5_isSignOf_2 0 rfl rfl)
theorem dX5_isSignOf_49 : decode cX5_isSignOf 49 = .ok (.goto 4, 3) := dk_167 0 4 (dk_at dksX5_isSignOf_2 1 rfl rfl)
theorem dX5_isSignOf_52 : decode cX5_isSignOf 52 = .ok (.iconst 0, 1) := dk_3 (dk_at dksX5_isSignOf_2 4 rfl rfl)
theorem dX5_isSignOf_53 : decode cX5_isSignOf 53 = .ok (.ireturn, 1) := dk_172 (dk_at dksX5_isSignOf_2 5 rfl rfl)
abbrev cX5_isWord : ByteArray := prog_30_method_12_code
def yX5_isWord : MethodName := ⟨RX5, "isWord", "(I)Z"⟩
def dkwX5_isWord_1 : List UInt8 := [42, 180, 0, 179, 47, 42, 180, 0, 88, 27, 47, 148, 154, 0, 7, 4, 167, 0, 4, 3, 172]
abbrev dktX5_isWord_1 : List UInt8 := dkwX5_isWord_1 ++ []
def dkwX5_isWord_0 : List UInt8 := [42, 180, 0, 182, 154, 0, 39, 42, 180, 0, 24, 42, 180, 0, 179, 46, 4, 160, 0, 26, 42, 180, 0, 30]
abbrev dktX5_isWord_0 : List UInt8 := dkwX5_isWord_0 ++ dktX5_isWord_1
theorem dksX5_isWord_0 : cX5_isWord.data.toList.drop 0 = dktX5_isWord_0 := by decide +kernel
theorem dksX5_isWord_1 : cX5_isWord.data.toList.drop 24 = dktX5_isWord_1 := dk_seg dksX5_isWord_0 24 rfl rfl
theorem dX5_isWord_0 : decode cX5_isWord 0 = .ok (.aload_n 0, 1) := dk_42 (dk_at dksX5_isWord_0 0 rfl rfl)
theorem dX5_isWord_1 : decode cX5_isWord 1 = .ok (.getfield 182, 3) := dk_180 0 182 (dk_at dksX5_isWord_0 1 rfl rfl)
theorem dX5_isWord_4 : decode cX5_isWord 4 = .ok (.ifCond .ne 39, 3) := dk_154 0 39 (dk_at dksX5_isWord_0 4 rfl rfl)
theorem dX5_isWord_7 : decode cX5_isWord 7 = .ok (.aload_n 0, 1) := dk_42 (dk_at dksX5_isWord_0 7 rfl rfl)
theorem dX5_isWord_8 : decode cX5_isWord 8 = .ok (.getfield 24, 3) := dk_180 0 24 (dk_at dksX5_isWord_0 8 rfl rfl)
theorem dX5_isWord_11 : decode cX5_isWord 11 = .ok (.aload_n 0, 1) := dk_42 (dk_at dksX5_isWord_0 11 rfl rfl)
theorem dX5_isWord_12 : decode cX5_isWord 12 = .ok (.getfield 179, 3) := dk_180 0 179 (dk_at dksX5_isWord_0 12 rfl rfl)
theorem dX5_isWord_15 : decode cX5_isWord 15 = .ok (.iaload, 1) := dk_46 (dk_at dksX5_isWord_0 15 rfl rfl)
theorem dX5_isWord_16 : decode cX5_isWord 16 = .ok (.iconst 1, 1) := dk_4 (dk_at dksX5_isWord_0 16 rfl rfl)
theorem dX5_isWord_17 : decode cX5_isWord 17 = .ok (.if_icmp .ne 26, 3) := dk_160 0 26 (dk_at dksX5_isWord_0 17 rfl rfl)
theorem dX5_isWord_20 : decode cX5_isWord 20 = .ok (.aload_n 0, 1) := dk_42 (dk_at dksX5_isWord_0 20 rfl rfl)
theorem dX5_isWord_21 : decode cX5_isWord 21 = .ok (.getfield 30, 3) := dk_180 0 30 (dk_at dksX5_isWord_0 21 rfl rfl)
theorem dX5_isWord_24 : decode cX5_isWord 24 = .ok (.aload_n 0, 1) := dk_42 (dk_at dksX5_isWord_1 0 rfl rfl)
theorem dX5_isWord_25 : decode cX5_isWord 25 = .ok (.getfield 179, 3) := dk_180 0 179 (dk_at dksX5_isWord_1 1 rfl rfl)
theorem dX5_isWord_28 : decode cX5_isWord 28 = .ok (.laload, 1) := dk_47 (dk_at dksX5_isWord_1 4 rfl rfl)
theorem dX5_isWord_29 : decode cX5_isWord 29 = .ok (.aload_n 0, 1) := dk_42 (dk_at dksX5_isWord_1 5 rfl rfl)
theorem dX5_isWord_30 : decode cX5_isWord 30 = .ok (.getfield 88, 3) := dk_180 0 88 (dk_at dksX5_isWord_1 6 rfl rfl)
theorem dX5_isWord_33 : decode cX5_isWord 33 = .ok (.iload_n 1, 1) := dk_27 (dk_at dksX5_isWord_1 9 rfl rfl)
theorem dX5_isWord_34 : decode cX5_isWord 34 = .ok (.laload, 1) := dk_47 (dk_at dksX5_isWord_1 10 rfl rfl)
theorem dX5_isWord_35 : decode cX5_isWord 35 = .ok (.lcmp, 1) := dk_148 (dk_at dksX5_isWord_1 11 rfl rfl)
theorem dX5_isWord_36 : decode cX5_isWord 36 = .ok (.ifCond .ne 7, 3) := dk_154 0 7 (dk_at dksX5_isWord_1 12 rfl rfl)
theorem dX5_isWord_39 : decode cX5_isWord 39 = .ok (.iconst 1, 1) := dk_4 (dk_at dksX5_isWord_1 15 rfl rfl)
theorem dX5_isWord_40 : decode cX5_isWord 40 = .ok (.goto 4, 3) := dk_167 0 4 (dk_at dksX5_isWord_1 16 rfl rfl)
theorem dX5_isWord_43 : decode cX5_isWord 43 = .ok (.iconst 0, 1) := dk_3 (dk_at dksX5_isWord_1 19 rfl rfl)
theorem dX5_isWord_44 : decode cX5_isWord 44 = .ok (.ireturn, 1) := dk_172 (dk_at dksX5_isWord_1 20 rfl rfl)
abbrev cX5_readPerson : ByteArray := prog_30_method_28_code
def yX5_readPerson : MethodName := ⟨RX5, "readPerson", "()V"⟩
def dkwX5_readPerson_8 : List UInt8 := [79, 42, 180, 0, 91, 16, 80, 92, 46, 4, 96, 79, 177]
abbrev dktX5_readPerson_8 : List UInt8 := dkwX5_readPerson_8 ++ []
def dkwX5_readPerson_7 : List UInt8 := [6, 3, 17, 3, 231, 182, 0, 249, 79, 42, 180, 0, 91, 28, 7, 96, 42, 7, 3, 16, 9, 182, 0, 249]
abbrev dktX5_readPerson_7 : List UInt8 := dkwX5_readPerson_7 ++ dktX5_readPerson_8
def dkwX5_readPerson_6 : List UInt8 := [180, 0, 91, 28, 5, 96, 42, 5, 3, 17, 3, 231, 182, 0, 249, 79, 42, 180, 0, 91, 28, 6, 96, 42]
abbrev dktX5_readPerson_6 : List UInt8 := dkwX5_readPerson_6 ++ dktX5_readPerson_7
def dkwX5_readPerson_5 : List UInt8 := [16, 15, 7, 182, 0, 246, 79, 42, 180, 0, 91, 28, 4, 96, 42, 4, 3, 16, 9, 182, 0, 249, 79, 42]
abbrev dktX5_readPerson_5 : List UInt8 := dkwX5_readPerson_5 ++ dktX5_readPerson_6
def dkwX5_readPerson_4 : List UInt8 := [42, 89, 180, 0, 179, 4, 96, 181, 0, 179, 16, 88, 8, 27, 104, 96, 61, 42, 180, 0, 91, 28, 42]
abbrev dktX5_readPerson_4 : List UInt8 := dkwX5_readPerson_4 ++ dktX5_readPerson_5
def dkwX5_readPerson_3 : List UInt8 := [42, 180, 0, 207, 42, 180, 0, 30, 42, 180, 0, 179, 47, 80, 42, 89, 180, 0, 207, 4, 96, 181, 0, 207]
abbrev dktX5_readPerson_3 : List UInt8 := dkwX5_readPerson_3 ++ dktX5_readPerson_4
def dkwX5_readPerson_2 : List UInt8 := [4, 182, 0, 217, 155, 0, 8, 42, 6, 182, 0, 188, 42, 180, 0, 182, 158, 0, 4, 177, 42, 180, 0, 103]
abbrev dktX5_readPerson_2 : List UInt8 := dkwX5_readPerson_2 ++ dktX5_readPerson_3
def dkwX5_readPerson_1 : List UInt8 := [180, 0, 179, 4, 96, 181, 0, 179, 42, 182, 0, 213, 154, 0, 11, 42, 4, 182, 0, 188, 167, 0, 16, 42]
abbrev dktX5_readPerson_1 : List UInt8 := dkwX5_readPerson_1 ++ dktX5_readPerson_2
def dkwX5_readPerson_0 : List UInt8 := [42, 180, 0, 91, 16, 80, 46, 60, 27, 16, 6, 160, 0, 9, 42, 8, 182, 0, 188, 177, 42, 89]
abbrev dktX5_readPerson_0 : List UInt8 := dkwX5_readPerson_0 ++ dktX5_readPerson_1
theorem dksX5_readPerson_0 : cX5_readPerson.data.toList.drop 0 = dktX5_readPerson_0 := by decide +kernel
theorem dksX5_readPerson_1 : cX5_readPerson.data.toList.drop 22 = dktX5_readPerson_1 := dk_seg dksX5_readPerson_0 22 rfl rfl
theorem dksX5_readPerson_2 : cX5_readPerson.data.toList.drop 46 = dktX5_readPerson_2 := dk_seg dksX5_readPerson_1 24 rfl rfl
theorem dksX5_readPerson_3 : cX5_readPerson.data.toList.drop 70 = dktX5_readPerson_3 := dk_seg dksX5_readPerson_2 24 rfl rfl
theorem dksX5_readPerson_4 : cX5_readPerson.data.toList.drop 94 = dktX5_readPerson_4 := dk_seg dksX5_readPerson_3 24 rfl rfl
theorem dksX5_readPerson_5 : cX5_readPerson.data.toList.drop 117 = dktX5_readPerson_5 := dk_seg dksX5_readPerson_4 23 rfl rfl
theorem dksX5_readPerson_6 : cX5_readPerson.data.toList.drop 141 = dktX5_readPerson_6 := dk_seg dksX5_readPerson_5 24 rfl rfl
theorem dksX5_readPerson_7 : cX5_readPerson.data.toList.drop 165 = dktX5_readPerson_7 := dk_seg dksX5_readPerson_6 24 rfl rfl
theorem dksX5_readPerson_8 : cX5_readPerson.data.toList.drop 189 = dktX5_readPerson_8 := dk_seg dksX5_readPerson_7 24 rfl rfl
theorem dX5_readPerson_0 : decode cX5_readPerson 0 = .ok (.aload_n 0, 1) := dk_42 (dk_at dksX5_readPerson_0 0 rfl rfl)
theorem dX5_readPerson_1 : decode cX5_readPerson 1 = .ok (.getfield 91, 3) := dk_180 0 91 (dk_at dksX5_readPerson_0 1 rfl rfl)
theorem dX5_readPerson_4 : decode cX5_readPerson 4 = .ok (.bipush 80, 2) := dk_16 80 (dk_at dksX5_readPerson_0 4 rfl rfl)
theorem dX5_readPerson_6 : decode cX5_readPerson 6 = .ok (.iaload, 1) := dk_46 (dk_at dksX5_readPerson_0 6 rfl rfl)
theorem dX5_readPerson_7 : decode cX5_readPerson 7 = .ok (.istore_n 1, 1) := dk_60 (dk_at dksX5_readPerson_0 7 rfl rfl)
theorem dX5_readPerson_8 : decode cX5_readPerson 8 = .ok (.iload_n 1, 1) := dk_27 (dk_at dksX5_readPerson_0 8 rfl rfl)
theorem dX5_readPerson_9 : decode cX5_readPerson 9 = .ok (.bipush 6, 2) := dk_16 6 (dk_at dksX5_readPerson_0 9 rfl rfl)
theorem dX5_readPerson_11 : decode cX5_readPerson 11 = .ok (.if_icmp .ne 9, 3) := dk_160 0 9 (dk_at dksX5_readPerson_0 11 rfl rfl)
theorem dX5_readPerson_14 : decode cX5_readPerson 14 = .ok (.aload_n 0, 1) := dk_42 (dk_at dksX5_readPerson_0 14 rfl rfl)
theorem dX5_readPerson_15 : decode cX5_readPerson 15 = .ok (.iconst 5, 1) := dk_8 (dk_at dksX5_readPerson_0 15 rfl rfl)
theorem dX5_readPerson_16 : decode cX5_readPerson 16 = .ok (.invokevirtual 188, 3) := dk_182 0 188 (dk_at dksX5_readPerson_0 16 rfl rfl)
theorem dX5_readPerson_19 : decode cX5_readPerson 19 = .ok (.return_, 1) := dk_177 (dk_at dksX5_readPerson_0 19 rfl rfl)
theorem dX5_readPerson_20 : decode cX5_readPerson 20 = .ok (.aload_n 0, 1) := dk_42 (dk_at dksX5_readPerson_0 20 rfl rfl)
theorem dX5_readPerson_21 : decode cX5_readPerson 21 = .ok (.dup, 1) := dk_89 (dk_at dksX5_readPerson_0 21 rfl rfl)
theorem dX5_readPerson_22 : decode cX5_readPerson 22 = .ok (.getfield 179, 3) := dk_180 0 179 (dk_at dksX5_readPerson_1 0 rfl rfl)
theorem dX5_readPerson_25 : decode cX5_readPerson 25 = .ok (.iconst 1, 1) := dk_4 (dk_at dksX5_readPerson_1 3 rfl rfl)
theorem dX5_readPerson_26 : decode cX5_readPerson 26 = .ok (.iadd, 1) := dk_96 (dk_at dksX5_readPerson_1 4 rfl rfl)
theorem dX5_readPerson_27 : decode cX5_readPerson 27 = .ok (.putfield 179, 3) := dk_181 0 179 (dk_at dksX5_readPerson_1 5 rfl rfl)
theorem dX5_readPerson_30 : decode cX5_readPerson 30 = .ok (.aload_n 0, 1) := dk_42 (dk_at dksX5_readPerson_1 8 rfl rfl)
theorem dX5_readPerson_31 : decode cX5_readPerson 31 = .ok (.invokevirtual 213, 3) := dk_182 0 213 (dk_at dksX5_readPerson_1 9 rfl rfl)
theorem dX5_readPerson_34 : decode cX5_readPerson 34 = .ok (.ifCond .ne 11, 3) := dk_154 0 11 (dk_at dksX5_readPerson_1 12 rfl rfl)
theorem dX5_readPerson_37 : decode cX5_readPerson 37 = .ok (.aload_n 0, 1) := dk_42 (dk_at dksX5_readPerson_1 15 rfl rfl)
theorem dX5_readPerson_38 : decode cX5_readPerson 38 = .ok (.iconst 1, 1) := dk_4 (dk_at dksX5_readPerson_1 16 rfl rfl)
theorem dX5_readPerson_39 : decode cX5_readPerson 39 = .ok (.invokevirtual 188, 3) := dk_182 0 188 (dk_at dksX5_readPerson_1 17 rfl rfl)
theorem dX5_readPerson_42 : decode cX5_readPerson 42 = .ok (.goto 16, 3) := dk_167 0 16 (dk_at dksX5_readPerson_1 20 rfl rfl)
theorem dX5_readPerson_45 : decode cX5_readPerson 45 = .ok (.aload_n 0, 1) := dk_42 (dk_at dksX5_readPerson_1 23 rfl rfl)
theorem dX5_readPerson_46 : decode cX5_readPerson 46 = .ok (.iconst 1, 1) := dk_4 (dk_at dksX5_readPerson_2 0 rfl rfl)
theorem dX5_readPerson_47 : decode cX5_readPerson 47 = .ok (.invokevirtual 217, 3) := dk_182 0 217 (dk_at dksX5_readPerson_2 1 rfl rfl)
theorem dX5_readPerson_50 : decode cX5_readPerson 50 = .ok (.ifCond .lt 8, 3) := dk_155 0 8 (dk_at dksX5_readPerson_2 4 rfl rfl)
theorem dX5_readPerson_53 : decode cX5_readPerson 53 = .ok (.aload_n 0, 1) := dk_42 (dk_at dksX5_readPerson_2 7 rfl rfl)
theorem dX5_readPerson_54 : decode cX5_readPerson 54 = .ok (.iconst 3, 1) := dk_6 (dk_at dksX5_readPerson_2 8 rfl rfl)
theorem dX5_readPerson_55 : decode cX5_readPerson 55 = .ok (.invokevirtual 188, 3) := dk_182 0 188 (dk_at dksX5_readPerson_2 9 rfl rfl)
theorem dX5_readPerson_58 : decode cX5_readPerson 58 = .ok (.aload_n 0, 1) := dk_42 (dk_at dksX5_readPerson_2 12 rfl rfl)
theorem dX5_readPerson_59 : decode cX5_readPerson 59 = .ok (.getfield 182, 3) := dk_180 0 182 (dk_at dksX5_readPerson_2 13 rfl rfl)
theorem dX5_readPerson_62 : decode cX5_readPerson 62 = .ok (.ifCond .le 4, 3) := dk_158 0 4 (dk_at dksX5_readPerson_2 16 rfl rfl)
theorem dX5_readPerson_65 : decode cX5_readPerson 65 = .ok (.return_, 1) := dk_177 (dk_at dksX5_readPerson_2 19 rfl rfl)
theorem dX5_readPerson_66 : decode cX5_readPerson 66 = .ok (.aload_n 0, 1) := dk_42 (dk_at dksX5_readPerson_2 20 rfl rfl)
theorem dX5_readPerson_67 : decode cX5_readPerson 67 = .ok (.getfield 103, 3) := dk_180 0 103 (dk_at dksX5_readPerson_2 21 rfl rfl)
theorem dX5_readPerson_70 : decode cX5_readPerson 70 = .ok (.aload_n 0, 1) := dk_42 (dk_at dksX5_readPerson_3 0 rfl rfl)
theorem dX5_readPerson_71 : decode cX5_readPerson 71 = .ok (.getfield 207, 3) := dk_180 0 207 (dk_at dksX5_readPerson_3 1 rfl rfl)
theorem dX5_readPerson_74 : decode cX5_readPerson 74 = .ok (.aload_n 0, 1) := dk_42 (dk_at dksX5_readPerson_3 4 rfl rfl)
theorem dX5_readPerson_75 : decode cX5_readPerson 75 = .ok (.getfield 30, 3) := dk_180 0 30 (dk_at dksX5_readPerson_3 5 rfl rfl)
theorem dX5_readPerson_78 : decode cX5_readPerson 78 = .ok (.aload_n 0, 1) := dk_42 (dk_at dksX5_readPerson_3 8 rfl rfl)
theorem dX5_readPerson_79 : decode cX5_readPerson 79 = .ok (.getfield 179, 3) := dk_180 0 179 (dk_at dksX5_readPerson_3 9 rfl rfl)
theorem dX5_readPerson_82 : decode cX5_readPerson 82 = .ok (.laload, 1) := dk_47 (dk_at dksX5_readPerson_3 12 rfl rfl)
theorem dX5_readPerson_83 : decode cX5_readPerson 83 = .ok (.lastore, 1) := dk_80 (dk_at dksX5_readPerson_3 13 rfl rfl)
theorem dX5_readPerson_84 : decode cX5_readPerson 84 = .ok (.aload_n 0, 1) := dk_42 (dk_at dksX5_readPerson_3 14 rfl rfl)
theorem dX5_readPerson_85 : decode cX5_readPerson 85 = .ok (.dup, 1) := dk_89 (dk_at dksX5_readPerson_3 15 rfl rfl)
theorem dX5_readPerson_86 : decode cX5_readPerson 86 = .ok (.getfield 207, 3) := dk_180 0 207 (dk_at dksX5_readPerson_3 16 rfl rfl)
theorem dX5_readPerson_89 : decode cX5_readPerson 89 = .ok (.iconst 1, 1) := dk_4 (dk_at dksX5_readPerson_3 19 rfl rfl)
theorem dX5_readPerson_90 : decode cX5_readPerson 90 = .ok (.iadd, 1) := dk_96 (dk_at dksX5_readPerson_3 20 rfl rfl)
theorem dX5_readPerson_91 : decode cX5_readPerson 91 = .ok (.putfield 207, 3) := dk_181 0 207 (dk_at dksX5_readPerson_3 21 rfl rfl)
theorem dX5_readPerson_94 : decode cX5_readPerson 94 = .ok (.aload_n 0, 1) := dk_42 (dk_at dksX5_readPerson_4 0 rfl rfl)
theorem dX5_readPerson_95 : decode cX5_readPerson 95 = .ok (.dup, 1) := dk_89 (dk_at dksX5_readPerson_4 1 rfl rfl)
theorem dX5_readPerson_96 : decode cX5_readPerson 96 = .ok (.getfield 179, 3) := dk_180 0 179 (dk_at dksX5_readPerson_4 2 rfl rfl)
theorem dX5_readPerson_99 : decode cX5_readPerson 99 = .ok (.iconst 1, 1) := dk_4 (dk_at dksX5_readPerson_4 5 rfl rfl)
theorem dX5_readPerson_100 : decode cX5_readPerson 100 = .ok (.iadd, 1) := dk_96 (dk_at dksX5_readPerson_4 6 rfl rfl)
theorem dX5_readPerson_101 : decode cX5_readPerson 101 = .ok (.putfield 179, 3) := dk_181 0 179 (dk_at dksX5_readPerson_4 7 rfl rfl)
theorem dX5_readPerson_104 : decode cX5_readPerson 104 = .ok (.bipush 88, 2) := dk_16 88 (dk_at dksX5_readPerson_4 10 rfl rfl)
theorem dX5_readPerson_106 : decode cX5_readPerson 106 = .ok (.iconst 5, 1) := dk_8 (dk_at dksX5_readPerson_4 12 rfl rfl)
theorem dX5_readPerson_107 : decode cX5_readPerson 107 = .ok (.iload_n 1, 1) := dk_27 (dk_at dksX5_readPerson_4 13 rfl rfl)
theorem dX5_readPerson_108 : decode cX5_readPerson 108 = .ok (.imul, 1) := dk_104 (dk_at dksX5_readPerson_4 14 rfl rfl)
theorem dX5_readPerson_109 : decode cX5_readPerson 109 = .ok (.iadd, 1) := dk_96 (dk_at dksX5_readPerson_4 15 rfl rfl)
theorem dX5_readPerson_110 : decode cX5_readPerson 110 = .ok (.istore_n 2, 1) := dk_61 (dk_at dksX5_readPerson_4 16 rfl rfl)
theorem dX5_readPerson_111 : decode cX5_readPerson 111 = .ok (.aload_n 0, 1) := dk_42 (dk_at dksX5_readPerson_4 17 rfl rfl)
theorem dX5_readPerson_112 : decode cX5_readPerson 112 = .ok (.getfield 91, 3) := dk_180 0 91 (dk_at dksX5_readPerson_4 18 rfl rfl)
theorem dX5_readPerson_115 : decode cX5_readPerson 115 = .ok (.iload_n 2, 1) := dk_28 (dk_at dksX5_readPerson_4 21 rfl rfl)
theorem dX5_readPerson_116 : decode cX5_readPerson 116 = .ok (.aload_n 0, 1) := dk_42 (dk_at dksX5_readPerson_4 22 rfl rfl)
theorem dX5_readPerson_117 : decode cX5_readPerson 117 = .ok (.bipush 15, 2) := dk_16 15 (dk_at dksX5_readPerson_5 0 rfl rfl)
theorem dX5_readPerson_119 : decode cX5_readPerson 119 = .ok (.iconst 4, 1) := dk_7 (dk_at dksX5_readPerson_5 2 rfl rfl)
theorem dX5_readPerson_120 : decode cX5_readPerson 120 = .ok (.invokevirtual 246, 3) := dk_182 0 246 (dk_at dksX5_readPerson_5 3 rfl rfl)
theorem dX5_readPerson_123 : decode cX5_readPerson 123 = .ok (.iastore, 1) := dk_79 (dk_at dksX5_readPerson_5 6 rfl rfl)
theorem dX5_readPerson_124 : decode cX5_readPerson 124 = .ok (.aload_n 0, 1) := dk_42 (dk_at dksX5_readPerson_5 7 rfl rfl)
theorem dX5_readPerson_125 : decode cX5_readPerson 125 = .ok (.getfield 91, 3) := dk_180 0 91 (dk_at dksX5_readPerson_5 8 rfl rfl)
theorem dX5_readPerson_128 : decode cX5_readPerson 128 = .ok (.iload_n 2, 1) := dk_28 (dk_at dksX5_readPerson_5 11 rfl rfl)
theorem dX5_readPerson_129 : decode cX5_readPerson 129 = .ok (.iconst 1, 1) := dk_4 (dk_at dksX5_readPerson_5 12 rfl rfl)
theorem dX5_readPerson_130 : decode cX5_readPerson 130 = .ok (.iadd, 1) := dk_96 (dk_at dksX5_readPerson_5 13 rfl rfl)
theorem dX5_readPerson_131 : decode cX5_readPerson 131 = .ok (.aload_n 0, 1) := dk_42 (dk_at dksX5_readPerson_5 14 rfl rfl)
theorem dX5_readPerson_132 : decode cX5_readPerson 132 = .ok (.iconst 1, 1) := dk_4 (dk_at dksX5_readPerson_5 15 rfl rfl)
theorem dX5_readPerson_133 : decode cX5_readPerson 133 = .ok (.iconst 0, 1) := dk_3 (dk_at dksX5_readPerson_5 16 rfl rfl)
theorem dX5_readPerson_134 : decode cX5_readPerson 134 = .ok (.bipush 9, 2) := dk_16 9 (dk_at dksX5_readPerson_5 17 rfl rfl)
theorem dX5_readPerson_136 : decode cX5_readPerson 136 = .ok (.invokevirtual 249, 3) := dk_182 0 249 (dk_at dksX5_readPerson_5 19 rfl rfl)
theorem dX5_readPerson_139 : decode cX5_readPerson 139 = .ok (.iastore, 1) := dk_79 (dk_at dksX5_readPerson_5 22 rfl rfl)
theorem dX5_readPerson_140 : decode cX5_readPerson 140 = .ok (.aload_n 0, 1) := dk_42 (dk_at dksX5_readPerson_5 23 rfl rfl)
theorem dX5_readPerson_141 : decode cX5_readPerson 141 = .ok (.getfield 91, 3) := dk_180 0 91 (dk_at dksX5_readPerson_6 0 rfl rfl)
theorem dX5_readPerson_144 : decode cX5_readPerson 144 = .ok (.iload_n 2, 1) := dk_28 (dk_at dksX5_readPerson_6 3 rfl rfl)
theorem dX5_readPerson_145 : decode cX5_readPerson 145 = .ok (.iconst 2, 1) := dk_5 (dk_at dksX5_readPerson_6 4 rfl rfl)
theorem dX5_readPerson_146 : decode cX5_readPerson 146 = .ok (.iadd, 1) := dk_96 (dk_at dksX5_readPerson_6 5 rfl rfl)
theorem dX5_readPerson_147 : decode cX5_readPerson 147 = .ok (.aload_n 0, 1) := dk_42 (dk_at dksX5_readPerson_6 6 rfl rfl)
theorem dX5_readPerson_148 : decode cX5_readPerson 148 = .ok (.iconst 2, 1) := dk_5 (dk_at dksX5_readPerson_6 7 rfl rfl)
theorem dX5_readPerson_149 : decode cX5_readPerson 149 = .ok (.iconst 0, 1) := dk_3 (dk_at dksX5_readPerson_6 8 rfl rfl)
theorem dX5_readPerson_150 : decode cX5_readPerson 150 = .ok (.sipush 999, 3) := dk_17 3 231 (dk_at dksX5_readPerson_6 9 rfl rfl)
theorem dX5_readPerson_153 : decode cX5_readPerson 153 = .ok (.invokevirtual 249, 3) := dk_182 0 249 (dk_at dksX5_readPerson_6 12 rfl rfl)
theorem dX5_readPerson_156 : decode cX5_readPerson 156 = .ok (.iastore, 1) := dk_79 (dk_at dksX5_readPerson_6 15 rfl rfl)
theorem dX5_readPerson_157 : decode cX5_readPerson 157 = .ok (.aload_n 0, 1) := dk_42 (dk_at dksX5_readPerson_6 16 rfl rfl)
theorem dX5_readPerson_158 : decode cX5_readPerson 158 = .ok (.getfield 91, 3) := dk_180 0 91 (dk_at dksX5_readPerson_6 17 rfl rfl)
theorem dX5_readPerson_161 : decode cX5_readPerson 161 = .ok (.iload_n 2, 1) := dk_28 (dk_at dksX5_readPerson_6 20 rfl rfl)
theorem dX5_readPerson_162 : decode cX5_readPerson 162 = .ok (.iconst 3, 1) := dk_6 (dk_at dksX5_readPerson_6 21 rfl rfl)
theorem dX5_readPerson_163 : decode cX5_readPerson 163 = .ok (.iadd, 1) := dk_96 (dk_at dksX5_readPerson_6 22 rfl rfl)
theorem dX5_readPerson_164 : decode cX5_readPerson 164 = .ok (.aload_n 0, 1) := dk_42 (dk_at dksX5_readPerson_6 23 rfl rfl)
theorem dX5_readPerson_165 : decode cX5_readPerson 165 = .ok (.iconst 3, 1) := dk_6 (dk_at dksX5_readPerson_7 0 rfl rfl)
theorem dX5_readPerson_166 : decode cX5_readPerson 166 = .ok (.iconst 0, 1) := dk_3 (dk_at dksX5_readPerson_7 1 rfl rfl)
theorem dX5_readPerson_167 : decode cX5_readPerson 167 = .ok (.sipush 999, 3) := dk_17 3 231 (dk_at dksX5_readPerson_7 2 rfl rfl)
theorem dX5_readPerson_170 : decode cX5_readPerson 170 = .ok (.invokevirtual 249, 3) := dk_182 0 249 (dk_at dksX5_readPerson_7 5 rfl rfl)
theorem dX5_readPerson_173 : decode cX5_readPerson 173 = .ok (.iastore, 1) := dk_79 (dk_at dksX5_readPerson_7 8 rfl rfl)
theorem dX5_readPerson_174 : decode cX5_readPerson 174 = .ok (.aload_n 0, 1) := dk_42 (dk_at dksX5_readPerson_7 9 rfl rfl)
theorem dX5_readPerson_175 : decode cX5_readPerson 175 = .ok (.getfield 91, 3) := dk_180 0 91 (dk_at dksX5_readPerson_7 10 rfl rfl)
theorem dX5_readPerson_178 : decode cX5_readPerson 178 = .ok (.iload_n 2, 1) := dk_28 (dk_at dksX5_readPerson_7 13 rfl rfl)
theorem dX5_readPerson_179 : decode cX5_readPerson 179 = .ok (.iconst 4, 1) := dk_7 (dk_at dksX5_readPerson_7 14 rfl rfl)
theorem dX5_readPerson_180 : decode cX5_readPerson 180 = .ok (.iadd, 1) := dk_96 (dk_at dksX5_readPerson_7 15 rfl rfl)
theorem dX5_readPerson_181 : decode cX5_readPerson 181 = .ok (.aload_n 0, 1) := dk_42 (dk_at dksX5_readPerson_7 16 rfl rfl)
theorem dX5_readPerson_182 : decode cX5_readPerson 182 = .ok (.iconst 4, 1) := dk_7 (dk_at dksX5_readPerson_7 17 rfl rfl)
theorem dX5_readPerson_183 : decode cX5_readPerson 183 = .ok (.iconst 0, 1) := dk_3 (dk_at dksX5_readPerson_7 18 rfl rfl)
theorem dX5_readPerson_184 : decode cX5_readPerson 184 = .ok (.bipush 9, 2) := dk_16 9 (dk_at dksX5_readPerson_7 19 rfl rfl)
theorem dX5_readPerson_186 : decode cX5_readPerson 186 = .ok (.invokevirtual 249, 3) := dk_182 0 249 (dk_at dksX5_readPerson_7 21 rfl rfl)
theorem dX5_readPerson_189 : decode cX5_readPerson 189 = .ok (.iastore, 1) := dk_79 (dk_at dksX5_readPerson_8 0 rfl rfl)
theorem dX5_readPerson_190 : decode cX5_readPerson 190 = .ok (.aload_n 0, 1) := dk_42 (dk_at dksX5_readPerson_8 1 rfl rfl)
theorem dX5_readPerson_191 : decode cX5_readPerson 191 = .ok (.getfield 91, 3) := dk_180 0 91 (dk_at dksX5_readPerson_8 2 rfl rfl)
theorem dX5_readPerson_194 : decode cX5_readPerson 194 = .ok (.bipush 80, 2) := dk_16 80 (dk_at dksX5_readPerson_8 5 rfl rfl)
theorem dX5_readPerson_196 : decode cX5_readPerson 196 = .ok (.dup2, 1) := dk_92 (dk_at dksX5_readPerson_8 7 rfl rfl)
theorem dX5_readPerson_197 : decode cX5_readPerson 197 = .ok (.iaload, 1) := dk_46 (dk_at dksX5_readPerson_8 8 rfl rfl)
theorem dX5_readPerson_198 : decode cX5_readPerson 198 = .ok (.iconst 1, 1) := dk_4 (dk_at dksX5_readPerson_8 9 rfl rfl)
theorem dX5_readPerson_199 : decode cX5_readPerson 199 = .ok (.iadd, 1) := dk_96 (dk_at dksX5_readPerson_8 10 rfl rfl)
theorem dX5_readPerson_200 : decode cX5_readPerson 200 = .ok (.iastore, 1) := dk_79 (dk_at dksX5_readPerson_8 11 rfl rfl)
theorem dX5_readPerson_201 : decode cX5_readPerson 201 = .ok (.return_, 1) := dk_177 (dk_at dksX5_readPerson_8 12 rfl rfl)
abbrev cX5_wrong : ByteArray := prog_30_method_10_code
def yX5_wrong : MethodName := ⟨RX5, "wrong", "(I)V"⟩
def dkwX5_wrong_1 : List UInt8 := [181, 0, 182, 177]
abbrev dktX5_wrong_1 : List UInt8 := dkwX5_wrong_1 ++ []
def dkwX5_wrong_0 : List UInt8 := [42, 180, 0, 182, 154, 0, 21, 42, 27, 16, 16, 42, 180, 0, 27, 42, 180, 0, 179, 46, 104, 96]
abbrev dktX5_wrong_0 : List UInt8 := dkwX5_wrong_0 ++ dktX5_wrong_1
theorem dksX5_wrong_0 : cX5_wrong.data.toList.drop 0 = dktX5_wrong_0 := by decide +kernel
theorem dksX5_wrong_1 : cX5_wrong.data.toList.drop 22 = dktX5_wrong_1 := dk_seg dksX5_wrong_0 22 rfl rfl
theorem dX5_wrong_0 : decode cX5_wrong 0 = .ok (.aload_n 0, 1) := dk_42 (dk_at dksX5_wrong_0 0 rfl rfl)
theorem dX5_wrong_1 : decode cX5_wrong 1 = .ok (.getfield 182, 3) := dk_180 0 182 (dk_at dksX5_wrong_0 1 rfl rfl)
theorem dX5_wrong_4 : decode cX5_wrong 4 = .ok (.ifCond .ne 21, 3) := dk_154 0 21 (dk_at dksX5_wrong_0 4 rfl rfl)
theorem dX5_wrong_7 : decode cX5_wrong 7 = .ok (.aload_n 0, 1) := dk_42 (dk_at dksX5_wrong_0 7 rfl rfl)
theorem dX5_wrong_8 : decode cX5_wrong 8 = .ok (.iload_n 1, 1) := dk_27 (dk_at dksX5_wrong_0 8 rfl rfl)
theorem dX5_wrong_9 : decode cX5_wrong 9 = .ok (.bipush 16, 2) := dk_16 16 (dk_at dksX5_wrong_0 9 rfl rfl)
theorem dX5_wrong_11 : decode cX5_wrong 11 = .ok (.aload_n 0, 1) := dk_42 (dk_at dksX5_wrong_0 11 rfl rfl)
theorem dX5_wrong_12 : decode cX5_wrong 12 = .ok (.getfield 27, 3) := dk_180 0 27 (dk_at dksX5_wrong_0 12 rfl rfl)
theorem dX5_wrong_15 : decode cX5_wrong 15 = .ok (.aload_n 0, 1) := dk_42 (dk_at dksX5_wrong_0 15 rfl rfl)
theorem dX5_wrong_16 : decode cX5_wrong 16 = .ok (.getfield 179, 3) := dk_180 0 179 (dk_at dksX5_wrong_0 16 rfl rfl)
theorem dX5_wrong_19 : decode cX5_wrong 19 = .ok (.iaload, 1) := dk_46 (dk_at dksX5_wrong_0 19 rfl rfl)
theorem dX5_wrong_20 : decode cX5_wrong 20 = .ok (.imul, 1) := dk_104 (dk_at dksX5_wrong_0 20 rfl rfl)
theorem dX5_wrong_21 : decode cX5_wrong 21 = .ok (.iadd, 1) := dk_96 (dk_at dksX5_wrong_0 21 rfl rfl)
theorem dX5_wrong_22 : decode cX5_wrong 22 = .ok (.putfield 182, 3) := dk_181 0 182 (dk_at dksX5_wrong_1 0 rfl rfl)
theorem dX5_wrong_25 : decode cX5_wrong 25 = .ok (.return_, 1) := dk_177 (dk_at dksX5_wrong_1 3 rfl rfl)
abbrev cX5_isName : ByteArray := prog_30_method_23_code
def yX5_isName : MethodName := ⟨RX5, "isName", "()Z"⟩
def dkwX5_isName_1 : List UInt8 := [182, 0, 204, 156, 0, 7, 4, 167, 0, 4, 3, 172]
abbrev dktX5_isName_1 : List UInt8 := dkwX5_isName_1 ++ []
def dkwX5_isName_0 : List UInt8 := [42, 180, 0, 182, 154, 0, 30, 42, 180, 0, 24, 42, 180, 0, 179, 46, 4, 160, 0, 17, 42, 3, 16, 22]
abbrev dktX5_isName_0 : List UInt8 := dkwX5_isName_0 ++ dktX5_isName_1
theorem dksX5_isName_0 : cX5_isName.data.toList.drop 0 = dktX5_isName_0 := by decide +kernel
theorem dksX5_isName_1 : cX5_isName.data.toList.drop 24 = dktX5_isName_1 := dk_seg dksX5_isName_0 24 rfl rfl
theorem dX5_isName_0 : decode cX5_isName 0 = .ok (.aload_n 0, 1) := dk_42 (dk_at dksX5_isName_0 0 rfl rfl)
theorem dX5_isName_1 : decode cX5_isName 1 = .ok (.getfield 182, 3) := dk_180 0 182 (dk_at dksX5_isName_0 1 rfl rfl)
theorem dX5_isName_4 : decode cX5_isName 4 = .ok (.ifCond .ne 30, 3) := dk_154 0 30 (dk_at dksX5_isName_0 4 rfl rfl)
theorem dX5_isName_7 : decode cX5_isName 7 = .ok (.aload_n 0, 1) := dk_42 (dk_at dksX5_isName_0 7 rfl rfl)
theorem dX5_isName_8 : decode cX5_isName 8 = .ok (.getfield 24, 3) := dk_180 0 24 (dk_at dksX5_isName_0 8 rfl rfl)
theorem dX5_isName_11 : decode cX5_isName 11 = .ok (.aload_n 0, 1) := dk_42 (dk_at dksX5_isName_0 11 rfl rfl)
theorem dX5_isName_12 : decode cX5_isName 12 = .ok (.getfield 179, 3) := dk_180 0 179 (dk_at dksX5_isName_0 12 rfl rfl)
theorem dX5_isName_15 : decode cX5_isName 15 = .ok (.iaload, 1) := dk_46 (dk_at dksX5_isName_0 15 rfl rfl)
theorem dX5_isName_16 : decode cX5_isName 16 = .ok (.iconst 1, 1) := dk_4 (dk_at dksX5_isName_0 16 rfl rfl)
theorem dX5_isName_17 : decode cX5_isName 17 = .ok (.if_icmp .ne 17, 3) := dk_160 0 17 (dk_at dksX5_isName_0 17 rfl rfl)
theorem dX5_isName_20 : decode cX5_isName 20 = .ok (.aload_n 0, 1) := dk_42 (dk_at dksX5_isName_0 20 rfl rfl)
theorem dX5_isName_21 : decode cX5_isName 21 = .ok (.iconst 0, 1) := dk_3 (dk_at dksX5_isName_0 21 rfl rfl)
theorem dX5_isName_22 : decode cX5_isName 22 = .ok (.bipush 22, 2) := dk_16 22 (dk_at dksX5_isName_0 22 rfl rfl)
theorem dX5_isName_24 : decode cX5_isName 24 = .ok (.invokevirtual 204, 3) := dk_182 0 204 (dk_at dksX5_isName_1 0 rfl rfl)
theorem dX5_isName_27 : decode cX5_isName 27 = .ok (.ifCond .ge 7, 3) := dk_156 0 7 (dk_at dksX5_isName_1 3 rfl rfl)
theorem dX5_isName_30 : decode cX5_isName 30 = .ok (.iconst 1, 1) := dk_4 (dk_at dksX5_isName_1 6 rfl rfl)
theorem dX5_isName_31 : decode cX5_isName 31 = .ok (.goto 4, 3) := dk_167 0 4 (dk_at dksX5_isName_1 7 rfl rfl)
theorem dX5_isName_34 : decode cX5_isName 34 = .ok (.iconst 0, 1) := dk_3 (dk_at dksX5_isName_1 10 rfl rfl)
theorem dX5_isName_35 : decode cX5_isName 35 = .ok (.ireturn, 1) := dk_172 (dk_at dksX5_isName_1 11 rfl rfl)
abbrev cX5_wordHere : ByteArray := prog_30_method_21_code
def yX5_wordHere : MethodName := ⟨RX5, "wordHere", "(II)I"⟩
def dkwX5_wordHere_1 : List UInt8 := [167, 0, 4, 29, 62, 132, 4, 1, 167, 255, 229, 29, 172]
abbrev dktX5_wordHere_1 : List UInt8 := dkwX5_wordHere_1 ++ []
def dkwX5_wordHere_0 : List UInt8 := [2, 62, 3, 54, 4, 21, 4, 28, 162, 0, 27, 42, 27, 21, 4, 96, 182, 0, 191, 153, 0, 8, 21, 4]
abbrev dktX5_wordHere_0 : List UInt8 := dkwX5_wordHere_0 ++ dktX5_wordHere_1
theorem dksX5_wordHere_0 : cX5_wordHere.data.toList.drop 0 = dktX5_wordHere_0 := by decide +kernel
theorem dksX5_wordHere_1 : cX5_wordHere.data.toList.drop 24 = dktX5_wordHere_1 := dk_seg dksX5_wordHere_0 24 rfl rfl
theorem dX5_wordHere_0 : decode cX5_wordHere 0 = .ok (.iconst (-1), 1) := dk_2 (dk_at dksX5_wordHere_0 0 rfl rfl)
theorem dX5_wordHere_1 : decode cX5_wordHere 1 = .ok (.istore_n 3, 1) := dk_62 (dk_at dksX5_wordHere_0 1 rfl rfl)
theorem dX5_wordHere_2 : decode cX5_wordHere 2 = .ok (.iconst 0, 1) := dk_3 (dk_at dksX5_wordHere_0 2 rfl rfl)
theorem dX5_wordHere_3 : decode cX5_wordHere 3 = .ok (.istore 4, 2) := dk_54 4 (dk_at dksX5_wordHere_0 3 rfl rfl)
theorem dX5_wordHere_5 : decode cX5_wordHere 5 = .ok (.iload 4, 2) := dk_21 4 (dk_at dksX5_wordHere_0 5 rfl rfl)
theorem dX5_wordHere_7 : decode cX5_wordHere 7 = .ok (.iload_n 2, 1) := dk_28 (dk_at dksX5_wordHere_0 7 rfl rfl)
theorem dX5_wordHere_8 : decode cX5_wordHere 8 = .ok (.if_icmp .ge 27, 3) := dk_162 0 27 (dk_at dksX5_wordHere_0 8 rfl rfl)
theorem dX5_wordHere_11 : decode cX5_wordHere 11 = .ok (.aload_n 0, 1) := dk_42 (dk_at dksX5_wordHere_0 11 rfl rfl)
theorem dX5_wordHere_12 : decode cX5_wordHere 12 = .ok (.iload_n 1, 1) := dk_27 (dk_at dksX5_wordHere_0 12 rfl rfl)
theorem dX5_wordHere_13 : decode cX5_wordHere 13 = .ok (.iload 4, 2) := dk_21 4 (dk_at dksX5_wordHere_0 13 rfl rfl)
theorem dX5_wordHere_15 : decode cX5_wordHere 15 = .ok (.iadd, 1) := dk_96 (dk_at dksX5_wordHere_0 15 rfl rfl)
theorem dX5_wordHere_16 : decode cX5_wordHere 16 = .ok (.invokevirtual 191, 3) := dk_182 0 191 (dk_at dksX5_wordHere_0 16 rfl rfl)
theorem dX5_wordHere_19 : decode cX5_wordHere 19 = .ok (.ifCond .eq 8, 3) := dk_153 0 8 (dk_at dksX5_wordHere_0 19 rfl rfl)
theorem dX5_wordHere_22 : decode cX5_wordHere 22 = .ok (.iload 4, 2) := dk_21 4 (dk_at dksX5_wordHere_0 22 rfl rfl)
theorem dX5_wordHere_24 : decode cX5_wordHere 24 = .ok (.goto 4, 3) := dk_167 0 4 (dk_at dksX5_wordHere_1 0 rfl rfl)
theorem dX5_wordHere_27 : decode cX5_wordHere 27 = .ok (.iload_n 3, 1) := dk_29 (dk_at dksX5_wordHere_1 3 rfl rfl)
theorem dX5_wordHere_28 : decode cX5_wordHere 28 = .ok (.istore_n 3, 1) := dk_62 (dk_at dksX5_wordHere_1 4 rfl rfl)
theorem dX5_wordHere_29 : decode cX5_wordHere 29 = .ok (.iinc 4 1, 3) := dk_132 4 1 (dk_at dksX5_wordHere_1 5 rfl rfl)
theorem dX5_wordHere_32 : decode cX5_wordHere 32 = .ok (.goto (-27), 3) := dk_167 255 229 (dk_at dksX5_wordHere_1 8 rfl rfl)
theorem dX5_wordHere_35 : decode cX5_wordHere 35 = .ok (.iload_n 3, 1) := dk_29 (dk_at dksX5_wordHere_1 11 rfl rfl)
theorem dX5_wordHere_36 : decode cX5_wordHere 36 = .ok (.ireturn, 1) := dk_172 (dk_at dksX5_wordHere_1 12 rfl rfl)
abbrev cX5_find : ByteArray := prog_30_method_24_code
def yX5_find : MethodName := ⟨RX5, "find", "(Z)I"⟩
def dkwX5_find_2 : List UInt8 := [180, 0, 179, 47, 148, 154, 0, 7, 29, 167, 0, 4, 28, 61, 132, 3, 1, 167, 255, 196, 28, 172]
abbrev dktX5_find_2 : List UInt8 := dkwX5_find_2 ++ []
def dkwX5_find_1 : List UInt8 := [153, 0, 12, 42, 180, 0, 103, 29, 47, 167, 0, 9, 42, 180, 0, 100, 29, 47, 42, 180, 0, 30, 42]
abbrev dktX5_find_1 : List UInt8 := dkwX5_find_1 ++ dktX5_find_2
def dkwX5_find_0 : List UInt8 := [2, 61, 3, 62, 29, 27, 153, 0, 10, 42, 180, 0, 207, 167, 0, 7, 42, 180, 0, 210, 162, 0, 47, 27]
abbrev dktX5_find_0 : List UInt8 := dkwX5_find_0 ++ dktX5_find_1
theorem dksX5_find_0 : cX5_find.data.toList.drop 0 = dktX5_find_0 := by decide +kernel
theorem dksX5_find_1 : cX5_find.data.toList.drop 24 = dktX5_find_1 := dk_seg dksX5_find_0 24 rfl rfl
theorem dksX5_find_2 : cX5_find.data.toList.drop 47 = dktX5_find_2 := dk_seg dksX5_find_1 23 rfl rfl
theorem dX5_find_0 : decode cX5_find 0 = .ok (.iconst (-1), 1) := dk_2 (dk_at dksX5_find_0 0 rfl rfl)
theorem dX5_find_1 : decode cX5_find 1 = .ok (.istore_n 2, 1) := dk_61 (dk_at dksX5_find_0 1 rfl rfl)
theorem dX5_find_2 : decode cX5_find 2 = .ok (.iconst 0, 1) := dk_3 (dk_at dksX5_find_0 2 rfl rfl)
theorem dX5_find_3 : decode cX5_find 3 = .ok (.istore_n 3, 1) := dk_62 (dk_at dksX5_find_0 3 rfl rfl)
theorem dX5_find_4 : decode cX5_find 4 = .ok (.iload_n 3, 1) := dk_29 (dk_at dksX5_find_0 4 rfl rfl)
theorem dX5_find_5 : decode cX5_find 5 = .ok (.iload_n 1, 1) := dk_27 (dk_at dksX5_find_0 5 rfl rfl)
theorem dX5_find_6 : decode cX5_find 6 = .ok (.ifCond .eq 10, 3) := dk_153 0 10 (dk_at dksX5_find_0 6 rfl rfl)
theorem dX5_find_9 : decode cX5_find 9 = .ok (.aload_n 0, 1) := dk_42 (dk_at dksX5_find_0 9 rfl rfl)
theorem dX5_find_10 : decode cX5_find 10 = .ok (.getfield 207, 3) := dk_180 0 207 (dk_at dksX5_find_0 10 rfl rfl)
theorem dX5_find_13 : decode cX5_find 13 = .ok (.goto 7, 3) := dk_167 0 7 (dk_at dksX5_find_0 13 rfl rfl)
theorem dX5_find_16 : decode cX5_find 16 = .ok (.aload_n 0, 1) := dk_42 (dk_at dksX5_find_0 16 rfl rfl)
theorem dX5_find_17 : decode cX5_find 17 = .ok (.getfield 210, 3) := dk_180 0 210 (dk_at dksX5_find_0 17 rfl rfl)
theorem dX5_find_20 : decode cX5_find 20 = .ok (.if_icmp .ge 47, 3) := dk_162 0 47 (dk_at dksX5_find_0 20 rfl rfl)
theorem dX5_find_23 : decode cX5_find 23 = .ok (.iload_n 1, 1) := dk_27 (dk_at dksX5_find_0 23 rfl rfl)
theorem dX5_find_24 : decode cX5_find 24 = .ok (.ifCond .eq 12, 3) := dk_153 0 12 (dk_at dksX5_find_1 0 rfl rfl)
theorem dX5_find_27 : decode cX5_find 27 = .ok (.aload_n 0, 1) := dk_42 (dk_at dksX5_find_1 3 rfl rfl)
theorem dX5_find_28 : decode cX5_find 28 = .ok (.getfield 103, 3) := dk_180 0 103 (dk_at dksX5_find_1 4 rfl rfl)
theorem dX5_find_31 : decode cX5_find 31 = .ok (.iload_n 3, 1) := dk_29 (dk_at dksX5_find_1 7 rfl rfl)
theorem dX5_find_32 : decode cX5_find 32 = .ok (.laload, 1) := dk_47 (dk_at dksX5_find_1 8 rfl rfl)
theorem dX5_find_33 : decode cX5_find 33 = .ok (.goto 9, 3) := dk_167 0 9 (dk_at dksX5_find_1 9 rfl rfl)
theorem dX5_find_36 : decode cX5_find 36 = .ok (.aload_n 0, 1) := dk_42 (dk_at dksX5_find_1 12 rfl rfl)
theorem dX5_find_37 : decode cX5_find 37 = .ok (.getfield 100, 3) := dk_180 0 100 (dk_at dksX5_find_1 13 rfl rfl)
theorem dX5_find_40 : decode cX5_find 40 = .ok (.iload_n 3, 1) := dk_29 (dk_at dksX5_find_1 16 rfl rfl)
theorem dX5_find_41 : decode cX5_find 41 = .ok (.laload, 1) := dk_47 (dk_at dksX5_find_1 17 rfl rfl)
theorem dX5_find_42 : decode cX5_find 42 = .ok (.aload_n 0, 1) := dk_42 (dk_at dksX5_find_1 18 rfl rfl)
theorem dX5_find_43 : decode cX5_find 43 = .ok (.getfield 30, 3) := dk_180 0 30 (dk_at dksX5_find_1 19 rfl rfl)
theorem dX5_find_46 : decode cX5_find 46 = .ok (.aload_n 0, 1) := dk_42 (dk_at dksX5_find_1 22 rfl rfl)
theorem dX5_find_47 : decode cX5_find 47 = .ok (.getfield 179, 3) := dk_180 0 179 (dk_at dksX5_find_2 0 rfl rfl)
theorem dX5_find_50 : decode cX5_find 50 = .ok (.laload, 1) := dk_47 (dk_at dksX5_find_2 3 rfl rfl)
theorem dX5_find_51 : decode cX5_find 51 = .ok (.lcmp, 1) := dk_148 (dk_at dksX5_find_2 4 rfl rfl)
theorem dX5_find_52 : decode cX5_find 52 = .ok (.ifCond .ne 7, 3) := dk_154 0 7 (dk_at dksX5_find_2 5 rfl rfl)
theorem dX5_find_55 : decode cX5_find 55 = .ok (.iload_n 3, 1) := dk_29 (dk_at dksX5_find_2 8 rfl rfl)
theorem dX5_find_56 : decode cX5_find 56 = .ok (.goto 4, 3) := dk_167 0 4 (dk_at dksX5_find_2 9 rfl rfl)
theorem dX5_find_59 : decode cX5_find 59 = .ok (.iload_n 2, 1) := dk_28 (dk_at dksX5_find_2 12 rfl rfl)
theorem dX5_find_60 : decode cX5_find 60 = .ok (.istore_n 2, 1) := dk_61 (dk_at dksX5_find_2 13 rfl rfl)
theorem dX5_find_61 : decode cX5_find 61 = .ok (.iinc 3 1, 3) := dk_132 3 1 (dk_at dksX5_find_2 14 rfl rfl)
theorem dX5_find_64 : decode cX5_find 64 = .ok (.goto (-60), 3) := dk_167 255 196 (dk_at dksX5_find_2 17 rfl rfl)
theorem dX5_find_67 : decode cX5_find 67 = .ok (.iload_n 2, 1) := dk_28 (dk_at dksX5_find_2 20 rfl rfl)
theorem dX5_find_68 : decode cX5_find 68 = .ok (.ireturn, 1) := dk_172 (dk_at dksX5_find_2 21 rfl rfl)
abbrev cX5_takeOne : ByteArray := prog_30_method_22_code
def yX5_takeOne : MethodName := ⟨RX5, "takeOne", "(II)I"⟩
def dkwX5_takeOne_2 : List UInt8 := [3, 167, 0, 4, 4, 96, 181, 0, 179, 42, 180, 0, 182, 158, 0, 7, 3, 167, 0, 4, 29, 172]
abbrev dktX5_takeOne_2 : List UInt8 := dkwX5_takeOne_2 ++ []
def dkwX5_takeOne_1 : List UInt8 := [154, 0, 12, 29, 156, 0, 8, 42, 4, 182, 0, 188, 42, 89, 180, 0, 179, 42, 180, 0, 182, 158, 0, 7]
abbrev dktX5_takeOne_1 : List UInt8 := dkwX5_takeOne_1 ++ dktX5_takeOne_2
def dkwX5_takeOne_0 : List UInt8 := [42, 180, 0, 182, 158, 0, 7, 2, 167, 0, 9, 42, 27, 28, 182, 0, 204, 62, 42, 180, 0, 182]
abbrev dktX5_takeOne_0 : List UInt8 := dkwX5_takeOne_0 ++ dktX5_takeOne_1
theorem dksX5_takeOne_0 : cX5_takeOne.data.toList.drop 0 = dktX5_takeOne_0 := by decide +kernel
theorem dksX5_takeOne_1 : cX5_takeOne.data.toList.drop 22 = dktX5_takeOne_1 := dk_seg dksX5_takeOne_0 22 rfl rfl
theorem dksX5_takeOne_2 : cX5_takeOne.data.toList.drop 46 = dktX5_takeOne_2 := dk_seg dksX5_takeOne_1 24 rfl rfl
theorem dX5_takeOne_0 : decode cX5_takeOne 0 = .ok (.aload_n 0, 1) := dk_42 (dk_at dksX5_takeOne_0 0 rfl rfl)
theorem dX5_takeOne_1 : decode cX5_takeOne 1 = .ok (.getfield 182, 3) := dk_180 0 182 (dk_at dksX5_takeOne_0 1 rfl rfl)
theorem dX5_takeOne_4 : decode cX5_takeOne 4 = .ok (.ifCond .le 7, 3) := dk_158 0 7 (dk_at dksX5_takeOne_0 4 rfl rfl)
theorem dX5_takeOne_7 : decode cX5_takeOne 7 = .ok (.iconst (-1), 1) := dk_2 (dk_at dksX5_takeOne_0 7 rfl rfl)
theorem dX5_takeOne_8 : decode cX5_takeOne 8 = .ok (.goto 9, 3) := dk_167 0 9 (dk_at dksX5_takeOne_0 8 rfl rfl)
theorem dX5_takeOne_11 : decode cX5_takeOne 11 = .ok (.aload_n 0, 1) := dk_42 (dk_at dksX5_takeOne_0 11 rfl rfl)
theorem dX5_takeOne_12 : decode cX5_takeOne 12 = .ok (.iload_n 1, 1) := dk_27 (dk_at dksX5_takeOne_0 12 rfl rfl)
theorem dX5_takeOne_13 : decode cX5_takeOne 13 = .ok (.iload_n 2, 1) := dk_28 (dk_at dksX5_takeOne_0 13 rfl rfl)
theorem dX5_takeOne_14 : decode cX5_takeOne 14 = .ok (.invokevirtual 204, 3) := dk_182 0 204 (dk_at dksX5_takeOne_0 14 rfl rfl)
theorem dX5_takeOne_17 : decode cX5_takeOne 17 = .ok (.istore_n 3, 1) := dk_62 (dk_at dksX5_takeOne_0 17 rfl rfl)
theorem dX5_takeOne_18 : decode cX5_takeOne 18 = .ok (.aload_n 0, 1) := dk_42 (dk_at dksX5_takeOne_0 18 rfl rfl)
theorem dX5_takeOne_19 : decode cX5_takeOne 19 = .ok (.getfield 182, 3) := dk_180 0 182 (dk_at dksX5_takeOne_0 19 rfl rfl)
theorem dX5_takeOne_22 : decode cX5_takeOne 22 = .ok (.ifCond .ne 12, 3) := dk_154 0 12 (dk_at dksX5_takeOne_1 0 rfl rfl)
theorem dX5_takeOne_25 : decode cX5_takeOne 25 = .ok (.iload_n 3, 1) := dk_29 (dk_at dksX5_takeOne_1 3 rfl rfl)
theorem dX5_takeOne_26 : decode cX5_takeOne 26 = .ok (.ifCond .ge 8, 3) := dk_156 0 8 (dk_at dksX5_takeOne_1 4 rfl rfl)
theorem dX5_takeOne_29 : decode cX5_takeOne 29 = .ok (.aload_n 0, 1) := dk_42 (dk_at dksX5_takeOne_1 7 rfl rfl)
theorem dX5_takeOne_30 : decode cX5_takeOne 30 = .ok (.iconst 1, 1) := dk_4 (dk_at dksX5_takeOne_1 8 rfl rfl)
theorem dX5_takeOne_31 : decode cX5_takeOne 31 = .ok (.invokevirtual 188, 3) := dk_182 0 188 (dk_at dksX5_takeOne_1 9 rfl rfl)
theorem dX5_takeOne_34 : decode cX5_takeOne 34 = .ok (.aload_n 0, 1) := dk_42 (dk_at dksX5_takeOne_1 12 rfl rfl)
theorem dX5_takeOne_35 : decode cX5_takeOne 35 = .ok (.dup, 1) := dk_89 (dk_at dksX5_takeOne_1 13 rfl rfl)
theorem dX5_takeOne_36 : decode cX5_takeOne 36 = .ok (.getfield 179, 3) := dk_180 0 179 (dk_at dksX5_takeOne_1 14 rfl rfl)
theorem dX5_takeOne_39 : decode cX5_takeOne 39 = .ok (.aload_n 0, 1) := dk_42 (dk_at dksX5_takeOne_1 17 rfl rfl)
theorem dX5_takeOne_40 : decode cX5_takeOne 40 = .ok (.getfield 182, 3) := dk_180 0 182 (dk_at dksX5_takeOne_1 18 rfl rfl)
theorem dX5_takeOne_43 : decode cX5_takeOne 43 = .ok (.ifCond .le 7, 3) := dk_158 0 7 (dk_at dksX5_takeOne_1 21 rfl rfl)
theorem dX5_takeOne_46 : decode cX5_takeOne 46 = .ok (.iconst 0, 1) := dk_3 (dk_at dksX5_takeOne_2 0 rfl rfl)
theorem dX5_takeOne_47 : decode cX5_takeOne 47 = .ok (.goto 4, 3) := dk_167 0 4 (dk_at dksX5_takeOne_2 1 rfl rfl)
theorem dX5_takeOne_50 : decode cX5_takeOne 50 = .ok (.iconst 1, 1) := dk_4 (dk_at dksX5_takeOne_2 4 rfl rfl)
theorem dX5_takeOne_51 : decode cX5_takeOne 51 = .ok (.iadd, 1) := dk_96 (dk_at dksX5_takeOne_2 5 rfl rfl)
theorem dX5_takeOne_52 : decode cX5_takeOne 52 = .ok (.putfield 179, 3) := dk_181 0 179 (dk_at dksX5_takeOne_2 6 rfl rfl)
theorem dX5_takeOne_55 : decode cX5_takeOne 55 = .ok (.aload_n 0, 1) := dk_42 (dk_at dksX5_takeOne_2 9 rfl rfl)
theorem dX5_takeOne_56 : decode cX5_takeOne 56 = .ok (.getfield 182, 3) := dk_180 0 182 (dk_at dksX5_takeOne_2 10 rfl rfl)
theorem dX5_takeOne_59 : decode cX5_takeOne 59 = .ok (.ifCond .le 7, 3) := dk_158 0 7 (dk_at dksX5_takeOne_2 13 rfl rfl)
theorem dX5_takeOne_62 : decode cX5_takeOne 62 = .ok (.iconst 0, 1) := dk_3 (dk_at dksX5_takeOne_2 16 rfl rfl)
theorem dX5_takeOne_63 : decode cX5_takeOne 63 = .ok (.goto 4, 3) := dk_167 0 4 (dk_at dksX5_takeOne_2 17 rfl rfl)
theorem dX5_takeOne_66 : decode cX5_takeOne 66 = .ok (.iload_n 3, 1) := dk_29 (dk_at dksX5_takeOne_2 20 rfl rfl)
theorem dX5_takeOne_67 : decode cX5_takeOne 67 = .ok (.ireturn, 1) := dk_172 (dk_at dksX5_takeOne_2 21 rfl rfl)
abbrev cX5_takeAfter : ByteArray := prog_30_method_20_code
def yX5_takeAfter : MethodName := ⟨RX5, "takeAfter", "(III)I"⟩
def dkwX5_takeAfter_0 : List UInt8 := [42, 27, 182, 0, 197, 42, 28, 29, 182, 0, 200, 172]
abbrev dktX5_takeAfter_0 : List UInt8 := dkwX5_takeAfter_0 ++ []
theorem dksX5_takeAfter_0 : cX5_takeAfter.data.toList.drop 0 = dktX5_takeAfter_0 := by decide +kernel
theorem dX5_takeAfter_0 : decode cX5_takeAfter 0 = .ok (.aload_n 0, 1) := dk_42 (dk_at dksX5_takeAfter_0 0 rfl rfl)
theorem dX5_takeAfter_1 : decode cX5_takeAfter 1 = .ok (.iload_n 1, 1) := dk_27 (dk_at dksX5_takeAfter_0 1 rfl rfl)
theorem dX5_takeAfter_2 : decode cX5_takeAfter 2 = .ok (.invokevirtual 197, 3) := dk_182 0 197 (dk_at dksX5_takeAfter_0 2 rfl rfl)
theorem dX5_takeAfter_5 : decode cX5_takeAfter 5 = .ok (.aload_n 0, 1) := dk_42 (dk_at dksX5_takeAfter_0 5 rfl rfl)
theorem dX5_takeAfter_6 : decode cX5_takeAfter 6 = .ok (.iload_n 2, 1) := dk_28 (dk_at dksX5_takeAfter_0 6 rfl rfl)
theorem dX5_takeAfter_7 : decode cX5_takeAfter 7 = .ok (.iload_n 3, 1) := dk_29 (dk_at dksX5_takeAfter_0 7 rfl rfl)
theorem dX5_takeAfter_8 : decode cX5_takeAfter 8 = .ok (.invokevirtual 200, 3) := dk_182 0 200 (dk_at dksX5_takeAfter_0 8 rfl rfl)
theorem dX5_takeAfter_11 : decode cX5_takeAfter 11 = .ok (.ireturn, 1) := dk_172 (dk_at dksX5_takeAfter_0 11 rfl rfl)
abbrev cX5_takeWord : ByteArray := prog_30_method_16_code
def yX5_takeWord : MethodName := ⟨RX5, "takeWord", "(I)V"⟩
def dkwX5_takeWord_0 : List UInt8 := [42, 27, 182, 0, 194, 154, 0, 8, 42, 4, 182, 0, 188, 177]
abbrev dktX5_takeWord_0 : List UInt8 := dkwX5_takeWord_0 ++ []
theorem dksX5_takeWord_0 : cX5_takeWord.data.toList.drop 0 = dktX5_takeWord_0 := by decide +kernel
theorem dX5_takeWord_0 : decode cX5_takeWord 0 = .ok (.aload_n 0, 1) := dk_42 (dk_at dksX5_takeWord_0 0 rfl rfl)
theorem dX5_takeWord_1 : decode cX5_takeWord 1 = .ok (.iload_n 1, 1) := dk_27 (dk_at dksX5_takeWord_0 1 rfl rfl)
theorem dX5_takeWord_2 : decode cX5_takeWord 2 = .ok (.invokevirtual 194, 3) := dk_182 0 194 (dk_at dksX5_takeWord_0 2 rfl rfl)
theorem dX5_takeWord_5 : decode cX5_takeWord 5 = .ok (.ifCond .ne 8, 3) := dk_154 0 8 (dk_at dksX5_takeWord_0 5 rfl rfl)
theorem dX5_takeWord_8 : decode cX5_takeWord 8 = .ok (.aload_n 0, 1) := dk_42 (dk_at dksX5_takeWord_0 8 rfl rfl)
theorem dX5_takeWord_9 : decode cX5_takeWord 9 = .ok (.iconst 1, 1) := dk_4 (dk_at dksX5_takeWord_0 9 rfl rfl)
theorem dX5_takeWord_10 : decode cX5_takeWord 10 = .ok (.invokevirtual 188, 3) := dk_182 0 188 (dk_at dksX5_takeWord_0 10 rfl rfl)
theorem dX5_takeWord_13 : decode cX5_takeWord 13 = .ok (.return_, 1) := dk_177 (dk_at dksX5_takeWord_0 13 rfl rfl)
abbrev cX5_hasWord : ByteArray := prog_30_method_15_code
def yX5_hasWord : MethodName := ⟨RX5, "hasWord", "(I)Z"⟩
def dkwX5_hasWord_1 : List UInt8 := [28, 172]
abbrev dktX5_hasWord_1 : List UInt8 := dkwX5_hasWord_1 ++ []
def dkwX5_hasWord_0 : List UInt8 := [42, 27, 182, 0, 191, 61, 42, 89, 180, 0, 179, 28, 153, 0, 7, 4, 167, 0, 4, 3, 96, 181, 0, 179]
abbrev dktX5_hasWord_0 : List UInt8 := dkwX5_hasWord_0 ++ dktX5_hasWord_1
theorem dksX5_hasWord_0 : cX5_hasWord.data.toList.drop 0 = dktX5_hasWord_0 := by decide +kernel
theorem dksX5_hasWord_1 : cX5_hasWord.data.toList.drop 24 = dktX5_hasWord_1 := dk_seg dksX5_hasWord_0 24 rfl rfl
theorem dX5_hasWord_0 : decode cX5_hasWord 0 = .ok (.aload_n 0, 1) := dk_42 (dk_at dksX5_hasWord_0 0 rfl rfl)
theorem dX5_hasWord_1 : decode cX5_hasWord 1 = .ok (.iload_n 1, 1) := dk_27 (dk_at dksX5_hasWord_0 1 rfl rfl)
theorem dX5_hasWord_2 : decode cX5_hasWord 2 = .ok (.invokevirtual 191, 3) := dk_182 0 191 (dk_at dksX5_hasWord_0 2 rfl rfl)
theorem dX5_hasWord_5 : decode cX5_hasWord 5 = .ok (.istore_n 2, 1) := dk_61 (dk_at dksX5_hasWord_0 5 rfl rfl)
theorem dX5_hasWord_6 : decode cX5_hasWord 6 = .ok (.aload_n 0, 1) := dk_42 (dk_at dksX5_hasWord_0 6 rfl rfl)
theorem dX5_hasWord_7 : decode cX5_hasWord 7 = .ok (.dup, 1) := dk_89 (dk_at dksX5_hasWord_0 7 rfl rfl)
theorem dX5_hasWord_8 : decode cX5_hasWord 8 = .ok (.getfield 179, 3) := dk_180 0 179 (dk_at dksX5_hasWord_0 8 rfl rfl)
theorem dX5_hasWord_11 : decode cX5_hasWord 11 = .ok (.iload_n 2, 1) := dk_28 (dk_at dksX5_hasWord_0 11 rfl rfl)
theorem dX5_hasWord_12 : decode cX5_hasWord 12 = .ok (.ifCond .eq 7, 3) := dk_153 0 7 (dk_at dksX5_hasWord_0 12 rfl rfl)
theorem dX5_hasWord_15 : decode cX5_hasWord 15 = .ok (.iconst 1, 1) := dk_4 (dk_at dksX5_hasWord_0 15 rfl rfl)
theorem dX5_hasWord_16 : decode cX5_hasWord 16 = .ok (.goto 4, 3) := dk_167 0 4 (dk_at dksX5_hasWord_0 16 rfl rfl)
theorem dX5_hasWord_19 : decode cX5_hasWord 19 = .ok (.iconst 0, 1) := dk_3 (dk_at dksX5_hasWord_0 19 rfl rfl)
theorem dX5_hasWord_20 : decode cX5_hasWord 20 = .ok (.iadd, 1) := dk_96 (dk_at dksX5_hasWord_0 20 rfl rfl)
theorem dX5_hasWord_21 : decode cX5_hasWord 21 = .ok (.putfield 179, 3) := dk_181 0 179 (dk_at dksX5_hasWord_0 21 rfl rfl)
theorem dX5_hasWord_24 : decode cX5_hasWord 24 = .ok (.iload_n 2, 1) := dk_28 (dk_at dksX5_hasWord_1 0 rfl rfl)
theorem dX5_hasWord_25 : decode cX5_hasWord 25 = .ok (.ireturn, 1) := dk_172 (dk_at dksX5_hasWord_1 1 rfl rfl)
abbrev cX5_takeNumber : ByteArray := prog_30_method_19_code
def yX5_takeNumber : MethodName := ⟨RX5, "takeNumber", "(II)I"⟩
def dkwX5_takeNumber_4 : List UInt8 := [180, 0, 179, 4, 100, 47, 136, 172]
abbrev dktX5_takeNumber_4 : List UInt8 := dkwX5_takeNumber_4 ++ []
def dkwX5_takeNumber_3 : List UInt8 := [42, 180, 0, 182, 158, 0, 5, 3, 172, 42, 89, 180, 0, 179, 4, 96, 181, 0, 179, 42, 180, 0, 30, 42]
abbrev dktX5_takeNumber_3 : List UInt8 := dkwX5_takeNumber_3 ++ dktX5_takeNumber_4
def dkwX5_takeNumber_2 : List UInt8 := [148, 155, 0, 18, 42, 180, 0, 30, 42, 180, 0, 179, 47, 28, 133, 148, 158, 0, 8, 42, 7, 182, 0, 188]
abbrev dktX5_takeNumber_2 : List UInt8 := dkwX5_takeNumber_2 ++ dktX5_takeNumber_3
def dkwX5_takeNumber_1 : List UInt8 := [182, 0, 188, 167, 0, 45, 42, 180, 0, 182, 154, 0, 38, 42, 180, 0, 30, 42, 180, 0, 179, 47, 27, 133]
abbrev dktX5_takeNumber_1 : List UInt8 := dkwX5_takeNumber_1 ++ dktX5_takeNumber_2
def dkwX5_takeNumber_0 : List UInt8 := [42, 180, 0, 182, 154, 0, 24, 42, 180, 0, 24, 42, 180, 0, 179, 46, 5, 159, 0, 11, 42, 4]
abbrev dktX5_takeNumber_0 : List UInt8 := dkwX5_takeNumber_0 ++ dktX5_takeNumber_1
theorem dksX5_takeNumber_0 : cX5_takeNumber.data.toList.drop 0 = dktX5_takeNumber_0 := by decide +kernel
theorem dksX5_takeNumber_1 : cX5_takeNumber.data.toList.drop 22 = dktX5_takeNumber_1 := dk_seg dksX5_takeNumber_0 22 rfl rfl
theorem dksX5_takeNumber_2 : cX5_takeNumber.data.toList.drop 46 = dktX5_takeNumber_2 := dk_seg dksX5_takeNumber_1 24 rfl rfl
theorem dksX5_takeNumber_3 : cX5_takeNumber.data.toList.drop 70 = dktX5_takeNumber_3 := dk_seg dksX5_takeNumber_2 24 rfl rfl
theorem dksX5_takeNumber_4 : cX5_takeNumber.data.toList.drop 94 = dktX5_takeNumber_4 := dk_seg dksX5_takeNumber_3 24 rfl rfl
theorem dX5_takeNumber_0 : decode cX5_takeNumber 0 = .ok (.aload_n 0, 1) := dk_42 (dk_at dksX5_takeNumber_0 0 rfl rfl)
theorem dX5_takeNumber_1 : decode cX5_takeNumber 1 = .ok (.getfield 182, 3) := dk_180 0 182 (dk_at dksX5_takeNumber_0 1 rfl rfl)
theorem dX5_takeNumber_4 : decode cX5_takeNumber 4 = .ok (.ifCond .ne 24, 3) := dk_154 0 24 (dk_at dksX5_takeNumber_0 4 rfl rfl)
theorem dX5_takeNumber_7 : decode cX5_takeNumber 7 = .ok (.aload_n 0, 1) := dk_42 (dk_at dksX5_takeNumber_0 7 rfl rfl)
theorem dX5_takeNumber_8 : decode cX5_takeNumber 8 = .ok (.getfield 24, 3) := dk_180 0 24 (dk_at dksX5_takeNumber_0 8 rfl rfl)
theorem dX5_takeNumber_11 : decode cX5_takeNumber 11 = .ok (.aload_n 0, 1) := dk_42 (dk_at dksX5_takeNumber_0 11 rfl rfl)
theorem dX5_takeNumber_12 : decode cX5_takeNumber 12 = .ok (.getfield 179, 3) := dk_180 0 179 (dk_at dksX5_takeNumber_0 12 rfl rfl)
theorem dX5_takeNumber_15 : decode cX5_takeNumber 15 = .ok (.iaload, 1) := dk_46 (dk_at dksX5_takeNumber_0 15 rfl rfl)
theorem dX5_takeNumber_16 : decode cX5_takeNumber 16 = .ok (.iconst 2, 1) := dk_5 (dk_at dksX5_takeNumber_0 16 rfl rfl)
theorem dX5_takeNumber_17 : decode cX5_takeNumber 17 = .ok (.if_icmp .eq 11, 3) := dk_159 0 11 (dk_at dksX5_takeNumber_0 17 rfl rfl)
theorem dX5_takeNumber_20 : decode cX5_takeNumber 20 = .ok (.aload_n 0, 1) := dk_42 (dk_at dksX5_takeNumber_0 20 rfl rfl)
theorem dX5_takeNumber_21 : decode cX5_takeNumber 21 = .ok (.iconst 1, 1) := dk_4 (dk_at dksX5_takeNumber_0 21 rfl rfl)
theorem dX5_takeNumber_22 : decode cX5_takeNumber 22 = .ok (.invokevirtual 188, 3) := dk_182 0 188 (dk_at dksX5_takeNumber_1 0 rfl rfl)
theorem dX5_takeNumber_25 : decode cX5_takeNumber 25 = .ok (.goto 45, 3) := dk_167 0 45 (dk_at dksX5_takeNumber_1 3 rfl rfl)
theorem dX5_takeNumber_28 : decode cX5_takeNumber 28 = .ok (.aload_n 0, 1) := dk_42 (dk_at dksX5_takeNumber_1 6 rfl rfl)
theorem dX5_takeNumber_29 : decode cX5_takeNumber 29 = .ok (.getfield 182, 3) := dk_180 0 182 (dk_at dksX5_takeNumber_1 7 rfl rfl)
theorem dX5_takeNumber_32 : decode cX5_takeNumber 32 = .ok (.ifCond .ne 38, 3) := dk_154 0 38 (dk_at dksX5_takeNumber_1 10 rfl rfl)
theorem dX5_takeNumber_35 : decode cX5_takeNumber 35 = .ok (.aload_n 0, 1) := dk_42 (dk_at dksX5_takeNumber_1 13 rfl rfl)
theorem dX5_takeNumber_36 : decode cX5_takeNumber 36 = .ok (.getfield 30, 3) := dk_180 0 30 (dk_at dksX5_takeNumber_1 14 rfl rfl)
theorem dX5_takeNumber_39 : decode cX5_takeNumber 39 = .ok (.aload_n 0, 1) := dk_42 (dk_at dksX5_takeNumber_1 17 rfl rfl)
theorem dX5_takeNumber_40 : decode cX5_takeNumber 40 = .ok (.getfield 179, 3) := dk_180 0 179 (dk_at dksX5_takeNumber_1 18 rfl rfl)
theorem dX5_takeNumber_43 : decode cX5_takeNumber 43 = .ok (.laload, 1) := dk_47 (dk_at dksX5_takeNumber_1 21 rfl rfl)
theorem dX5_takeNumber_44 : decode cX5_takeNumber 44 = .ok (.iload_n 1, 1) := dk_27 (dk_at dksX5_takeNumber_1 22 rfl rfl)
theorem dX5_takeNumber_45 : decode cX5_takeNumber 45 = .ok (.i2l, 1) := dk_133 (dk_at dksX5_takeNumber_1 23 rfl rfl)
theorem dX5_takeNumber_46 : decode cX5_takeNumber 46 = .ok (.lcmp, 1) := dk_148 (dk_at dksX5_takeNumber_2 0 rfl rfl)
theorem dX5_takeNumber_47 : decode cX5_takeNumber 47 = .ok (.ifCond .lt 18, 3) := dk_155 0 18 (dk_at dksX5_takeNumber_2 1 rfl rfl)
theorem dX5_takeNumber_50 : decode cX5_takeNumber 50 = .ok (.aload_n 0, 1) := dk_42 (dk_at dksX5_takeNumber_2 4 rfl rfl)
theorem dX5_takeNumber_51 : decode cX5_takeNumber 51 = .ok (.getfield 30, 3) := dk_180 0 30 (dk_at dksX5_takeNumber_2 5 rfl rfl)
theorem dX5_takeNumber_54 : decode cX5_takeNumber 54 = .ok (.aload_n 0, 1) := dk_42 (dk_at dksX5_takeNumber_2 8 rfl rfl)
theorem dX5_takeNumber_55 : decode cX5_takeNumber 55 = .ok (.getfield 179, 3) := dk_180 0 179 (dk_at dksX5_takeNumber_2 9 rfl rfl)
theorem dX5_takeNumber_58 : decode cX5_takeNumber 58 = .ok (.laload, 1) := dk_47 (dk_at dksX5_takeNumber_2 12 rfl rfl)
theorem dX5_takeNumber_59 : decode cX5_takeNumber 59 = .ok (.iload_n 2, 1) := dk_28 (dk_at dksX5_takeNumber_2 13 rfl rfl)
theorem dX5_takeNumber_60 : decode cX5_takeNumber 60 = .ok (.i2l, 1) := dk_133 (dk_at dksX5_takeNumber_2 14 rfl rfl)
theorem dX5_takeNumber_61 : decode cX5_takeNumber 61 = .ok (.lcmp, 1) := dk_148 (dk_at dksX5_takeNumber_2 15 rfl rfl)
theorem dX5_takeNumber_62 : decode cX5_takeNumber 62 = .ok (.ifCond .le 8, 3) := dk_158 0 8 (dk_at dksX5_takeNumber_2 16 rfl rfl)
theorem dX5_takeNumber_65 : decode cX5_takeNumber 65 = .ok (.aload_n 0, 1) := dk_42 (dk_at dksX5_takeNumber_2 19 rfl rfl)
theorem dX5_takeNumber_66 : decode cX5_takeNumber 66 = .ok (.iconst 4, 1) := dk_7 (dk_at dksX5_takeNumber_2 20 rfl rfl)
theorem dX5_takeNumber_67 : decode cX5_takeNumber 67 = .ok (.invokevirtual 188, 3) := dk_182 0 188 (dk_at dksX5_takeNumber_2 21 rfl rfl)
theorem dX5_takeNumber_70 : decode cX5_takeNumber 70 = .ok (.aload_n 0, 1) := dk_42 (dk_at dksX5_takeNumber_3 0 rfl rfl)
theorem dX5_takeNumber_71 : decode cX5_takeNumber 71 = .ok (.getfield 182, 3) := dk_180 0 182 (dk_at dksX5_takeNumber_3 1 rfl rfl)
theorem dX5_takeNumber_74 : decode cX5_takeNumber 74 = .ok (.ifCond .le 5, 3) := dk_158 0 5 (dk_at dksX5_takeNumber_3 4 rfl rfl)
theorem dX5_takeNumber_77 : decode cX5_takeNumber 77 = .ok (.iconst 0, 1) := dk_3 (dk_at dksX5_takeNumber_3 7 rfl rfl)
theorem dX5_takeNumber_78 : decode cX5_takeNumber 78 = .ok (.ireturn, 1) := dk_172 (dk_at dksX5_takeNumber_3 8 rfl rfl)
theorem dX5_takeNumber_79 : decode cX5_takeNumber 79 = .ok (.aload_n 0, 1) := dk_42 (dk_at dksX5_takeNumber_3 9 rfl rfl)
theorem dX5_takeNumber_80 : decode cX5_takeNumber 80 = .ok (.dup, 1) := dk_89 (dk_at dksX5_takeNumber_3 10 rfl rfl)
theorem dX5_takeNumber_81 : decode cX5_takeNumber 81 = .ok (.getfield 179, 3) := dk_180 0 179 (dk_at dksX5_takeNumber_3 11 rfl rfl)
theorem dX5_takeNumber_84 : decode cX5_takeNumber 84 = .ok (.iconst 1, 1) := dk_4 (dk_at dksX5_takeNumber_3 14 rfl rfl)
theorem dX5_takeNumber_85 : decode cX5_takeNumber 85 = .ok (.iadd, 1) := dk_96 (dk_at dksX5_takeNumber_3 15 rfl rfl)
theorem dX5_takeNumber_86 : decode cX5_takeNumber 86 = .ok (.putfield 179, 3) := dk_181 0 179 (dk_at dksX5_takeNumber_3 16 rfl rfl)
theorem dX5_takeNumber_89 : decode cX5_takeNumber 89 = .ok (.aload_n 0, 1) := dk_42 (dk_at dksX5_takeNumber_3 19 rfl rfl)
theorem dX5_takeNumber_90 : decode cX5_takeNumber 90 = .ok (.getfield 30, 3) := dk_180 0 30 (dk_at dksX5_takeNumber_3 20 rfl rfl)
theorem dX5_takeNumber_93 : decode cX5_takeNumber 93 = .ok (.aload_n 0, 1) := dk_42 (dk_at dksX5_takeNumber_3 23 rfl rfl)
theorem dX5_takeNumber_94 : decode cX5_takeNumber 94 = .ok (.getfield 179, 3) := dk_180 0 179 (dk_at dksX5_takeNumber_4 0 rfl rfl)
theorem dX5_takeNumber_97 : decode cX5_takeNumber 97 = .ok (.iconst 1, 1) := dk_4 (dk_at dksX5_takeNumber_4 3 rfl rfl)
theorem dX5_takeNumber_98 : decode cX5_takeNumber 98 = .ok (.isub, 1) := dk_100 (dk_at dksX5_takeNumber_4 4 rfl rfl)
theorem dX5_takeNumber_99 : decode cX5_takeNumber 99 = .ok (.laload, 1) := dk_47 (dk_at dksX5_takeNumber_4 5 rfl rfl)
theorem dX5_takeNumber_100 : decode cX5_takeNumber 100 = .ok (.l2i, 1) := dk_136 (dk_at dksX5_takeNumber_4 6 rfl rfl)
theorem dX5_takeNumber_101 : decode cX5_takeNumber 101 = .ok (.ireturn, 1) := dk_172 (dk_at dksX5_takeNumber_4 7 rfl rfl)
abbrev cX5_readBar : ByteArray := prog_30_method_29_code
def yX5_readBar : MethodName := ⟨RX5, "readBar", "()V"⟩
def dkwX5_readBar_4 : List UInt8 := [92, 46, 4, 96, 79, 177]
abbrev dktX5_readBar_4 : List UInt8 := dkwX5_readBar_4 ++ []
def dkwX5_readBar_3 : List UInt8 := [181, 0, 179, 42, 180, 0, 91, 16, 118, 16, 6, 27, 104, 96, 28, 96, 4, 79, 42, 180, 0, 91, 16, 81]
abbrev dktX5_readBar_3 : List UInt8 := dkwX5_readBar_3 ++ dktX5_readBar_4
def dkwX5_readBar_2 : List UInt8 := [46, 4, 160, 0, 8, 42, 6, 182, 0, 188, 42, 180, 0, 182, 154, 0, 39, 42, 89, 180, 0, 179, 4, 96]
abbrev dktX5_readBar_2 : List UInt8 := dkwX5_readBar_2 ++ dktX5_readBar_3
def dkwX5_readBar_1 : List UInt8 := [180, 0, 182, 154, 0, 31, 27, 28, 159, 0, 21, 42, 180, 0, 91, 16, 118, 16, 6, 27, 104, 96, 28, 96]
abbrev dktX5_readBar_1 : List UInt8 := dkwX5_readBar_1 ++ dktX5_readBar_2
def dkwX5_readBar_0 : List UInt8 := [42, 89, 180, 0, 179, 4, 96, 181, 0, 179, 42, 4, 182, 0, 253, 60, 42, 4, 182, 0, 221, 61, 42]
abbrev dktX5_readBar_0 : List UInt8 := dkwX5_readBar_0 ++ dktX5_readBar_1
theorem dksX5_readBar_0 : cX5_readBar.data.toList.drop 0 = dktX5_readBar_0 := by decide +kernel
theorem dksX5_readBar_1 : cX5_readBar.data.toList.drop 23 = dktX5_readBar_1 := dk_seg dksX5_readBar_0 23 rfl rfl
theorem dksX5_readBar_2 : cX5_readBar.data.toList.drop 47 = dktX5_readBar_2 := dk_seg dksX5_readBar_1 24 rfl rfl
theorem dksX5_readBar_3 : cX5_readBar.data.toList.drop 71 = dktX5_readBar_3 := dk_seg dksX5_readBar_2 24 rfl rfl
theorem dksX5_readBar_4 : cX5_readBar.data.toList.drop 95 = dktX5_readBar_4 := dk_seg dksX5_readBar_3 24 rfl rfl
theorem dX5_readBar_0 : decode cX5_readBar 0 = .ok (.aload_n 0, 1) := dk_42 (dk_at dksX5_readBar_0 0 rfl rfl)
theorem dX5_readBar_1 : decode cX5_readBar 1 = .ok (.dup, 1) := dk_89 (dk_at dksX5_readBar_0 1 rfl rfl)
theorem dX5_readBar_2 : decode cX5_readBar 2 = .ok (.getfield 179, 3) := dk_180 0 179 (dk_at dksX5_readBar_0 2 rfl rfl)
theorem dX5_readBar_5 : decode cX5_readBar 5 = .ok (.iconst 1, 1) := dk_4 (dk_at dksX5_readBar_0 5 rfl rfl)
theorem dX5_readBar_6 : decode cX5_readBar 6 = .ok (.iadd, 1) := dk_96 (dk_at dksX5_readBar_0 6 rfl rfl)
theorem dX5_readBar_7 : decode cX5_readBar 7 = .ok (.putfield 179, 3) := dk_181 0 179 (dk_at dksX5_readBar_0 7 rfl rfl)
theorem dX5_readBar_10 : decode cX5_readBar 10 = .ok (.aload_n 0, 1) := dk_42 (dk_at dksX5_readBar_0 10 rfl rfl)
theorem dX5_readBar_11 : decode cX5_readBar 11 = .ok (.iconst 1, 1) := dk_4 (dk_at dksX5_readBar_0 11 rfl rfl)
theorem dX5_readBar_12 : decode cX5_readBar 12 = .ok (.invokevirtual 253, 3) := dk_182 0 253 (dk_at dksX5_readBar_0 12 rfl rfl)
theorem dX5_readBar_15 : decode cX5_readBar 15 = .ok (.istore_n 1, 1) := dk_60 (dk_at dksX5_readBar_0 15 rfl rfl)
theorem dX5_readBar_16 : decode cX5_readBar 16 = .ok (.aload_n 0, 1) := dk_42 (dk_at dksX5_readBar_0 16 rfl rfl)
theorem dX5_readBar_17 : decode cX5_readBar 17 = .ok (.iconst 1, 1) := dk_4 (dk_at dksX5_readBar_0 17 rfl rfl)
theorem dX5_readBar_18 : decode cX5_readBar 18 = .ok (.invokevirtual 221, 3) := dk_182 0 221 (dk_at dksX5_readBar_0 18 rfl rfl)
theorem dX5_readBar_21 : decode cX5_readBar 21 = .ok (.istore_n 2, 1) := dk_61 (dk_at dksX5_readBar_0 21 rfl rfl)
theorem dX5_readBar_22 : decode cX5_readBar 22 = .ok (.aload_n 0, 1) := dk_42 (dk_at dksX5_readBar_0 22 rfl rfl)
theorem dX5_readBar_23 : decode cX5_readBar 23 = .ok (.getfield 182, 3) := dk_180 0 182 (dk_at dksX5_readBar_1 0 rfl rfl)
theorem dX5_readBar_26 : decode cX5_readBar 26 = .ok (.ifCond .ne 31, 3) := dk_154 0 31 (dk_at dksX5_readBar_1 3 rfl rfl)
theorem dX5_readBar_29 : decode cX5_readBar 29 = .ok (.iload_n 1, 1) := dk_27 (dk_at dksX5_readBar_1 6 rfl rfl)
theorem dX5_readBar_30 : decode cX5_readBar 30 = .ok (.iload_n 2, 1) := dk_28 (dk_at dksX5_readBar_1 7 rfl rfl)
theorem dX5_readBar_31 : decode cX5_readBar 31 = .ok (.if_icmp .eq 21, 3) := dk_159 0 21 (dk_at dksX5_readBar_1 8 rfl rfl)
theorem dX5_readBar_34 : decode cX5_readBar 34 = .ok (.aload_n 0, 1) := dk_42 (dk_at dksX5_readBar_1 11 rfl rfl)
theorem dX5_readBar_35 : decode cX5_readBar 35 = .ok (.getfield 91, 3) := dk_180 0 91 (dk_at dksX5_readBar_1 12 rfl rfl)
theorem dX5_readBar_38 : decode cX5_readBar 38 = .ok (.bipush 118, 2) := dk_16 118 (dk_at dksX5_readBar_1 15 rfl rfl)
theorem dX5_readBar_40 : decode cX5_readBar 40 = .ok (.bipush 6, 2) := dk_16 6 (dk_at dksX5_readBar_1 17 rfl rfl)
theorem dX5_readBar_42 : decode cX5_readBar 42 = .ok (.iload_n 1, 1) := dk_27 (dk_at dksX5_readBar_1 19 rfl rfl)
theorem dX5_readBar_43 : decode cX5_readBar 43 = .ok (.imul, 1) := dk_104 (dk_at dksX5_readBar_1 20 rfl rfl)
theorem dX5_readBar_44 : decode cX5_readBar 44 = .ok (.iadd, 1) := dk_96 (dk_at dksX5_readBar_1 21 rfl rfl)
theorem dX5_readBar_45 : decode cX5_readBar 45 = .ok (.iload_n 2, 1) := dk_28 (dk_at dksX5_readBar_1 22 rfl rfl)
theorem dX5_readBar_46 : decode cX5_readBar 46 = .ok (.iadd, 1) := dk_96 (dk_at dksX5_readBar_1 23 rfl rfl)
theorem dX5_readBar_47 : decode cX5_readBar 47 = .ok (.iaload, 1) := dk_46 (dk_at dksX5_readBar_2 0 rfl rfl)
theorem dX5_readBar_48 : decode cX5_readBar 48 = .ok (.iconst 1, 1) := dk_4 (dk_at dksX5_readBar_2 1 rfl rfl)
theorem dX5_readBar_49 : decode cX5_readBar 49 = .ok (.if_icmp .ne 8, 3) := dk_160 0 8 (dk_at dksX5_readBar_2 2 rfl rfl)
theorem dX5_readBar_52 : decode cX5_readBar 52 = .ok (.aload_n 0, 1) := dk_42 (dk_at dksX5_readBar_2 5 rfl rfl)
theorem dX5_readBar_53 : decode cX5_readBar 53 = .ok (.iconst 3, 1) := dk_6 (dk_at dksX5_readBar_2 6 rfl rfl)
theorem dX5_readBar_54 : decode cX5_readBar 54 = .ok (.invokevirtual 188, 3) := dk_182 0 188 (dk_at dksX5_readBar_2 7 rfl rfl)
theorem dX5_readBar_57 : decode cX5_readBar 57 = .ok (.aload_n 0, 1) := dk_42 (dk_at dksX5_readBar_2 10 rfl rfl)
theorem dX5_readBar_58 : decode cX5_readBar 58 = .ok (.getfield 182, 3) := dk_180 0 182 (dk_at dksX5_readBar_2 11 rfl rfl)
theorem dX5_readBar_61 : decode cX5_readBar 61 = .ok (.ifCond .ne 39, 3) := dk_154 0 39 (dk_at dksX5_readBar_2 14 rfl rfl)
theorem dX5_readBar_64 : decode cX5_readBar 64 = .ok (.aload_n 0, 1) := dk_42 (dk_at dksX5_readBar_2 17 rfl rfl)
theorem dX5_readBar_65 : decode cX5_readBar 65 = .ok (.dup, 1) := dk_89 (dk_at dksX5_readBar_2 18 rfl rfl)
theorem dX5_readBar_66 : decode cX5_readBar 66 = .ok (.getfield 179, 3) := dk_180 0 179 (dk_at dksX5_readBar_2 19 rfl rfl)
theorem dX5_readBar_69 : decode cX5_readBar 69 = .ok (.iconst 1, 1) := dk_4 (dk_at dksX5_readBar_2 22 rfl rfl)
theorem dX5_readBar_70 : decode cX5_readBar 70 = .ok (.iadd, 1) := dk_96 (dk_at dksX5_readBar_2 23 rfl rfl)
theorem dX5_readBar_71 : decode cX5_readBar 71 = .ok (.putfield 179, 3) := dk_181 0 179 (dk_at dksX5_readBar_3 0 rfl rfl)
theorem dX5_readBar_74 : decode cX5_readBar 74 = .ok (.aload_n 0, 1) := dk_42 (dk_at dksX5_readBar_3 3 rfl rfl)
theorem dX5_readBar_75 : decode cX5_readBar 75 = .ok (.getfield 91, 3) := dk_180 0 91 (dk_at dksX5_readBar_3 4 rfl rfl)
theorem dX5_readBar_78 : decode cX5_readBar 78 = .ok (.bipush 118, 2) := dk_16 118 (dk_at dksX5_readBar_3 7 rfl rfl)
theorem dX5_readBar_80 : decode cX5_readBar 80 = .ok (.bipush 6, 2) := dk_16 6 (dk_at dksX5_readBar_3 9 rfl rfl)
theorem dX5_readBar_82 : decode cX5_readBar 82 = .ok (.iload_n 1, 1) := dk_27 (dk_at dksX5_readBar_3 11 rfl rfl)
theorem dX5_readBar_83 : decode cX5_readBar 83 = .ok (.imul, 1) := dk_104 (dk_at dksX5_readBar_3 12 rfl rfl)
theorem dX5_readBar_84 : decode cX5_readBar 84 = .ok (.iadd, 1) := dk_96 (dk_at dksX5_readBar_3 13 rfl rfl)
theorem dX5_readBar_85 : decode cX5_readBar 85 = .ok (.iload_n 2, 1) := dk_28 (dk_at dksX5_readBar_3 14 rfl rfl)
theorem dX5_readBar_86 : decode cX5_readBar 86 = .ok (.iadd, 1) := dk_96 (dk_at dksX5_readBar_3 15 rfl rfl)
theorem dX5_readBar_87 : decode cX5_readBar 87 = .ok (.iconst 1, 1) := dk_4 (dk_at dksX5_readBar_3 16 rfl rfl)
theorem dX5_readBar_88 : decode cX5_readBar 88 = .ok (.iastore, 1) := dk_79 (dk_at dksX5_readBar_3 17 rfl rfl)
theorem dX5_readBar_89 : decode cX5_readBar 89 = .ok (.aload_n 0, 1) := dk_42 (dk_at dksX5_readBar_3 18 rfl rfl)
theorem dX5_readBar_90 : decode cX5_readBar 90 = .ok (.getfield 91, 3) := dk_180 0 91 (dk_at dksX5_readBar_3 19 rfl rfl)
theorem dX5_readBar_93 : decode cX5_readBar 93 = .ok (.bipush 81, 2) := dk_16 81 (dk_at dksX5_readBar_3 22 rfl rfl)
theorem dX5_readBar_95 : decode cX5_readBar 95 = .ok (.dup2, 1) := dk_92 (dk_at dksX5_readBar_4 0 rfl rfl)
theorem dX5_readBar_96 : decode cX5_readBar 96 = .ok (.iaload, 1) := dk_46 (dk_at dksX5_readBar_4 1 rfl rfl)
theorem dX5_readBar_97 : decode cX5_readBar 97 = .ok (.iconst 1, 1) := dk_4 (dk_at dksX5_readBar_4 2 rfl rfl)
theorem dX5_readBar_98 : decode cX5_readBar 98 = .ok (.iadd, 1) := dk_96 (dk_at dksX5_readBar_4 3 rfl rfl)
theorem dX5_readBar_99 : decode cX5_readBar 99 = .ok (.iastore, 1) := dk_79 (dk_at dksX5_readBar_4 4 rfl rfl)
theorem dX5_readBar_100 : decode cX5_readBar 100 = .ok (.return_, 1) := dk_177 (dk_at dksX5_readBar_4 5 rfl rfl)
abbrev cX5_takeTold : ByteArray := prog_30_method_26_code
def yX5_takeTold : MethodName := ⟨RX5, "takeTold", "(Z)I"⟩
def dkwX5_takeTold_1 : List UInt8 := [181, 0, 179, 28, 172]
abbrev dktX5_takeTold_1 : List UInt8 := dkwX5_takeTold_1 ++ []
def dkwX5_takeTold_0 : List UInt8 := [42, 27, 182, 0, 221, 61, 42, 89, 180, 0, 179, 42, 180, 0, 182, 158, 0, 7, 3, 167, 0, 4, 4, 96]
abbrev dktX5_takeTold_0 : List UInt8 := dkwX5_takeTold_0 ++ dktX5_takeTold_1
theorem dksX5_takeTold_0 : cX5_takeTold.data.toList.drop 0 = dktX5_takeTold_0 := by decide +kernel
theorem dksX5_takeTold_1 : cX5_takeTold.data.toList.drop 24 = dktX5_takeTold_1 := dk_seg dksX5_takeTold_0 24 rfl rfl
theorem dX5_takeTold_0 : decode cX5_takeTold 0 = .ok (.aload_n 0, 1) := dk_42 (dk_at dksX5_takeTold_0 0 rfl rfl)
theorem dX5_takeTold_1 : decode cX5_takeTold 1 = .ok (.iload_n 1, 1) := dk_27 (dk_at dksX5_takeTold_0 1 rfl rfl)
theorem dX5_takeTold_2 : decode cX5_takeTold 2 = .ok (.invokevirtual 221, 3) := dk_182 0 221 (dk_at dksX5_takeTold_0 2 rfl rfl)
theorem dX5_takeTold_5 : decode cX5_takeTold 5 = .ok (.istore_n 2, 1) := dk_61 (dk_at dksX5_takeTold_0 5 rfl rfl)
theorem dX5_takeTold_6 : decode cX5_takeTold 6 = .ok (.aload_n 0, 1) := dk_42 (dk_at dksX5_takeTold_0 6 rfl rfl)
theorem dX5_takeTold_7 : decode cX5_takeTold 7 = .ok (.dup, 1) := dk_89 (dk_at dksX5_takeTold_0 7 rfl rfl)
theorem dX5_takeTold_8 : decode cX5_takeTold 8 = .ok (.getfield 179, 3) := dk_180 0 179 (dk_at dksX5_takeTold_0 8 rfl rfl)
theorem dX5_takeTold_11 : decode cX5_takeTold 11 = .ok (.aload_n 0, 1) := dk_42 (dk_at dksX5_takeTold_0 11 rfl rfl)
theorem dX5_takeTold_12 : decode cX5_takeTold 12 = .ok (.getfield 182, 3) := dk_180 0 182 (dk_at dksX5_takeTold_0 12 rfl rfl)
theorem dX5_takeTold_15 : decode cX5_takeTold 15 = .ok (.ifCond .le 7, 3) := dk_158 0 7 (dk_at dksX5_takeTold_0 15 rfl rfl)
theorem dX5_takeTold_18 : decode cX5_takeTold 18 = .ok (.iconst 0, 1) := dk_3 (dk_at dksX5_takeTold_0 18 rfl rfl)
theorem dX5_takeTold_19 : decode cX5_takeTold 19 = .ok (.goto 4, 3) := dk_167 0 4 (dk_at dksX5_takeTold_0 19 rfl rfl)
theorem dX5_takeTold_22 : decode cX5_takeTold 22 = .ok (.iconst 1, 1) := dk_4 (dk_at dksX5_takeTold_0 22 rfl rfl)
theorem dX5_takeTold_23 : decode cX5_takeTold 23 = .ok (.iadd, 1) := dk_96 (dk_at dksX5_takeTold_0 23 rfl rfl)
theorem dX5_takeTold_24 : decode cX5_takeTold 24 = .ok (.putfield 179, 3) := dk_181 0 179 (dk_at dksX5_takeTold_1 0 rfl rfl)
theorem dX5_takeTold_27 : decode cX5_takeTold 27 = .ok (.iload_n 2, 1) := dk_28 (dk_at dksX5_takeTold_1 3 rfl rfl)
theorem dX5_takeTold_28 : decode cX5_takeTold 28 = .ok (.ireturn, 1) := dk_172 (dk_at dksX5_takeTold_1 4 rfl rfl)
abbrev cX5_toldHere : ByteArray := prog_30_method_25_code
def yX5_toldHere : MethodName := ⟨RX5, "toldHere", "(Z)I"⟩
def dkwX5_toldHere_2 : List UInt8 := [42, 5, 182, 0, 188, 42, 180, 0, 182, 158, 0, 7, 3, 167, 0, 4, 28, 172]
abbrev dktX5_toldHere_2 : List UInt8 := dkwX5_toldHere_2 ++ []
def dkwX5_toldHere_1 : List UInt8 := [158, 0, 7, 2, 167, 0, 8, 42, 27, 182, 0, 217, 61, 42, 180, 0, 182, 154, 0, 12, 28, 156, 0, 8]
abbrev dktX5_toldHere_1 : List UInt8 := dkwX5_toldHere_1 ++ dktX5_toldHere_2
def dkwX5_toldHere_0 : List UInt8 := [42, 180, 0, 182, 154, 0, 15, 42, 182, 0, 213, 154, 0, 8, 42, 4, 182, 0, 188, 42, 180, 0, 182]
abbrev dktX5_toldHere_0 : List UInt8 := dkwX5_toldHere_0 ++ dktX5_toldHere_1
theorem dksX5_toldHere_0 : cX5_toldHere.data.toList.drop 0 = dktX5_toldHere_0 := by decide +kernel
theorem dksX5_toldHere_1 : cX5_toldHere.data.toList.drop 23 = dktX5_toldHere_1 := dk_seg dksX5_toldHere_0 23 rfl rfl
theorem dksX5_toldHere_2 : cX5_toldHere.data.toList.drop 47 = dktX5_toldHere_2 := dk_seg dksX5_toldHere_1 24 rfl rfl
theorem dX5_toldHere_0 : decode cX5_toldHere 0 = .ok (.aload_n 0, 1) := dk_42 (dk_at dksX5_toldHere_0 0 rfl rfl)
theorem dX5_toldHere_1 : decode cX5_toldHere 1 = .ok (.getfield 182, 3) := dk_180 0 182 (dk_at dksX5_toldHere_0 1 rfl rfl)
theorem dX5_toldHere_4 : decode cX5_toldHere 4 = .ok (.ifCond .ne 15, 3) := dk_154 0 15 (dk_at dksX5_toldHere_0 4 rfl rfl)
theorem dX5_toldHere_7 : decode cX5_toldHere 7 = .ok (.aload_n 0, 1) := dk_42 (dk_at dksX5_toldHere_0 7 rfl rfl)
theorem dX5_toldHere_8 : decode cX5_toldHere 8 = .ok (.invokevirtual 213, 3) := dk_182 0 213 (dk_at dksX5_toldHere_0 8 rfl rfl)
theorem dX5_toldHere_11 : decode cX5_toldHere 11 = .ok (.ifCond .ne 8, 3) := dk_154 0 8 (dk_at dksX5_toldHere_0 11 rfl rfl)
theorem dX5_toldHere_14 : decode cX5_toldHere 14 = .ok (.aload_n 0, 1) := dk_42 (dk_at dksX5_toldHere_0 14 rfl rfl)
theorem dX5_toldHere_15 : decode cX5_toldHere 15 = .ok (.iconst 1, 1) := dk_4 (dk_at dksX5_toldHere_0 15 rfl rfl)
theorem dX5_toldHere_16 : decode cX5_toldHere 16 = .ok (.invokevirtual 188, 3) := dk_182 0 188 (dk_at dksX5_toldHere_0 16 rfl rfl)
theorem dX5_toldHere_19 : decode cX5_toldHere 19 = .ok (.aload_n 0, 1) := dk_42 (dk_at dksX5_toldHere_0 19 rfl rfl)
theorem dX5_toldHere_20 : decode cX5_toldHere 20 = .ok (.getfield 182, 3) := dk_180 0 182 (dk_at dksX5_toldHere_0 20 rfl rfl)
theorem dX5_toldHere_23 : decode cX5_toldHere 23 = .ok (.ifCond .le 7, 3) := dk_158 0 7 (dk_at dksX5_toldHere_1 0 rfl rfl)
theorem dX5_toldHere_26 : decode cX5_toldHere 26 = .ok (.iconst (-1), 1) := dk_2 (dk_at dksX5_toldHere_1 3 rfl rfl)
theorem dX5_toldHere_27 : decode cX5_toldHere 27 = .ok (.goto 8, 3) := dk_167 0 8 (dk_at dksX5_toldHere_1 4 rfl rfl)
theorem dX5_toldHere_30 : decode cX5_toldHere 30 = .ok (.aload_n 0, 1) := dk_42 (dk_at dksX5_toldHere_1 7 rfl rfl)
theorem dX5_toldHere_31 : decode cX5_toldHere 31 = .ok (.iload_n 1, 1) := dk_27 (dk_at dksX5_toldHere_1 8 rfl rfl)
theorem dX5_toldHere_32 : decode cX5_toldHere 32 = .ok (.invokevirtual 217, 3) := dk_182 0 217 (dk_at dksX5_toldHere_1 9 rfl rfl)
theorem dX5_toldHere_35 : decode cX5_toldHere 35 = .ok (.istore_n 2, 1) := dk_61 (dk_at dksX5_toldHere_1 12 rfl rfl)
theorem dX5_toldHere_36 : decode cX5_toldHere 36 = .ok (.aload_n 0, 1) := dk_42 (dk_at dksX5_toldHere_1 13 rfl rfl)
theorem dX5_toldHere_37 : decode cX5_toldHere 37 = .ok (.getfield 182, 3) := dk_180 0 182 (dk_at dksX5_toldHere_1 14 rfl rfl)
theorem dX5_toldHere_40 : decode cX5_toldHere 40 = .ok (.ifCond .ne 12, 3) := dk_154 0 12 (dk_at dksX5_toldHere_1 17 rfl rfl)
theorem dX5_toldHere_43 : decode cX5_toldHere 43 = .ok (.iload_n 2, 1) := dk_28 (dk_at dksX5_toldHere_1 20 rfl rfl)
theorem dX5_toldHere_44 : decode cX5_toldHere 44 = .ok (.ifCond .ge 8, 3) := dk_156 0 8 (dk_at dksX5_toldHere_1 21 rfl rfl)
theorem dX5_toldHere_47 : decode cX5_toldHere 47 = .ok (.aload_n 0, 1) := dk_42 (dk_at dksX5_toldHere_2 0 rfl rfl)
theorem dX5_toldHere_48 : decode cX5_toldHere 48 = .ok (.iconst 2, 1) := dk_5 (dk_at dksX5_toldHere_2 1 rfl rfl)
theorem dX5_toldHere_49 : decode cX5_toldHere 49 = .ok (.invokevirtual 188, 3) := dk_182 0 188 (dk_at dksX5_toldHere_2 2 rfl rfl)
theorem dX5_toldHere_52 : decode cX5_toldHere 52 = .ok (.aload_n 0, 1) := dk_42 (dk_at dksX5_toldHere_2 5 rfl rfl)
theorem dX5_toldHere_53 : decode cX5_toldHere 53 = .ok (.getfield 182, 3) := dk_180 0 182 (dk_at dksX5_toldHere_2 6 rfl rfl)
theorem dX5_toldHere_56 : decode cX5_toldHere 56 = .ok (.ifCond .le 7, 3) := dk_158 0 7 (dk_at dksX5_toldHere_2 9 rfl rfl)
theorem dX5_toldHere_59 : decode cX5_toldHere 59 = .ok (.iconst 0, 1) := dk_3 (dk_at dksX5_toldHere_2 12 rfl rfl)
theorem dX5_toldHere_60 : decode cX5_toldHere 60 = .ok (.goto 4, 3) := dk_167 0 4 (dk_at dksX5_toldHere_2 13 rfl rfl)
theorem dX5_toldHere_63 : decode cX5_toldHere 63 = .ok (.iload_n 2, 1) := dk_28 (dk_at dksX5_toldHere_2 16 rfl rfl)
theorem dX5_toldHere_64 : decode cX5_toldHere 64 = .ok (.ireturn, 1) := dk_172 (dk_at dksX5_toldHere_2 17 rfl rfl)
abbrev cX5_readOnce : ByteArray := prog_30_method_30_code
def yX5_readOnce : MethodName := ⟨RX5, "readOnce", "()V"⟩
def dkwX5_readOnce_6 : List UInt8 := [3, 182, 1, 3, 42, 3, 3, 182, 1, 6, 177]
abbrev dktX5_readOnce_6 : List UInt8 := dkwX5_readOnce_6 ++ []
def dkwX5_readOnce_5 : List UInt8 := [27, 96, 42, 180, 0, 227, 79, 42, 27, 5, 160, 0, 8, 16, 7, 167, 0, 5, 16, 31, 181, 1, 0, 42]
abbrev dktX5_readOnce_5 : List UInt8 := dkwX5_readOnce_5 ++ dktX5_readOnce_6
def dkwX5_readOnce_4 : List UInt8 := [42, 180, 0, 91, 16, 82, 42, 3, 17, 3, 231, 182, 0, 200, 79, 167, 0, 43, 42, 180, 0, 91, 16, 83]
abbrev dktX5_readOnce_4 : List UInt8 := dkwX5_readOnce_4 ++ dktX5_readOnce_5
def dkwX5_readOnce_3 : List UInt8 := [158, 0, 4, 177, 42, 89, 180, 0, 179, 4, 96, 181, 0, 179, 27, 7, 160, 0, 26, 42, 4, 181, 0, 230]
abbrev dktX5_readOnce_3 : List UInt8 := dkwX5_readOnce_3 ++ dktX5_readOnce_4
def dkwX5_readOnce_2 : List UInt8 := [167, 0, 15, 42, 180, 0, 91, 16, 83, 27, 96, 46, 155, 0, 8, 42, 6, 182, 0, 188, 42, 180, 0, 182]
abbrev dktX5_readOnce_2 : List UInt8 := dkwX5_readOnce_2 ++ dktX5_readOnce_3
def dkwX5_readOnce_1 : List UInt8 := [156, 0, 11, 42, 4, 182, 0, 188, 167, 0, 35, 27, 7, 160, 0, 13, 42, 180, 0, 230, 153, 0, 23]
abbrev dktX5_readOnce_1 : List UInt8 := dkwX5_readOnce_1 ++ dktX5_readOnce_2
def dkwX5_readOnce_0 : List UInt8 := [42, 16, 6, 182, 0, 191, 153, 0, 7, 7, 167, 0, 10, 42, 16, 7, 7, 182, 0, 204, 60, 27]
abbrev dktX5_readOnce_0 : List UInt8 := dkwX5_readOnce_0 ++ dktX5_readOnce_1
theorem dksX5_readOnce_0 : cX5_readOnce.data.toList.drop 0 = dktX5_readOnce_0 := by decide +kernel
theorem dksX5_readOnce_1 : cX5_readOnce.data.toList.drop 22 = dktX5_readOnce_1 := dk_seg dksX5_readOnce_0 22 rfl rfl
theorem dksX5_readOnce_2 : cX5_readOnce.data.toList.drop 45 = dktX5_readOnce_2 := dk_seg dksX5_readOnce_1 23 rfl rfl
theorem dksX5_readOnce_3 : cX5_readOnce.data.toList.drop 69 = dktX5_readOnce_3 := dk_seg dksX5_readOnce_2 24 rfl rfl
theorem dksX5_readOnce_4 : cX5_readOnce.data.toList.drop 93 = dktX5_readOnce_4 := dk_seg dksX5_readOnce_3 24 rfl rfl
theorem dksX5_readOnce_5 : cX5_readOnce.data.toList.drop 117 = dktX5_readOnce_5 := dk_seg dksX5_readOnce_4 24 rfl rfl
theorem dksX5_readOnce_6 : cX5_readOnce.data.toList.drop 141 = dktX5_readOnce_6 := dk_seg dksX5_readOnce_5 24 rfl rfl
theorem dX5_readOnce_0 : decode cX5_readOnce 0 = .ok (.aload_n 0, 1) := dk_42 (dk_at dksX5_readOnce_0 0 rfl rfl)
theorem dX5_readOnce_1 : decode cX5_readOnce 1 = .ok (.bipush 6, 2) := dk_16 6 (dk_at dksX5_readOnce_0 1 rfl rfl)
theorem dX5_readOnce_3 : decode cX5_readOnce 3 = .ok (.invokevirtual 191, 3) := dk_182 0 191 (dk_at dksX5_readOnce_0 3 rfl rfl)
theorem dX5_readOnce_6 : decode cX5_readOnce 6 = .ok (.ifCond .eq 7, 3) := dk_153 0 7 (dk_at dksX5_readOnce_0 6 rfl rfl)
theorem dX5_readOnce_9 : decode cX5_readOnce 9 = .ok (.iconst 4, 1) := dk_7 (dk_at dksX5_readOnce_0 9 rfl rfl)
theorem dX5_readOnce_10 : decode cX5_readOnce 10 = .ok (.goto 10, 3) := dk_167 0 10 (dk_at dksX5_readOnce_0 10 rfl rfl)
theorem dX5_readOnce_13 : decode cX5_readOnce 13 = .ok (.aload_n 0, 1) := dk_42 (dk_at dksX5_readOnce_0 13 rfl rfl)
theorem dX5_readOnce_14 : decode cX5_readOnce 14 = .ok (.bipush 7, 2) := dk_16 7 (dk_at dksX5_readOnce_0 14 rfl rfl)
theorem dX5_readOnce_16 : decode cX5_readOnce 16 = .ok (.iconst 4, 1) := dk_7 (dk_at dksX5_readOnce_0 16 rfl rfl)
theorem dX5_readOnce_17 : decode cX5_readOnce 17 = .ok (.invokevirtual 204, 3) := dk_182 0 204 (dk_at dksX5_readOnce_0 17 rfl rfl)
theorem dX5_readOnce_20 : decode cX5_readOnce 20 = .ok (.istore_n 1, 1) := dk_60 (dk_at dksX5_readOnce_0 20 rfl rfl)
theorem dX5_readOnce_21 : decode cX5_readOnce 21 = .ok (.iload_n 1, 1) := dk_27 (dk_at dksX5_readOnce_0 21 rfl rfl)
theorem dX5_readOnce_22 : decode cX5_readOnce 22 = .ok (.ifCond .ge 11, 3) := dk_156 0 11 (dk_at dksX5_readOnce_1 0 rfl rfl)
theorem dX5_readOnce_25 : decode cX5_readOnce 25 = .ok (.aload_n 0, 1) := dk_42 (dk_at dksX5_readOnce_1 3 rfl rfl)
theorem dX5_readOnce_26 : decode cX5_readOnce 26 = .ok (.iconst 1, 1) := dk_4 (dk_at dksX5_readOnce_1 4 rfl rfl)
theorem dX5_readOnce_27 : decode cX5_readOnce 27 = .ok (.invokevirtual 188, 3) := dk_182 0 188 (dk_at dksX5_readOnce_1 5 rfl rfl)
theorem dX5_readOnce_30 : decode cX5_readOnce 30 = .ok (.goto 35, 3) := dk_167 0 35 (dk_at dksX5_readOnce_1 8 rfl rfl)
theorem dX5_readOnce_33 : decode cX5_readOnce 33 = .ok (.iload_n 1, 1) := dk_27 (dk_at dksX5_readOnce_1 11 rfl rfl)
theorem dX5_readOnce_34 : decode cX5_readOnce 34 = .ok (.iconst 4, 1) := dk_7 (dk_at dksX5_readOnce_1 12 rfl rfl)
theorem dX5_readOnce_35 : decode cX5_readOnce 35 = .ok (.if_icmp .ne 13, 3) := dk_160 0 13 (dk_at dksX5_readOnce_1 13 rfl rfl)
theorem dX5_readOnce_38 : decode cX5_readOnce 38 = .ok (.aload_n 0, 1) := dk_42 (dk_at dksX5_readOnce_1 16 rfl rfl)
theorem dX5_readOnce_39 : decode cX5_readOnce 39 = .ok (.getfield 230, 3) := dk_180 0 230 (dk_at dksX5_readOnce_1 17 rfl rfl)
theorem dX5_readOnce_42 : decode cX5_readOnce 42 = .ok (.ifCond .eq 23, 3) := dk_153 0 23 (dk_at dksX5_readOnce_1 20 rfl rfl)
theorem dX5_readOnce_45 : decode cX5_readOnce 45 = .ok (.goto 15, 3) := dk_167 0 15 (dk_at dksX5_readOnce_2 0 rfl rfl)
theorem dX5_readOnce_48 : decode cX5_readOnce 48 = .ok (.aload_n 0, 1) := dk_42 (dk_at dksX5_readOnce_2 3 rfl rfl)
theorem dX5_readOnce_49 : decode cX5_readOnce 49 = .ok (.getfield 91, 3) := dk_180 0 91 (dk_at dksX5_readOnce_2 4 rfl rfl)
theorem dX5_readOnce_52 : decode cX5_readOnce 52 = .ok (.bipush 83, 2) := dk_16 83 (dk_at dksX5_readOnce_2 7 rfl rfl)
theorem dX5_readOnce_54 : decode cX5_readOnce 54 = .ok (.iload_n 1, 1) := dk_27 (dk_at dksX5_readOnce_2 9 rfl rfl)
theorem dX5_readOnce_55 : decode cX5_readOnce 55 = .ok (.iadd, 1) := dk_96 (dk_at dksX5_readOnce_2 10 rfl rfl)
theorem dX5_readOnce_56 : decode cX5_readOnce 56 = .ok (.iaload, 1) := dk_46 (dk_at dksX5_readOnce_2 11 rfl rfl)
theorem dX5_readOnce_57 : decode cX5_readOnce 57 = .ok (.ifCond .lt 8, 3) := dk_155 0 8 (dk_at dksX5_readOnce_2 12 rfl rfl)
theorem dX5_readOnce_60 : decode cX5_readOnce 60 = .ok (.aload_n 0, 1) := dk_42 (dk_at dksX5_readOnce_2 15 rfl rfl)
theorem dX5_readOnce_61 : decode cX5_readOnce 61 = .ok (.iconst 3, 1) := dk_6 (dk_at dksX5_readOnce_2 16 rfl rfl)
theorem dX5_readOnce_62 : decode cX5_readOnce 62 = .ok (.invokevirtual 188, 3) := dk_182 0 188 (dk_at dksX5_readOnce_2 17 rfl rfl)
theorem dX5_readOnce_65 : decode cX5_readOnce 65 = .ok (.aload_n 0, 1) := dk_42 (dk_at dksX5_readOnce_2 20 rfl rfl)
theorem dX5_readOnce_66 : decode cX5_readOnce 66 = .ok (.getfield 182, 3) := dk_180 0 182 (dk_at dksX5_readOnce_2 21 rfl rfl)
theorem dX5_readOnce_69 : decode cX5_readOnce 69 = .ok (.ifCond .le 4, 3) := dk_158 0 4 (dk_at dksX5_readOnce_3 0 rfl rfl)
theorem dX5_readOnce_72 : decode cX5_readOnce 72 = .ok (.return_, 1) := dk_177 (dk_at dksX5_readOnce_3 3 rfl rfl)
theorem dX5_readOnce_73 : decode cX5_readOnce 73 = .ok (.aload_n 0, 1) := dk_42 (dk_at dksX5_readOnce_3 4 rfl rfl)
theorem dX5_readOnce_74 : decode cX5_readOnce 74 = .ok (.dup, 1) := dk_89 (dk_at dksX5_readOnce_3 5 rfl rfl)
theorem dX5_readOnce_75 : decode cX5_readOnce 75 = .ok (.getfield 179, 3) := dk_180 0 179 (dk_at dksX5_readOnce_3 6 rfl rfl)
theorem dX5_readOnce_78 : decode cX5_readOnce 78 = .ok (.iconst 1, 1) := dk_4 (dk_at dksX5_readOnce_3 9 rfl rfl)
theorem dX5_readOnce_79 : decode cX5_readOnce 79 = .ok (.iadd, 1) := dk_96 (dk_at dksX5_readOnce_3 10 rfl rfl)
theorem dX5_readOnce_80 : decode cX5_readOnce 80 = .ok (.putfield 179, 3) := dk_181 0 179 (dk_at dksX5_readOnce_3 11 rfl rfl)
theorem dX5_readOnce_83 : decode cX5_readOnce 83 = .ok (.iload_n 1, 1) := dk_27 (dk_at dksX5_readOnce_3 14 rfl rfl)
theorem dX5_readOnce_84 : decode cX5_readOnce 84 = .ok (.iconst 4, 1) := dk_7 (dk_at dksX5_readOnce_3 15 rfl rfl)
theorem dX5_readOnce_85 : decode cX5_readOnce 85 = .ok (.if_icmp .ne 26, 3) := dk_160 0 26 (dk_at dksX5_readOnce_3 16 rfl rfl)
theorem dX5_readOnce_88 : decode cX5_readOnce 88 = .ok (.aload_n 0, 1) := dk_42 (dk_at dksX5_readOnce_3 19 rfl rfl)
theorem dX5_readOnce_89 : decode cX5_readOnce 89 = .ok (.iconst 1, 1) := dk_4 (dk_at dksX5_readOnce_3 20 rfl rfl)
theorem dX5_readOnce_90 : decode cX5_readOnce 90 = .ok (.putfield 230, 3) := dk_181 0 230 (dk_at dksX5_readOnce_3 21 rfl rfl)
theorem dX5_readOnce_93 : decode cX5_readOnce 93 = .ok (.aload_n 0, 1) := dk_42 (dk_at dksX5_readOnce_4 0 rfl rfl)
theorem dX5_readOnce_94 : decode cX5_readOnce 94 = .ok (.getfield 91, 3) := dk_180 0 91 (dk_at dksX5_readOnce_4 1 rfl rfl)
theorem dX5_readOnce_97 : decode cX5_readOnce 97 = .ok (.bipush 82, 2) := dk_16 82 (dk_at dksX5_readOnce_4 4 rfl rfl)
theorem dX5_readOnce_99 : decode cX5_readOnce 99 = .ok (.aload_n 0, 1) := dk_42 (dk_at dksX5_readOnce_4 6 rfl rfl)
theorem dX5_readOnce_100 : decode cX5_readOnce 100 = .ok (.iconst 0, 1) := dk_3 (dk_at dksX5_readOnce_4 7 rfl rfl)
theorem dX5_readOnce_101 : decode cX5_readOnce 101 = .ok (.sipush 999, 3) := dk_17 3 231 (dk_at dksX5_readOnce_4 8 rfl rfl)
theorem dX5_readOnce_104 : decode cX5_readOnce 104 = .ok (.invokevirtual 200, 3) := dk_182 0 200 (dk_at dksX5_readOnce_4 11 rfl rfl)
theorem dX5_readOnce_107 : decode cX5_readOnce 107 = .ok (.iastore, 1) := dk_79 (dk_at dksX5_readOnce_4 14 rfl rfl)
theorem dX5_readOnce_108 : decode cX5_readOnce 108 = .ok (.goto 43, 3) := dk_167 0 43 (dk_at dksX5_readOnce_4 15 rfl rfl)
theorem dX5_readOnce_111 : decode cX5_readOnce 111 = .ok (.aload_n 0, 1) := dk_42 (dk_at dksX5_readOnce_4 18 rfl rfl)
theorem dX5_readOnce_112 : decode cX5_readOnce 112 = .ok (.getfield 91, 3) := dk_180 0 91 (dk_at dksX5_readOnce_4 19 rfl rfl)
theorem dX5_readOnce_115 : decode cX5_readOnce 115 = .ok (.bipush 83, 2) := dk_16 83 (dk_at dksX5_readOnce_4 22 rfl rfl)
theorem dX5_readOnce_117 : decode cX5_readOnce 117 = .ok (.iload_n 1, 1) := dk_27 (dk_at dksX5_readOnce_5 0 rfl rfl)
theorem dX5_readOnce_118 : decode cX5_readOnce 118 = .ok (.iadd, 1) := dk_96 (dk_at dksX5_readOnce_5 1 rfl rfl)
theorem dX5_readOnce_119 : decode cX5_readOnce 119 = .ok (.aload_n 0, 1) := dk_42 (dk_at dksX5_readOnce_5 2 rfl rfl)
theorem dX5_readOnce_120 : decode cX5_readOnce 120 = .ok (.getfield 227, 3) := dk_180 0 227 (dk_at dksX5_readOnce_5 3 rfl rfl)
theorem dX5_readOnce_123 : decode cX5_readOnce 123 = .ok (.iastore, 1) := dk_79 (dk_at dksX5_readOnce_5 6 rfl rfl)
theorem dX5_readOnce_124 : decode cX5_readOnce 124 = .ok (.aload_n 0, 1) := dk_42 (dk_at dksX5_readOnce_5 7 rfl rfl)
theorem dX5_readOnce_125 : decode cX5_readOnce 125 = .ok (.iload_n 1, 1) := dk_27 (dk_at dksX5_readOnce_5 8 rfl rfl)
theorem dX5_readOnce_126 : decode cX5_readOnce 126 = .ok (.iconst 2, 1) := dk_5 (dk_at dksX5_readOnce_5 9 rfl rfl)
theorem dX5_readOnce_127 : decode cX5_readOnce 127 = .ok (.if_icmp .ne 8, 3) := dk_160 0 8 (dk_at dksX5_readOnce_5 10 rfl rfl)
theorem dX5_readOnce_130 : decode cX5_readOnce 130 = .ok (.bipush 7, 2) := dk_16 7 (dk_at dksX5_readOnce_5 13 rfl rfl)
theorem dX5_readOnce_132 : decode cX5_readOnce 132 = .ok (.goto 5, 3) := dk_167 0 5 (dk_at dksX5_readOnce_5 15 rfl rfl)
theorem dX5_readOnce_135 : decode cX5_readOnce 135 = .ok (.bipush 31, 2) := dk_16 31 (dk_at dksX5_readOnce_5 18 rfl rfl)
theorem dX5_readOnce_137 : decode cX5_readOnce 137 = .ok (.putfield 256, 3) := dk_181 1 0 (dk_at dksX5_readOnce_5 20 rfl rfl)
theorem dX5_readOnce_140 : decode cX5_readOnce 140 = .ok (.aload_n 0, 1) := dk_42 (dk_at dksX5_readOnce_5 23 rfl rfl)
theorem dX5_readOnce_141 : decode cX5_readOnce 141 = .ok (.iconst 0, 1) := dk_3 (dk_at dksX5_readOnce_6 0 rfl rfl)
theorem dX5_readOnce_142 : decode cX5_readOnce 142 = .ok (.invokevirtual 259, 3) := dk_182 1 3 (dk_at dksX5_readOnce_6 1 rfl rfl)
theorem dX5_readOnce_145 : decode cX5_readOnce 145 = .ok (.aload_n 0, 1) := dk_42 (dk_at dksX5_readOnce_6 4 rfl rfl)
theorem dX5_readOnce_146 : decode cX5_readOnce 146 = .ok (.iconst 0, 1) := dk_3 (dk_at dksX5_readOnce_6 5 rfl rfl)
theorem dX5_readOnce_147 : decode cX5_readOnce 147 = .ok (.iconst 0, 1) := dk_3 (dk_at dksX5_readOnce_6 6 rfl rfl)
theorem dX5_readOnce_148 : decode cX5_readOnce 148 = .ok (.invokevirtual 262, 3) := dk_182 1 6 (dk_at dksX5_readOnce_6 7 rfl rfl)
theorem dX5_readOnce_151 : decode cX5_readOnce 151 = .ok (.return_, 1) := dk_177 (dk_at dksX5_readOnce_6 10 rfl rfl)
abbrev cX5_all : ByteArray := prog_30_method_35_code
def yX5_all : MethodName := ⟨RX5, "all", "(I)V"⟩
def dkwX5_all_2 : List UInt8 := [153, 0, 8, 16, 9, 167, 0, 5, 16, 10, 3, 182, 1, 6, 167, 255, 200, 177]
abbrev dktX5_all_2 : List UInt8 := dkwX5_all_2 ++ []
def dkwX5_all_1 : List UInt8 := [16, 20, 182, 0, 191, 61, 42, 89, 180, 0, 179, 4, 96, 181, 0, 179, 42, 27, 182, 1, 17, 42, 28]
abbrev dktX5_all_1 : List UInt8 := dkwX5_all_1 ++ dktX5_all_2
def dkwX5_all_0 : List UInt8 := [42, 27, 182, 1, 17, 42, 16, 20, 182, 0, 191, 154, 0, 12, 42, 16, 21, 182, 0, 191, 153, 0, 44, 42]
abbrev dktX5_all_0 : List UInt8 := dkwX5_all_0 ++ dktX5_all_1
theorem dksX5_all_0 : cX5_all.data.toList.drop 0 = dktX5_all_0 := by decide +kernel
theorem dksX5_all_1 : cX5_all.data.toList.drop 24 = dktX5_all_1 := dk_seg dksX5_all_0 24 rfl rfl
theorem dksX5_all_2 : cX5_all.data.toList.drop 47 = dktX5_all_2 := dk_seg dksX5_all_1 23 rfl rfl
theorem dX5_all_0 : decode cX5_all 0 = .ok (.aload_n 0, 1) := dk_42 (dk_at dksX5_all_0 0 rfl rfl)
theorem dX5_all_1 : decode cX5_all 1 = .ok (.iload_n 1, 1) := dk_27 (dk_at dksX5_all_0 1 rfl rfl)
theorem dX5_all_2 : decode cX5_all 2 = .ok (.invokevirtual 273, 3) := dk_182 1 17 (dk_at dksX5_all_0 2 rfl rfl)
theorem dX5_all_5 : decode cX5_all 5 = .ok (.aload_n 0, 1) := dk_42 (dk_at dksX5_all_0 5 rfl rfl)
theorem dX5_all_6 : decode cX5_all 6 = .ok (.bipush 20, 2) := dk_16 20 (dk_at dksX5_all_0 6 rfl rfl)
theorem dX5_all_8 : decode cX5_all 8 = .ok (.invokevirtual 191, 3) := dk_182 0 191 (dk_at dksX5_all_0 8 rfl rfl)
theorem dX5_all_11 : decode cX5_all 11 = .ok (.ifCond .ne 12, 3) := dk_154 0 12 (dk_at dksX5_all_0 11 rfl rfl)
theorem dX5_all_14 : decode cX5_all 14 = .ok (.aload_n 0, 1) := dk_42 (dk_at dksX5_all_0 14 rfl rfl)
theorem dX5_all_15 : decode cX5_all 15 = .ok (.bipush 21, 2) := dk_16 21 (dk_at dksX5_all_0 15 rfl rfl)
theorem dX5_all_17 : decode cX5_all 17 = .ok (.invokevirtual 191, 3) := dk_182 0 191 (dk_at dksX5_all_0 17 rfl rfl)
theorem dX5_all_20 : decode cX5_all 20 = .ok (.ifCond .eq 44, 3) := dk_153 0 44 (dk_at dksX5_all_0 20 rfl rfl)
theorem dX5_all_23 : decode cX5_all 23 = .ok (.aload_n 0, 1) := dk_42 (dk_at dksX5_all_0 23 rfl rfl)
theorem dX5_all_24 : decode cX5_all 24 = .ok (.bipush 20, 2) := dk_16 20 (dk_at dksX5_all_1 0 rfl rfl)
theorem dX5_all_26 : decode cX5_all 26 = .ok (.invokevirtual 191, 3) := dk_182 0 191 (dk_at dksX5_all_1 2 rfl rfl)
theorem dX5_all_29 : decode cX5_all 29 = .ok (.istore_n 2, 1) := dk_61 (dk_at dksX5_all_1 5 rfl rfl)
theorem dX5_all_30 : decode cX5_all 30 = .ok (.aload_n 0, 1) := dk_42 (dk_at dksX5_all_1 6 rfl rfl)
theorem dX5_all_31 : decode cX5_all 31 = .ok (.dup, 1) := dk_89 (dk_at dksX5_all_1 7 rfl rfl)
theorem dX5_all_32 : decode cX5_all 32 = .ok (.getfield 179, 3) := dk_180 0 179 (dk_at dksX5_all_1 8 rfl rfl)
theorem dX5_all_35 : decode cX5_all 35 = .ok (.iconst 1, 1) := dk_4 (dk_at dksX5_all_1 11 rfl rfl)
theorem dX5_all_36 : decode cX5_all 36 = .ok (.iadd, 1) := dk_96 (dk_at dksX5_all_1 12 rfl rfl)
theorem dX5_all_37 : decode cX5_all 37 = .ok (.putfield 179, 3) := dk_181 0 179 (dk_at dksX5_all_1 13 rfl rfl)
theorem dX5_all_40 : decode cX5_all 40 = .ok (.aload_n 0, 1) := dk_42 (dk_at dksX5_all_1 16 rfl rfl)
theorem dX5_all_41 : decode cX5_all 41 = .ok (.iload_n 1, 1) := dk_27 (dk_at dksX5_all_1 17 rfl rfl)
theorem dX5_all_42 : decode cX5_all 42 = .ok (.invokevirtual 273, 3) := dk_182 1 17 (dk_at dksX5_all_1 18 rfl rfl)
theorem dX5_all_45 : decode cX5_all 45 = .ok (.aload_n 0, 1) := dk_42 (dk_at dksX5_all_1 21 rfl rfl)
theorem dX5_all_46 : decode cX5_all 46 = .ok (.iload_n 2, 1) := dk_28 (dk_at dksX5_all_1 22 rfl rfl)
theorem dX5_all_47 : decode cX5_all 47 = .ok (.ifCond .eq 8, 3) := dk_153 0 8 (dk_at dksX5_all_2 0 rfl rfl)
theorem dX5_all_50 : decode cX5_all 50 = .ok (.bipush 9, 2) := dk_16 9 (dk_at dksX5_all_2 3 rfl rfl)
theorem dX5_all_52 : decode cX5_all 52 = .ok (.goto 5, 3) := dk_167 0 5 (dk_at dksX5_all_2 5 rfl rfl)
theorem dX5_all_55 : decode cX5_all 55 = .ok (.bipush 10, 2) := dk_16 10 (dk_at dksX5_all_2 8 rfl rfl)
theorem dX5_all_57 : decode cX5_all 57 = .ok (.iconst 0, 1) := dk_3 (dk_at dksX5_all_2 10 rfl rfl)
theorem dX5_all_58 : decode cX5_all 58 = .ok (.invokevirtual 262, 3) := dk_182 1 6 (dk_at dksX5_all_2 11 rfl rfl)
theorem dX5_all_61 : decode cX5_all 61 = .ok (.goto (-56), 3) := dk_167 255 200 (dk_at dksX5_all_2 14 rfl rfl)
theorem dX5_all_64 : decode cX5_all 64 = .ok (.return_, 1) := dk_177 (dk_at dksX5_all_2 17 rfl rfl)
abbrev cX5_test : ByteArray := prog_30_method_36_code
def yX5_test : MethodName := ⟨RX5, "test", "(I)V"⟩
def dkwX5_test_2 : List UInt8 := [182, 1, 6, 177]
abbrev dktX5_test_2 : List UInt8 := dkwX5_test_2 ++ []
def dkwX5_test_1 : List UInt8 := [182, 1, 23, 153, 0, 24, 42, 27, 182, 1, 20, 42, 28, 153, 0, 8, 16, 7, 167, 0, 5, 16, 8, 3]
abbrev dktX5_test_1 : List UInt8 := dkwX5_test_1 ++ dktX5_test_2
def dkwX5_test_0 : List UInt8 := [42, 27, 182, 1, 20, 42, 16, 60, 182, 0, 185, 61, 42, 16, 60, 182, 1, 23, 154, 0, 12, 42, 16, 61]
abbrev dktX5_test_0 : List UInt8 := dkwX5_test_0 ++ dktX5_test_1
theorem dksX5_test_0 : cX5_test.data.toList.drop 0 = dktX5_test_0 := by decide +kernel
theorem dksX5_test_1 : cX5_test.data.toList.drop 24 = dktX5_test_1 := dk_seg dksX5_test_0 24 rfl rfl
theorem dksX5_test_2 : cX5_test.data.toList.drop 48 = dktX5_test_2 := dk_seg dksX5_test_1 24 rfl rfl
theorem dX5_test_0 : decode cX5_test 0 = .ok (.aload_n 0, 1) := dk_42 (dk_at dksX5_test_0 0 rfl rfl)
theorem dX5_test_1 : decode cX5_test 1 = .ok (.iload_n 1, 1) := dk_27 (dk_at dksX5_test_0 1 rfl rfl)
theorem dX5_test_2 : decode cX5_test 2 = .ok (.invokevirtual 276, 3) := dk_182 1 20 (dk_at dksX5_test_0 2 rfl rfl)
theorem dX5_test_5 : decode cX5_test 5 = .ok (.aload_n 0, 1) := dk_42 (dk_at dksX5_test_0 5 rfl rfl)
theorem dX5_test_6 : decode cX5_test 6 = .ok (.bipush 60, 2) := dk_16 60 (dk_at dksX5_test_0 6 rfl rfl)
theorem dX5_test_8 : decode cX5_test 8 = .ok (.invokevirtual 185, 3) := dk_182 0 185 (dk_at dksX5_test_0 8 rfl rfl)
theorem dX5_test_11 : decode cX5_test 11 = .ok (.istore_n 2, 1) := dk_61 (dk_at dksX5_test_0 11 rfl rfl)
theorem dX5_test_12 : decode cX5_test 12 = .ok (.aload_n 0, 1) := dk_42 (dk_at dksX5_test_0 12 rfl rfl)
theorem dX5_test_13 : decode cX5_test 13 = .ok (.bipush 60, 2) := dk_16 60 (dk_at dksX5_test_0 13 rfl rfl)
theorem dX5_test_15 : decode cX5_test 15 = .ok (.invokevirtual 279, 3) := dk_182 1 23 (dk_at dksX5_test_0 15 rfl rfl)
theorem dX5_test_18 : decode cX5_test 18 = .ok (.ifCond .ne 12, 3) := dk_154 0 12 (dk_at dksX5_test_0 18 rfl rfl)
theorem dX5_test_21 : decode cX5_test 21 = .ok (.aload_n 0, 1) := dk_42 (dk_at dksX5_test_0 21 rfl rfl)
theorem dX5_test_22 : decode cX5_test 22 = .ok (.bipush 61, 2) := dk_16 61 (dk_at dksX5_test_0 22 rfl rfl)
theorem dX5_test_24 : decode cX5_test 24 = .ok (.invokevirtual 279, 3) := dk_182 1 23 (dk_at dksX5_test_1 0 rfl rfl)
theorem dX5_test_27 : decode cX5_test 27 = .ok (.ifCond .eq 24, 3) := dk_153 0 24 (dk_at dksX5_test_1 3 rfl rfl)
theorem dX5_test_30 : decode cX5_test 30 = .ok (.aload_n 0, 1) := dk_42 (dk_at dksX5_test_1 6 rfl rfl)
theorem dX5_test_31 : decode cX5_test 31 = .ok (.iload_n 1, 1) := dk_27 (dk_at dksX5_test_1 7 rfl rfl)
theorem dX5_test_32 : decode cX5_test 32 = .ok (.invokevirtual 276, 3) := dk_182 1 20 (dk_at dksX5_test_1 8 rfl rfl)
theorem dX5_test_35 : decode cX5_test 35 = .ok (.aload_n 0, 1) := dk_42 (dk_at dksX5_test_1 11 rfl rfl)
theorem dX5_test_36 : decode cX5_test 36 = .ok (.iload_n 2, 1) := dk_28 (dk_at dksX5_test_1 12 rfl rfl)
theorem dX5_test_37 : decode cX5_test 37 = .ok (.ifCond .eq 8, 3) := dk_153 0 8 (dk_at dksX5_test_1 13 rfl rfl)
theorem dX5_test_40 : decode cX5_test 40 = .ok (.bipush 7, 2) := dk_16 7 (dk_at dksX5_test_1 16 rfl rfl)
theorem dX5_test_42 : decode cX5_test 42 = .ok (.goto 5, 3) := dk_167 0 5 (dk_at dksX5_test_1 18 rfl rfl)
theorem dX5_test_45 : decode cX5_test 45 = .ok (.bipush 8, 2) := dk_16 8 (dk_at dksX5_test_1 21 rfl rfl)
theorem dX5_test_47 : decode cX5_test 47 = .ok (.iconst 0, 1) := dk_3 (dk_at dksX5_test_1 23 rfl rfl)
theorem dX5_test_48 : decode cX5_test 48 = .ok (.invokevirtual 262, 3) := dk_182 1 6 (dk_at dksX5_test_2 0 rfl rfl)
theorem dX5_test_51 : decode cX5_test 51 = .ok (.return_, 1) := dk_177 (dk_at dksX5_test_2 3 rfl rfl)
abbrev cX5_sums : ByteArray := prog_30_method_37_code
def yX5_sums : MethodName := ⟨RX5, "sums", "(I)V"⟩
def dkwX5_sums_2 : List UInt8 := [153, 0, 7, 7, 167, 0, 4, 8, 3, 182, 1, 6, 167, 255, 202, 177]
abbrev dktX5_sums_2 : List UInt8 := dkwX5_sums_2 ++ []
def dkwX5_sums_1 : List UInt8 := [16, 43, 182, 0, 185, 61, 42, 89, 180, 0, 179, 4, 96, 181, 0, 179, 42, 27, 182, 1, 26, 42, 28]
abbrev dktX5_sums_1 : List UInt8 := dkwX5_sums_1 ++ dktX5_sums_2
def dkwX5_sums_0 : List UInt8 := [42, 27, 182, 1, 26, 42, 16, 43, 182, 0, 185, 154, 0, 12, 42, 16, 45, 182, 0, 185, 153, 0, 42, 42]
abbrev dktX5_sums_0 : List UInt8 := dkwX5_sums_0 ++ dktX5_sums_1
theorem dksX5_sums_0 : cX5_sums.data.toList.drop 0 = dktX5_sums_0 := by decide +kernel
theorem dksX5_sums_1 : cX5_sums.data.toList.drop 24 = dktX5_sums_1 := dk_seg dksX5_sums_0 24 rfl rfl
theorem dksX5_sums_2 : cX5_sums.data.toList.drop 47 = dktX5_sums_2 := dk_seg dksX5_sums_1 23 rfl rfl
theorem dX5_sums_0 : decode cX5_sums 0 = .ok (.aload_n 0, 1) := dk_42 (dk_at dksX5_sums_0 0 rfl rfl)
theorem dX5_sums_1 : decode cX5_sums 1 = .ok (.iload_n 1, 1) := dk_27 (dk_at dksX5_sums_0 1 rfl rfl)
theorem dX5_sums_2 : decode cX5_sums 2 = .ok (.invokevirtual 282, 3) := dk_182 1 26 (dk_at dksX5_sums_0 2 rfl rfl)
theorem dX5_sums_5 : decode cX5_sums 5 = .ok (.aload_n 0, 1) := dk_42 (dk_at dksX5_sums_0 5 rfl rfl)
theorem dX5_sums_6 : decode cX5_sums 6 = .ok (.bipush 43, 2) := dk_16 43 (dk_at dksX5_sums_0 6 rfl rfl)
theorem dX5_sums_8 : decode cX5_sums 8 = .ok (.invokevirtual 185, 3) := dk_182 0 185 (dk_at dksX5_sums_0 8 rfl rfl)
theorem dX5_sums_11 : decode cX5_sums 11 = .ok (.ifCond .ne 12, 3) := dk_154 0 12 (dk_at dksX5_sums_0 11 rfl rfl)
theorem dX5_sums_14 : decode cX5_sums 14 = .ok (.aload_n 0, 1) := dk_42 (dk_at dksX5_sums_0 14 rfl rfl)
theorem dX5_sums_15 : decode cX5_sums 15 = .ok (.bipush 45, 2) := dk_16 45 (dk_at dksX5_sums_0 15 rfl rfl)
theorem dX5_sums_17 : decode cX5_sums 17 = .ok (.invokevirtual 185, 3) := dk_182 0 185 (dk_at dksX5_sums_0 17 rfl rfl)
theorem dX5_sums_20 : decode cX5_sums 20 = .ok (.ifCond .eq 42, 3) := dk_153 0 42 (dk_at dksX5_sums_0 20 rfl rfl)
theorem dX5_sums_23 : decode cX5_sums 23 = .ok (.aload_n 0, 1) := dk_42 (dk_at dksX5_sums_0 23 rfl rfl)
theorem dX5_sums_24 : decode cX5_sums 24 = .ok (.bipush 43, 2) := dk_16 43 (dk_at dksX5_sums_1 0 rfl rfl)
theorem dX5_sums_26 : decode cX5_sums 26 = .ok (.invokevirtual 185, 3) := dk_182 0 185 (dk_at dksX5_sums_1 2 rfl rfl)
theorem dX5_sums_29 : decode cX5_sums 29 = .ok (.istore_n 2, 1) := dk_61 (dk_at dksX5_sums_1 5 rfl rfl)
theorem dX5_sums_30 : decode cX5_sums 30 = .ok (.aload_n 0, 1) := dk_42 (dk_at dksX5_sums_1 6 rfl rfl)
theorem dX5_sums_31 : decode cX5_sums 31 = .ok (.dup, 1) := dk_89 (dk_at dksX5_sums_1 7 rfl rfl)
theorem dX5_sums_32 : decode cX5_sums 32 = .ok (.getfield 179, 3) := dk_180 0 179 (dk_at dksX5_sums_1 8 rfl rfl)
theorem dX5_sums_35 : decode cX5_sums 35 = .ok (.iconst 1, 1) := dk_4 (dk_at dksX5_sums_1 11 rfl rfl)
theorem dX5_sums_36 : decode cX5_sums 36 = .ok (.iadd, 1) := dk_96 (dk_at dksX5_sums_1 12 rfl rfl)
theorem dX5_sums_37 : decode cX5_sums 37 = .ok (.putfield 179, 3) := dk_181 0 179 (dk_at dksX5_sums_1 13 rfl rfl)
theorem dX5_sums_40 : decode cX5_sums 40 = .ok (.aload_n 0, 1) := dk_42 (dk_at dksX5_sums_1 16 rfl rfl)
theorem dX5_sums_41 : decode cX5_sums 41 = .ok (.iload_n 1, 1) := dk_27 (dk_at dksX5_sums_1 17 rfl rfl)
theorem dX5_sums_42 : decode cX5_sums 42 = .ok (.invokevirtual 282, 3) := dk_182 1 26 (dk_at dksX5_sums_1 18 rfl rfl)
theorem dX5_sums_45 : decode cX5_sums 45 = .ok (.aload_n 0, 1) := dk_42 (dk_at dksX5_sums_1 21 rfl rfl)
theorem dX5_sums_46 : decode cX5_sums 46 = .ok (.iload_n 2, 1) := dk_28 (dk_at dksX5_sums_1 22 rfl rfl)
theorem dX5_sums_47 : decode cX5_sums 47 = .ok (.ifCond .eq 7, 3) := dk_153 0 7 (dk_at dksX5_sums_2 0 rfl rfl)
theorem dX5_sums_50 : decode cX5_sums 50 = .ok (.iconst 4, 1) := dk_7 (dk_at dksX5_sums_2 3 rfl rfl)
theorem dX5_sums_51 : decode cX5_sums 51 = .ok (.goto 4, 3) := dk_167 0 4 (dk_at dksX5_sums_2 4 rfl rfl)
theorem dX5_sums_54 : decode cX5_sums 54 = .ok (.iconst 5, 1) := dk_8 (dk_at dksX5_sums_2 7 rfl rfl)
theorem dX5_sums_55 : decode cX5_sums 55 = .ok (.iconst 0, 1) := dk_3 (dk_at dksX5_sums_2 8 rfl rfl)
theorem dX5_sums_56 : decode cX5_sums 56 = .ok (.invokevirtual 262, 3) := dk_182 1 6 (dk_at dksX5_sums_2 9 rfl rfl)
theorem dX5_sums_59 : decode cX5_sums 59 = .ok (.goto (-54), 3) := dk_167 255 202 (dk_at dksX5_sums_2 12 rfl rfl)
theorem dX5_sums_62 : decode cX5_sums 62 = .ok (.return_, 1) := dk_177 (dk_at dksX5_sums_2 15 rfl rfl)
abbrev cX5_products : ByteArray := prog_30_method_38_code
def yX5_products : MethodName := ⟨RX5, "products", "(I)V"⟩
def dkwX5_products_1 : List UInt8 := [182, 1, 6, 167, 255, 235, 177]
abbrev dktX5_products_1 : List UInt8 := dkwX5_products_1 ++ []
def dkwX5_products_0 : List UInt8 := [42, 27, 182, 1, 29, 42, 16, 42, 182, 1, 23, 153, 0, 18, 42, 27, 182, 1, 29, 42, 16, 6, 3]
abbrev dktX5_products_0 : List UInt8 := dkwX5_products_0 ++ dktX5_products_1
theorem dksX5_products_0 : cX5_products.data.toList.drop 0 = dktX5_products_0 := by decide +kernel
theorem dksX5_products_1 : cX5_products.data.toList.drop 23 = dktX5_products_1 := dk_seg dksX5_products_0 23 rfl rfl
theorem dX5_products_0 : decode cX5_products 0 = .ok (.aload_n 0, 1) := dk_42 (dk_at dksX5_products_0 0 rfl rfl)
theorem dX5_products_1 : decode cX5_products 1 = .ok (.iload_n 1, 1) := dk_27 (dk_at dksX5_products_0 1 rfl rfl)
theorem dX5_products_2 : decode cX5_products 2 = .ok (.invokevirtual 285, 3) := dk_182 1 29 (dk_at dksX5_products_0 2 rfl rfl)
theorem dX5_products_5 : decode cX5_products 5 = .ok (.aload_n 0, 1) := dk_42 (dk_at dksX5_products_0 5 rfl rfl)
theorem dX5_products_6 : decode cX5_products 6 = .ok (.bipush 42, 2) := dk_16 42 (dk_at dksX5_products_0 6 rfl rfl)
theorem dX5_products_8 : decode cX5_products 8 = .ok (.invokevirtual 279, 3) := dk_182 1 23 (dk_at dksX5_products_0 8 rfl rfl)
theorem dX5_products_11 : decode cX5_products 11 = .ok (.ifCond .eq 18, 3) := dk_153 0 18 (dk_at dksX5_products_0 11 rfl rfl)
theorem dX5_products_14 : decode cX5_products 14 = .ok (.aload_n 0, 1) := dk_42 (dk_at dksX5_products_0 14 rfl rfl)
theorem dX5_products_15 : decode cX5_products 15 = .ok (.iload_n 1, 1) := dk_27 (dk_at dksX5_products_0 15 rfl rfl)
theorem dX5_products_16 : decode cX5_products 16 = .ok (.invokevirtual 285, 3) := dk_182 1 29 (dk_at dksX5_products_0 16 rfl rfl)
theorem dX5_products_19 : decode cX5_products 19 = .ok (.aload_n 0, 1) := dk_42 (dk_at dksX5_products_0 19 rfl rfl)
theorem dX5_products_20 : decode cX5_products 20 = .ok (.bipush 6, 2) := dk_16 6 (dk_at dksX5_products_0 20 rfl rfl)
theorem dX5_products_22 : decode cX5_products 22 = .ok (.iconst 0, 1) := dk_3 (dk_at dksX5_products_0 22 rfl rfl)
theorem dX5_products_23 : decode cX5_products 23 = .ok (.invokevirtual 262, 3) := dk_182 1 6 (dk_at dksX5_products_1 0 rfl rfl)
theorem dX5_products_26 : decode cX5_products 26 = .ok (.goto (-21), 3) := dk_167 255 235 (dk_at dksX5_products_1 3 rfl rfl)
theorem dX5_products_29 : decode cX5_products 29 = .ok (.return_, 1) := dk_177 (dk_at dksX5_products_1 6 rfl rfl)
abbrev cX5_takePart : ByteArray := prog_30_method_39_code
def yX5_takePart : MethodName := ⟨RX5, "takePart", "(I)V"⟩
def dkwX5_takePart_8 : List UInt8 := [167, 0, 4, 29, 182, 1, 6, 42, 89, 180, 0, 179, 4, 96, 181, 0, 179, 177]
abbrev dktX5_takePart_8 : List UInt8 := dkwX5_takePart_8 ++ []
def dkwX5_takePart_7 : List UInt8 := [153, 0, 7, 4, 167, 0, 4, 5, 28, 153, 0, 16, 42, 180, 0, 30, 42, 180, 0, 179, 47, 136]
abbrev dktX5_takePart_7 : List UInt8 := dkwX5_takePart_7 ++ dktX5_takePart_8
def dkwX5_takePart_6 : List UInt8 := [182, 1, 23, 153, 0, 19, 42, 27, 4, 96, 182, 1, 3, 42, 16, 41, 182, 0, 243, 167, 0, 44, 42, 28]
abbrev dktX5_takePart_6 : List UInt8 := dkwX5_takePart_6 ++ dktX5_takePart_7
def dkwX5_takePart_5 : List UInt8 := [153, 0, 19, 42, 27, 4, 96, 182, 1, 29, 42, 6, 3, 182, 1, 6, 167, 0, 69, 42, 16, 40]
abbrev dktX5_takePart_5 : List UInt8 := dkwX5_takePart_5 ++ dktX5_takePart_6
def dkwX5_takePart_4 : List UInt8 := [8, 160, 0, 8, 42, 8, 182, 0, 188, 42, 180, 0, 182, 158, 0, 4, 177, 42, 16, 19, 182, 0, 194]
abbrev dktX5_takePart_4 : List UInt8 := dkwX5_takePart_4 ++ dktX5_takePart_5
def dkwX5_takePart_3 : List UInt8 := [182, 0, 185, 154, 0, 20, 42, 16, 19, 182, 0, 191, 154, 0, 11, 42, 4, 182, 0, 188, 167, 0, 13, 27]
abbrev dktX5_takePart_3 : List UInt8 := dkwX5_takePart_3 ++ dktX5_takePart_4
def dkwX5_takePart_2 : List UInt8 := [126, 4, 160, 0, 7, 29, 167, 0, 4, 2, 62, 29, 156, 0, 33, 28, 154, 0, 29, 42, 16, 40]
abbrev dktX5_takePart_2 : List UInt8 := dkwX5_takePart_2 ++ dktX5_takePart_3
def dkwX5_takePart_1 : List UInt8 := [167, 0, 4, 3, 61, 42, 16, 22, 8, 182, 0, 204, 62, 29, 155, 0, 19, 42, 180, 1, 0, 29, 122, 4]
abbrev dktX5_takePart_1 : List UInt8 := dkwX5_takePart_1 ++ dktX5_takePart_2
def dkwX5_takePart_0 : List UInt8 := [42, 180, 0, 182, 158, 0, 4, 177, 42, 180, 0, 24, 42, 180, 0, 179, 46, 5, 160, 0, 7, 4]
abbrev dktX5_takePart_0 : List UInt8 := dkwX5_takePart_0 ++ dktX5_takePart_1
theorem dksX5_takePart_0 : cX5_takePart.data.toList.drop 0 = dktX5_takePart_0 := by decide +kernel
theorem dksX5_takePart_1 : cX5_takePart.data.toList.drop 22 = dktX5_takePart_1 := dk_seg dksX5_takePart_0 22 rfl rfl
theorem dksX5_takePart_2 : cX5_takePart.data.toList.drop 46 = dktX5_takePart_2 := dk_seg dksX5_takePart_1 24 rfl rfl
theorem dksX5_takePart_3 : cX5_takePart.data.toList.drop 68 = dktX5_takePart_3 := dk_seg dksX5_takePart_2 22 rfl rfl
theorem dksX5_takePart_4 : cX5_takePart.data.toList.drop 92 = dktX5_takePart_4 := dk_seg dksX5_takePart_3 24 rfl rfl
theorem dksX5_takePart_5 : cX5_takePart.data.toList.drop 115 = dktX5_takePart_5 := dk_seg dksX5_takePart_4 23 rfl rfl
theorem dksX5_takePart_6 : cX5_takePart.data.toList.drop 137 = dktX5_takePart_6 := dk_seg dksX5_takePart_5 22 rfl rfl
theorem dksX5_takePart_7 : cX5_takePart.data.toList.drop 161 = dktX5_takePart_7 := dk_seg dksX5_takePart_6 24 rfl rfl
theorem dksX5_takePart_8 : cX5_takePart.data.toList.drop 183 = dktX5_takePart_8 := dk_seg dksX5_takePart_7 22 rfl rfl
theorem dX5_takePart_0 : decode cX5_takePart 0 = .ok (.aload_n 0, 1) := dk_42 (dk_at dksX5_takePart_0 0 rfl rfl)
theorem dX5_takePart_1 : decode cX5_takePart 1 = .ok (.getfield 182, 3) := dk_180 0 182 (dk_at dksX5_takePart_0 1 rfl rfl)
theorem dX5_takePart_4 : decode cX5_takePart 4 = .ok (.ifCond .le 4, 3) := dk_158 0 4 (dk_at dksX5_takePart_0 4 rfl rfl)
theorem dX5_takePart_7 : decode cX5_takePart 7 = .ok (.return_, 1) := dk_177 (dk_at dksX5_takePart_0 7 rfl rfl)
theorem dX5_takePart_8 : decode cX5_takePart 8 = .ok (.aload_n 0, 1) := dk_42 (dk_at dksX5_takePart_0 8 rfl rfl)
theorem dX5_takePart_9 : decode cX5_takePart 9 = .ok (.getfield 24, 3) := dk_180 0 24 (dk_at dksX5_takePart_0 9 rfl rfl)
theorem dX5_takePart_12 : decode cX5_takePart 12 = .ok (.aload_n 0, 1) := dk_42 (dk_at dksX5_takePart_0 12 rfl rfl)
theorem dX5_takePart_13 : decode cX5_takePart 13 = .ok (.getfield 179, 3) := dk_180 0 179 (dk_at dksX5_takePart_0 13 rfl rfl)
theorem dX5_takePart_16 : decode cX5_takePart 16 = .ok (.iaload, 1) := dk_46 (dk_at dksX5_takePart_0 16 rfl rfl)
theorem dX5_takePart_17 : decode cX5_takePart 17 = .ok (.iconst 2, 1) := dk_5 (dk_at dksX5_takePart_0 17 rfl rfl)
theorem dX5_takePart_18 : decode cX5_takePart 18 = .ok (.if_icmp .ne 7, 3) := dk_160 0 7 (dk_at dksX5_takePart_0 18 rfl rfl)
theorem dX5_takePart_21 : decode cX5_takePart 21 = .ok (.iconst 1, 1) := dk_4 (dk_at dksX5_takePart_0 21 rfl rfl)
theorem dX5_takePart_22 : decode cX5_takePart 22 = .ok (.goto 4, 3) := dk_167 0 4 (dk_at dksX5_takePart_1 0 rfl rfl)
theorem dX5_takePart_25 : decode cX5_takePart 25 = .ok (.iconst 0, 1) := dk_3 (dk_at dksX5_takePart_1 3 rfl rfl)
theorem dX5_takePart_26 : decode cX5_takePart 26 = .ok (.istore_n 2, 1) := dk_61 (dk_at dksX5_takePart_1 4 rfl rfl)
theorem dX5_takePart_27 : decode cX5_takePart 27 = .ok (.aload_n 0, 1) := dk_42 (dk_at dksX5_takePart_1 5 rfl rfl)
theorem dX5_takePart_28 : decode cX5_takePart 28 = .ok (.bipush 22, 2) := dk_16 22 (dk_at dksX5_takePart_1 6 rfl rfl)
theorem dX5_takePart_30 : decode cX5_takePart 30 = .ok (.iconst 5, 1) := dk_8 (dk_at dksX5_takePart_1 8 rfl rfl)
theorem dX5_takePart_31 : decode cX5_takePart 31 = .ok (.invokevirtual 204, 3) := dk_182 0 204 (dk_at dksX5_takePart_1 9 rfl rfl)
theorem dX5_takePart_34 : decode cX5_takePart 34 = .ok (.istore_n 3, 1) := dk_62 (dk_at dksX5_takePart_1 12 rfl rfl)
theorem dX5_takePart_35 : decode cX5_takePart 35 = .ok (.iload_n 3, 1) := dk_29 (dk_at dksX5_takePart_1 13 rfl rfl)
theorem dX5_takePart_36 : decode cX5_takePart 36 = .ok (.ifCond .lt 19, 3) := dk_155 0 19 (dk_at dksX5_takePart_1 14 rfl rfl)
theorem dX5_takePart_39 : decode cX5_takePart 39 = .ok (.aload_n 0, 1) := dk_42 (dk_at dksX5_takePart_1 17 rfl rfl)
theorem dX5_takePart_40 : decode cX5_takePart 40 = .ok (.getfield 256, 3) := dk_180 1 0 (dk_at dksX5_takePart_1 18 rfl rfl)
theorem dX5_takePart_43 : decode cX5_takePart 43 = .ok (.iload_n 3, 1) := dk_29 (dk_at dksX5_takePart_1 21 rfl rfl)
theorem dX5_takePart_44 : decode cX5_takePart 44 = .ok (.ishr, 1) := dk_122 (dk_at dksX5_takePart_1 22 rfl rfl)
theorem dX5_takePart_45 : decode cX5_takePart 45 = .ok (.iconst 1, 1) := dk_4 (dk_at dksX5_takePart_1 23 rfl rfl)
theorem dX5_takePart_46 : decode cX5_takePart 46 = .ok (.iand, 1) := dk_126 (dk_at dksX5_takePart_2 0 rfl rfl)
theorem dX5_takePart_47 : decode cX5_takePart 47 = .ok (.iconst 1, 1) := dk_4 (dk_at dksX5_takePart_2 1 rfl rfl)
theorem dX5_takePart_48 : decode cX5_takePart 48 = .ok (.if_icmp .ne 7, 3) := dk_160 0 7 (dk_at dksX5_takePart_2 2 rfl rfl)
theorem dX5_takePart_51 : decode cX5_takePart 51 = .ok (.iload_n 3, 1) := dk_29 (dk_at dksX5_takePart_2 5 rfl rfl)
theorem dX5_takePart_52 : decode cX5_takePart 52 = .ok (.goto 4, 3) := dk_167 0 4 (dk_at dksX5_takePart_2 6 rfl rfl)
theorem dX5_takePart_55 : decode cX5_takePart 55 = .ok (.iconst (-1), 1) := dk_2 (dk_at dksX5_takePart_2 9 rfl rfl)
theorem dX5_takePart_56 : decode cX5_takePart 56 = .ok (.istore_n 3, 1) := dk_62 (dk_at dksX5_takePart_2 10 rfl rfl)
theorem dX5_takePart_57 : decode cX5_takePart 57 = .ok (.iload_n 3, 1) := dk_29 (dk_at dksX5_takePart_2 11 rfl rfl)
theorem dX5_takePart_58 : decode cX5_takePart 58 = .ok (.ifCond .ge 33, 3) := dk_156 0 33 (dk_at dksX5_takePart_2 12 rfl rfl)
theorem dX5_takePart_61 : decode cX5_takePart 61 = .ok (.iload_n 2, 1) := dk_28 (dk_at dksX5_takePart_2 15 rfl rfl)
theorem dX5_takePart_62 : decode cX5_takePart 62 = .ok (.ifCond .ne 29, 3) := dk_154 0 29 (dk_at dksX5_takePart_2 16 rfl rfl)
theorem dX5_takePart_65 : decode cX5_takePart 65 = .ok (.aload_n 0, 1) := dk_42 (dk_at dksX5_takePart_2 19 rfl rfl)
theorem dX5_takePart_66 : decode cX5_takePart 66 = .ok (.bipush 40, 2) := dk_16 40 (dk_at dksX5_takePart_2 20 rfl rfl)
theorem dX5_takePart_68 : decode cX5_takePart 68 = .ok (.invokevirtual 185, 3) := dk_182 0 185 (dk_at dksX5_takePart_3 0 rfl rfl)
theorem dX5_takePart_71 : decode cX5_takePart 71 = .ok (.ifCond .ne 20, 3) := dk_154 0 20 (dk_at dksX5_takePart_3 3 rfl rfl)
theorem dX5_takePart_74 : decode cX5_takePart 74 = .ok (.aload_n 0, 1) := dk_42 (dk_at dksX5_takePart_3 6 rfl rfl)
theorem dX5_takePart_75 : decode cX5_takePart 75 = .ok (.bipush 19, 2) := dk_16 19 (dk_at dksX5_takePart_3 7 rfl rfl)
theorem dX5_takePart_77 : decode cX5_takePart 77 = .ok (.invokevirtual 191, 3) := dk_182 0 191 (dk_at dksX5_takePart_3 9 rfl rfl)
theorem dX5_takePart_80 : decode cX5_takePart 80 = .ok (.ifCond .ne 11, 3) := dk_154 0 11 (dk_at dksX5_takePart_3 12 rfl rfl)
theorem dX5_takePart_83 : decode cX5_takePart 83 = .ok (.aload_n 0, 1) := dk_42 (dk_at dksX5_takePart_3 15 rfl rfl)
theorem dX5_takePart_84 : decode cX5_takePart 84 = .ok (.iconst 1, 1) := dk_4 (dk_at dksX5_takePart_3 16 rfl rfl)
theorem dX5_takePart_85 : decode cX5_takePart 85 = .ok (.invokevirtual 188, 3) := dk_182 0 188 (dk_at dksX5_takePart_3 17 rfl rfl)
theorem dX5_takePart_88 : decode cX5_takePart 88 = .ok (.goto 13, 3) := dk_167 0 13 (dk_at dksX5_takePart_3 20 rfl rfl)
theorem dX5_takePart_91 : decode cX5_takePart 91 = .ok (.iload_n 1, 1) := dk_27 (dk_at dksX5_takePart_3 23 rfl rfl)
theorem dX5_takePart_92 : decode cX5_takePart 92 = .ok (.iconst 5, 1) := dk_8 (dk_at dksX5_takePart_4 0 rfl rfl)
theorem dX5_takePart_93 : decode cX5_takePart 93 = .ok (.if_icmp .ne 8, 3) := dk_160 0 8 (dk_at dksX5_takePart_4 1 rfl rfl)
theorem dX5_takePart_96 : decode cX5_takePart 96 = .ok (.aload_n 0, 1) := dk_42 (dk_at dksX5_takePart_4 4 rfl rfl)
theorem dX5_takePart_97 : decode cX5_takePart 97 = .ok (.iconst 5, 1) := dk_8 (dk_at dksX5_takePart_4 5 rfl rfl)
theorem dX5_takePart_98 : decode cX5_takePart 98 = .ok (.invokevirtual 188, 3) := dk_182 0 188 (dk_at dksX5_takePart_4 6 rfl rfl)
theorem dX5_takePart_101 : decode cX5_takePart 101 = .ok (.aload_n 0, 1) := dk_42 (dk_at dksX5_takePart_4 9 rfl rfl)
theorem dX5_takePart_102 : decode cX5_takePart 102 = .ok (.getfield 182, 3) := dk_180 0 182 (dk_at dksX5_takePart_4 10 rfl rfl)
theorem dX5_takePart_105 : decode cX5_takePart 105 = .ok (.ifCond .le 4, 3) := dk_158 0 4 (dk_at dksX5_takePart_4 13 rfl rfl)
theorem dX5_takePart_108 : decode cX5_takePart 108 = .ok (.return_, 1) := dk_177 (dk_at dksX5_takePart_4 16 rfl rfl)
theorem dX5_takePart_109 : decode cX5_takePart 109 = .ok (.aload_n 0, 1) := dk_42 (dk_at dksX5_takePart_4 17 rfl rfl)
theorem dX5_takePart_110 : decode cX5_takePart 110 = .ok (.bipush 19, 2) := dk_16 19 (dk_at dksX5_takePart_4 18 rfl rfl)
theorem dX5_takePart_112 : decode cX5_takePart 112 = .ok (.invokevirtual 194, 3) := dk_182 0 194 (dk_at dksX5_takePart_4 20 rfl rfl)
theorem dX5_takePart_115 : decode cX5_takePart 115 = .ok (.ifCond .eq 19, 3) := dk_153 0 19 (dk_at dksX5_takePart_5 0 rfl rfl)
theorem dX5_takePart_118 : decode cX5_takePart 118 = .ok (.aload_n 0, 1) := dk_42 (dk_at dksX5_takePart_5 3 rfl rfl)
theorem dX5_takePart_119 : decode cX5_takePart 119 = .ok (.iload_n 1, 1) := dk_27 (dk_at dksX5_takePart_5 4 rfl rfl)
theorem dX5_takePart_120 : decode cX5_takePart 120 = .ok (.iconst 1, 1) := dk_4 (dk_at dksX5_takePart_5 5 rfl rfl)
theorem dX5_takePart_121 : decode cX5_takePart 121 = .ok (.iadd, 1) := dk_96 (dk_at dksX5_takePart_5 6 rfl rfl)
theorem dX5_takePart_122 : decode cX5_takePart 122 = .ok (.invokevirtual 285, 3) := dk_182 1 29 (dk_at dksX5_takePart_5 7 rfl rfl)
theorem dX5_takePart_125 : decode cX5_takePart 125 = .ok (.aload_n 0, 1) := dk_42 (dk_at dksX5_takePart_5 10 rfl rfl)
theorem dX5_takePart_126 : decode cX5_takePart 126 = .ok (.iconst 3, 1) := dk_6 (dk_at dksX5_takePart_5 11 rfl rfl)
theorem dX5_takePart_127 : decode cX5_takePart 127 = .ok (.iconst 0, 1) := dk_3 (dk_at dksX5_takePart_5 12 rfl rfl)
theorem dX5_takePart_128 : decode cX5_takePart 128 = .ok (.invokevirtual 262, 3) := dk_182 1 6 (dk_at dksX5_takePart_5 13 rfl rfl)
theorem dX5_takePart_131 : decode cX5_takePart 131 = .ok (.goto 69, 3) := dk_167 0 69 (dk_at dksX5_takePart_5 16 rfl rfl)
theorem dX5_takePart_134 : decode cX5_takePart 134 = .ok (.aload_n 0, 1) := dk_42 (dk_at dksX5_takePart_5 19 rfl rfl)
theorem dX5_takePart_135 : decode cX5_takePart 135 = .ok (.bipush 40, 2) := dk_16 40 (dk_at dksX5_takePart_5 20 rfl rfl)
theorem dX5_takePart_137 : decode cX5_takePart 137 = .ok (.invokevirtual 279, 3) := dk_182 1 23 (dk_at dksX5_takePart_6 0 rfl rfl)
theorem dX5_takePart_140 : decode cX5_takePart 140 = .ok (.ifCond .eq 19, 3) := dk_153 0 19 (dk_at dksX5_takePart_6 3 rfl rfl)
theorem dX5_takePart_143 : decode cX5_takePart 143 = .ok (.aload_n 0, 1) := dk_42 (dk_at dksX5_takePart_6 6 rfl rfl)
theorem dX5_takePart_144 : decode cX5_takePart 144 = .ok (.iload_n 1, 1) := dk_27 (dk_at dksX5_takePart_6 7 rfl rfl)
theorem dX5_takePart_145 : decode cX5_takePart 145 = .ok (.iconst 1, 1) := dk_4 (dk_at dksX5_takePart_6 8 rfl rfl)
theorem dX5_takePart_146 : decode cX5_takePart 146 = .ok (.iadd, 1) := dk_96 (dk_at dksX5_takePart_6 9 rfl rfl)
theorem dX5_takePart_147 : decode cX5_takePart 147 = .ok (.invokevirtual 259, 3) := dk_182 1 3 (dk_at dksX5_takePart_6 10 rfl rfl)
theorem dX5_takePart_150 : decode cX5_takePart 150 = .ok (.aload_n 0, 1) := dk_42 (dk_at dksX5_takePart_6 13 rfl rfl)
theorem dX5_takePart_151 : decode cX5_takePart 151 = .ok (.bipush 41, 2) := dk_16 41 (dk_at dksX5_takePart_6 14 rfl rfl)
theorem dX5_takePart_153 : decode cX5_takePart 153 = .ok (.invokevirtual 243, 3) := dk_182 0 243 (dk_at dksX5_takePart_6 16 rfl rfl)
theorem dX5_takePart_156 : decode cX5_takePart 156 = .ok (.goto 44, 3) := dk_167 0 44 (dk_at dksX5_takePart_6 19 rfl rfl)
theorem dX5_takePart_159 : decode cX5_takePart 159 = .ok (.aload_n 0, 1) := dk_42 (dk_at dksX5_takePart_6 22 rfl rfl)
theorem dX5_takePart_160 : decode cX5_takePart 160 = .ok (.iload_n 2, 1) := dk_28 (dk_at dksX5_takePart_6 23 rfl rfl)
theorem dX5_takePart_161 : decode cX5_takePart 161 = .ok (.ifCond .eq 7, 3) := dk_153 0 7 (dk_at dksX5_takePart_7 0 rfl rfl)
theorem dX5_takePart_164 : decode cX5_takePart 164 = .ok (.iconst 1, 1) := dk_4 (dk_at dksX5_takePart_7 3 rfl rfl)
theorem dX5_takePart_165 : decode cX5_takePart 165 = .ok (.goto 4, 3) := dk_167 0 4 (dk_at dksX5_takePart_7 4 rfl rfl)
theorem dX5_takePart_168 : decode cX5_takePart 168 = .ok (.iconst 2, 1) := dk_5 (dk_at dksX5_takePart_7 7 rfl rfl)
theorem dX5_takePart_169 : decode cX5_takePart 169 = .ok (.iload_n 2, 1) := dk_28 (dk_at dksX5_takePart_7 8 rfl rfl)
theorem dX5_takePart_170 : decode cX5_takePart 170 = .ok (.ifCond .eq 16, 3) := dk_153 0 16 (dk_at dksX5_takePart_7 9 rfl rfl)
theorem dX5_takePart_173 : decode cX5_takePart 173 = .ok (.aload_n 0, 1) := dk_42 (dk_at dksX5_takePart_7 12 rfl rfl)
theorem dX5_takePart_174 : decode cX5_takePart 174 = .ok (.getfield 30, 3) := dk_180 0 30 (dk_at dksX5_takePart_7 13 rfl rfl)
theorem dX5_takePart_177 : decode cX5_takePart 177 = .ok (.aload_n 0, 1) := dk_42 (dk_at dksX5_takePart_7 16 rfl rfl)
theorem dX5_takePart_178 : decode cX5_takePart 178 = .ok (.getfield 179, 3) := dk_180 0 179 (dk_at dksX5_takePart_7 17 rfl rfl)
theorem dX5_takePart_181 : decode cX5_takePart 181 = .ok (.laload, 1) := dk_47 (dk_at dksX5_takePart_7 20 rfl rfl)
theorem dX5_takePart_182 : decode cX5_takePart 182 = .ok (.l2i, 1) := dk_136 (dk_at dksX5_takePart_7 21 rfl rfl)
theorem dX5_takePart_183 : decode cX5_takePart 183 = .ok (.goto 4, 3) := dk_167 0 4 (dk_at dksX5_takePart_8 0 rfl rfl)
theorem dX5_takePart_186 : decode cX5_takePart 186 = .ok (.iload_n 3, 1) := dk_29 (dk_at dksX5_takePart_8 3 rfl rfl)
theorem dX5_takePart_187 : decode cX5_takePart 187 = .ok (.invokevirtual 262, 3) := dk_182 1 6 (dk_at dksX5_takePart_8 4 rfl rfl)
theorem dX5_takePart_190 : decode cX5_takePart 190 = .ok (.aload_n 0, 1) := dk_42 (dk_at dksX5_takePart_8 7 rfl rfl)
theorem dX5_takePart_191 : decode cX5_takePart 191 = .ok (.dup, 1) := dk_89 (dk_at dksX5_takePart_8 8 rfl rfl)
theorem dX5_takePart_192 : decode cX5_takePart 192 = .ok (.getfield 179, 3) := dk_180 0 179 (dk_at dksX5_takePart_8 9 rfl rfl)
theorem dX5_takePart_195 : decode cX5_takePart 195 = .ok (.iconst 1, 1) := dk_4 (dk_at dksX5_takePart_8 12 rfl rfl)
theorem dX5_takePart_196 : decode cX5_takePart 196 = .ok (.iadd, 1) := dk_96 (dk_at dksX5_takePart_8 13 rfl rfl)
theorem dX5_takePart_197 : decode cX5_takePart 197 = .ok (.putfield 179, 3) := dk_181 0 179 (dk_at dksX5_takePart_8 14 rfl rfl)
theorem dX5_takePart_200 : decode cX5_takePart 200 = .ok (.return_, 1) := dk_177 (dk_at dksX5_takePart_8 17 rfl rfl)
abbrev cX5_isSign : ByteArray := prog_30_method_11_code
def yX5_isSign : MethodName := ⟨RX5, "isSign", "(I)Z"⟩
def dkwX5_isSign_1 : List UInt8 := [42, 180, 0, 179, 47, 27, 133, 148, 154, 0, 7, 4, 167, 0, 4, 3, 172]
abbrev dktX5_isSign_1 : List UInt8 := dkwX5_isSign_1 ++ []
def dkwX5_isSign_0 : List UInt8 := [42, 180, 0, 182, 154, 0, 35, 42, 180, 0, 24, 42, 180, 0, 179, 46, 6, 160, 0, 22, 42, 180, 0, 30]
abbrev dktX5_isSign_0 : List UInt8 := dkwX5_isSign_0 ++ dktX5_isSign_1
theorem dksX5_isSign_0 : cX5_isSign.data.toList.drop 0 = dktX5_isSign_0 := by decide +kernel
theorem dksX5_isSign_1 : cX5_isSign.data.toList.drop 24 = dktX5_isSign_1 := dk_seg dksX5_isSign_0 24 rfl rfl
theorem dX5_isSign_0 : decode cX5_isSign 0 = .ok (.aload_n 0, 1) := dk_42 (dk_at dksX5_isSign_0 0 rfl rfl)
theorem dX5_isSign_1 : decode cX5_isSign 1 = .ok (.getfield 182, 3) := dk_180 0 182 (dk_at dksX5_isSign_0 1 rfl rfl)
theorem dX5_isSign_4 : decode cX5_isSign 4 = .ok (.ifCond .ne 35, 3) := dk_154 0 35 (dk_at dksX5_isSign_0 4 rfl rfl)
theorem dX5_isSign_7 : decode cX5_isSign 7 = .ok (.aload_n 0, 1) := dk_42 (dk_at dksX5_isSign_0 7 rfl rfl)
theorem dX5_isSign_8 : decode cX5_isSign 8 = .ok (.getfield 24, 3) := dk_180 0 24 (dk_at dksX5_isSign_0 8 rfl rfl)
theorem dX5_isSign_11 : decode cX5_isSign 11 = .ok (.aload_n 0, 1) := dk_42 (dk_at dksX5_isSign_0 11 rfl rfl)
theorem dX5_isSign_12 : decode cX5_isSign 12 = .ok (.getfield 179, 3) := dk_180 0 179 (dk_at dksX5_isSign_0 12 rfl rfl)
theorem dX5_isSign_15 : decode cX5_isSign 15 = .ok (.iaload, 1) := dk_46 (dk_at dksX5_isSign_0 15 rfl rfl)
theorem dX5_isSign_16 : decode cX5_isSign 16 = .ok (.iconst 3, 1) := dk_6 (dk_at dksX5_isSign_0 16 rfl rfl)
theorem dX5_isSign_17 : decode cX5_isSign 17 = .ok (.if_icmp .ne 22, 3) := dk_160 0 22 (dk_at dksX5_isSign_0 17 rfl rfl)
theorem dX5_isSign_20 : decode cX5_isSign 20 = .ok (.aload_n 0, 1) := dk_42 (dk_at dksX5_isSign_0 20 rfl rfl)
theorem dX5_isSign_21 : decode cX5_isSign 21 = .ok (.getfield 30, 3) := dk_180 0 30 (dk_at dksX5_isSign_0 21 rfl rfl)
theorem dX5_isSign_24 : decode cX5_isSign 24 = .ok (.aload_n 0, 1) := dk_42 (dk_at dksX5_isSign_1 0 rfl rfl)
theorem dX5_isSign_25 : decode cX5_isSign 25 = .ok (.getfield 179, 3) := dk_180 0 179 (dk_at dksX5_isSign_1 1 rfl rfl)
theorem dX5_isSign_28 : decode cX5_isSign 28 = .ok (.laload, 1) := dk_47 (dk_at dksX5_isSign_1 4 rfl rfl)
theorem dX5_isSign_29 : decode cX5_isSign 29 = .ok (.iload_n 1, 1) := dk_27 (dk_at dksX5_isSign_1 5 rfl rfl)
theorem dX5_isSign_30 : decode cX5_isSign 30 = .ok (.i2l, 1) := dk_133 (dk_at dksX5_isSign_1 6 rfl rfl)
theorem dX5_isSign_31 : decode cX5_isSign 31 = .ok (.lcmp, 1) := dk_148 (dk_at dksX5_isSign_1 7 rfl rfl)
theorem dX5_isSign_32 : decode cX5_isSign 32 = .ok (.ifCond .ne 7, 3) := dk_154 0 7 (dk_at dksX5_isSign_1 8 rfl rfl)
theorem dX5_isSign_35 : decode cX5_isSign 35 = .ok (.iconst 1, 1) := dk_4 (dk_at dksX5_isSign_1 11 rfl rfl)
theorem dX5_isSign_36 : decode cX5_isSign 36 = .ok (.goto 4, 3) := dk_167 0 4 (dk_at dksX5_isSign_1 12 rfl rfl)
theorem dX5_isSign_39 : decode cX5_isSign 39 = .ok (.iconst 0, 1) := dk_3 (dk_at dksX5_isSign_1 15 rfl rfl)
theorem dX5_isSign_40 : decode cX5_isSign 40 = .ok (.ireturn, 1) := dk_172 (dk_at dksX5_isSign_1 16 rfl rfl)
abbrev cX5_emit : ByteArray := prog_30_method_34_code
def yX5_emit : MethodName := ⟨RX5, "emit", "(II)V"⟩
def dkwX5_emit_1 : List UInt8 := [180, 0, 227, 96, 28, 79, 42, 89, 180, 0, 227, 4, 96, 181, 0, 227, 177]
abbrev dktX5_emit_1 : List UInt8 := dkwX5_emit_1 ++ []
def dkwX5_emit_0 : List UInt8 := [42, 180, 0, 94, 17, 4, 76, 42, 180, 0, 227, 96, 27, 79, 42, 180, 0, 97, 17, 4, 76, 42]
abbrev dktX5_emit_0 : List UInt8 := dkwX5_emit_0 ++ dktX5_emit_1
theorem dksX5_emit_0 : cX5_emit.data.toList.drop 0 = dktX5_emit_0 := by decide +kernel
theorem dksX5_emit_1 : cX5_emit.data.toList.drop 22 = dktX5_emit_1 := dk_seg dksX5_emit_0 22 rfl rfl
theorem dX5_emit_0 : decode cX5_emit 0 = .ok (.aload_n 0, 1) := dk_42 (dk_at dksX5_emit_0 0 rfl rfl)
theorem dX5_emit_1 : decode cX5_emit 1 = .ok (.getfield 94, 3) := dk_180 0 94 (dk_at dksX5_emit_0 1 rfl rfl)
theorem dX5_emit_4 : decode cX5_emit 4 = .ok (.sipush 1100, 3) := dk_17 4 76 (dk_at dksX5_emit_0 4 rfl rfl)
theorem dX5_emit_7 : decode cX5_emit 7 = .ok (.aload_n 0, 1) := dk_42 (dk_at dksX5_emit_0 7 rfl rfl)
theorem dX5_emit_8 : decode cX5_emit 8 = .ok (.getfield 227, 3) := dk_180 0 227 (dk_at dksX5_emit_0 8 rfl rfl)
theorem dX5_emit_11 : decode cX5_emit 11 = .ok (.iadd, 1) := dk_96 (dk_at dksX5_emit_0 11 rfl rfl)
theorem dX5_emit_12 : decode cX5_emit 12 = .ok (.iload_n 1, 1) := dk_27 (dk_at dksX5_emit_0 12 rfl rfl)
theorem dX5_emit_13 : decode cX5_emit 13 = .ok (.iastore, 1) := dk_79 (dk_at dksX5_emit_0 13 rfl rfl)
theorem dX5_emit_14 : decode cX5_emit 14 = .ok (.aload_n 0, 1) := dk_42 (dk_at dksX5_emit_0 14 rfl rfl)
theorem dX5_emit_15 : decode cX5_emit 15 = .ok (.getfield 97, 3) := dk_180 0 97 (dk_at dksX5_emit_0 15 rfl rfl)
theorem dX5_emit_18 : decode cX5_emit 18 = .ok (.sipush 1100, 3) := dk_17 4 76 (dk_at dksX5_emit_0 18 rfl rfl)
theorem dX5_emit_21 : decode cX5_emit 21 = .ok (.aload_n 0, 1) := dk_42 (dk_at dksX5_emit_0 21 rfl rfl)
theorem dX5_emit_22 : decode cX5_emit 22 = .ok (.getfield 227, 3) := dk_180 0 227 (dk_at dksX5_emit_1 0 rfl rfl)
theorem dX5_emit_25 : decode cX5_emit 25 = .ok (.iadd, 1) := dk_96 (dk_at dksX5_emit_1 3 rfl rfl)
theorem dX5_emit_26 : decode cX5_emit 26 = .ok (.iload_n 2, 1) := dk_28 (dk_at dksX5_emit_1 4 rfl rfl)
theorem dX5_emit_27 : decode cX5_emit 27 = .ok (.iastore, 1) := dk_79 (dk_at dksX5_emit_1 5 rfl rfl)
theorem dX5_emit_28 : decode cX5_emit 28 = .ok (.aload_n 0, 1) := dk_42 (dk_at dksX5_emit_1 6 rfl rfl)
theorem dX5_emit_29 : decode cX5_emit 29 = .ok (.dup, 1) := dk_89 (dk_at dksX5_emit_1 7 rfl rfl)
theorem dX5_emit_30 : decode cX5_emit 30 = .ok (.getfield 227, 3) := dk_180 0 227 (dk_at dksX5_emit_1 8 rfl rfl)
theorem dX5_emit_33 : decode cX5_emit 33 = .ok (.iconst 1, 1) := dk_4 (dk_at dksX5_emit_1 11 rfl rfl)
theorem dX5_emit_34 : decode cX5_emit 34 = .ok (.iadd, 1) := dk_96 (dk_at dksX5_emit_1 12 rfl rfl)
theorem dX5_emit_35 : decode cX5_emit 35 = .ok (.putfield 227, 3) := dk_181 0 227 (dk_at dksX5_emit_1 13 rfl rfl)
theorem dX5_emit_38 : decode cX5_emit 38 = .ok (.return_, 1) := dk_177 (dk_at dksX5_emit_1 16 rfl rfl)
abbrev cX5_hasSign : ByteArray := prog_30_method_14_code
def yX5_hasSign : MethodName := ⟨RX5, "hasSign", "(I)Z"⟩
def dkwX5_hasSign_1 : List UInt8 := [28, 172]
abbrev dktX5_hasSign_1 : List UInt8 := dkwX5_hasSign_1 ++ []
def dkwX5_hasSign_0 : List UInt8 := [42, 27, 182, 0, 185, 61, 42, 89, 180, 0, 179, 28, 153, 0, 7, 4, 167, 0, 4, 3, 96, 181, 0, 179]
abbrev dktX5_hasSign_0 : List UInt8 := dkwX5_hasSign_0 ++ dktX5_hasSign_1
theorem dksX5_hasSign_0 : cX5_hasSign.data.toList.drop 0 = dktX5_hasSign_0 := by decide +kernel
theorem dksX5_hasSign_1 : cX5_hasSign.data.toList.drop 24 = dktX5_hasSign_1 := dk_seg dksX5_hasSign_0 24 rfl rfl
theorem dX5_hasSign_0 : decode cX5_hasSign 0 = .ok (.aload_n 0, 1) := dk_42 (dk_at dksX5_hasSign_0 0 rfl rfl)
theorem dX5_hasSign_1 : decode cX5_hasSign 1 = .ok (.iload_n 1, 1) := dk_27 (dk_at dksX5_hasSign_0 1 rfl rfl)
theorem dX5_hasSign_2 : decode cX5_hasSign 2 = .ok (.invokevirtual 185, 3) := dk_182 0 185 (dk_at dksX5_hasSign_0 2 rfl rfl)
theorem dX5_hasSign_5 : decode cX5_hasSign 5 = .ok (.istore_n 2, 1) := dk_61 (dk_at dksX5_hasSign_0 5 rfl rfl)
theorem dX5_hasSign_6 : decode cX5_hasSign 6 = .ok (.aload_n 0, 1) := dk_42 (dk_at dksX5_hasSign_0 6 rfl rfl)
theorem dX5_hasSign_7 : decode cX5_hasSign 7 = .ok (.dup, 1) := dk_89 (dk_at dksX5_hasSign_0 7 rfl rfl)
theorem dX5_hasSign_8 : decode cX5_hasSign 8 = .ok (.getfield 179, 3) := dk_180 0 179 (dk_at dksX5_hasSign_0 8 rfl rfl)
theorem dX5_hasSign_11 : decode cX5_hasSign 11 = .ok (.iload_n 2, 1) := dk_28 (dk_at dksX5_hasSign_0 11 rfl rfl)
theorem dX5_hasSign_12 : decode cX5_hasSign 12 = .ok (.ifCond .eq 7, 3) := dk_153 0 7 (dk_at dksX5_hasSign_0 12 rfl rfl)
theorem dX5_hasSign_15 : decode cX5_hasSign 15 = .ok (.iconst 1, 1) := dk_4 (dk_at dksX5_hasSign_0 15 rfl rfl)
theorem dX5_hasSign_16 : decode cX5_hasSign 16 = .ok (.goto 4, 3) := dk_167 0 4 (dk_at dksX5_hasSign_0 16 rfl rfl)
theorem dX5_hasSign_19 : decode cX5_hasSign 19 = .ok (.iconst 0, 1) := dk_3 (dk_at dksX5_hasSign_0 19 rfl rfl)
theorem dX5_hasSign_20 : decode cX5_hasSign 20 = .ok (.iadd, 1) := dk_96 (dk_at dksX5_hasSign_0 20 rfl rfl)
theorem dX5_hasSign_21 : decode cX5_hasSign 21 = .ok (.putfield 179, 3) := dk_181 0 179 (dk_at dksX5_hasSign_0 21 rfl rfl)
theorem dX5_hasSign_24 : decode cX5_hasSign 24 = .ok (.iload_n 2, 1) := dk_28 (dk_at dksX5_hasSign_1 0 rfl rfl)
theorem dX5_hasSign_25 : decode cX5_hasSign 25 = .ok (.ireturn, 1) := dk_172 (dk_at dksX5_hasSign_1 1 rfl rfl)
abbrev cX5_takeSign : ByteArray := prog_30_method_13_code
def yX5_takeSign : MethodName := ⟨RX5, "takeSign", "(I)V"⟩
def dkwX5_takeSign_1 : List UInt8 := [182, 0, 188, 177]
abbrev dktX5_takeSign_1 : List UInt8 := dkwX5_takeSign_1 ++ []
def dkwX5_takeSign_0 : List UInt8 := [42, 27, 182, 0, 185, 153, 0, 16, 42, 89, 180, 0, 179, 4, 96, 181, 0, 179, 167, 0, 8, 42, 4]
abbrev dktX5_takeSign_0 : List UInt8 := dkwX5_takeSign_0 ++ dktX5_takeSign_1
theorem dksX5_takeSign_0 : cX5_takeSign.data.toList.drop 0 = dktX5_takeSign_0 := by decide +kernel
theorem dksX5_takeSign_1 : cX5_takeSign.data.toList.drop 23 = dktX5_takeSign_1 := dk_seg dksX5_takeSign_0 23 rfl rfl
theorem dX5_takeSign_0 : decode cX5_takeSign 0 = .ok (.aload_n 0, 1) := dk_42 (dk_at dksX5_takeSign_0 0 rfl rfl)
theorem dX5_takeSign_1 : decode cX5_takeSign 1 = .ok (.iload_n 1, 1) := dk_27 (dk_at dksX5_takeSign_0 1 rfl rfl)
theorem dX5_takeSign_2 : decode cX5_takeSign 2 = .ok (.invokevirtual 185, 3) := dk_182 0 185 (dk_at dksX5_takeSign_0 2 rfl rfl)
theorem dX5_takeSign_5 : decode cX5_takeSign 5 = .ok (.ifCond .eq 16, 3) := dk_153 0 16 (dk_at dksX5_takeSign_0 5 rfl rfl)
theorem dX5_takeSign_8 : decode cX5_takeSign 8 = .ok (.aload_n 0, 1) := dk_42 (dk_at dksX5_takeSign_0 8 rfl rfl)
theorem dX5_takeSign_9 : decode cX5_takeSign 9 = .ok (.dup, 1) := dk_89 (dk_at dksX5_takeSign_0 9 rfl rfl)
theorem dX5_takeSign_10 : decode cX5_takeSign 10 = .ok (.getfield 179, 3) := dk_180 0 179 (dk_at dksX5_takeSign_0 10 rfl rfl)
theorem dX5_takeSign_13 : decode cX5_takeSign 13 = .ok (.iconst 1, 1) := dk_4 (dk_at dksX5_takeSign_0 13 rfl rfl)
theorem dX5_takeSign_14 : decode cX5_takeSign 14 = .ok (.iadd, 1) := dk_96 (dk_at dksX5_takeSign_0 14 rfl rfl)
theorem dX5_takeSign_15 : decode cX5_takeSign 15 = .ok (.putfield 179, 3) := dk_181 0 179 (dk_at dksX5_takeSign_0 15 rfl rfl)
theorem dX5_takeSign_18 : decode cX5_takeSign 18 = .ok (.goto 8, 3) := dk_167 0 8 (dk_at dksX5_takeSign_0 18 rfl rfl)
theorem dX5_takeSign_21 : decode cX5_takeSign 21 = .ok (.aload_n 0, 1) := dk_42 (dk_at dksX5_takeSign_0 21 rfl rfl)
theorem dX5_takeSign_22 : decode cX5_takeSign 22 = .ok (.iconst 1, 1) := dk_4 (dk_at dksX5_takeSign_0 22 rfl rfl)
theorem dX5_takeSign_23 : decode cX5_takeSign 23 = .ok (.invokevirtual 188, 3) := dk_182 0 188 (dk_at dksX5_takeSign_1 0 rfl rfl)
theorem dX5_takeSign_26 : decode cX5_takeSign 26 = .ok (.return_, 1) := dk_177 (dk_at dksX5_takeSign_1 3 rfl rfl)
abbrev cX5_year : ByteArray := prog_30_method_32_code
def yX5_year : MethodName := ⟨RX5, "year", "()I"⟩
def dkwX5_year_6 : List UInt8 := [180, 0, 106, 16, 125, 28, 96, 46, 79, 132, 2, 1, 167, 255, 229, 3, 172]
abbrev dktX5_year_6 : List UInt8 := dkwX5_year_6 ++ []
def dkwX5_year_5 : List UInt8 := [42, 180, 0, 106, 3, 27, 79, 3, 61, 28, 6, 27, 104, 162, 0, 26, 42, 180, 0, 106, 4, 28, 96, 42]
abbrev dktX5_year_5 : List UInt8 := dkwX5_year_5 ++ dktX5_year_6
def dkwX5_year_4 : List UInt8 := [132, 1, 1, 42, 16, 59, 182, 0, 243, 167, 255, 164, 42, 180, 0, 182, 158, 0, 8, 42, 180, 0, 182, 172]
abbrev dktX5_year_4 : List UInt8 := dkwX5_year_4 ++ dktX5_year_5
def dkwX5_year_3 : List UInt8 := [42, 180, 0, 106, 16, 125, 6, 27, 104, 96, 28, 79, 42, 28, 16, 126, 6, 27, 104, 96, 182, 1, 14]
abbrev dktX5_year_3 : List UInt8 := dkwX5_year_3 ++ dktX5_year_4
def dkwX5_year_2 : List UInt8 := [27, 16, 40, 160, 0, 11, 42, 8, 182, 0, 188, 167, 0, 39, 42, 89, 180, 0, 179, 4, 96, 181, 0, 179]
abbrev dktX5_year_2 : List UInt8 := dkwX5_year_2 ++ dktX5_year_3
def dkwX5_year_1 : List UInt8 := [180, 0, 179, 46, 153, 0, 79, 42, 182, 1, 10, 61, 28, 156, 0, 11, 42, 4, 182, 0, 188, 167, 0, 53]
abbrev dktX5_year_1 : List UInt8 := dkwX5_year_1 ++ dktX5_year_2
def dkwX5_year_0 : List UInt8 := [42, 3, 181, 0, 1, 42, 182, 0, 224, 3, 60, 42, 180, 0, 182, 154, 0, 91, 42, 180, 0, 24, 42]
abbrev dktX5_year_0 : List UInt8 := dkwX5_year_0 ++ dktX5_year_1
theorem dksX5_year_0 : cX5_year.data.toList.drop 0 = dktX5_year_0 := by decide +kernel
theorem dksX5_year_1 : cX5_year.data.toList.drop 23 = dktX5_year_1 := dk_seg dksX5_year_0 23 rfl rfl
theorem dksX5_year_2 : cX5_year.data.toList.drop 47 = dktX5_year_2 := dk_seg dksX5_year_1 24 rfl rfl
theorem dksX5_year_3 : cX5_year.data.toList.drop 71 = dktX5_year_3 := dk_seg dksX5_year_2 24 rfl rfl
theorem dksX5_year_4 : cX5_year.data.toList.drop 94 = dktX5_year_4 := dk_seg dksX5_year_3 23 rfl rfl
theorem dksX5_year_5 : cX5_year.data.toList.drop 118 = dktX5_year_5 := dk_seg dksX5_year_4 24 rfl rfl
theorem dksX5_year_6 : cX5_year.data.toList.drop 142 = dktX5_year_6 := dk_seg dksX5_year_5 24 rfl rfl
theorem dX5_year_0 : decode cX5_year 0 = .ok (.aload_n 0, 1) := dk_42 (dk_at dksX5_year_0 0 rfl rfl)
theorem dX5_year_1 : decode cX5_year 1 = .ok (.iconst 0, 1) := dk_3 (dk_at dksX5_year_0 1 rfl rfl)
theorem dX5_year_2 : decode cX5_year 2 = .ok (.putfield 1, 3) := dk_181 0 1 (dk_at dksX5_year_0 2 rfl rfl)
theorem dX5_year_5 : decode cX5_year 5 = .ok (.aload_n 0, 1) := dk_42 (dk_at dksX5_year_0 5 rfl rfl)
theorem dX5_year_6 : decode cX5_year 6 = .ok (.invokevirtual 224, 3) := dk_182 0 224 (dk_at dksX5_year_0 6 rfl rfl)
theorem dX5_year_9 : decode cX5_year 9 = .ok (.iconst 0, 1) := dk_3 (dk_at dksX5_year_0 9 rfl rfl)
theorem dX5_year_10 : decode cX5_year 10 = .ok (.istore_n 1, 1) := dk_60 (dk_at dksX5_year_0 10 rfl rfl)
theorem dX5_year_11 : decode cX5_year 11 = .ok (.aload_n 0, 1) := dk_42 (dk_at dksX5_year_0 11 rfl rfl)
theorem dX5_year_12 : decode cX5_year 12 = .ok (.getfield 182, 3) := dk_180 0 182 (dk_at dksX5_year_0 12 rfl rfl)
theorem dX5_year_15 : decode cX5_year 15 = .ok (.ifCond .ne 91, 3) := dk_154 0 91 (dk_at dksX5_year_0 15 rfl rfl)
theorem dX5_year_18 : decode cX5_year 18 = .ok (.aload_n 0, 1) := dk_42 (dk_at dksX5_year_0 18 rfl rfl)
theorem dX5_year_19 : decode cX5_year 19 = .ok (.getfield 24, 3) := dk_180 0 24 (dk_at dksX5_year_0 19 rfl rfl)
theorem dX5_year_22 : decode cX5_year 22 = .ok (.aload_n 0, 1) := dk_42 (dk_at dksX5_year_0 22 rfl rfl)
theorem dX5_year_23 : decode cX5_year 23 = .ok (.getfield 179, 3) := dk_180 0 179 (dk_at dksX5_year_1 0 rfl rfl)
theorem dX5_year_26 : decode cX5_year 26 = .ok (.iaload, 1) := dk_46 (dk_at dksX5_year_1 3 rfl rfl)
theorem dX5_year_27 : decode cX5_year 27 = .ok (.ifCond .eq 79, 3) := dk_153 0 79 (dk_at dksX5_year_1 4 rfl rfl)
theorem dX5_year_30 : decode cX5_year 30 = .ok (.aload_n 0, 1) := dk_42 (dk_at dksX5_year_1 7 rfl rfl)
theorem dX5_year_31 : decode cX5_year 31 = .ok (.invokevirtual 266, 3) := dk_182 1 10 (dk_at dksX5_year_1 8 rfl rfl)
theorem dX5_year_34 : decode cX5_year 34 = .ok (.istore_n 2, 1) := dk_61 (dk_at dksX5_year_1 11 rfl rfl)
theorem dX5_year_35 : decode cX5_year 35 = .ok (.iload_n 2, 1) := dk_28 (dk_at dksX5_year_1 12 rfl rfl)
theorem dX5_year_36 : decode cX5_year 36 = .ok (.ifCond .ge 11, 3) := dk_156 0 11 (dk_at dksX5_year_1 13 rfl rfl)
theorem dX5_year_39 : decode cX5_year 39 = .ok (.aload_n 0, 1) := dk_42 (dk_at dksX5_year_1 16 rfl rfl)
theorem dX5_year_40 : decode cX5_year 40 = .ok (.iconst 1, 1) := dk_4 (dk_at dksX5_year_1 17 rfl rfl)
theorem dX5_year_41 : decode cX5_year 41 = .ok (.invokevirtual 188, 3) := dk_182 0 188 (dk_at dksX5_year_1 18 rfl rfl)
theorem dX5_year_44 : decode cX5_year 44 = .ok (.goto 53, 3) := dk_167 0 53 (dk_at dksX5_year_1 21 rfl rfl)
theorem dX5_year_47 : decode cX5_year 47 = .ok (.iload_n 1, 1) := dk_27 (dk_at dksX5_year_2 0 rfl rfl)
theorem dX5_year_48 : decode cX5_year 48 = .ok (.bipush 40, 2) := dk_16 40 (dk_at dksX5_year_2 1 rfl rfl)
theorem dX5_year_50 : decode cX5_year 50 = .ok (.if_icmp .ne 11, 3) := dk_160 0 11 (dk_at dksX5_year_2 3 rfl rfl)
theorem dX5_year_53 : decode cX5_year 53 = .ok (.aload_n 0, 1) := dk_42 (dk_at dksX5_year_2 6 rfl rfl)
theorem dX5_year_54 : decode cX5_year 54 = .ok (.iconst 5, 1) := dk_8 (dk_at dksX5_year_2 7 rfl rfl)
theorem dX5_year_55 : decode cX5_year 55 = .ok (.invokevirtual 188, 3) := dk_182 0 188 (dk_at dksX5_year_2 8 rfl rfl)
theorem dX5_year_58 : decode cX5_year 58 = .ok (.goto 39, 3) := dk_167 0 39 (dk_at dksX5_year_2 11 rfl rfl)
theorem dX5_year_61 : decode cX5_year 61 = .ok (.aload_n 0, 1) := dk_42 (dk_at dksX5_year_2 14 rfl rfl)
theorem dX5_year_62 : decode cX5_year 62 = .ok (.dup, 1) := dk_89 (dk_at dksX5_year_2 15 rfl rfl)
theorem dX5_year_63 : decode cX5_year 63 = .ok (.getfield 179, 3) := dk_180 0 179 (dk_at dksX5_year_2 16 rfl rfl)
theorem dX5_year_66 : decode cX5_year 66 = .ok (.iconst 1, 1) := dk_4 (dk_at dksX5_year_2 19 rfl rfl)
theorem dX5_year_67 : decode cX5_year 67 = .ok (.iadd, 1) := dk_96 (dk_at dksX5_year_2 20 rfl rfl)
theorem dX5_year_68 : decode cX5_year 68 = .ok (.putfield 179, 3) := dk_181 0 179 (dk_at dksX5_year_2 21 rfl rfl)
theorem dX5_year_71 : decode cX5_year 71 = .ok (.aload_n 0, 1) := dk_42 (dk_at dksX5_year_3 0 rfl rfl)
theorem dX5_year_72 : decode cX5_year 72 = .ok (.getfield 106, 3) := dk_180 0 106 (dk_at dksX5_year_3 1 rfl rfl)
theorem dX5_year_75 : decode cX5_year 75 = .ok (.bipush 125, 2) := dk_16 125 (dk_at dksX5_year_3 4 rfl rfl)
theorem dX5_year_77 : decode cX5_year 77 = .ok (.iconst 3, 1) := dk_6 (dk_at dksX5_year_3 6 rfl rfl)
theorem dX5_year_78 : decode cX5_year 78 = .ok (.iload_n 1, 1) := dk_27 (dk_at dksX5_year_3 7 rfl rfl)
theorem dX5_year_79 : decode cX5_year 79 = .ok (.imul, 1) := dk_104 (dk_at dksX5_year_3 8 rfl rfl)
theorem dX5_year_80 : decode cX5_year 80 = .ok (.iadd, 1) := dk_96 (dk_at dksX5_year_3 9 rfl rfl)
theorem dX5_year_81 : decode cX5_year 81 = .ok (.iload_n 2, 1) := dk_28 (dk_at dksX5_year_3 10 rfl rfl)
theorem dX5_year_82 : decode cX5_year 82 = .ok (.iastore, 1) := dk_79 (dk_at dksX5_year_3 11 rfl rfl)
theorem dX5_year_83 : decode cX5_year 83 = .ok (.aload_n 0, 1) := dk_42 (dk_at dksX5_year_3 12 rfl rfl)
theorem dX5_year_84 : decode cX5_year 84 = .ok (.iload_n 2, 1) := dk_28 (dk_at dksX5_year_3 13 rfl rfl)
theorem dX5_year_85 : decode cX5_year 85 = .ok (.bipush 126, 2) := dk_16 126 (dk_at dksX5_year_3 14 rfl rfl)
theorem dX5_year_87 : decode cX5_year 87 = .ok (.iconst 3, 1) := dk_6 (dk_at dksX5_year_3 16 rfl rfl)
theorem dX5_year_88 : decode cX5_year 88 = .ok (.iload_n 1, 1) := dk_27 (dk_at dksX5_year_3 17 rfl rfl)
theorem dX5_year_89 : decode cX5_year 89 = .ok (.imul, 1) := dk_104 (dk_at dksX5_year_3 18 rfl rfl)
theorem dX5_year_90 : decode cX5_year 90 = .ok (.iadd, 1) := dk_96 (dk_at dksX5_year_3 19 rfl rfl)
theorem dX5_year_91 : decode cX5_year 91 = .ok (.invokevirtual 270, 3) := dk_182 1 14 (dk_at dksX5_year_3 20 rfl rfl)
theorem dX5_year_94 : decode cX5_year 94 = .ok (.iinc 1 1, 3) := dk_132 1 1 (dk_at dksX5_year_4 0 rfl rfl)
theorem dX5_year_97 : decode cX5_year 97 = .ok (.aload_n 0, 1) := dk_42 (dk_at dksX5_year_4 3 rfl rfl)
theorem dX5_year_98 : decode cX5_year 98 = .ok (.bipush 59, 2) := dk_16 59 (dk_at dksX5_year_4 4 rfl rfl)
theorem dX5_year_100 : decode cX5_year 100 = .ok (.invokevirtual 243, 3) := dk_182 0 243 (dk_at dksX5_year_4 6 rfl rfl)
theorem dX5_year_103 : decode cX5_year 103 = .ok (.goto (-92), 3) := dk_167 255 164 (dk_at dksX5_year_4 9 rfl rfl)
theorem dX5_year_106 : decode cX5_year 106 = .ok (.aload_n 0, 1) := dk_42 (dk_at dksX5_year_4 12 rfl rfl)
theorem dX5_year_107 : decode cX5_year 107 = .ok (.getfield 182, 3) := dk_180 0 182 (dk_at dksX5_year_4 13 rfl rfl)
theorem dX5_year_110 : decode cX5_year 110 = .ok (.ifCond .le 8, 3) := dk_158 0 8 (dk_at dksX5_year_4 16 rfl rfl)
theorem dX5_year_113 : decode cX5_year 113 = .ok (.aload_n 0, 1) := dk_42 (dk_at dksX5_year_4 19 rfl rfl)
theorem dX5_year_114 : decode cX5_year 114 = .ok (.getfield 182, 3) := dk_180 0 182 (dk_at dksX5_year_4 20 rfl rfl)
theorem dX5_year_117 : decode cX5_year 117 = .ok (.ireturn, 1) := dk_172 (dk_at dksX5_year_4 23 rfl rfl)
theorem dX5_year_118 : decode cX5_year 118 = .ok (.aload_n 0, 1) := dk_42 (dk_at dksX5_year_5 0 rfl rfl)
theorem dX5_year_119 : decode cX5_year 119 = .ok (.getfield 106, 3) := dk_180 0 106 (dk_at dksX5_year_5 1 rfl rfl)
theorem dX5_year_122 : decode cX5_year 122 = .ok (.iconst 0, 1) := dk_3 (dk_at dksX5_year_5 4 rfl rfl)
theorem dX5_year_123 : decode cX5_year 123 = .ok (.iload_n 1, 1) := dk_27 (dk_at dksX5_year_5 5 rfl rfl)
theorem dX5_year_124 : decode cX5_year 124 = .ok (.iastore, 1) := dk_79 (dk_at dksX5_year_5 6 rfl rfl)
theorem dX5_year_125 : decode cX5_year 125 = .ok (.iconst 0, 1) := dk_3 (dk_at dksX5_year_5 7 rfl rfl)
theorem dX5_year_126 : decode cX5_year 126 = .ok (.istore_n 2, 1) := dk_61 (dk_at dksX5_year_5 8 rfl rfl)
theorem dX5_year_127 : decode cX5_year 127 = .ok (.iload_n 2, 1) := dk_28 (dk_at dksX5_year_5 9 rfl rfl)
theorem dX5_year_128 : decode cX5_year 128 = .ok (.iconst 3, 1) := dk_6 (dk_at dksX5_year_5 10 rfl rfl)
theorem dX5_year_129 : decode cX5_year 129 = .ok (.iload_n 1, 1) := dk_27 (dk_at dksX5_year_5 11 rfl rfl)
theorem dX5_year_130 : decode cX5_year 130 = .ok (.imul, 1) := dk_104 (dk_at dksX5_year_5 12 rfl rfl)
theorem dX5_year_131 : decode cX5_year 131 = .ok (.if_icmp .ge 26, 3) := dk_162 0 26 (dk_at dksX5_year_5 13 rfl rfl)
theorem dX5_year_134 : decode cX5_year 134 = .ok (.aload_n 0, 1) := dk_42 (dk_at dksX5_year_5 16 rfl rfl)
theorem dX5_year_135 : decode cX5_year 135 = .ok (.getfield 106, 3) := dk_180 0 106 (dk_at dksX5_year_5 17 rfl rfl)
theorem dX5_year_138 : decode cX5_year 138 = .ok (.iconst 1, 1) := dk_4 (dk_at dksX5_year_5 20 rfl rfl)
theorem dX5_year_139 : decode cX5_year 139 = .ok (.iload_n 2, 1) := dk_28 (dk_at dksX5_year_5 21 rfl rfl)
theorem dX5_year_140 : decode cX5_year 140 = .ok (.iadd, 1) := dk_96 (dk_at dksX5_year_5 22 rfl rfl)
theorem dX5_year_141 : decode cX5_year 141 = .ok (.aload_n 0, 1) := dk_42 (dk_at dksX5_year_5 23 rfl rfl)
theorem dX5_year_142 : decode cX5_year 142 = .ok (.getfield 106, 3) := dk_180 0 106 (dk_at dksX5_year_6 0 rfl rfl)
theorem dX5_year_145 : decode cX5_year 145 = .ok (.bipush 125, 2) := dk_16 125 (dk_at dksX5_year_6 3 rfl rfl)
theorem dX5_year_147 : decode cX5_year 147 = .ok (.iload_n 2, 1) := dk_28 (dk_at dksX5_year_6 5 rfl rfl)
theorem dX5_year_148 : decode cX5_year 148 = .ok (.iadd, 1) := dk_96 (dk_at dksX5_year_6 6 rfl rfl)
theorem dX5_year_149 : decode cX5_year 149 = .ok (.iaload, 1) := dk_46 (dk_at dksX5_year_6 7 rfl rfl)
theorem dX5_year_150 : decode cX5_year 150 = .ok (.iastore, 1) := dk_79 (dk_at dksX5_year_6 8 rfl rfl)
theorem dX5_year_151 : decode cX5_year 151 = .ok (.iinc 2 1, 3) := dk_132 2 1 (dk_at dksX5_year_6 9 rfl rfl)
theorem dX5_year_154 : decode cX5_year 154 = .ok (.goto (-27), 3) := dk_167 255 229 (dk_at dksX5_year_6 12 rfl rfl)
theorem dX5_year_157 : decode cX5_year 157 = .ok (.iconst 0, 1) := dk_3 (dk_at dksX5_year_6 15 rfl rfl)
theorem dX5_year_158 : decode cX5_year 158 = .ok (.ireturn, 1) := dk_172 (dk_at dksX5_year_6 16 rfl rfl)
abbrev cX5_yearWord : ByteArray := prog_30_method_31_code
def yX5_yearWord : MethodName := ⟨RX5, "yearWord", "()I"⟩
def dkwX5_yearWord_0 : List UInt8 := [42, 7, 182, 0, 191, 153, 0, 7, 7, 167, 0, 10, 42, 16, 11, 7, 182, 0, 204, 172]
abbrev dktX5_yearWord_0 : List UInt8 := dkwX5_yearWord_0 ++ []
theorem dksX5_yearWord_0 : cX5_yearWord.data.toList.drop 0 = dktX5_yearWord_0 := by decide +kernel
theorem dX5_yearWord_0 : decode cX5_yearWord 0 = .ok (.aload_n 0, 1) := dk_42 (dk_at dksX5_yearWord_0 0 rfl rfl)
theorem dX5_yearWord_1 : decode cX5_yearWord 1 = .ok (.iconst 4, 1) := dk_7 (dk_at dksX5_yearWord_0 1 rfl rfl)
theorem dX5_yearWord_2 : decode cX5_yearWord 2 = .ok (.invokevirtual 191, 3) := dk_182 0 191 (dk_at dksX5_yearWord_0 2 rfl rfl)
theorem dX5_yearWord_5 : decode cX5_yearWord 5 = .ok (.ifCond .eq 7, 3) := dk_153 0 7 (dk_at dksX5_yearWord_0 5 rfl rfl)
theorem dX5_yearWord_8 : decode cX5_yearWord 8 = .ok (.iconst 4, 1) := dk_7 (dk_at dksX5_yearWord_0 8 rfl rfl)
theorem dX5_yearWord_9 : decode cX5_yearWord 9 = .ok (.goto 10, 3) := dk_167 0 10 (dk_at dksX5_yearWord_0 9 rfl rfl)
theorem dX5_yearWord_12 : decode cX5_yearWord 12 = .ok (.aload_n 0, 1) := dk_42 (dk_at dksX5_yearWord_0 12 rfl rfl)
theorem dX5_yearWord_13 : decode cX5_yearWord 13 = .ok (.bipush 11, 2) := dk_16 11 (dk_at dksX5_yearWord_0 13 rfl rfl)
theorem dX5_yearWord_15 : decode cX5_yearWord 15 = .ok (.iconst 4, 1) := dk_7 (dk_at dksX5_yearWord_0 15 rfl rfl)
theorem dX5_yearWord_16 : decode cX5_yearWord 16 = .ok (.invokevirtual 204, 3) := dk_182 0 204 (dk_at dksX5_yearWord_0 16 rfl rfl)
theorem dX5_yearWord_19 : decode cX5_yearWord 19 = .ok (.ireturn, 1) := dk_172 (dk_at dksX5_yearWord_0 19 rfl rfl)
abbrev cX5_readYear : ByteArray := prog_30_method_33_code
def yX5_readYear : MethodName := ⟨RX5, "readYear", "(II)V"⟩
def dkwX5_readYear_5 : List UInt8 := [180, 0, 179, 42, 180, 0, 182, 158, 0, 7, 3, 167, 0, 4, 4, 96, 181, 0, 179, 177]
abbrev dktX5_readYear_5 : List UInt8 := dkwX5_readYear_5 ++ []
def dkwX5_readYear_4 : List UInt8 := [42, 180, 0, 106, 28, 46, 42, 180, 0, 106, 28, 4, 96, 46, 160, 0, 8, 42, 6, 182, 0, 188, 42, 89]
abbrev dktX5_readYear_4 : List UInt8 := dkwX5_readYear_4 ++ dktX5_readYear_5
def dkwX5_readYear_3 : List UInt8 := [182, 0, 253, 79, 42, 180, 0, 106, 28, 4, 96, 42, 3, 182, 0, 221, 79, 42, 180, 0, 182, 154, 0, 25]
abbrev dktX5_readYear_3 : List UInt8 := dkwX5_readYear_3 ++ dktX5_readYear_4
def dkwX5_readYear_2 : List UInt8 := [17, 39, 15, 182, 0, 200, 79, 167, 0, 82, 27, 5, 160, 0, 77, 42, 180, 0, 106, 28, 42, 3]
abbrev dktX5_readYear_2 : List UInt8 := dkwX5_readYear_2 ++ dktX5_readYear_3
def dkwX5_readYear_1 : List UInt8 := [17, 3, 231, 182, 0, 200, 79, 167, 0, 104, 27, 4, 160, 0, 20, 42, 180, 0, 106, 28, 42, 3]
abbrev dktX5_readYear_1 : List UInt8 := dkwX5_readYear_1 ++ dktX5_readYear_2
def dkwX5_readYear_0 : List UInt8 := [27, 154, 0, 33, 42, 180, 0, 106, 28, 42, 3, 182, 0, 253, 79, 42, 180, 0, 106, 28, 4, 96, 42, 3]
abbrev dktX5_readYear_0 : List UInt8 := dkwX5_readYear_0 ++ dktX5_readYear_1
theorem dksX5_readYear_0 : cX5_readYear.data.toList.drop 0 = dktX5_readYear_0 := by decide +kernel
theorem dksX5_readYear_1 : cX5_readYear.data.toList.drop 24 = dktX5_readYear_1 := dk_seg dksX5_readYear_0 24 rfl rfl
theorem dksX5_readYear_2 : cX5_readYear.data.toList.drop 46 = dktX5_readYear_2 := dk_seg dksX5_readYear_1 22 rfl rfl
theorem dksX5_readYear_3 : cX5_readYear.data.toList.drop 68 = dktX5_readYear_3 := dk_seg dksX5_readYear_2 22 rfl rfl
theorem dksX5_readYear_4 : cX5_readYear.data.toList.drop 92 = dktX5_readYear_4 := dk_seg dksX5_readYear_3 24 rfl rfl
theorem dksX5_readYear_5 : cX5_readYear.data.toList.drop 116 = dktX5_readYear_5 := dk_seg dksX5_readYear_4 24 rfl rfl
theorem dX5_readYear_0 : decode cX5_readYear 0 = .ok (.iload_n 1, 1) := dk_27 (dk_at dksX5_readYear_0 0 rfl rfl)
theorem dX5_readYear_1 : decode cX5_readYear 1 = .ok (.ifCond .ne 33, 3) := dk_154 0 33 (dk_at dksX5_readYear_0 1 rfl rfl)
theorem dX5_readYear_4 : decode cX5_readYear 4 = .ok (.aload_n 0, 1) := dk_42 (dk_at dksX5_readYear_0 4 rfl rfl)
theorem dX5_readYear_5 : decode cX5_readYear 5 = .ok (.getfield 106, 3) := dk_180 0 106 (dk_at dksX5_readYear_0 5 rfl rfl)
theorem dX5_readYear_8 : decode cX5_readYear 8 = .ok (.iload_n 2, 1) := dk_28 (dk_at dksX5_readYear_0 8 rfl rfl)
theorem dX5_readYear_9 : decode cX5_readYear 9 = .ok (.aload_n 0, 1) := dk_42 (dk_at dksX5_readYear_0 9 rfl rfl)
theorem dX5_readYear_10 : decode cX5_readYear 10 = .ok (.iconst 0, 1) := dk_3 (dk_at dksX5_readYear_0 10 rfl rfl)
theorem dX5_readYear_11 : decode cX5_readYear 11 = .ok (.invokevirtual 253, 3) := dk_182 0 253 (dk_at dksX5_readYear_0 11 rfl rfl)
theorem dX5_readYear_14 : decode cX5_readYear 14 = .ok (.iastore, 1) := dk_79 (dk_at dksX5_readYear_0 14 rfl rfl)
theorem dX5_readYear_15 : decode cX5_readYear 15 = .ok (.aload_n 0, 1) := dk_42 (dk_at dksX5_readYear_0 15 rfl rfl)
theorem dX5_readYear_16 : decode cX5_readYear 16 = .ok (.getfield 106, 3) := dk_180 0 106 (dk_at dksX5_readYear_0 16 rfl rfl)
theorem dX5_readYear_19 : decode cX5_readYear 19 = .ok (.iload_n 2, 1) := dk_28 (dk_at dksX5_readYear_0 19 rfl rfl)
theorem dX5_readYear_20 : decode cX5_readYear 20 = .ok (.iconst 1, 1) := dk_4 (dk_at dksX5_readYear_0 20 rfl rfl)
theorem dX5_readYear_21 : decode cX5_readYear 21 = .ok (.iadd, 1) := dk_96 (dk_at dksX5_readYear_0 21 rfl rfl)
theorem dX5_readYear_22 : decode cX5_readYear 22 = .ok (.aload_n 0, 1) := dk_42 (dk_at dksX5_readYear_0 22 rfl rfl)
theorem dX5_readYear_23 : decode cX5_readYear 23 = .ok (.iconst 0, 1) := dk_3 (dk_at dksX5_readYear_0 23 rfl rfl)
theorem dX5_readYear_24 : decode cX5_readYear 24 = .ok (.sipush 999, 3) := dk_17 3 231 (dk_at dksX5_readYear_1 0 rfl rfl)
theorem dX5_readYear_27 : decode cX5_readYear 27 = .ok (.invokevirtual 200, 3) := dk_182 0 200 (dk_at dksX5_readYear_1 3 rfl rfl)
theorem dX5_readYear_30 : decode cX5_readYear 30 = .ok (.iastore, 1) := dk_79 (dk_at dksX5_readYear_1 6 rfl rfl)
theorem dX5_readYear_31 : decode cX5_readYear 31 = .ok (.goto 104, 3) := dk_167 0 104 (dk_at dksX5_readYear_1 7 rfl rfl)
theorem dX5_readYear_34 : decode cX5_readYear 34 = .ok (.iload_n 1, 1) := dk_27 (dk_at dksX5_readYear_1 10 rfl rfl)
theorem dX5_readYear_35 : decode cX5_readYear 35 = .ok (.iconst 1, 1) := dk_4 (dk_at dksX5_readYear_1 11 rfl rfl)
theorem dX5_readYear_36 : decode cX5_readYear 36 = .ok (.if_icmp .ne 20, 3) := dk_160 0 20 (dk_at dksX5_readYear_1 12 rfl rfl)
theorem dX5_readYear_39 : decode cX5_readYear 39 = .ok (.aload_n 0, 1) := dk_42 (dk_at dksX5_readYear_1 15 rfl rfl)
theorem dX5_readYear_40 : decode cX5_readYear 40 = .ok (.getfield 106, 3) := dk_180 0 106 (dk_at dksX5_readYear_1 16 rfl rfl)
theorem dX5_readYear_43 : decode cX5_readYear 43 = .ok (.iload_n 2, 1) := dk_28 (dk_at dksX5_readYear_1 19 rfl rfl)
theorem dX5_readYear_44 : decode cX5_readYear 44 = .ok (.aload_n 0, 1) := dk_42 (dk_at dksX5_readYear_1 20 rfl rfl)
theorem dX5_readYear_45 : decode cX5_readYear 45 = .ok (.iconst 0, 1) := dk_3 (dk_at dksX5_readYear_1 21 rfl rfl)
theorem dX5_readYear_46 : decode cX5_readYear 46 = .ok (.sipush 9999, 3) := dk_17 39 15 (dk_at dksX5_readYear_2 0 rfl rfl)
theorem dX5_readYear_49 : decode cX5_readYear 49 = .ok (.invokevirtual 200, 3) := dk_182 0 200 (dk_at dksX5_readYear_2 3 rfl rfl)
theorem dX5_readYear_52 : decode cX5_readYear 52 = .ok (.iastore, 1) := dk_79 (dk_at dksX5_readYear_2 6 rfl rfl)
theorem dX5_readYear_53 : decode cX5_readYear 53 = .ok (.goto 82, 3) := dk_167 0 82 (dk_at dksX5_readYear_2 7 rfl rfl)
theorem dX5_readYear_56 : decode cX5_readYear 56 = .ok (.iload_n 1, 1) := dk_27 (dk_at dksX5_readYear_2 10 rfl rfl)
theorem dX5_readYear_57 : decode cX5_readYear 57 = .ok (.iconst 2, 1) := dk_5 (dk_at dksX5_readYear_2 11 rfl rfl)
theorem dX5_readYear_58 : decode cX5_readYear 58 = .ok (.if_icmp .ne 77, 3) := dk_160 0 77 (dk_at dksX5_readYear_2 12 rfl rfl)
theorem dX5_readYear_61 : decode cX5_readYear 61 = .ok (.aload_n 0, 1) := dk_42 (dk_at dksX5_readYear_2 15 rfl rfl)
theorem dX5_readYear_62 : decode cX5_readYear 62 = .ok (.getfield 106, 3) := dk_180 0 106 (dk_at dksX5_readYear_2 16 rfl rfl)
theorem dX5_readYear_65 : decode cX5_readYear 65 = .ok (.iload_n 2, 1) := dk_28 (dk_at dksX5_readYear_2 19 rfl rfl)
theorem dX5_readYear_66 : decode cX5_readYear 66 = .ok (.aload_n 0, 1) := dk_42 (dk_at dksX5_readYear_2 20 rfl rfl)
theorem dX5_readYear_67 : decode cX5_readYear 67 = .ok (.iconst 0, 1) := dk_3 (dk_at dksX5_readYear_2 21 rfl rfl)
theorem dX5_readYear_68 : decode cX5_readYear 68 = .ok (.invokevirtual 253, 3) := dk_182 0 253 (dk_at dksX5_readYear_3 0 rfl rfl)
theorem dX5_readYear_71 : decode cX5_readYear 71 = .ok (.iastore, 1) := dk_79 (dk_at dksX5_readYear_3 3 rfl rfl)
theorem dX5_readYear_72 : decode cX5_readYear 72 = .ok (.aload_n 0, 1) := dk_42 (dk_at dksX5_readYear_3 4 rfl rfl)
theorem dX5_readYear_73 : decode cX5_readYear 73 = .ok (.getfield 106, 3) := dk_180 0 106 (dk_at dksX5_readYear_3 5 rfl rfl)
theorem dX5_readYear_76 : decode cX5_readYear 76 = .ok (.iload_n 2, 1) := dk_28 (dk_at dksX5_readYear_3 8 rfl rfl)
theorem dX5_readYear_77 : decode cX5_readYear 77 = .ok (.iconst 1, 1) := dk_4 (dk_at dksX5_readYear_3 9 rfl rfl)
theorem dX5_readYear_78 : decode cX5_readYear 78 = .ok (.iadd, 1) := dk_96 (dk_at dksX5_readYear_3 10 rfl rfl)
theorem dX5_readYear_79 : decode cX5_readYear 79 = .ok (.aload_n 0, 1) := dk_42 (dk_at dksX5_readYear_3 11 rfl rfl)
theorem dX5_readYear_80 : decode cX5_readYear 80 = .ok (.iconst 0, 1) := dk_3 (dk_at dksX5_readYear_3 12 rfl rfl)
theorem dX5_readYear_81 : decode cX5_readYear 81 = .ok (.invokevirtual 221, 3) := dk_182 0 221 (dk_at dksX5_readYear_3 13 rfl rfl)
theorem dX5_readYear_84 : decode cX5_readYear 84 = .ok (.iastore, 1) := dk_79 (dk_at dksX5_readYear_3 16 rfl rfl)
theorem dX5_readYear_85 : decode cX5_readYear 85 = .ok (.aload_n 0, 1) := dk_42 (dk_at dksX5_readYear_3 17 rfl rfl)
theorem dX5_readYear_86 : decode cX5_readYear 86 = .ok (.getfield 182, 3) := dk_180 0 182 (dk_at dksX5_readYear_3 18 rfl rfl)
theorem dX5_readYear_89 : decode cX5_readYear 89 = .ok (.ifCond .ne 25, 3) := dk_154 0 25 (dk_at dksX5_readYear_3 21 rfl rfl)
theorem dX5_readYear_92 : decode cX5_readYear 92 = .ok (.aload_n 0, 1) := dk_42 (dk_at dksX5_readYear_4 0 rfl rfl)
theorem dX5_readYear_93 : decode cX5_readYear 93 = .ok (.getfield 106, 3) := dk_180 0 106 (dk_at dksX5_readYear_4 1 rfl rfl)
theorem dX5_readYear_96 : decode cX5_readYear 96 = .ok (.iload_n 2, 1) := dk_28 (dk_at dksX5_readYear_4 4 rfl rfl)
theorem dX5_readYear_97 : decode cX5_readYear 97 = .ok (.iaload, 1) := dk_46 (dk_at dksX5_readYear_4 5 rfl rfl)
theorem dX5_readYear_98 : decode cX5_readYear 98 = .ok (.aload_n 0, 1) := dk_42 (dk_at dksX5_readYear_4 6 rfl rfl)
theorem dX5_readYear_99 : decode cX5_readYear 99 = .ok (.getfield 106, 3) := dk_180 0 106 (dk_at dksX5_readYear_4 7 rfl rfl)
theorem dX5_readYear_102 : decode cX5_readYear 102 = .ok (.iload_n 2, 1) := dk_28 (dk_at dksX5_readYear_4 10 rfl rfl)
theorem dX5_readYear_103 : decode cX5_readYear 103 = .ok (.iconst 1, 1) := dk_4 (dk_at dksX5_readYear_4 11 rfl rfl)
theorem dX5_readYear_104 : decode cX5_readYear 104 = .ok (.iadd, 1) := dk_96 (dk_at dksX5_readYear_4 12 rfl rfl)
theorem dX5_readYear_105 : decode cX5_readYear 105 = .ok (.iaload, 1) := dk_46 (dk_at dksX5_readYear_4 13 rfl rfl)
theorem dX5_readYear_106 : decode cX5_readYear 106 = .ok (.if_icmp .ne 8, 3) := dk_160 0 8 (dk_at dksX5_readYear_4 14 rfl rfl)
theorem dX5_readYear_109 : decode cX5_readYear 109 = .ok (.aload_n 0, 1) := dk_42 (dk_at dksX5_readYear_4 17 rfl rfl)
theorem dX5_readYear_110 : decode cX5_readYear 110 = .ok (.iconst 3, 1) := dk_6 (dk_at dksX5_readYear_4 18 rfl rfl)
theorem dX5_readYear_111 : decode cX5_readYear 111 = .ok (.invokevirtual 188, 3) := dk_182 0 188 (dk_at dksX5_readYear_4 19 rfl rfl)
theorem dX5_readYear_114 : decode cX5_readYear 114 = .ok (.aload_n 0, 1) := dk_42 (dk_at dksX5_readYear_4 22 rfl rfl)
theorem dX5_readYear_115 : decode cX5_readYear 115 = .ok (.dup, 1) := dk_89 (dk_at dksX5_readYear_4 23 rfl rfl)
theorem dX5_readYear_116 : decode cX5_readYear 116 = .ok (.getfield 179, 3) := dk_180 0 179 (dk_at dksX5_readYear_5 0 rfl rfl)
theorem dX5_readYear_119 : decode cX5_readYear 119 = .ok (.aload_n 0, 1) := dk_42 (dk_at dksX5_readYear_5 3 rfl rfl)
theorem dX5_readYear_120 : decode cX5_readYear 120 = .ok (.getfield 182, 3) := dk_180 0 182 (dk_at dksX5_readYear_5 4 rfl rfl)
theorem dX5_readYear_123 : decode cX5_readYear 123 = .ok (.ifCond .le 7, 3) := dk_158 0 7 (dk_at dksX5_readYear_5 7 rfl rfl)
theorem dX5_readYear_126 : decode cX5_readYear 126 = .ok (.iconst 0, 1) := dk_3 (dk_at dksX5_readYear_5 10 rfl rfl)
theorem dX5_readYear_127 : decode cX5_readYear 127 = .ok (.goto 4, 3) := dk_167 0 4 (dk_at dksX5_readYear_5 11 rfl rfl)
theorem dX5_readYear_130 : decode cX5_readYear 130 = .ok (.iconst 1, 1) := dk_4 (dk_at dksX5_readYear_5 14 rfl rfl)
theorem dX5_readYear_131 : decode cX5_readYear 131 = .ok (.iadd, 1) := dk_96 (dk_at dksX5_readYear_5 15 rfl rfl)
theorem dX5_readYear_132 : decode cX5_readYear 132 = .ok (.putfield 179, 3) := dk_181 0 179 (dk_at dksX5_readYear_5 16 rfl rfl)
theorem dX5_readYear_135 : decode cX5_readYear 135 = .ok (.return_, 1) := dk_177 (dk_at dksX5_readYear_5 19 rfl rfl)
abbrev cX5_person : ByteArray := prog_30_method_64_code
def yX5_person : MethodName := ⟨RX5, "person", "(II)I"⟩
def dkwX5_person_3 : List UInt8 := [28, 182, 1, 38, 167, 0, 4, 29, 172]
abbrev dktX5_person_3 : List UInt8 := dkwX5_person_3 ++ []
def dkwX5_person_2 : List UInt8 := [27, 160, 0, 8, 21, 4, 167, 0, 4, 29, 62, 132, 4, 1, 167, 255, 223, 28, 5, 162, 0, 12, 42, 27]
abbrev dktX5_person_2 : List UInt8 := dkwX5_person_2 ++ dktX5_person_3
def dkwX5_person_1 : List UInt8 := [2, 62, 3, 54, 4, 21, 4, 42, 182, 1, 35, 162, 0, 30, 42, 180, 0, 115, 16, 28, 21, 4, 96, 46]
abbrev dktX5_person_1 : List UInt8 := dkwX5_person_1 ++ dktX5_person_2
def dkwX5_person_0 : List UInt8 := [42, 3, 181, 0, 1, 42, 27, 182, 1, 100, 153, 0, 12, 28, 3, 5, 184, 1, 103, 154, 0, 5, 2, 172]
abbrev dktX5_person_0 : List UInt8 := dkwX5_person_0 ++ dktX5_person_1
theorem dksX5_person_0 : cX5_person.data.toList.drop 0 = dktX5_person_0 := by decide +kernel
theorem dksX5_person_1 : cX5_person.data.toList.drop 24 = dktX5_person_1 := dk_seg dksX5_person_0 24 rfl rfl
theorem dksX5_person_2 : cX5_person.data.toList.drop 48 = dktX5_person_2 := dk_seg dksX5_person_1 24 rfl rfl
theorem dksX5_person_3 : cX5_person.data.toList.drop 72 = dktX5_person_3 := dk_seg dksX5_person_2 24 rfl rfl
theorem dX5_person_0 : decode cX5_person 0 = .ok (.aload_n 0, 1) := dk_42 (dk_at dksX5_person_0 0 rfl rfl)
theorem dX5_person_1 : decode cX5_person 1 = .ok (.iconst 0, 1) := dk_3 (dk_at dksX5_person_0 1 rfl rfl)
theorem dX5_person_2 : decode cX5_person 2 = .ok (.putfield 1, 3) := dk_181 0 1 (dk_at dksX5_person_0 2 rfl rfl)
theorem dX5_person_5 : decode cX5_person 5 = .ok (.aload_n 0, 1) := dk_42 (dk_at dksX5_person_0 5 rfl rfl)
theorem dX5_person_6 : decode cX5_person 6 = .ok (.iload_n 1, 1) := dk_27 (dk_at dksX5_person_0 6 rfl rfl)
theorem dX5_person_7 : decode cX5_person 7 = .ok (.invokevirtual 356, 3) := dk_182 1 100 (dk_at dksX5_person_0 7 rfl rfl)
theorem dX5_person_10 : decode cX5_person 10 = .ok (.ifCond .eq 12, 3) := dk_153 0 12 (dk_at dksX5_person_0 10 rfl rfl)
theorem dX5_person_13 : decode cX5_person 13 = .ok (.iload_n 2, 1) := dk_28 (dk_at dksX5_person_0 13 rfl rfl)
theorem dX5_person_14 : decode cX5_person 14 = .ok (.iconst 0, 1) := dk_3 (dk_at dksX5_person_0 14 rfl rfl)
theorem dX5_person_15 : decode cX5_person 15 = .ok (.iconst 2, 1) := dk_5 (dk_at dksX5_person_0 15 rfl rfl)
theorem dX5_person_16 : decode cX5_person 16 = .ok (.invokestatic 359, 3) := dk_184 1 103 (dk_at dksX5_person_0 16 rfl rfl)
theorem dX5_person_19 : decode cX5_person 19 = .ok (.ifCond .ne 5, 3) := dk_154 0 5 (dk_at dksX5_person_0 19 rfl rfl)
theorem dX5_person_22 : decode cX5_person 22 = .ok (.iconst (-1), 1) := dk_2 (dk_at dksX5_person_0 22 rfl rfl)
theorem dX5_person_23 : decode cX5_person 23 = .ok (.ireturn, 1) := dk_172 (dk_at dksX5_person_0 23 rfl rfl)
theorem dX5_person_24 : decode cX5_person 24 = .ok (.iconst (-1), 1) := dk_2 (dk_at dksX5_person_1 0 rfl rfl)
theorem dX5_person_25 : decode cX5_person 25 = .ok (.istore_n 3, 1) := dk_62 (dk_at dksX5_person_1 1 rfl rfl)
theorem dX5_person_26 : decode cX5_person 26 = .ok (.iconst 0, 1) := dk_3 (dk_at dksX5_person_1 2 rfl rfl)
theorem dX5_person_27 : decode cX5_person 27 = .ok (.istore 4, 2) := dk_54 4 (dk_at dksX5_person_1 3 rfl rfl)
theorem dX5_person_29 : decode cX5_person 29 = .ok (.iload 4, 2) := dk_21 4 (dk_at dksX5_person_1 5 rfl rfl)
theorem dX5_person_31 : decode cX5_person 31 = .ok (.aload_n 0, 1) := dk_42 (dk_at dksX5_person_1 7 rfl rfl)
theorem dX5_person_32 : decode cX5_person 32 = .ok (.invokevirtual 291, 3) := dk_182 1 35 (dk_at dksX5_person_1 8 rfl rfl)
theorem dX5_person_35 : decode cX5_person 35 = .ok (.if_icmp .ge 30, 3) := dk_162 0 30 (dk_at dksX5_person_1 11 rfl rfl)
theorem dX5_person_38 : decode cX5_person 38 = .ok (.aload_n 0, 1) := dk_42 (dk_at dksX5_person_1 14 rfl rfl)
theorem dX5_person_39 : decode cX5_person 39 = .ok (.getfield 115, 3) := dk_180 0 115 (dk_at dksX5_person_1 15 rfl rfl)
theorem dX5_person_42 : decode cX5_person 42 = .ok (.bipush 28, 2) := dk_16 28 (dk_at dksX5_person_1 18 rfl rfl)
theorem dX5_person_44 : decode cX5_person 44 = .ok (.iload 4, 2) := dk_21 4 (dk_at dksX5_person_1 20 rfl rfl)
theorem dX5_person_46 : decode cX5_person 46 = .ok (.iadd, 1) := dk_96 (dk_at dksX5_person_1 22 rfl rfl)
theorem dX5_person_47 : decode cX5_person 47 = .ok (.iaload, 1) := dk_46 (dk_at dksX5_person_1 23 rfl rfl)
theorem dX5_person_48 : decode cX5_person 48 = .ok (.iload_n 1, 1) := dk_27 (dk_at dksX5_person_2 0 rfl rfl)
theorem dX5_person_49 : decode cX5_person 49 = .ok (.if_icmp .ne 8, 3) := dk_160 0 8 (dk_at dksX5_person_2 1 rfl rfl)
theorem dX5_person_52 : decode cX5_person 52 = .ok (.iload 4, 2) := dk_21 4 (dk_at dksX5_person_2 4 rfl rfl)
theorem dX5_person_54 : decode cX5_person 54 = .ok (.goto 4, 3) := dk_167 0 4 (dk_at dksX5_person_2 6 rfl rfl)
theorem dX5_person_57 : decode cX5_person 57 = .ok (.iload_n 3, 1) := dk_29 (dk_at dksX5_person_2 9 rfl rfl)
theorem dX5_person_58 : decode cX5_person 58 = .ok (.istore_n 3, 1) := dk_62 (dk_at dksX5_person_2 10 rfl rfl)
theorem dX5_person_59 : decode cX5_person 59 = .ok (.iinc 4 1, 3) := dk_132 4 1 (dk_at dksX5_person_2 11 rfl rfl)
theorem dX5_person_62 : decode cX5_person 62 = .ok (.goto (-33), 3) := dk_167 255 223 (dk_at dksX5_person_2 14 rfl rfl)
theorem dX5_person_65 : decode cX5_person 65 = .ok (.iload_n 2, 1) := dk_28 (dk_at dksX5_person_2 17 rfl rfl)
theorem dX5_person_66 : decode cX5_person 66 = .ok (.iconst 2, 1) := dk_5 (dk_at dksX5_person_2 18 rfl rfl)
theorem dX5_person_67 : decode cX5_person 67 = .ok (.if_icmp .ge 12, 3) := dk_162 0 12 (dk_at dksX5_person_2 19 rfl rfl)
theorem dX5_person_70 : decode cX5_person 70 = .ok (.aload_n 0, 1) := dk_42 (dk_at dksX5_person_2 22 rfl rfl)
theorem dX5_person_71 : decode cX5_person 71 = .ok (.iload_n 1, 1) := dk_27 (dk_at dksX5_person_2 23 rfl rfl)
theorem dX5_person_72 : decode cX5_person 72 = .ok (.iload_n 2, 1) := dk_28 (dk_at dksX5_person_3 0 rfl rfl)
theorem dX5_person_73 : decode cX5_person 73 = .ok (.invokevirtual 294, 3) := dk_182 1 38 (dk_at dksX5_person_3 1 rfl rfl)
theorem dX5_person_76 : decode cX5_person 76 = .ok (.goto 4, 3) := dk_167 0 4 (dk_at dksX5_person_3 4 rfl rfl)
theorem dX5_person_79 : decode cX5_person 79 = .ok (.iload_n 3, 1) := dk_29 (dk_at dksX5_person_3 7 rfl rfl)
theorem dX5_person_80 : decode cX5_person 80 = .ok (.ireturn, 1) := dk_172 (dk_at dksX5_person_3 8 rfl rfl)
abbrev cX5_isPerson : ByteArray := prog_30_method_48_code
def yX5_isPerson : MethodName := ⟨RX5, "isPerson", "(I)Z"⟩
def dkwX5_isPerson_0 : List UInt8 := [27, 155, 0, 15, 27, 42, 182, 1, 35, 162, 0, 7, 4, 167, 0, 4, 3, 172]
abbrev dktX5_isPerson_0 : List UInt8 := dkwX5_isPerson_0 ++ []
theorem dksX5_isPerson_0 : cX5_isPerson.data.toList.drop 0 = dktX5_isPerson_0 := by decide +kernel
theorem dX5_isPerson_0 : decode cX5_isPerson 0 = .ok (.iload_n 1, 1) := dk_27 (dk_at dksX5_isPerson_0 0 rfl rfl)
theorem dX5_isPerson_1 : decode cX5_isPerson 1 = .ok (.ifCond .lt 15, 3) := dk_155 0 15 (dk_at dksX5_isPerson_0 1 rfl rfl)
theorem dX5_isPerson_4 : decode cX5_isPerson 4 = .ok (.iload_n 1, 1) := dk_27 (dk_at dksX5_isPerson_0 4 rfl rfl)
theorem dX5_isPerson_5 : decode cX5_isPerson 5 = .ok (.aload_n 0, 1) := dk_42 (dk_at dksX5_isPerson_0 5 rfl rfl)
theorem dX5_isPerson_6 : decode cX5_isPerson 6 = .ok (.invokevirtual 291, 3) := dk_182 1 35 (dk_at dksX5_isPerson_0 6 rfl rfl)
theorem dX5_isPerson_9 : decode cX5_isPerson 9 = .ok (.if_icmp .ge 7, 3) := dk_162 0 7 (dk_at dksX5_isPerson_0 9 rfl rfl)
theorem dX5_isPerson_12 : decode cX5_isPerson 12 = .ok (.iconst 1, 1) := dk_4 (dk_at dksX5_isPerson_0 12 rfl rfl)
theorem dX5_isPerson_13 : decode cX5_isPerson 13 = .ok (.goto 4, 3) := dk_167 0 4 (dk_at dksX5_isPerson_0 13 rfl rfl)
theorem dX5_isPerson_16 : decode cX5_isPerson 16 = .ok (.iconst 0, 1) := dk_3 (dk_at dksX5_isPerson_0 16 rfl rfl)
theorem dX5_isPerson_17 : decode cX5_isPerson 17 = .ok (.ireturn, 1) := dk_172 (dk_at dksX5_isPerson_0 17 rfl rfl)
abbrev cX5_within : ByteArray := prog_30_method_17_code
def yX5_within : MethodName := ⟨RX5, "within", "(III)Z"⟩
def dkwX5_within_0 : List UInt8 := [26, 27, 161, 0, 12, 26, 28, 163, 0, 7, 4, 167, 0, 4, 3, 172]
abbrev dktX5_within_0 : List UInt8 := dkwX5_within_0 ++ []
theorem dksX5_within_0 : cX5_within.data.toList.drop 0 = dktX5_within_0 := by decide +kernel
theorem dX5_within_0 : decode cX5_within 0 = .ok (.iload_n 0, 1) := dk_26 (dk_at dksX5_within_0 0 rfl rfl)
theorem dX5_within_1 : decode cX5_within 1 = .ok (.iload_n 1, 1) := dk_27 (dk_at dksX5_within_0 1 rfl rfl)
theorem dX5_within_2 : decode cX5_within 2 = .ok (.if_icmp .lt 12, 3) := dk_161 0 12 (dk_at dksX5_within_0 2 rfl rfl)
theorem dX5_within_5 : decode cX5_within 5 = .ok (.iload_n 0, 1) := dk_26 (dk_at dksX5_within_0 5 rfl rfl)
theorem dX5_within_6 : decode cX5_within 6 = .ok (.iload_n 2, 1) := dk_28 (dk_at dksX5_within_0 6 rfl rfl)
theorem dX5_within_7 : decode cX5_within 7 = .ok (.if_icmp .gt 7, 3) := dk_163 0 7 (dk_at dksX5_within_0 7 rfl rfl)
theorem dX5_within_10 : decode cX5_within 10 = .ok (.iconst 1, 1) := dk_4 (dk_at dksX5_within_0 10 rfl rfl)
theorem dX5_within_11 : decode cX5_within 11 = .ok (.goto 4, 3) := dk_167 0 4 (dk_at dksX5_within_0 11 rfl rfl)
theorem dX5_within_14 : decode cX5_within 14 = .ok (.iconst 0, 1) := dk_3 (dk_at dksX5_within_0 14 rfl rfl)
theorem dX5_within_15 : decode cX5_within 15 = .ok (.ireturn, 1) := dk_172 (dk_at dksX5_within_0 15 rfl rfl)
abbrev cX5_life : ByteArray := prog_30_method_65_code
def yX5_life : MethodName := ⟨RX5, "life", "(II)I"⟩
def dkwX5_life_5 : List UInt8 := [46, 172, 42, 3, 27, 28, 16, 6, 160, 0, 7, 4, 167, 0, 4, 3, 182, 1, 93, 172]
abbrev dktX5_life_5 : List UInt8 := dkwX5_life_5 ++ []
def dkwX5_life_4 : List UInt8 := [16, 16, 27, 96, 46, 172, 42, 180, 0, 115, 16, 22, 27, 96, 46, 172, 42, 180, 0, 115, 16, 28, 27, 96]
abbrev dktX5_life_4 : List UInt8 := dkwX5_life_4 ++ dktX5_life_5
def dkwX5_life_3 : List UInt8 := [42, 180, 0, 115, 7, 27, 96, 46, 172, 42, 180, 0, 115, 16, 10, 27, 96, 46, 172, 42, 180, 0, 115]
abbrev dktX5_life_3 : List UInt8 := dkwX5_life_3 ++ dktX5_life_4
def dkwX5_life_2 : List UInt8 := [170, 0, 0, 0, 0, 83, 0, 0, 0, 0, 0, 0, 0, 4, 0, 0, 0, 34, 0, 0, 0, 43, 0, 0, 0, 53, 0, 0, 0, 63, 0, 0, 0, 73]
abbrev dktX5_life_2 : List UInt8 := dkwX5_life_2 ++ dktX5_life_3
def dkwX5_life_1 : List UInt8 := [172, 28]
abbrev dktX5_life_1 : List UInt8 := dkwX5_life_1 ++ dktX5_life_2
def dkwX5_life_0 : List UInt8 := [42, 3, 181, 0, 1, 42, 27, 182, 1, 100, 153, 0, 13, 28, 3, 16, 6, 184, 1, 103, 154, 0, 5, 2]
abbrev dktX5_life_0 : List UInt8 := dkwX5_life_0 ++ dktX5_life_1
theorem dksX5_life_0 : cX5_life.data.toList.drop 0 = dktX5_life_0 := by decide +kernel
theorem dksX5_life_1 : cX5_life.data.toList.drop 24 = dktX5_life_1 := dk_seg dksX5_life_0 24 rfl rfl
theorem dksX5_life_2 : cX5_life.data.toList.drop 26 = dktX5_life_2 := dk_seg dksX5_life_1 2 rfl rfl
theorem dksX5_life_3 : cX5_life.data.toList.drop 60 = dktX5_life_3 := dk_seg dksX5_life_2 34 rfl rfl
theorem dksX5_life_4 : cX5_life.data.toList.drop 83 = dktX5_life_4 := dk_seg dksX5_life_3 23 rfl rfl
theorem dksX5_life_5 : cX5_life.data.toList.drop 107 = dktX5_life_5 := dk_seg dksX5_life_4 24 rfl rfl
theorem dX5_life_0 : decode cX5_life 0 = .ok (.aload_n 0, 1) := dk_42 (dk_at dksX5_life_0 0 rfl rfl)
theorem dX5_life_1 : decode cX5_life 1 = .ok (.iconst 0, 1) := dk_3 (dk_at dksX5_life_0 1 rfl rfl)
theorem dX5_life_2 : decode cX5_life 2 = .ok (.putfield 1, 3) := dk_181 0 1 (dk_at dksX5_life_0 2 rfl rfl)
theorem dX5_life_5 : decode cX5_life 5 = .ok (.aload_n 0, 1) := dk_42 (dk_at dksX5_life_0 5 rfl rfl)
theorem dX5_life_6 : decode cX5_life 6 = .ok (.iload_n 1, 1) := dk_27 (dk_at dksX5_life_0 6 rfl rfl)
theorem dX5_life_7 : decode cX5_life 7 = .ok (.invokevirtual 356, 3) := dk_182 1 100 (dk_at dksX5_life_0 7 rfl rfl)
theorem dX5_life_10 : decode cX5_life 10 = .ok (.ifCond .eq 13, 3) := dk_153 0 13 (dk_at dksX5_life_0 10 rfl rfl)
theorem dX5_life_13 : decode cX5_life 13 = .ok (.iload_n 2, 1) := dk_28 (dk_at dksX5_life_0 13 rfl rfl)
theorem dX5_life_14 : decode cX5_life 14 = .ok (.iconst 0, 1) := dk_3 (dk_at dksX5_life_0 14 rfl rfl)
theorem dX5_life_15 : decode cX5_life 15 = .ok (.bipush 6, 2) := dk_16 6 (dk_at dksX5_life_0 15 rfl rfl)
theorem dX5_life_17 : decode cX5_life 17 = .ok (.invokestatic 359, 3) := dk_184 1 103 (dk_at dksX5_life_0 17 rfl rfl)
theorem dX5_life_20 : decode cX5_life 20 = .ok (.ifCond .ne 5, 3) := dk_154 0 5 (dk_at dksX5_life_0 20 rfl rfl)
theorem dX5_life_23 : decode cX5_life 23 = .ok (.iconst (-1), 1) := dk_2 (dk_at dksX5_life_0 23 rfl rfl)
theorem dX5_life_24 : decode cX5_life 24 = .ok (.ireturn, 1) := dk_172 (dk_at dksX5_life_1 0 rfl rfl)
theorem dX5_life_25 : decode cX5_life 25 = .ok (.iload_n 2, 1) := dk_28 (dk_at dksX5_life_1 1 rfl rfl)
theorem dX5_life_26 : decode cX5_life 26 = .ok (.tableswitch 83 0 4 #[34, 43, 53, 63, 73], 34) := by decide +kernel
theorem dX5_life_60 : decode cX5_life 60 = .ok (.aload_n 0, 1) := dk_42 (dk_at dksX5_life_3 0 rfl rfl)
theorem dX5_life_61 : decode cX5_life 61 = .ok (.getfield 115, 3) := dk_180 0 115 (dk_at dksX5_life_3 1 rfl rfl)
theorem dX5_life_64 : decode cX5_life 64 = .ok (.iconst 4, 1) := dk_7 (dk_at dksX5_life_3 4 rfl rfl)
theorem dX5_life_65 : decode cX5_life 65 = .ok (.iload_n 1, 1) := dk_27 (dk_at dksX5_life_3 5 rfl rfl)
theorem dX5_life_66 : decode cX5_life 66 = .ok (.iadd, 1) := dk_96 (dk_at dksX5_life_3 6 rfl rfl)
theorem dX5_life_67 : decode cX5_life 67 = .ok (.iaload, 1) := dk_46 (dk_at dksX5_life_3 7 rfl rfl)
theorem dX5_life_68 : decode cX5_life 68 = .ok (.ireturn, 1) := dk_172 (dk_at dksX5_life_3 8 rfl rfl)
theorem dX5_life_69 : decode cX5_life 69 = .ok (.aload_n 0, 1) := dk_42 (dk_at dksX5_life_3 9 rfl rfl)
theorem dX5_life_70 : decode cX5_life 70 = .ok (.getfield 115, 3) := dk_180 0 115 (dk_at dksX5_life_3 10 rfl rfl)
theorem dX5_life_73 : decode cX5_life 73 = .ok (.bipush 10, 2) := dk_16 10 (dk_at dksX5_life_3 13 rfl rfl)
theorem dX5_life_75 : decode cX5_life 75 = .ok (.iload_n 1, 1) := dk_27 (dk_at dksX5_life_3 15 rfl rfl)
theorem dX5_life_76 : decode cX5_life 76 = .ok (.iadd, 1) := dk_96 (dk_at dksX5_life_3 16 rfl rfl)
theorem dX5_life_77 : decode cX5_life 77 = .ok (.iaload, 1) := dk_46 (dk_at dksX5_life_3 17 rfl rfl)
theorem dX5_life_78 : decode cX5_life 78 = .ok (.ireturn, 1) := dk_172 (dk_at dksX5_life_3 18 rfl rfl)
theorem dX5_life_79 : decode cX5_life 79 = .ok (.aload_n 0, 1) := dk_42 (dk_at dksX5_life_3 19 rfl rfl)
theorem dX5_life_80 : decode cX5_life 80 = .ok (.getfield 115, 3) := dk_180 0 115 (dk_at dksX5_life_3 20 rfl rfl)
theorem dX5_life_83 : decode cX5_life 83 = .ok (.bipush 16, 2) := dk_16 16 (dk_at dksX5_life_4 0 rfl rfl)
theorem dX5_life_85 : decode cX5_life 85 = .ok (.iload_n 1, 1) := dk_27 (dk_at dksX5_life_4 2 rfl rfl)
theorem dX5_life_86 : decode cX5_life 86 = .ok (.iadd, 1) := dk_96 (dk_at dksX5_life_4 3 rfl rfl)
theorem dX5_life_87 : decode cX5_life 87 = .ok (.iaload, 1) := dk_46 (dk_at dksX5_life_4 4 rfl rfl)
theorem dX5_life_88 : decode cX5_life 88 = .ok (.ireturn, 1) := dk_172 (dk_at dksX5_life_4 5 rfl rfl)
theorem dX5_life_89 : decode cX5_life 89 = .ok (.aload_n 0, 1) := dk_42 (dk_at dksX5_life_4 6 rfl rfl)
theorem dX5_life_90 : decode cX5_life 90 = .ok (.getfield 115, 3) := dk_180 0 115 (dk_at dksX5_life_4 7 rfl rfl)
theorem dX5_life_93 : decode cX5_life 93 = .ok (.bipush 22, 2) := dk_16 22 (dk_at dksX5_life_4 10 rfl rfl)
theorem dX5_life_95 : decode cX5_life 95 = .ok (.iload_n 1, 1) := dk_27 (dk_at dksX5_life_4 12 rfl rfl)
theorem dX5_life_96 : decode cX5_life 96 = .ok (.iadd, 1) := dk_96 (dk_at dksX5_life_4 13 rfl rfl)
theorem dX5_life_97 : decode cX5_life 97 = .ok (.iaload, 1) := dk_46 (dk_at dksX5_life_4 14 rfl rfl)
theorem dX5_life_98 : decode cX5_life 98 = .ok (.ireturn, 1) := dk_172 (dk_at dksX5_life_4 15 rfl rfl)
theorem dX5_life_99 : decode cX5_life 99 = .ok (.aload_n 0, 1) := dk_42 (dk_at dksX5_life_4 16 rfl rfl)
theorem dX5_life_100 : decode cX5_life 100 = .ok (.getfield 115, 3) := dk_180 0 115 (dk_at dksX5_life_4 17 rfl rfl)
theorem dX5_life_103 : decode cX5_life 103 = .ok (.bipush 28, 2) := dk_16 28 (dk_at dksX5_life_4 20 rfl rfl)
theorem dX5_life_105 : decode cX5_life 105 = .ok (.iload_n 1, 1) := dk_27 (dk_at dksX5_life_4 22 rfl rfl)
theorem dX5_life_106 : decode cX5_life 106 = .ok (.iadd, 1) := dk_96 (dk_at dksX5_life_4 23 rfl rfl)
theorem dX5_life_107 : decode cX5_life 107 = .ok (.iaload, 1) := dk_46 (dk_at dksX5_life_5 0 rfl rfl)
theorem dX5_life_108 : decode cX5_life 108 = .ok (.ireturn, 1) := dk_172 (dk_at dksX5_life_5 1 rfl rfl)
theorem dX5_life_109 : decode cX5_life 109 = .ok (.aload_n 0, 1) := dk_42 (dk_at dksX5_life_5 2 rfl rfl)
theorem dX5_life_110 : decode cX5_life 110 = .ok (.iconst 0, 1) := dk_3 (dk_at dksX5_life_5 3 rfl rfl)
theorem dX5_life_111 : decode cX5_life 111 = .ok (.iload_n 1, 1) := dk_27 (dk_at dksX5_life_5 4 rfl rfl)
theorem dX5_life_112 : decode cX5_life 112 = .ok (.iload_n 2, 1) := dk_28 (dk_at dksX5_life_5 5 rfl rfl)
theorem dX5_life_113 : decode cX5_life 113 = .ok (.bipush 6, 2) := dk_16 6 (dk_at dksX5_life_5 6 rfl rfl)
theorem dX5_life_115 : decode cX5_life 115 = .ok (.if_icmp .ne 7, 3) := dk_160 0 7 (dk_at dksX5_life_5 8 rfl rfl)
theorem dX5_life_118 : decode cX5_life 118 = .ok (.iconst 1, 1) := dk_4 (dk_at dksX5_life_5 11 rfl rfl)
theorem dX5_life_119 : decode cX5_life 119 = .ok (.goto 4, 3) := dk_167 0 4 (dk_at dksX5_life_5 12 rfl rfl)
theorem dX5_life_122 : decode cX5_life 122 = .ok (.iconst 0, 1) := dk_3 (dk_at dksX5_life_5 15 rfl rfl)
theorem dX5_life_123 : decode cX5_life 123 = .ok (.invokevirtual 349, 3) := dk_182 1 93 (dk_at dksX5_life_5 16 rfl rfl)
theorem dX5_life_126 : decode cX5_life 126 = .ok (.ireturn, 1) := dk_172 (dk_at dksX5_life_5 19 rfl rfl)
abbrev cX5_harmOf : ByteArray := prog_30_method_61_code
def yX5_harmOf : MethodName := ⟨RX5, "harmOf", "(IIZ)I"⟩
def dkwX5_harmOf_5 : List UInt8 := [156, 0, 7, 3, 167, 0, 7, 8, 21, 5, 104, 96, 172]
abbrev dktX5_harmOf_5 : List UInt8 := dkwX5_harmOf_5 ++ []
def dkwX5_harmOf_4 : List UInt8 := [96, 46, 154, 0, 7, 3, 167, 0, 28, 21, 4, 156, 0, 7, 3, 167, 0, 5, 21, 4, 21, 5]
abbrev dktX5_harmOf_4 : List UInt8 := dkwX5_harmOf_4 ++ dktX5_harmOf_5
def dkwX5_harmOf_3 : List UInt8 := [21, 4, 54, 4, 29, 153, 0, 9, 21, 5, 116, 167, 0, 5, 21, 5, 54, 5, 42, 180, 0, 115, 27, 3]
abbrev dktX5_harmOf_3 : List UInt8 := dkwX5_harmOf_3 ++ dktX5_harmOf_4
def dkwX5_harmOf_2 : List UInt8 := [42, 180, 0, 115, 27, 16, 16, 96, 28, 96, 46, 100, 54, 5, 29, 153, 0, 9, 21, 4, 116, 167, 0, 5]
abbrev dktX5_harmOf_2 : List UInt8 := dkwX5_harmOf_2 ++ dktX5_harmOf_3
def dkwX5_harmOf_1 : List UInt8 := [180, 0, 115, 27, 16, 10, 96, 28, 96, 46, 96, 54, 4, 42, 180, 0, 115, 27, 16, 40, 96, 28, 96, 46]
abbrev dktX5_harmOf_1 : List UInt8 := dkwX5_harmOf_1 ++ dktX5_harmOf_2
def dkwX5_harmOf_0 : List UInt8 := [42, 180, 0, 115, 27, 16, 34, 96, 28, 96, 46, 42, 180, 0, 115, 27, 7, 96, 28, 96, 46, 100, 42]
abbrev dktX5_harmOf_0 : List UInt8 := dkwX5_harmOf_0 ++ dktX5_harmOf_1
theorem dksX5_harmOf_0 : cX5_harmOf.data.toList.drop 0 = dktX5_harmOf_0 := by decide +kernel
theorem dksX5_harmOf_1 : cX5_harmOf.data.toList.drop 23 = dktX5_harmOf_1 := dk_seg dksX5_harmOf_0 23 rfl rfl
theorem dksX5_harmOf_2 : cX5_harmOf.data.toList.drop 47 = dktX5_harmOf_2 := dk_seg dksX5_harmOf_1 24 rfl rfl
theorem dksX5_harmOf_3 : cX5_harmOf.data.toList.drop 71 = dktX5_harmOf_3 := dk_seg dksX5_harmOf_2 24 rfl rfl
theorem dksX5_harmOf_4 : cX5_harmOf.data.toList.drop 95 = dktX5_harmOf_4 := dk_seg dksX5_harmOf_3 24 rfl rfl
theorem dksX5_harmOf_5 : cX5_harmOf.data.toList.drop 117 = dktX5_harmOf_5 := dk_seg dksX5_harmOf_4 22 rfl rfl
theorem dX5_harmOf_0 : decode cX5_harmOf 0 = .ok (.aload_n 0, 1) := dk_42 (dk_at dksX5_harmOf_0 0 rfl rfl)
theorem dX5_harmOf_1 : decode cX5_harmOf 1 = .ok (.getfield 115, 3) := dk_180 0 115 (dk_at dksX5_harmOf_0 1 rfl rfl)
theorem dX5_harmOf_4 : decode cX5_harmOf 4 = .ok (.iload_n 1, 1) := dk_27 (dk_at dksX5_harmOf_0 4 rfl rfl)
theorem dX5_harmOf_5 : decode cX5_harmOf 5 = .ok (.bipush 34, 2) := dk_16 34 (dk_at dksX5_harmOf_0 5 rfl rfl)
theorem dX5_harmOf_7 : decode cX5_harmOf 7 = .ok (.iadd, 1) := dk_96 (dk_at dksX5_harmOf_0 7 rfl rfl)
theorem dX5_harmOf_8 : decode cX5_harmOf 8 = .ok (.iload_n 2, 1) := dk_28 (dk_at dksX5_harmOf_0 8 rfl rfl)
theorem dX5_harmOf_9 : decode cX5_harmOf 9 = .ok (.iadd, 1) := dk_96 (dk_at dksX5_harmOf_0 9 rfl rfl)
theorem dX5_harmOf_10 : decode cX5_harmOf 10 = .ok (.iaload, 1) := dk_46 (dk_at dksX5_harmOf_0 10 rfl rfl)
theorem dX5_harmOf_11 : decode cX5_harmOf 11 = .ok (.aload_n 0, 1) := dk_42 (dk_at dksX5_harmOf_0 11 rfl rfl)
theorem dX5_harmOf_12 : decode cX5_harmOf 12 = .ok (.getfield 115, 3) := dk_180 0 115 (dk_at dksX5_harmOf_0 12 rfl rfl)
theorem dX5_harmOf_15 : decode cX5_harmOf 15 = .ok (.iload_n 1, 1) := dk_27 (dk_at dksX5_harmOf_0 15 rfl rfl)
theorem dX5_harmOf_16 : decode cX5_harmOf 16 = .ok (.iconst 4, 1) := dk_7 (dk_at dksX5_harmOf_0 16 rfl rfl)
theorem dX5_harmOf_17 : decode cX5_harmOf 17 = .ok (.iadd, 1) := dk_96 (dk_at dksX5_harmOf_0 17 rfl rfl)
theorem dX5_harmOf_18 : decode cX5_harmOf 18 = .ok (.iload_n 2, 1) := dk_28 (dk_at dksX5_harmOf_0 18 rfl rfl)
theorem dX5_harmOf_19 : decode cX5_harmOf 19 = .ok (.iadd, 1) := dk_96 (dk_at dksX5_harmOf_0 19 rfl rfl)
theorem dX5_harmOf_20 : decode cX5_harmOf 20 = .ok (.iaload, 1) := dk_46 (dk_at dksX5_harmOf_0 20 rfl rfl)
theorem dX5_harmOf_21 : decode cX5_harmOf 21 = .ok (.isub, 1) := dk_100 (dk_at dksX5_harmOf_0 21 rfl rfl)
theorem dX5_harmOf_22 : decode cX5_harmOf 22 = .ok (.aload_n 0, 1) := dk_42 (dk_at dksX5_harmOf_0 22 rfl rfl)
theorem dX5_harmOf_23 : decode cX5_harmOf 23 = .ok (.getfield 115, 3) := dk_180 0 115 (dk_at dksX5_harmOf_1 0 rfl rfl)
theorem dX5_harmOf_26 : decode cX5_harmOf 26 = .ok (.iload_n 1, 1) := dk_27 (dk_at dksX5_harmOf_1 3 rfl rfl)
theorem dX5_harmOf_27 : decode cX5_harmOf 27 = .ok (.bipush 10, 2) := dk_16 10 (dk_at dksX5_harmOf_1 4 rfl rfl)
theorem dX5_harmOf_29 : decode cX5_harmOf 29 = .ok (.iadd, 1) := dk_96 (dk_at dksX5_harmOf_1 6 rfl rfl)
theorem dX5_harmOf_30 : decode cX5_harmOf 30 = .ok (.iload_n 2, 1) := dk_28 (dk_at dksX5_harmOf_1 7 rfl rfl)
theorem dX5_harmOf_31 : decode cX5_harmOf 31 = .ok (.iadd, 1) := dk_96 (dk_at dksX5_harmOf_1 8 rfl rfl)
theorem dX5_harmOf_32 : decode cX5_harmOf 32 = .ok (.iaload, 1) := dk_46 (dk_at dksX5_harmOf_1 9 rfl rfl)
theorem dX5_harmOf_33 : decode cX5_harmOf 33 = .ok (.iadd, 1) := dk_96 (dk_at dksX5_harmOf_1 10 rfl rfl)
theorem dX5_harmOf_34 : decode cX5_harmOf 34 = .ok (.istore 4, 2) := dk_54 4 (dk_at dksX5_harmOf_1 11 rfl rfl)
theorem dX5_harmOf_36 : decode cX5_harmOf 36 = .ok (.aload_n 0, 1) := dk_42 (dk_at dksX5_harmOf_1 13 rfl rfl)
theorem dX5_harmOf_37 : decode cX5_harmOf 37 = .ok (.getfield 115, 3) := dk_180 0 115 (dk_at dksX5_harmOf_1 14 rfl rfl)
theorem dX5_harmOf_40 : decode cX5_harmOf 40 = .ok (.iload_n 1, 1) := dk_27 (dk_at dksX5_harmOf_1 17 rfl rfl)
theorem dX5_harmOf_41 : decode cX5_harmOf 41 = .ok (.bipush 40, 2) := dk_16 40 (dk_at dksX5_harmOf_1 18 rfl rfl)
theorem dX5_harmOf_43 : decode cX5_harmOf 43 = .ok (.iadd, 1) := dk_96 (dk_at dksX5_harmOf_1 20 rfl rfl)
theorem dX5_harmOf_44 : decode cX5_harmOf 44 = .ok (.iload_n 2, 1) := dk_28 (dk_at dksX5_harmOf_1 21 rfl rfl)
theorem dX5_harmOf_45 : decode cX5_harmOf 45 = .ok (.iadd, 1) := dk_96 (dk_at dksX5_harmOf_1 22 rfl rfl)
theorem dX5_harmOf_46 : decode cX5_harmOf 46 = .ok (.iaload, 1) := dk_46 (dk_at dksX5_harmOf_1 23 rfl rfl)
theorem dX5_harmOf_47 : decode cX5_harmOf 47 = .ok (.aload_n 0, 1) := dk_42 (dk_at dksX5_harmOf_2 0 rfl rfl)
theorem dX5_harmOf_48 : decode cX5_harmOf 48 = .ok (.getfield 115, 3) := dk_180 0 115 (dk_at dksX5_harmOf_2 1 rfl rfl)
theorem dX5_harmOf_51 : decode cX5_harmOf 51 = .ok (.iload_n 1, 1) := dk_27 (dk_at dksX5_harmOf_2 4 rfl rfl)
theorem dX5_harmOf_52 : decode cX5_harmOf 52 = .ok (.bipush 16, 2) := dk_16 16 (dk_at dksX5_harmOf_2 5 rfl rfl)
theorem dX5_harmOf_54 : decode cX5_harmOf 54 = .ok (.iadd, 1) := dk_96 (dk_at dksX5_harmOf_2 7 rfl rfl)
theorem dX5_harmOf_55 : decode cX5_harmOf 55 = .ok (.iload_n 2, 1) := dk_28 (dk_at dksX5_harmOf_2 8 rfl rfl)
theorem dX5_harmOf_56 : decode cX5_harmOf 56 = .ok (.iadd, 1) := dk_96 (dk_at dksX5_harmOf_2 9 rfl rfl)
theorem dX5_harmOf_57 : decode cX5_harmOf 57 = .ok (.iaload, 1) := dk_46 (dk_at dksX5_harmOf_2 10 rfl rfl)
theorem dX5_harmOf_58 : decode cX5_harmOf 58 = .ok (.isub, 1) := dk_100 (dk_at dksX5_harmOf_2 11 rfl rfl)
theorem dX5_harmOf_59 : decode cX5_harmOf 59 = .ok (.istore 5, 2) := dk_54 5 (dk_at dksX5_harmOf_2 12 rfl rfl)
theorem dX5_harmOf_61 : decode cX5_harmOf 61 = .ok (.iload_n 3, 1) := dk_29 (dk_at dksX5_harmOf_2 14 rfl rfl)
theorem dX5_harmOf_62 : decode cX5_harmOf 62 = .ok (.ifCond .eq 9, 3) := dk_153 0 9 (dk_at dksX5_harmOf_2 15 rfl rfl)
theorem dX5_harmOf_65 : decode cX5_harmOf 65 = .ok (.iload 4, 2) := dk_21 4 (dk_at dksX5_harmOf_2 18 rfl rfl)
theorem dX5_harmOf_67 : decode cX5_harmOf 67 = .ok (.ineg, 1) := dk_116 (dk_at dksX5_harmOf_2 20 rfl rfl)
theorem dX5_harmOf_68 : decode cX5_harmOf 68 = .ok (.goto 5, 3) := dk_167 0 5 (dk_at dksX5_harmOf_2 21 rfl rfl)
theorem dX5_harmOf_71 : decode cX5_harmOf 71 = .ok (.iload 4, 2) := dk_21 4 (dk_at dksX5_harmOf_3 0 rfl rfl)
theorem dX5_harmOf_73 : decode cX5_harmOf 73 = .ok (.istore 4, 2) := dk_54 4 (dk_at dksX5_harmOf_3 2 rfl rfl)
theorem dX5_harmOf_75 : decode cX5_harmOf 75 = .ok (.iload_n 3, 1) := dk_29 (dk_at dksX5_harmOf_3 4 rfl rfl)
theorem dX5_harmOf_76 : decode cX5_harmOf 76 = .ok (.ifCond .eq 9, 3) := dk_153 0 9 (dk_at dksX5_harmOf_3 5 rfl rfl)
theorem dX5_harmOf_79 : decode cX5_harmOf 79 = .ok (.iload 5, 2) := dk_21 5 (dk_at dksX5_harmOf_3 8 rfl rfl)
theorem dX5_harmOf_81 : decode cX5_harmOf 81 = .ok (.ineg, 1) := dk_116 (dk_at dksX5_harmOf_3 10 rfl rfl)
theorem dX5_harmOf_82 : decode cX5_harmOf 82 = .ok (.goto 5, 3) := dk_167 0 5 (dk_at dksX5_harmOf_3 11 rfl rfl)
theorem dX5_harmOf_85 : decode cX5_harmOf 85 = .ok (.iload 5, 2) := dk_21 5 (dk_at dksX5_harmOf_3 14 rfl rfl)
theorem dX5_harmOf_87 : decode cX5_harmOf 87 = .ok (.istore 5, 2) := dk_54 5 (dk_at dksX5_harmOf_3 16 rfl rfl)
theorem dX5_harmOf_89 : decode cX5_harmOf 89 = .ok (.aload_n 0, 1) := dk_42 (dk_at dksX5_harmOf_3 18 rfl rfl)
theorem dX5_harmOf_90 : decode cX5_harmOf 90 = .ok (.getfield 115, 3) := dk_180 0 115 (dk_at dksX5_harmOf_3 19 rfl rfl)
theorem dX5_harmOf_93 : decode cX5_harmOf 93 = .ok (.iload_n 1, 1) := dk_27 (dk_at dksX5_harmOf_3 22 rfl rfl)
theorem dX5_harmOf_94 : decode cX5_harmOf 94 = .ok (.iconst 0, 1) := dk_3 (dk_at dksX5_harmOf_3 23 rfl rfl)
theorem dX5_harmOf_95 : decode cX5_harmOf 95 = .ok (.iadd, 1) := dk_96 (dk_at dksX5_harmOf_4 0 rfl rfl)
theorem dX5_harmOf_96 : decode cX5_harmOf 96 = .ok (.iaload, 1) := dk_46 (dk_at dksX5_harmOf_4 1 rfl rfl)
theorem dX5_harmOf_97 : decode cX5_harmOf 97 = .ok (.ifCond .ne 7, 3) := dk_154 0 7 (dk_at dksX5_harmOf_4 2 rfl rfl)
theorem dX5_harmOf_100 : decode cX5_harmOf 100 = .ok (.iconst 0, 1) := dk_3 (dk_at dksX5_harmOf_4 5 rfl rfl)
theorem dX5_harmOf_101 : decode cX5_harmOf 101 = .ok (.goto 28, 3) := dk_167 0 28 (dk_at dksX5_harmOf_4 6 rfl rfl)
theorem dX5_harmOf_104 : decode cX5_harmOf 104 = .ok (.iload 4, 2) := dk_21 4 (dk_at dksX5_harmOf_4 9 rfl rfl)
theorem dX5_harmOf_106 : decode cX5_harmOf 106 = .ok (.ifCond .ge 7, 3) := dk_156 0 7 (dk_at dksX5_harmOf_4 11 rfl rfl)
theorem dX5_harmOf_109 : decode cX5_harmOf 109 = .ok (.iconst 0, 1) := dk_3 (dk_at dksX5_harmOf_4 14 rfl rfl)
theorem dX5_harmOf_110 : decode cX5_harmOf 110 = .ok (.goto 5, 3) := dk_167 0 5 (dk_at dksX5_harmOf_4 15 rfl rfl)
theorem dX5_harmOf_113 : decode cX5_harmOf 113 = .ok (.iload 4, 2) := dk_21 4 (dk_at dksX5_harmOf_4 18 rfl rfl)
theorem dX5_harmOf_115 : decode cX5_harmOf 115 = .ok (.iload 5, 2) := dk_21 5 (dk_at dksX5_harmOf_4 20 rfl rfl)
theorem dX5_harmOf_117 : decode cX5_harmOf 117 = .ok (.ifCond .ge 7, 3) := dk_156 0 7 (dk_at dksX5_harmOf_5 0 rfl rfl)
theorem dX5_harmOf_120 : decode cX5_harmOf 120 = .ok (.iconst 0, 1) := dk_3 (dk_at dksX5_harmOf_5 3 rfl rfl)
theorem dX5_harmOf_121 : decode cX5_harmOf 121 = .ok (.goto 7, 3) := dk_167 0 7 (dk_at dksX5_harmOf_5 4 rfl rfl)
theorem dX5_harmOf_124 : decode cX5_harmOf 124 = .ok (.iconst 5, 1) := dk_8 (dk_at dksX5_harmOf_5 7 rfl rfl)
theorem dX5_harmOf_125 : decode cX5_harmOf 125 = .ok (.iload 5, 2) := dk_21 5 (dk_at dksX5_harmOf_5 8 rfl rfl)
theorem dX5_harmOf_127 : decode cX5_harmOf 127 = .ok (.imul, 1) := dk_104 (dk_at dksX5_harmOf_5 10 rfl rfl)
theorem dX5_harmOf_128 : decode cX5_harmOf 128 = .ok (.iadd, 1) := dk_96 (dk_at dksX5_harmOf_5 11 rfl rfl)
theorem dX5_harmOf_129 : decode cX5_harmOf 129 = .ok (.ireturn, 1) := dk_172 (dk_at dksX5_harmOf_5 12 rfl rfl)
abbrev cX5_may : ByteArray := prog_30_method_66_code
def yX5_may : MethodName := ⟨RX5, "may", "(II)Z"⟩
def dkwX5_may_1 : List UInt8 := [182, 1, 63, 153, 0, 7, 4, 167, 0, 4, 3, 172]
abbrev dktX5_may_1 : List UInt8 := dkwX5_may_1 ++ []
def dkwX5_may_0 : List UInt8 := [42, 3, 181, 0, 1, 42, 27, 182, 1, 100, 153, 0, 24, 42, 28, 182, 1, 100, 153, 0, 16, 42, 27, 28]
abbrev dktX5_may_0 : List UInt8 := dkwX5_may_0 ++ dktX5_may_1
theorem dksX5_may_0 : cX5_may.data.toList.drop 0 = dktX5_may_0 := by decide +kernel
theorem dksX5_may_1 : cX5_may.data.toList.drop 24 = dktX5_may_1 := dk_seg dksX5_may_0 24 rfl rfl
theorem dX5_may_0 : decode cX5_may 0 = .ok (.aload_n 0, 1) := dk_42 (dk_at dksX5_may_0 0 rfl rfl)
theorem dX5_may_1 : decode cX5_may 1 = .ok (.iconst 0, 1) := dk_3 (dk_at dksX5_may_0 1 rfl rfl)
theorem dX5_may_2 : decode cX5_may 2 = .ok (.putfield 1, 3) := dk_181 0 1 (dk_at dksX5_may_0 2 rfl rfl)
theorem dX5_may_5 : decode cX5_may 5 = .ok (.aload_n 0, 1) := dk_42 (dk_at dksX5_may_0 5 rfl rfl)
theorem dX5_may_6 : decode cX5_may 6 = .ok (.iload_n 1, 1) := dk_27 (dk_at dksX5_may_0 6 rfl rfl)
theorem dX5_may_7 : decode cX5_may 7 = .ok (.invokevirtual 356, 3) := dk_182 1 100 (dk_at dksX5_may_0 7 rfl rfl)
theorem dX5_may_10 : decode cX5_may 10 = .ok (.ifCond .eq 24, 3) := dk_153 0 24 (dk_at dksX5_may_0 10 rfl rfl)
theorem dX5_may_13 : decode cX5_may 13 = .ok (.aload_n 0, 1) := dk_42 (dk_at dksX5_may_0 13 rfl rfl)
theorem dX5_may_14 : decode cX5_may 14 = .ok (.iload_n 2, 1) := dk_28 (dk_at dksX5_may_0 14 rfl rfl)
theorem dX5_may_15 : decode cX5_may 15 = .ok (.invokevirtual 356, 3) := dk_182 1 100 (dk_at dksX5_may_0 15 rfl rfl)
theorem dX5_may_18 : decode cX5_may 18 = .ok (.ifCond .eq 16, 3) := dk_153 0 16 (dk_at dksX5_may_0 18 rfl rfl)
theorem dX5_may_21 : decode cX5_may 21 = .ok (.aload_n 0, 1) := dk_42 (dk_at dksX5_may_0 21 rfl rfl)
theorem dX5_may_22 : decode cX5_may 22 = .ok (.iload_n 1, 1) := dk_27 (dk_at dksX5_may_0 22 rfl rfl)
theorem dX5_may_23 : decode cX5_may 23 = .ok (.iload_n 2, 1) := dk_28 (dk_at dksX5_may_0 23 rfl rfl)
theorem dX5_may_24 : decode cX5_may 24 = .ok (.invokevirtual 319, 3) := dk_182 1 63 (dk_at dksX5_may_1 0 rfl rfl)
theorem dX5_may_27 : decode cX5_may 27 = .ok (.ifCond .eq 7, 3) := dk_153 0 7 (dk_at dksX5_may_1 3 rfl rfl)
theorem dX5_may_30 : decode cX5_may 30 = .ok (.iconst 1, 1) := dk_4 (dk_at dksX5_may_1 6 rfl rfl)
theorem dX5_may_31 : decode cX5_may 31 = .ok (.goto 4, 3) := dk_167 0 4 (dk_at dksX5_may_1 7 rfl rfl)
theorem dX5_may_34 : decode cX5_may 34 = .ok (.iconst 0, 1) := dk_3 (dk_at dksX5_may_1 10 rfl rfl)
theorem dX5_may_35 : decode cX5_may 35 = .ok (.ireturn, 1) := dk_172 (dk_at dksX5_may_1 11 rfl rfl)
abbrev cX5_hide : ByteArray := prog_30_method_68_code
def yX5_hide : MethodName := ⟨RX5, "hide", "(II)Z"⟩
def dkwX5_hide_2 : List UInt8 := [28, 79, 4, 172]
abbrev dktX5_hide_2 : List UInt8 := dkwX5_hide_2 ++ []
def dkwX5_hide_1 : List UInt8 := [42, 3, 27, 28, 182, 1, 107, 154, 0, 5, 3, 172, 42, 182, 1, 110, 42, 180, 0, 115, 16, 22, 27, 96]
abbrev dktX5_hide_1 : List UInt8 := dkwX5_hide_1 ++ dktX5_hide_2
def dkwX5_hide_0 : List UInt8 := [42, 3, 181, 0, 1, 42, 27, 182, 1, 100, 153, 0, 24, 28, 3, 17, 3, 231, 184, 1, 103, 153, 0, 13]
abbrev dktX5_hide_0 : List UInt8 := dkwX5_hide_0 ++ dktX5_hide_1
theorem dksX5_hide_0 : cX5_hide.data.toList.drop 0 = dktX5_hide_0 := by decide +kernel
theorem dksX5_hide_1 : cX5_hide.data.toList.drop 24 = dktX5_hide_1 := dk_seg dksX5_hide_0 24 rfl rfl
theorem dksX5_hide_2 : cX5_hide.data.toList.drop 48 = dktX5_hide_2 := dk_seg dksX5_hide_1 24 rfl rfl
theorem dX5_hide_0 : decode cX5_hide 0 = .ok (.aload_n 0, 1) := dk_42 (dk_at dksX5_hide_0 0 rfl rfl)
theorem dX5_hide_1 : decode cX5_hide 1 = .ok (.iconst 0, 1) := dk_3 (dk_at dksX5_hide_0 1 rfl rfl)
theorem dX5_hide_2 : decode cX5_hide 2 = .ok (.putfield 1, 3) := dk_181 0 1 (dk_at dksX5_hide_0 2 rfl rfl)
theorem dX5_hide_5 : decode cX5_hide 5 = .ok (.aload_n 0, 1) := dk_42 (dk_at dksX5_hide_0 5 rfl rfl)
theorem dX5_hide_6 : decode cX5_hide 6 = .ok (.iload_n 1, 1) := dk_27 (dk_at dksX5_hide_0 6 rfl rfl)
theorem dX5_hide_7 : decode cX5_hide 7 = .ok (.invokevirtual 356, 3) := dk_182 1 100 (dk_at dksX5_hide_0 7 rfl rfl)
theorem dX5_hide_10 : decode cX5_hide 10 = .ok (.ifCond .eq 24, 3) := dk_153 0 24 (dk_at dksX5_hide_0 10 rfl rfl)
theorem dX5_hide_13 : decode cX5_hide 13 = .ok (.iload_n 2, 1) := dk_28 (dk_at dksX5_hide_0 13 rfl rfl)
theorem dX5_hide_14 : decode cX5_hide 14 = .ok (.iconst 0, 1) := dk_3 (dk_at dksX5_hide_0 14 rfl rfl)
theorem dX5_hide_15 : decode cX5_hide 15 = .ok (.sipush 999, 3) := dk_17 3 231 (dk_at dksX5_hide_0 15 rfl rfl)
theorem dX5_hide_18 : decode cX5_hide 18 = .ok (.invokestatic 359, 3) := dk_184 1 103 (dk_at dksX5_hide_0 18 rfl rfl)
theorem dX5_hide_21 : decode cX5_hide 21 = .ok (.ifCond .eq 13, 3) := dk_153 0 13 (dk_at dksX5_hide_0 21 rfl rfl)
theorem dX5_hide_24 : decode cX5_hide 24 = .ok (.aload_n 0, 1) := dk_42 (dk_at dksX5_hide_1 0 rfl rfl)
theorem dX5_hide_25 : decode cX5_hide 25 = .ok (.iconst 0, 1) := dk_3 (dk_at dksX5_hide_1 1 rfl rfl)
theorem dX5_hide_26 : decode cX5_hide 26 = .ok (.iload_n 1, 1) := dk_27 (dk_at dksX5_hide_1 2 rfl rfl)
theorem dX5_hide_27 : decode cX5_hide 27 = .ok (.iload_n 2, 1) := dk_28 (dk_at dksX5_hide_1 3 rfl rfl)
theorem dX5_hide_28 : decode cX5_hide 28 = .ok (.invokevirtual 363, 3) := dk_182 1 107 (dk_at dksX5_hide_1 4 rfl rfl)
theorem dX5_hide_31 : decode cX5_hide 31 = .ok (.ifCond .ne 5, 3) := dk_154 0 5 (dk_at dksX5_hide_1 7 rfl rfl)
theorem dX5_hide_34 : decode cX5_hide 34 = .ok (.iconst 0, 1) := dk_3 (dk_at dksX5_hide_1 10 rfl rfl)
theorem dX5_hide_35 : decode cX5_hide 35 = .ok (.ireturn, 1) := dk_172 (dk_at dksX5_hide_1 11 rfl rfl)
theorem dX5_hide_36 : decode cX5_hide 36 = .ok (.aload_n 0, 1) := dk_42 (dk_at dksX5_hide_1 12 rfl rfl)
theorem dX5_hide_37 : decode cX5_hide 37 = .ok (.invokevirtual 366, 3) := dk_182 1 110 (dk_at dksX5_hide_1 13 rfl rfl)
theorem dX5_hide_40 : decode cX5_hide 40 = .ok (.aload_n 0, 1) := dk_42 (dk_at dksX5_hide_1 16 rfl rfl)
theorem dX5_hide_41 : decode cX5_hide 41 = .ok (.getfield 115, 3) := dk_180 0 115 (dk_at dksX5_hide_1 17 rfl rfl)
theorem dX5_hide_44 : decode cX5_hide 44 = .ok (.bipush 22, 2) := dk_16 22 (dk_at dksX5_hide_1 20 rfl rfl)
theorem dX5_hide_46 : decode cX5_hide 46 = .ok (.iload_n 1, 1) := dk_27 (dk_at dksX5_hide_1 22 rfl rfl)
theorem dX5_hide_47 : decode cX5_hide 47 = .ok (.iadd, 1) := dk_96 (dk_at dksX5_hide_1 23 rfl rfl)
theorem dX5_hide_48 : decode cX5_hide 48 = .ok (.iload_n 2, 1) := dk_28 (dk_at dksX5_hide_2 0 rfl rfl)
theorem dX5_hide_49 : decode cX5_hide 49 = .ok (.iastore, 1) := dk_79 (dk_at dksX5_hide_2 1 rfl rfl)
theorem dX5_hide_50 : decode cX5_hide 50 = .ok (.iconst 1, 1) := dk_4 (dk_at dksX5_hide_2 2 rfl rfl)
theorem dX5_hide_51 : decode cX5_hide 51 = .ok (.ireturn, 1) := dk_172 (dk_at dksX5_hide_2 3 rfl rfl)
abbrev cX5_mayHide : ByteArray := prog_30_method_67_code
def yX5_mayHide : MethodName := ⟨RX5, "mayHide", "(III)Z"⟩
def dkwX5_mayHide_1 : List UInt8 := [161, 0, 7, 4, 167, 0, 4, 3, 172]
abbrev dktX5_mayHide_1 : List UInt8 := dkwX5_mayHide_1 ++ []
def dkwX5_mayHide_0 : List UInt8 := [42, 180, 0, 115, 27, 3, 96, 46, 154, 0, 21, 42, 180, 0, 115, 27, 7, 96, 28, 96, 46, 29]
abbrev dktX5_mayHide_0 : List UInt8 := dkwX5_mayHide_0 ++ dktX5_mayHide_1
theorem dksX5_mayHide_0 : cX5_mayHide.data.toList.drop 0 = dktX5_mayHide_0 := by decide +kernel
theorem dksX5_mayHide_1 : cX5_mayHide.data.toList.drop 22 = dktX5_mayHide_1 := dk_seg dksX5_mayHide_0 22 rfl rfl
theorem dX5_mayHide_0 : decode cX5_mayHide 0 = .ok (.aload_n 0, 1) := dk_42 (dk_at dksX5_mayHide_0 0 rfl rfl)
theorem dX5_mayHide_1 : decode cX5_mayHide 1 = .ok (.getfield 115, 3) := dk_180 0 115 (dk_at dksX5_mayHide_0 1 rfl rfl)
theorem dX5_mayHide_4 : decode cX5_mayHide 4 = .ok (.iload_n 1, 1) := dk_27 (dk_at dksX5_mayHide_0 4 rfl rfl)
theorem dX5_mayHide_5 : decode cX5_mayHide 5 = .ok (.iconst 0, 1) := dk_3 (dk_at dksX5_mayHide_0 5 rfl rfl)
theorem dX5_mayHide_6 : decode cX5_mayHide 6 = .ok (.iadd, 1) := dk_96 (dk_at dksX5_mayHide_0 6 rfl rfl)
theorem dX5_mayHide_7 : decode cX5_mayHide 7 = .ok (.iaload, 1) := dk_46 (dk_at dksX5_mayHide_0 7 rfl rfl)
theorem dX5_mayHide_8 : decode cX5_mayHide 8 = .ok (.ifCond .ne 21, 3) := dk_154 0 21 (dk_at dksX5_mayHide_0 8 rfl rfl)
theorem dX5_mayHide_11 : decode cX5_mayHide 11 = .ok (.aload_n 0, 1) := dk_42 (dk_at dksX5_mayHide_0 11 rfl rfl)
theorem dX5_mayHide_12 : decode cX5_mayHide 12 = .ok (.getfield 115, 3) := dk_180 0 115 (dk_at dksX5_mayHide_0 12 rfl rfl)
theorem dX5_mayHide_15 : decode cX5_mayHide 15 = .ok (.iload_n 1, 1) := dk_27 (dk_at dksX5_mayHide_0 15 rfl rfl)
theorem dX5_mayHide_16 : decode cX5_mayHide 16 = .ok (.iconst 4, 1) := dk_7 (dk_at dksX5_mayHide_0 16 rfl rfl)
theorem dX5_mayHide_17 : decode cX5_mayHide 17 = .ok (.iadd, 1) := dk_96 (dk_at dksX5_mayHide_0 17 rfl rfl)
theorem dX5_mayHide_18 : decode cX5_mayHide 18 = .ok (.iload_n 2, 1) := dk_28 (dk_at dksX5_mayHide_0 18 rfl rfl)
theorem dX5_mayHide_19 : decode cX5_mayHide 19 = .ok (.iadd, 1) := dk_96 (dk_at dksX5_mayHide_0 19 rfl rfl)
theorem dX5_mayHide_20 : decode cX5_mayHide 20 = .ok (.iaload, 1) := dk_46 (dk_at dksX5_mayHide_0 20 rfl rfl)
theorem dX5_mayHide_21 : decode cX5_mayHide 21 = .ok (.iload_n 3, 1) := dk_29 (dk_at dksX5_mayHide_0 21 rfl rfl)
theorem dX5_mayHide_22 : decode cX5_mayHide 22 = .ok (.if_icmp .lt 7, 3) := dk_161 0 7 (dk_at dksX5_mayHide_1 0 rfl rfl)
theorem dX5_mayHide_25 : decode cX5_mayHide 25 = .ok (.iconst 1, 1) := dk_4 (dk_at dksX5_mayHide_1 3 rfl rfl)
theorem dX5_mayHide_26 : decode cX5_mayHide 26 = .ok (.goto 4, 3) := dk_167 0 4 (dk_at dksX5_mayHide_1 4 rfl rfl)
theorem dX5_mayHide_29 : decode cX5_mayHide 29 = .ok (.iconst 0, 1) := dk_3 (dk_at dksX5_mayHide_1 7 rfl rfl)
theorem dX5_mayHide_30 : decode cX5_mayHide 30 = .ok (.ireturn, 1) := dk_172 (dk_at dksX5_mayHide_1 8 rfl rfl)
abbrev cX5_keeps : ByteArray := prog_30_method_45_code
def yX5_keeps : MethodName := ⟨RX5, "keeps", "()V"⟩
def dkwX5_keeps_3 : List UInt8 := [180, 1, 47, 4, 96, 181, 1, 47, 177]
abbrev dktX5_keeps_3 : List UInt8 := dkwX5_keeps_3 ++ []
def dkwX5_keeps_2 : List UInt8 := [4, 100, 181, 1, 47, 42, 3, 16, 72, 8, 42, 180, 1, 47, 96, 104, 16, 46, 182, 1, 53, 42, 89]
abbrev dktX5_keeps_2 : List UInt8 := dkwX5_keeps_2 ++ dktX5_keeps_3
def dkwX5_keeps_1 : List UInt8 := [16, 72, 8, 27, 96, 4, 100, 104, 16, 46, 182, 1, 53, 132, 1, 1, 167, 255, 227, 42, 89, 180, 1, 47]
abbrev dktX5_keeps_1 : List UInt8 := dkwX5_keeps_1 ++ dktX5_keeps_2
def dkwX5_keeps_0 : List UInt8 := [42, 180, 1, 47, 16, 16, 160, 0, 47, 4, 60, 27, 16, 16, 162, 0, 29, 42, 16, 72, 8, 27, 96, 104]
abbrev dktX5_keeps_0 : List UInt8 := dkwX5_keeps_0 ++ dktX5_keeps_1
theorem dksX5_keeps_0 : cX5_keeps.data.toList.drop 0 = dktX5_keeps_0 := by decide +kernel
theorem dksX5_keeps_1 : cX5_keeps.data.toList.drop 24 = dktX5_keeps_1 := dk_seg dksX5_keeps_0 24 rfl rfl
theorem dksX5_keeps_2 : cX5_keeps.data.toList.drop 48 = dktX5_keeps_2 := dk_seg dksX5_keeps_1 24 rfl rfl
theorem dksX5_keeps_3 : cX5_keeps.data.toList.drop 71 = dktX5_keeps_3 := dk_seg dksX5_keeps_2 23 rfl rfl
theorem dX5_keeps_0 : decode cX5_keeps 0 = .ok (.aload_n 0, 1) := dk_42 (dk_at dksX5_keeps_0 0 rfl rfl)
theorem dX5_keeps_1 : decode cX5_keeps 1 = .ok (.getfield 303, 3) := dk_180 1 47 (dk_at dksX5_keeps_0 1 rfl rfl)
theorem dX5_keeps_4 : decode cX5_keeps 4 = .ok (.bipush 16, 2) := dk_16 16 (dk_at dksX5_keeps_0 4 rfl rfl)
theorem dX5_keeps_6 : decode cX5_keeps 6 = .ok (.if_icmp .ne 47, 3) := dk_160 0 47 (dk_at dksX5_keeps_0 6 rfl rfl)
theorem dX5_keeps_9 : decode cX5_keeps 9 = .ok (.iconst 1, 1) := dk_4 (dk_at dksX5_keeps_0 9 rfl rfl)
theorem dX5_keeps_10 : decode cX5_keeps 10 = .ok (.istore_n 1, 1) := dk_60 (dk_at dksX5_keeps_0 10 rfl rfl)
theorem dX5_keeps_11 : decode cX5_keeps 11 = .ok (.iload_n 1, 1) := dk_27 (dk_at dksX5_keeps_0 11 rfl rfl)
theorem dX5_keeps_12 : decode cX5_keeps 12 = .ok (.bipush 16, 2) := dk_16 16 (dk_at dksX5_keeps_0 12 rfl rfl)
theorem dX5_keeps_14 : decode cX5_keeps 14 = .ok (.if_icmp .ge 29, 3) := dk_162 0 29 (dk_at dksX5_keeps_0 14 rfl rfl)
theorem dX5_keeps_17 : decode cX5_keeps 17 = .ok (.aload_n 0, 1) := dk_42 (dk_at dksX5_keeps_0 17 rfl rfl)
theorem dX5_keeps_18 : decode cX5_keeps 18 = .ok (.bipush 72, 2) := dk_16 72 (dk_at dksX5_keeps_0 18 rfl rfl)
theorem dX5_keeps_20 : decode cX5_keeps 20 = .ok (.iconst 5, 1) := dk_8 (dk_at dksX5_keeps_0 20 rfl rfl)
theorem dX5_keeps_21 : decode cX5_keeps 21 = .ok (.iload_n 1, 1) := dk_27 (dk_at dksX5_keeps_0 21 rfl rfl)
theorem dX5_keeps_22 : decode cX5_keeps 22 = .ok (.iadd, 1) := dk_96 (dk_at dksX5_keeps_0 22 rfl rfl)
theorem dX5_keeps_23 : decode cX5_keeps 23 = .ok (.imul, 1) := dk_104 (dk_at dksX5_keeps_0 23 rfl rfl)
theorem dX5_keeps_24 : decode cX5_keeps 24 = .ok (.bipush 72, 2) := dk_16 72 (dk_at dksX5_keeps_1 0 rfl rfl)
theorem dX5_keeps_26 : decode cX5_keeps 26 = .ok (.iconst 5, 1) := dk_8 (dk_at dksX5_keeps_1 2 rfl rfl)
theorem dX5_keeps_27 : decode cX5_keeps 27 = .ok (.iload_n 1, 1) := dk_27 (dk_at dksX5_keeps_1 3 rfl rfl)
theorem dX5_keeps_28 : decode cX5_keeps 28 = .ok (.iadd, 1) := dk_96 (dk_at dksX5_keeps_1 4 rfl rfl)
theorem dX5_keeps_29 : decode cX5_keeps 29 = .ok (.iconst 1, 1) := dk_4 (dk_at dksX5_keeps_1 5 rfl rfl)
theorem dX5_keeps_30 : decode cX5_keeps 30 = .ok (.isub, 1) := dk_100 (dk_at dksX5_keeps_1 6 rfl rfl)
theorem dX5_keeps_31 : decode cX5_keeps 31 = .ok (.imul, 1) := dk_104 (dk_at dksX5_keeps_1 7 rfl rfl)
theorem dX5_keeps_32 : decode cX5_keeps 32 = .ok (.bipush 46, 2) := dk_16 46 (dk_at dksX5_keeps_1 8 rfl rfl)
theorem dX5_keeps_34 : decode cX5_keeps 34 = .ok (.invokevirtual 309, 3) := dk_182 1 53 (dk_at dksX5_keeps_1 10 rfl rfl)
theorem dX5_keeps_37 : decode cX5_keeps 37 = .ok (.iinc 1 1, 3) := dk_132 1 1 (dk_at dksX5_keeps_1 13 rfl rfl)
theorem dX5_keeps_40 : decode cX5_keeps 40 = .ok (.goto (-29), 3) := dk_167 255 227 (dk_at dksX5_keeps_1 16 rfl rfl)
theorem dX5_keeps_43 : decode cX5_keeps 43 = .ok (.aload_n 0, 1) := dk_42 (dk_at dksX5_keeps_1 19 rfl rfl)
theorem dX5_keeps_44 : decode cX5_keeps 44 = .ok (.dup, 1) := dk_89 (dk_at dksX5_keeps_1 20 rfl rfl)
theorem dX5_keeps_45 : decode cX5_keeps 45 = .ok (.getfield 303, 3) := dk_180 1 47 (dk_at dksX5_keeps_1 21 rfl rfl)
theorem dX5_keeps_48 : decode cX5_keeps 48 = .ok (.iconst 1, 1) := dk_4 (dk_at dksX5_keeps_2 0 rfl rfl)
theorem dX5_keeps_49 : decode cX5_keeps 49 = .ok (.isub, 1) := dk_100 (dk_at dksX5_keeps_2 1 rfl rfl)
theorem dX5_keeps_50 : decode cX5_keeps 50 = .ok (.putfield 303, 3) := dk_181 1 47 (dk_at dksX5_keeps_2 2 rfl rfl)
theorem dX5_keeps_53 : decode cX5_keeps 53 = .ok (.aload_n 0, 1) := dk_42 (dk_at dksX5_keeps_2 5 rfl rfl)
theorem dX5_keeps_54 : decode cX5_keeps 54 = .ok (.iconst 0, 1) := dk_3 (dk_at dksX5_keeps_2 6 rfl rfl)
theorem dX5_keeps_55 : decode cX5_keeps 55 = .ok (.bipush 72, 2) := dk_16 72 (dk_at dksX5_keeps_2 7 rfl rfl)
theorem dX5_keeps_57 : decode cX5_keeps 57 = .ok (.iconst 5, 1) := dk_8 (dk_at dksX5_keeps_2 9 rfl rfl)
theorem dX5_keeps_58 : decode cX5_keeps 58 = .ok (.aload_n 0, 1) := dk_42 (dk_at dksX5_keeps_2 10 rfl rfl)
theorem dX5_keeps_59 : decode cX5_keeps 59 = .ok (.getfield 303, 3) := dk_180 1 47 (dk_at dksX5_keeps_2 11 rfl rfl)
theorem dX5_keeps_62 : decode cX5_keeps 62 = .ok (.iadd, 1) := dk_96 (dk_at dksX5_keeps_2 14 rfl rfl)
theorem dX5_keeps_63 : decode cX5_keeps 63 = .ok (.imul, 1) := dk_104 (dk_at dksX5_keeps_2 15 rfl rfl)
theorem dX5_keeps_64 : decode cX5_keeps 64 = .ok (.bipush 46, 2) := dk_16 46 (dk_at dksX5_keeps_2 16 rfl rfl)
theorem dX5_keeps_66 : decode cX5_keeps 66 = .ok (.invokevirtual 309, 3) := dk_182 1 53 (dk_at dksX5_keeps_2 18 rfl rfl)
theorem dX5_keeps_69 : decode cX5_keeps 69 = .ok (.aload_n 0, 1) := dk_42 (dk_at dksX5_keeps_2 21 rfl rfl)
theorem dX5_keeps_70 : decode cX5_keeps 70 = .ok (.dup, 1) := dk_89 (dk_at dksX5_keeps_2 22 rfl rfl)
theorem dX5_keeps_71 : decode cX5_keeps 71 = .ok (.getfield 303, 3) := dk_180 1 47 (dk_at dksX5_keeps_3 0 rfl rfl)
theorem dX5_keeps_74 : decode cX5_keeps 74 = .ok (.iconst 1, 1) := dk_4 (dk_at dksX5_keeps_3 3 rfl rfl)
theorem dX5_keeps_75 : decode cX5_keeps 75 = .ok (.iadd, 1) := dk_96 (dk_at dksX5_keeps_3 4 rfl rfl)
theorem dX5_keeps_76 : decode cX5_keeps 76 = .ok (.putfield 303, 3) := dk_181 1 47 (dk_at dksX5_keeps_3 5 rfl rfl)
theorem dX5_keeps_79 : decode cX5_keeps 79 = .ok (.return_, 1) := dk_177 (dk_at dksX5_keeps_3 8 rfl rfl)
abbrev cX5_copies : ByteArray := prog_30_method_42_code
def yX5_copies : MethodName := ⟨RX5, "copies", "(III)V"⟩
def dkwX5_copies_1 : List UInt8 := [96, 46, 79, 132, 4, 1, 167, 255, 229, 177]
abbrev dktX5_copies_1 : List UInt8 := dkwX5_copies_1 ++ []
def dkwX5_copies_0 : List UInt8 := [3, 54, 4, 21, 4, 29, 162, 0, 27, 42, 180, 0, 115, 28, 21, 4, 96, 42, 180, 0, 115, 27, 21, 4]
abbrev dktX5_copies_0 : List UInt8 := dkwX5_copies_0 ++ dktX5_copies_1
theorem dksX5_copies_0 : cX5_copies.data.toList.drop 0 = dktX5_copies_0 := by decide +kernel
theorem dksX5_copies_1 : cX5_copies.data.toList.drop 24 = dktX5_copies_1 := dk_seg dksX5_copies_0 24 rfl rfl
theorem dX5_copies_0 : decode cX5_copies 0 = .ok (.iconst 0, 1) := dk_3 (dk_at dksX5_copies_0 0 rfl rfl)
theorem dX5_copies_1 : decode cX5_copies 1 = .ok (.istore 4, 2) := dk_54 4 (dk_at dksX5_copies_0 1 rfl rfl)
theorem dX5_copies_3 : decode cX5_copies 3 = .ok (.iload 4, 2) := dk_21 4 (dk_at dksX5_copies_0 3 rfl rfl)
theorem dX5_copies_5 : decode cX5_copies 5 = .ok (.iload_n 3, 1) := dk_29 (dk_at dksX5_copies_0 5 rfl rfl)
theorem dX5_copies_6 : decode cX5_copies 6 = .ok (.if_icmp .ge 27, 3) := dk_162 0 27 (dk_at dksX5_copies_0 6 rfl rfl)
theorem dX5_copies_9 : decode cX5_copies 9 = .ok (.aload_n 0, 1) := dk_42 (dk_at dksX5_copies_0 9 rfl rfl)
theorem dX5_copies_10 : decode cX5_copies 10 = .ok (.getfield 115, 3) := dk_180 0 115 (dk_at dksX5_copies_0 10 rfl rfl)
theorem dX5_copies_13 : decode cX5_copies 13 = .ok (.iload_n 2, 1) := dk_28 (dk_at dksX5_copies_0 13 rfl rfl)
theorem dX5_copies_14 : decode cX5_copies 14 = .ok (.iload 4, 2) := dk_21 4 (dk_at dksX5_copies_0 14 rfl rfl)
theorem dX5_copies_16 : decode cX5_copies 16 = .ok (.iadd, 1) := dk_96 (dk_at dksX5_copies_0 16 rfl rfl)
theorem dX5_copies_17 : decode cX5_copies 17 = .ok (.aload_n 0, 1) := dk_42 (dk_at dksX5_copies_0 17 rfl rfl)
theorem dX5_copies_18 : decode cX5_copies 18 = .ok (.getfield 115, 3) := dk_180 0 115 (dk_at dksX5_copies_0 18 rfl rfl)
theorem dX5_copies_21 : decode cX5_copies 21 = .ok (.iload_n 1, 1) := dk_27 (dk_at dksX5_copies_0 21 rfl rfl)
theorem dX5_copies_22 : decode cX5_copies 22 = .ok (.iload 4, 2) := dk_21 4 (dk_at dksX5_copies_0 22 rfl rfl)
theorem dX5_copies_24 : decode cX5_copies 24 = .ok (.iadd, 1) := dk_96 (dk_at dksX5_copies_1 0 rfl rfl)
theorem dX5_copies_25 : decode cX5_copies 25 = .ok (.iaload, 1) := dk_46 (dk_at dksX5_copies_1 1 rfl rfl)
theorem dX5_copies_26 : decode cX5_copies 26 = .ok (.iastore, 1) := dk_79 (dk_at dksX5_copies_1 2 rfl rfl)
theorem dX5_copies_27 : decode cX5_copies 27 = .ok (.iinc 4 1, 3) := dk_132 4 1 (dk_at dksX5_copies_1 3 rfl rfl)
theorem dX5_copies_30 : decode cX5_copies 30 = .ok (.goto (-27), 3) := dk_167 255 229 (dk_at dksX5_copies_1 6 rfl rfl)
theorem dX5_copies_33 : decode cX5_copies 33 = .ok (.return_, 1) := dk_177 (dk_at dksX5_copies_1 9 rfl rfl)
abbrev cX5_lot : ByteArray := prog_30_method_71_code
def yX5_lot : MethodName := ⟨RX5, "lot", "(I)I"⟩
def dkwX5_lot_2 : List UInt8 := [182, 1, 131, 28, 172]
abbrev dktX5_lot_2 : List UInt8 := dkwX5_lot_2 ++ []
def dkwX5_lot_1 : List UInt8 := [2, 172, 42, 182, 1, 110, 42, 27, 133, 181, 1, 113, 42, 42, 180, 1, 57, 182, 1, 128, 61, 42, 3, 28]
abbrev dktX5_lot_1 : List UInt8 := dkwX5_lot_1 ++ dktX5_lot_2
def dkwX5_lot_0 : List UInt8 := [42, 3, 181, 0, 1, 27, 3, 17, 39, 15, 184, 1, 103, 153, 0, 11, 42, 3, 182, 1, 125, 154, 0, 5]
abbrev dktX5_lot_0 : List UInt8 := dkwX5_lot_0 ++ dktX5_lot_1
theorem dksX5_lot_0 : cX5_lot.data.toList.drop 0 = dktX5_lot_0 := by decide +kernel
theorem dksX5_lot_1 : cX5_lot.data.toList.drop 24 = dktX5_lot_1 := dk_seg dksX5_lot_0 24 rfl rfl
theorem dksX5_lot_2 : cX5_lot.data.toList.drop 48 = dktX5_lot_2 := dk_seg dksX5_lot_1 24 rfl rfl
theorem dX5_lot_0 : decode cX5_lot 0 = .ok (.aload_n 0, 1) := dk_42 (dk_at dksX5_lot_0 0 rfl rfl)
theorem dX5_lot_1 : decode cX5_lot 1 = .ok (.iconst 0, 1) := dk_3 (dk_at dksX5_lot_0 1 rfl rfl)
theorem dX5_lot_2 : decode cX5_lot 2 = .ok (.putfield 1, 3) := dk_181 0 1 (dk_at dksX5_lot_0 2 rfl rfl)
theorem dX5_lot_5 : decode cX5_lot 5 = .ok (.iload_n 1, 1) := dk_27 (dk_at dksX5_lot_0 5 rfl rfl)
theorem dX5_lot_6 : decode cX5_lot 6 = .ok (.iconst 0, 1) := dk_3 (dk_at dksX5_lot_0 6 rfl rfl)
theorem dX5_lot_7 : decode cX5_lot 7 = .ok (.sipush 9999, 3) := dk_17 39 15 (dk_at dksX5_lot_0 7 rfl rfl)
theorem dX5_lot_10 : decode cX5_lot 10 = .ok (.invokestatic 359, 3) := dk_184 1 103 (dk_at dksX5_lot_0 10 rfl rfl)
theorem dX5_lot_13 : decode cX5_lot 13 = .ok (.ifCond .eq 11, 3) := dk_153 0 11 (dk_at dksX5_lot_0 13 rfl rfl)
theorem dX5_lot_16 : decode cX5_lot 16 = .ok (.aload_n 0, 1) := dk_42 (dk_at dksX5_lot_0 16 rfl rfl)
theorem dX5_lot_17 : decode cX5_lot 17 = .ok (.iconst 0, 1) := dk_3 (dk_at dksX5_lot_0 17 rfl rfl)
theorem dX5_lot_18 : decode cX5_lot 18 = .ok (.invokevirtual 381, 3) := dk_182 1 125 (dk_at dksX5_lot_0 18 rfl rfl)
theorem dX5_lot_21 : decode cX5_lot 21 = .ok (.ifCond .ne 5, 3) := dk_154 0 5 (dk_at dksX5_lot_0 21 rfl rfl)
theorem dX5_lot_24 : decode cX5_lot 24 = .ok (.iconst (-1), 1) := dk_2 (dk_at dksX5_lot_1 0 rfl rfl)
theorem dX5_lot_25 : decode cX5_lot 25 = .ok (.ireturn, 1) := dk_172 (dk_at dksX5_lot_1 1 rfl rfl)
theorem dX5_lot_26 : decode cX5_lot 26 = .ok (.aload_n 0, 1) := dk_42 (dk_at dksX5_lot_1 2 rfl rfl)
theorem dX5_lot_27 : decode cX5_lot 27 = .ok (.invokevirtual 366, 3) := dk_182 1 110 (dk_at dksX5_lot_1 3 rfl rfl)
theorem dX5_lot_30 : decode cX5_lot 30 = .ok (.aload_n 0, 1) := dk_42 (dk_at dksX5_lot_1 6 rfl rfl)
theorem dX5_lot_31 : decode cX5_lot 31 = .ok (.iload_n 1, 1) := dk_27 (dk_at dksX5_lot_1 7 rfl rfl)
theorem dX5_lot_32 : decode cX5_lot 32 = .ok (.i2l, 1) := dk_133 (dk_at dksX5_lot_1 8 rfl rfl)
theorem dX5_lot_33 : decode cX5_lot 33 = .ok (.putfield 369, 3) := dk_181 1 113 (dk_at dksX5_lot_1 9 rfl rfl)
theorem dX5_lot_36 : decode cX5_lot 36 = .ok (.aload_n 0, 1) := dk_42 (dk_at dksX5_lot_1 12 rfl rfl)
theorem dX5_lot_37 : decode cX5_lot 37 = .ok (.aload_n 0, 1) := dk_42 (dk_at dksX5_lot_1 13 rfl rfl)
theorem dX5_lot_38 : decode cX5_lot 38 = .ok (.getfield 313, 3) := dk_180 1 57 (dk_at dksX5_lot_1 14 rfl rfl)
theorem dX5_lot_41 : decode cX5_lot 41 = .ok (.invokevirtual 384, 3) := dk_182 1 128 (dk_at dksX5_lot_1 17 rfl rfl)
theorem dX5_lot_44 : decode cX5_lot 44 = .ok (.istore_n 2, 1) := dk_61 (dk_at dksX5_lot_1 20 rfl rfl)
theorem dX5_lot_45 : decode cX5_lot 45 = .ok (.aload_n 0, 1) := dk_42 (dk_at dksX5_lot_1 21 rfl rfl)
theorem dX5_lot_46 : decode cX5_lot 46 = .ok (.iconst 0, 1) := dk_3 (dk_at dksX5_lot_1 22 rfl rfl)
theorem dX5_lot_47 : decode cX5_lot 47 = .ok (.iload_n 2, 1) := dk_28 (dk_at dksX5_lot_1 23 rfl rfl)
theorem dX5_lot_48 : decode cX5_lot 48 = .ok (.invokevirtual 387, 3) := dk_182 1 131 (dk_at dksX5_lot_2 0 rfl rfl)
theorem dX5_lot_51 : decode cX5_lot 51 = .ok (.iload_n 2, 1) := dk_28 (dk_at dksX5_lot_2 3 rfl rfl)
theorem dX5_lot_52 : decode cX5_lot 52 = .ok (.ireturn, 1) := dk_172 (dk_at dksX5_lot_2 4 rfl rfl)
abbrev cX5_mayLeave : ByteArray := prog_30_method_70_code
def yX5_mayLeave : MethodName := ⟨RX5, "mayLeave", "(I)Z"⟩
def dkwX5_mayLeave_0 : List UInt8 := [42, 180, 0, 115, 27, 3, 96, 46, 154, 0, 14, 42, 180, 1, 57, 158, 0, 7, 4, 167, 0, 4, 3, 172]
abbrev dktX5_mayLeave_0 : List UInt8 := dkwX5_mayLeave_0 ++ []
theorem dksX5_mayLeave_0 : cX5_mayLeave.data.toList.drop 0 = dktX5_mayLeave_0 := by decide +kernel
theorem dX5_mayLeave_0 : decode cX5_mayLeave 0 = .ok (.aload_n 0, 1) := dk_42 (dk_at dksX5_mayLeave_0 0 rfl rfl)
theorem dX5_mayLeave_1 : decode cX5_mayLeave 1 = .ok (.getfield 115, 3) := dk_180 0 115 (dk_at dksX5_mayLeave_0 1 rfl rfl)
theorem dX5_mayLeave_4 : decode cX5_mayLeave 4 = .ok (.iload_n 1, 1) := dk_27 (dk_at dksX5_mayLeave_0 4 rfl rfl)
theorem dX5_mayLeave_5 : decode cX5_mayLeave 5 = .ok (.iconst 0, 1) := dk_3 (dk_at dksX5_mayLeave_0 5 rfl rfl)
theorem dX5_mayLeave_6 : decode cX5_mayLeave 6 = .ok (.iadd, 1) := dk_96 (dk_at dksX5_mayLeave_0 6 rfl rfl)
theorem dX5_mayLeave_7 : decode cX5_mayLeave 7 = .ok (.iaload, 1) := dk_46 (dk_at dksX5_mayLeave_0 7 rfl rfl)
theorem dX5_mayLeave_8 : decode cX5_mayLeave 8 = .ok (.ifCond .ne 14, 3) := dk_154 0 14 (dk_at dksX5_mayLeave_0 8 rfl rfl)
theorem dX5_mayLeave_11 : decode cX5_mayLeave 11 = .ok (.aload_n 0, 1) := dk_42 (dk_at dksX5_mayLeave_0 11 rfl rfl)
theorem dX5_mayLeave_12 : decode cX5_mayLeave 12 = .ok (.getfield 313, 3) := dk_180 1 57 (dk_at dksX5_mayLeave_0 12 rfl rfl)
theorem dX5_mayLeave_15 : decode cX5_mayLeave 15 = .ok (.ifCond .le 7, 3) := dk_158 0 7 (dk_at dksX5_mayLeave_0 15 rfl rfl)
theorem dX5_mayLeave_18 : decode cX5_mayLeave 18 = .ok (.iconst 1, 1) := dk_4 (dk_at dksX5_mayLeave_0 18 rfl rfl)
theorem dX5_mayLeave_19 : decode cX5_mayLeave 19 = .ok (.goto 4, 3) := dk_167 0 4 (dk_at dksX5_mayLeave_0 19 rfl rfl)
theorem dX5_mayLeave_22 : decode cX5_mayLeave 22 = .ok (.iconst 0, 1) := dk_3 (dk_at dksX5_mayLeave_0 22 rfl rfl)
theorem dX5_mayLeave_23 : decode cX5_mayLeave 23 = .ok (.ireturn, 1) := dk_172 (dk_at dksX5_mayLeave_0 23 rfl rfl)
abbrev cX5_draw : ByteArray := prog_30_method_69_code
def yX5_draw : MethodName := ⟨RX5, "draw", "(I)I"⟩
def dkwX5_draw_1 : List UInt8 := [20, 1, 123, 109, 27, 133, 113, 136, 172]
abbrev dktX5_draw_1 : List UInt8 := dkwX5_draw_1 ++ []
def dkwX5_draw_0 : List UInt8 := [42, 42, 180, 1, 113, 20, 1, 117, 105, 20, 1, 119, 97, 20, 1, 121, 113, 181, 1, 113, 42, 180, 1, 113]
abbrev dktX5_draw_0 : List UInt8 := dkwX5_draw_0 ++ dktX5_draw_1
theorem dksX5_draw_0 : cX5_draw.data.toList.drop 0 = dktX5_draw_0 := by decide +kernel
theorem dksX5_draw_1 : cX5_draw.data.toList.drop 24 = dktX5_draw_1 := dk_seg dksX5_draw_0 24 rfl rfl
theorem dX5_draw_0 : decode cX5_draw 0 = .ok (.aload_n 0, 1) := dk_42 (dk_at dksX5_draw_0 0 rfl rfl)
theorem dX5_draw_1 : decode cX5_draw 1 = .ok (.aload_n 0, 1) := dk_42 (dk_at dksX5_draw_0 1 rfl rfl)
theorem dX5_draw_2 : decode cX5_draw 2 = .ok (.getfield 369, 3) := dk_180 1 113 (dk_at dksX5_draw_0 2 rfl rfl)
theorem dX5_draw_5 : decode cX5_draw 5 = .ok (.ldc2_w 373, 3) := dk_20 1 117 (dk_at dksX5_draw_0 5 rfl rfl)
theorem dX5_draw_8 : decode cX5_draw 8 = .ok (.lmul, 1) := dk_105 (dk_at dksX5_draw_0 8 rfl rfl)
theorem dX5_draw_9 : decode cX5_draw 9 = .ok (.ldc2_w 375, 3) := dk_20 1 119 (dk_at dksX5_draw_0 9 rfl rfl)
theorem dX5_draw_12 : decode cX5_draw 12 = .ok (.ladd, 1) := dk_97 (dk_at dksX5_draw_0 12 rfl rfl)
theorem dX5_draw_13 : decode cX5_draw 13 = .ok (.ldc2_w 377, 3) := dk_20 1 121 (dk_at dksX5_draw_0 13 rfl rfl)
theorem dX5_draw_16 : decode cX5_draw 16 = .ok (.lrem, 1) := dk_113 (dk_at dksX5_draw_0 16 rfl rfl)
theorem dX5_draw_17 : decode cX5_draw 17 = .ok (.putfield 369, 3) := dk_181 1 113 (dk_at dksX5_draw_0 17 rfl rfl)
theorem dX5_draw_20 : decode cX5_draw 20 = .ok (.aload_n 0, 1) := dk_42 (dk_at dksX5_draw_0 20 rfl rfl)
theorem dX5_draw_21 : decode cX5_draw 21 = .ok (.getfield 369, 3) := dk_180 1 113 (dk_at dksX5_draw_0 21 rfl rfl)
theorem dX5_draw_24 : decode cX5_draw 24 = .ok (.ldc2_w 379, 3) := dk_20 1 123 (dk_at dksX5_draw_1 0 rfl rfl)
theorem dX5_draw_27 : decode cX5_draw 27 = .ok (.ldiv, 1) := dk_109 (dk_at dksX5_draw_1 3 rfl rfl)
theorem dX5_draw_28 : decode cX5_draw 28 = .ok (.iload_n 1, 1) := dk_27 (dk_at dksX5_draw_1 4 rfl rfl)
theorem dX5_draw_29 : decode cX5_draw 29 = .ok (.i2l, 1) := dk_133 (dk_at dksX5_draw_1 5 rfl rfl)
theorem dX5_draw_30 : decode cX5_draw 30 = .ok (.lrem, 1) := dk_113 (dk_at dksX5_draw_1 6 rfl rfl)
theorem dX5_draw_31 : decode cX5_draw 31 = .ok (.l2i, 1) := dk_136 (dk_at dksX5_draw_1 7 rfl rfl)
theorem dX5_draw_32 : decode cX5_draw 32 = .ok (.ireturn, 1) := dk_172 (dk_at dksX5_draw_1 8 rfl rfl)
abbrev cX5_leaves : ByteArray := prog_30_method_60_code
def yX5_leaves : MethodName := ⟨RX5, "leaves", "(II)V"⟩
def dkwX5_leaves_4 : List UInt8 := [16, 16, 96, 29, 96, 46, 79, 132, 3, 1, 167, 255, 173, 177]
abbrev dktX5_leaves_4 : List UInt8 := dkwX5_leaves_4 ++ []
def dkwX5_leaves_3 : List UInt8 := [16, 10, 96, 29, 96, 46, 100, 79, 42, 180, 0, 115, 27, 16, 40, 96, 29, 96, 42, 180, 0, 115, 27]
abbrev dktX5_leaves_3 : List UInt8 := dkwX5_leaves_3 ++ dktX5_leaves_4
def dkwX5_leaves_2 : List UInt8 := [180, 0, 115, 27, 16, 34, 96, 29, 96, 42, 180, 0, 115, 27, 7, 96, 29, 96, 46, 42, 180, 0, 115, 27]
abbrev dktX5_leaves_2 : List UInt8 := dkwX5_leaves_2 ++ dktX5_leaves_3
def dkwX5_leaves_1 : List UInt8 := [182, 1, 35, 162, 0, 81, 42, 180, 0, 115, 27, 16, 28, 96, 29, 96, 42, 28, 29, 182, 1, 90, 79, 42]
abbrev dktX5_leaves_1 : List UInt8 := dkwX5_leaves_1 ++ dktX5_leaves_2
def dkwX5_leaves_0 : List UInt8 := [42, 180, 0, 115, 27, 3, 96, 4, 79, 42, 180, 0, 115, 27, 4, 96, 3, 79, 3, 62, 29, 42]
abbrev dktX5_leaves_0 : List UInt8 := dkwX5_leaves_0 ++ dktX5_leaves_1
theorem dksX5_leaves_0 : cX5_leaves.data.toList.drop 0 = dktX5_leaves_0 := by decide +kernel
theorem dksX5_leaves_1 : cX5_leaves.data.toList.drop 22 = dktX5_leaves_1 := dk_seg dksX5_leaves_0 22 rfl rfl
theorem dksX5_leaves_2 : cX5_leaves.data.toList.drop 46 = dktX5_leaves_2 := dk_seg dksX5_leaves_1 24 rfl rfl
theorem dksX5_leaves_3 : cX5_leaves.data.toList.drop 70 = dktX5_leaves_3 := dk_seg dksX5_leaves_2 24 rfl rfl
theorem dksX5_leaves_4 : cX5_leaves.data.toList.drop 93 = dktX5_leaves_4 := dk_seg dksX5_leaves_3 23 rfl rfl
theorem dX5_leaves_0 : decode cX5_leaves 0 = .ok (.aload_n 0, 1) := dk_42 (dk_at dksX5_leaves_0 0 rfl rfl)
theorem dX5_leaves_1 : decode cX5_leaves 1 = .ok (.getfield 115, 3) := dk_180 0 115 (dk_at dksX5_leaves_0 1 rfl rfl)
theorem dX5_leaves_4 : decode cX5_leaves 4 = .ok (.iload_n 1, 1) := dk_27 (dk_at dksX5_leaves_0 4 rfl rfl)
theorem dX5_leaves_5 : decode cX5_leaves 5 = .ok (.iconst 0, 1) := dk_3 (dk_at dksX5_leaves_0 5 rfl rfl)
theorem dX5_leaves_6 : decode cX5_leaves 6 = .ok (.iadd, 1) := dk_96 (dk_at dksX5_leaves_0 6 rfl rfl)
theorem dX5_leaves_7 : decode cX5_leaves 7 = .ok (.iconst 1, 1) := dk_4 (dk_at dksX5_leaves_0 7 rfl rfl)
theorem dX5_leaves_8 : decode cX5_leaves 8 = .ok (.iastore, 1) := dk_79 (dk_at dksX5_leaves_0 8 rfl rfl)
theorem dX5_leaves_9 : decode cX5_leaves 9 = .ok (.aload_n 0, 1) := dk_42 (dk_at dksX5_leaves_0 9 rfl rfl)
theorem dX5_leaves_10 : decode cX5_leaves 10 = .ok (.getfield 115, 3) := dk_180 0 115 (dk_at dksX5_leaves_0 10 rfl rfl)
theorem dX5_leaves_13 : decode cX5_leaves 13 = .ok (.iload_n 1, 1) := dk_27 (dk_at dksX5_leaves_0 13 rfl rfl)
theorem dX5_leaves_14 : decode cX5_leaves 14 = .ok (.iconst 1, 1) := dk_4 (dk_at dksX5_leaves_0 14 rfl rfl)
theorem dX5_leaves_15 : decode cX5_leaves 15 = .ok (.iadd, 1) := dk_96 (dk_at dksX5_leaves_0 15 rfl rfl)
theorem dX5_leaves_16 : decode cX5_leaves 16 = .ok (.iconst 0, 1) := dk_3 (dk_at dksX5_leaves_0 16 rfl rfl)
theorem dX5_leaves_17 : decode cX5_leaves 17 = .ok (.iastore, 1) := dk_79 (dk_at dksX5_leaves_0 17 rfl rfl)
theorem dX5_leaves_18 : decode cX5_leaves 18 = .ok (.iconst 0, 1) := dk_3 (dk_at dksX5_leaves_0 18 rfl rfl)
theorem dX5_leaves_19 : decode cX5_leaves 19 = .ok (.istore_n 3, 1) := dk_62 (dk_at dksX5_leaves_0 19 rfl rfl)
theorem dX5_leaves_20 : decode cX5_leaves 20 = .ok (.iload_n 3, 1) := dk_29 (dk_at dksX5_leaves_0 20 rfl rfl)
theorem dX5_leaves_21 : decode cX5_leaves 21 = .ok (.aload_n 0, 1) := dk_42 (dk_at dksX5_leaves_0 21 rfl rfl)
theorem dX5_leaves_22 : decode cX5_leaves 22 = .ok (.invokevirtual 291, 3) := dk_182 1 35 (dk_at dksX5_leaves_1 0 rfl rfl)
theorem dX5_leaves_25 : decode cX5_leaves 25 = .ok (.if_icmp .ge 81, 3) := dk_162 0 81 (dk_at dksX5_leaves_1 3 rfl rfl)
theorem dX5_leaves_28 : decode cX5_leaves 28 = .ok (.aload_n 0, 1) := dk_42 (dk_at dksX5_leaves_1 6 rfl rfl)
theorem dX5_leaves_29 : decode cX5_leaves 29 = .ok (.getfield 115, 3) := dk_180 0 115 (dk_at dksX5_leaves_1 7 rfl rfl)
theorem dX5_leaves_32 : decode cX5_leaves 32 = .ok (.iload_n 1, 1) := dk_27 (dk_at dksX5_leaves_1 10 rfl rfl)
theorem dX5_leaves_33 : decode cX5_leaves 33 = .ok (.bipush 28, 2) := dk_16 28 (dk_at dksX5_leaves_1 11 rfl rfl)
theorem dX5_leaves_35 : decode cX5_leaves 35 = .ok (.iadd, 1) := dk_96 (dk_at dksX5_leaves_1 13 rfl rfl)
theorem dX5_leaves_36 : decode cX5_leaves 36 = .ok (.iload_n 3, 1) := dk_29 (dk_at dksX5_leaves_1 14 rfl rfl)
theorem dX5_leaves_37 : decode cX5_leaves 37 = .ok (.iadd, 1) := dk_96 (dk_at dksX5_leaves_1 15 rfl rfl)
theorem dX5_leaves_38 : decode cX5_leaves 38 = .ok (.aload_n 0, 1) := dk_42 (dk_at dksX5_leaves_1 16 rfl rfl)
theorem dX5_leaves_39 : decode cX5_leaves 39 = .ok (.iload_n 2, 1) := dk_28 (dk_at dksX5_leaves_1 17 rfl rfl)
theorem dX5_leaves_40 : decode cX5_leaves 40 = .ok (.iload_n 3, 1) := dk_29 (dk_at dksX5_leaves_1 18 rfl rfl)
theorem dX5_leaves_41 : decode cX5_leaves 41 = .ok (.invokevirtual 346, 3) := dk_182 1 90 (dk_at dksX5_leaves_1 19 rfl rfl)
theorem dX5_leaves_44 : decode cX5_leaves 44 = .ok (.iastore, 1) := dk_79 (dk_at dksX5_leaves_1 22 rfl rfl)
theorem dX5_leaves_45 : decode cX5_leaves 45 = .ok (.aload_n 0, 1) := dk_42 (dk_at dksX5_leaves_1 23 rfl rfl)
theorem dX5_leaves_46 : decode cX5_leaves 46 = .ok (.getfield 115, 3) := dk_180 0 115 (dk_at dksX5_leaves_2 0 rfl rfl)
theorem dX5_leaves_49 : decode cX5_leaves 49 = .ok (.iload_n 1, 1) := dk_27 (dk_at dksX5_leaves_2 3 rfl rfl)
theorem dX5_leaves_50 : decode cX5_leaves 50 = .ok (.bipush 34, 2) := dk_16 34 (dk_at dksX5_leaves_2 4 rfl rfl)
theorem dX5_leaves_52 : decode cX5_leaves 52 = .ok (.iadd, 1) := dk_96 (dk_at dksX5_leaves_2 6 rfl rfl)
theorem dX5_leaves_53 : decode cX5_leaves 53 = .ok (.iload_n 3, 1) := dk_29 (dk_at dksX5_leaves_2 7 rfl rfl)
theorem dX5_leaves_54 : decode cX5_leaves 54 = .ok (.iadd, 1) := dk_96 (dk_at dksX5_leaves_2 8 rfl rfl)
theorem dX5_leaves_55 : decode cX5_leaves 55 = .ok (.aload_n 0, 1) := dk_42 (dk_at dksX5_leaves_2 9 rfl rfl)
theorem dX5_leaves_56 : decode cX5_leaves 56 = .ok (.getfield 115, 3) := dk_180 0 115 (dk_at dksX5_leaves_2 10 rfl rfl)
theorem dX5_leaves_59 : decode cX5_leaves 59 = .ok (.iload_n 1, 1) := dk_27 (dk_at dksX5_leaves_2 13 rfl rfl)
theorem dX5_leaves_60 : decode cX5_leaves 60 = .ok (.iconst 4, 1) := dk_7 (dk_at dksX5_leaves_2 14 rfl rfl)
theorem dX5_leaves_61 : decode cX5_leaves 61 = .ok (.iadd, 1) := dk_96 (dk_at dksX5_leaves_2 15 rfl rfl)
theorem dX5_leaves_62 : decode cX5_leaves 62 = .ok (.iload_n 3, 1) := dk_29 (dk_at dksX5_leaves_2 16 rfl rfl)
theorem dX5_leaves_63 : decode cX5_leaves 63 = .ok (.iadd, 1) := dk_96 (dk_at dksX5_leaves_2 17 rfl rfl)
theorem dX5_leaves_64 : decode cX5_leaves 64 = .ok (.iaload, 1) := dk_46 (dk_at dksX5_leaves_2 18 rfl rfl)
theorem dX5_leaves_65 : decode cX5_leaves 65 = .ok (.aload_n 0, 1) := dk_42 (dk_at dksX5_leaves_2 19 rfl rfl)
theorem dX5_leaves_66 : decode cX5_leaves 66 = .ok (.getfield 115, 3) := dk_180 0 115 (dk_at dksX5_leaves_2 20 rfl rfl)
theorem dX5_leaves_69 : decode cX5_leaves 69 = .ok (.iload_n 1, 1) := dk_27 (dk_at dksX5_leaves_2 23 rfl rfl)
theorem dX5_leaves_70 : decode cX5_leaves 70 = .ok (.bipush 10, 2) := dk_16 10 (dk_at dksX5_leaves_3 0 rfl rfl)
theorem dX5_leaves_72 : decode cX5_leaves 72 = .ok (.iadd, 1) := dk_96 (dk_at dksX5_leaves_3 2 rfl rfl)
theorem dX5_leaves_73 : decode cX5_leaves 73 = .ok (.iload_n 3, 1) := dk_29 (dk_at dksX5_leaves_3 3 rfl rfl)
theorem dX5_leaves_74 : decode cX5_leaves 74 = .ok (.iadd, 1) := dk_96 (dk_at dksX5_leaves_3 4 rfl rfl)
theorem dX5_leaves_75 : decode cX5_leaves 75 = .ok (.iaload, 1) := dk_46 (dk_at dksX5_leaves_3 5 rfl rfl)
theorem dX5_leaves_76 : decode cX5_leaves 76 = .ok (.isub, 1) := dk_100 (dk_at dksX5_leaves_3 6 rfl rfl)
theorem dX5_leaves_77 : decode cX5_leaves 77 = .ok (.iastore, 1) := dk_79 (dk_at dksX5_leaves_3 7 rfl rfl)
theorem dX5_leaves_78 : decode cX5_leaves 78 = .ok (.aload_n 0, 1) := dk_42 (dk_at dksX5_leaves_3 8 rfl rfl)
theorem dX5_leaves_79 : decode cX5_leaves 79 = .ok (.getfield 115, 3) := dk_180 0 115 (dk_at dksX5_leaves_3 9 rfl rfl)
theorem dX5_leaves_82 : decode cX5_leaves 82 = .ok (.iload_n 1, 1) := dk_27 (dk_at dksX5_leaves_3 12 rfl rfl)
theorem dX5_leaves_83 : decode cX5_leaves 83 = .ok (.bipush 40, 2) := dk_16 40 (dk_at dksX5_leaves_3 13 rfl rfl)
theorem dX5_leaves_85 : decode cX5_leaves 85 = .ok (.iadd, 1) := dk_96 (dk_at dksX5_leaves_3 15 rfl rfl)
theorem dX5_leaves_86 : decode cX5_leaves 86 = .ok (.iload_n 3, 1) := dk_29 (dk_at dksX5_leaves_3 16 rfl rfl)
theorem dX5_leaves_87 : decode cX5_leaves 87 = .ok (.iadd, 1) := dk_96 (dk_at dksX5_leaves_3 17 rfl rfl)
theorem dX5_leaves_88 : decode cX5_leaves 88 = .ok (.aload_n 0, 1) := dk_42 (dk_at dksX5_leaves_3 18 rfl rfl)
theorem dX5_leaves_89 : decode cX5_leaves 89 = .ok (.getfield 115, 3) := dk_180 0 115 (dk_at dksX5_leaves_3 19 rfl rfl)
theorem dX5_leaves_92 : decode cX5_leaves 92 = .ok (.iload_n 1, 1) := dk_27 (dk_at dksX5_leaves_3 22 rfl rfl)
theorem dX5_leaves_93 : decode cX5_leaves 93 = .ok (.bipush 16, 2) := dk_16 16 (dk_at dksX5_leaves_4 0 rfl rfl)
theorem dX5_leaves_95 : decode cX5_leaves 95 = .ok (.iadd, 1) := dk_96 (dk_at dksX5_leaves_4 2 rfl rfl)
theorem dX5_leaves_96 : decode cX5_leaves 96 = .ok (.iload_n 3, 1) := dk_29 (dk_at dksX5_leaves_4 3 rfl rfl)
theorem dX5_leaves_97 : decode cX5_leaves 97 = .ok (.iadd, 1) := dk_96 (dk_at dksX5_leaves_4 4 rfl rfl)
theorem dX5_leaves_98 : decode cX5_leaves 98 = .ok (.iaload, 1) := dk_46 (dk_at dksX5_leaves_4 5 rfl rfl)
theorem dX5_leaves_99 : decode cX5_leaves 99 = .ok (.iastore, 1) := dk_79 (dk_at dksX5_leaves_4 6 rfl rfl)
theorem dX5_leaves_100 : decode cX5_leaves 100 = .ok (.iinc 3 1, 3) := dk_132 3 1 (dk_at dksX5_leaves_4 7 rfl rfl)
theorem dX5_leaves_103 : decode cX5_leaves 103 = .ok (.goto (-83), 3) := dk_167 255 173 (dk_at dksX5_leaves_4 10 rfl rfl)
theorem dX5_leaves_106 : decode cX5_leaves 106 = .ok (.return_, 1) := dk_177 (dk_at dksX5_leaves_4 13 rfl rfl)
abbrev cX5_selfOf : ByteArray := prog_30_method_51_code
def yX5_selfOf : MethodName := ⟨RX5, "selfOf", "(II)I"⟩
def dkwX5_selfOf_0 : List UInt8 := [42, 180, 0, 122, 27, 46, 6, 28, 104, 122, 16, 7, 126, 172]
abbrev dktX5_selfOf_0 : List UInt8 := dkwX5_selfOf_0 ++ []
theorem dksX5_selfOf_0 : cX5_selfOf.data.toList.drop 0 = dktX5_selfOf_0 := by decide +kernel
theorem dX5_selfOf_0 : decode cX5_selfOf 0 = .ok (.aload_n 0, 1) := dk_42 (dk_at dksX5_selfOf_0 0 rfl rfl)
theorem dX5_selfOf_1 : decode cX5_selfOf 1 = .ok (.getfield 122, 3) := dk_180 0 122 (dk_at dksX5_selfOf_0 1 rfl rfl)
theorem dX5_selfOf_4 : decode cX5_selfOf 4 = .ok (.iload_n 1, 1) := dk_27 (dk_at dksX5_selfOf_0 4 rfl rfl)
theorem dX5_selfOf_5 : decode cX5_selfOf 5 = .ok (.iaload, 1) := dk_46 (dk_at dksX5_selfOf_0 5 rfl rfl)
theorem dX5_selfOf_6 : decode cX5_selfOf 6 = .ok (.iconst 3, 1) := dk_6 (dk_at dksX5_selfOf_0 6 rfl rfl)
theorem dX5_selfOf_7 : decode cX5_selfOf 7 = .ok (.iload_n 2, 1) := dk_28 (dk_at dksX5_selfOf_0 7 rfl rfl)
theorem dX5_selfOf_8 : decode cX5_selfOf 8 = .ok (.imul, 1) := dk_104 (dk_at dksX5_selfOf_0 8 rfl rfl)
theorem dX5_selfOf_9 : decode cX5_selfOf 9 = .ok (.ishr, 1) := dk_122 (dk_at dksX5_selfOf_0 9 rfl rfl)
theorem dX5_selfOf_10 : decode cX5_selfOf 10 = .ok (.bipush 7, 2) := dk_16 7 (dk_at dksX5_selfOf_0 10 rfl rfl)
theorem dX5_selfOf_12 : decode cX5_selfOf 12 = .ok (.iand, 1) := dk_126 (dk_at dksX5_selfOf_0 12 rfl rfl)
theorem dX5_selfOf_13 : decode cX5_selfOf 13 = .ok (.ireturn, 1) := dk_172 (dk_at dksX5_selfOf_0 13 rfl rfl)
abbrev cX5_swap : ByteArray := prog_30_method_75_code
def yX5_swap : MethodName := ⟨RX5, "swap", "(II)Z"⟩
def dkwX5_swap_1 : List UInt8 := [28, 182, 1, 137, 154, 0, 5, 3, 172, 42, 182, 1, 110, 42, 3, 27, 28, 182, 1, 140, 4, 172]
abbrev dktX5_swap_1 : List UInt8 := dkwX5_swap_1 ++ []
def dkwX5_swap_0 : List UInt8 := [42, 3, 181, 0, 1, 42, 27, 182, 1, 100, 153, 0, 21, 42, 28, 182, 1, 100, 153, 0, 13, 42, 3, 27]
abbrev dktX5_swap_0 : List UInt8 := dkwX5_swap_0 ++ dktX5_swap_1
theorem dksX5_swap_0 : cX5_swap.data.toList.drop 0 = dktX5_swap_0 := by decide +kernel
theorem dksX5_swap_1 : cX5_swap.data.toList.drop 24 = dktX5_swap_1 := dk_seg dksX5_swap_0 24 rfl rfl
theorem dX5_swap_0 : decode cX5_swap 0 = .ok (.aload_n 0, 1) := dk_42 (dk_at dksX5_swap_0 0 rfl rfl)
theorem dX5_swap_1 : decode cX5_swap 1 = .ok (.iconst 0, 1) := dk_3 (dk_at dksX5_swap_0 1 rfl rfl)
theorem dX5_swap_2 : decode cX5_swap 2 = .ok (.putfield 1, 3) := dk_181 0 1 (dk_at dksX5_swap_0 2 rfl rfl)
theorem dX5_swap_5 : decode cX5_swap 5 = .ok (.aload_n 0, 1) := dk_42 (dk_at dksX5_swap_0 5 rfl rfl)
theorem dX5_swap_6 : decode cX5_swap 6 = .ok (.iload_n 1, 1) := dk_27 (dk_at dksX5_swap_0 6 rfl rfl)
theorem dX5_swap_7 : decode cX5_swap 7 = .ok (.invokevirtual 356, 3) := dk_182 1 100 (dk_at dksX5_swap_0 7 rfl rfl)
theorem dX5_swap_10 : decode cX5_swap 10 = .ok (.ifCond .eq 21, 3) := dk_153 0 21 (dk_at dksX5_swap_0 10 rfl rfl)
theorem dX5_swap_13 : decode cX5_swap 13 = .ok (.aload_n 0, 1) := dk_42 (dk_at dksX5_swap_0 13 rfl rfl)
theorem dX5_swap_14 : decode cX5_swap 14 = .ok (.iload_n 2, 1) := dk_28 (dk_at dksX5_swap_0 14 rfl rfl)
theorem dX5_swap_15 : decode cX5_swap 15 = .ok (.invokevirtual 356, 3) := dk_182 1 100 (dk_at dksX5_swap_0 15 rfl rfl)
theorem dX5_swap_18 : decode cX5_swap 18 = .ok (.ifCond .eq 13, 3) := dk_153 0 13 (dk_at dksX5_swap_0 18 rfl rfl)
theorem dX5_swap_21 : decode cX5_swap 21 = .ok (.aload_n 0, 1) := dk_42 (dk_at dksX5_swap_0 21 rfl rfl)
theorem dX5_swap_22 : decode cX5_swap 22 = .ok (.iconst 0, 1) := dk_3 (dk_at dksX5_swap_0 22 rfl rfl)
theorem dX5_swap_23 : decode cX5_swap 23 = .ok (.iload_n 1, 1) := dk_27 (dk_at dksX5_swap_0 23 rfl rfl)
theorem dX5_swap_24 : decode cX5_swap 24 = .ok (.iload_n 2, 1) := dk_28 (dk_at dksX5_swap_1 0 rfl rfl)
theorem dX5_swap_25 : decode cX5_swap 25 = .ok (.invokevirtual 393, 3) := dk_182 1 137 (dk_at dksX5_swap_1 1 rfl rfl)
theorem dX5_swap_28 : decode cX5_swap 28 = .ok (.ifCond .ne 5, 3) := dk_154 0 5 (dk_at dksX5_swap_1 4 rfl rfl)
theorem dX5_swap_31 : decode cX5_swap 31 = .ok (.iconst 0, 1) := dk_3 (dk_at dksX5_swap_1 7 rfl rfl)
theorem dX5_swap_32 : decode cX5_swap 32 = .ok (.ireturn, 1) := dk_172 (dk_at dksX5_swap_1 8 rfl rfl)
theorem dX5_swap_33 : decode cX5_swap 33 = .ok (.aload_n 0, 1) := dk_42 (dk_at dksX5_swap_1 9 rfl rfl)
theorem dX5_swap_34 : decode cX5_swap 34 = .ok (.invokevirtual 366, 3) := dk_182 1 110 (dk_at dksX5_swap_1 10 rfl rfl)
theorem dX5_swap_37 : decode cX5_swap 37 = .ok (.aload_n 0, 1) := dk_42 (dk_at dksX5_swap_1 13 rfl rfl)
theorem dX5_swap_38 : decode cX5_swap 38 = .ok (.iconst 0, 1) := dk_3 (dk_at dksX5_swap_1 14 rfl rfl)
theorem dX5_swap_39 : decode cX5_swap 39 = .ok (.iload_n 1, 1) := dk_27 (dk_at dksX5_swap_1 15 rfl rfl)
theorem dX5_swap_40 : decode cX5_swap 40 = .ok (.iload_n 2, 1) := dk_28 (dk_at dksX5_swap_1 16 rfl rfl)
theorem dX5_swap_41 : decode cX5_swap 41 = .ok (.invokevirtual 396, 3) := dk_182 1 140 (dk_at dksX5_swap_1 17 rfl rfl)
theorem dX5_swap_44 : decode cX5_swap 44 = .ok (.iconst 1, 1) := dk_4 (dk_at dksX5_swap_1 20 rfl rfl)
theorem dX5_swap_45 : decode cX5_swap 45 = .ok (.ireturn, 1) := dk_172 (dk_at dksX5_swap_1 21 rfl rfl)
abbrev cX5_maySwap : ByteArray := prog_30_method_73_code
def yX5_maySwap : MethodName := ⟨RX5, "maySwap", "(III)Z"⟩
def dkwX5_maySwap_2 : List UInt8 := [167, 0, 4, 3, 172]
abbrev dktX5_maySwap_2 : List UInt8 := dkwX5_maySwap_2 ++ []
def dkwX5_maySwap_1 : List UInt8 := [182, 1, 134, 182, 1, 63, 153, 0, 21, 42, 29, 42, 27, 28, 182, 1, 134, 182, 1, 63, 153, 0, 7, 4]
abbrev dktX5_maySwap_1 : List UInt8 := dkwX5_maySwap_1 ++ dktX5_maySwap_2
def dkwX5_maySwap_0 : List UInt8 := [42, 180, 0, 115, 27, 3, 96, 46, 4, 160, 0, 40, 28, 29, 159, 0, 35, 42, 28, 42, 27, 29]
abbrev dktX5_maySwap_0 : List UInt8 := dkwX5_maySwap_0 ++ dktX5_maySwap_1
theorem dksX5_maySwap_0 : cX5_maySwap.data.toList.drop 0 = dktX5_maySwap_0 := by decide +kernel
theorem dksX5_maySwap_1 : cX5_maySwap.data.toList.drop 22 = dktX5_maySwap_1 := dk_seg dksX5_maySwap_0 22 rfl rfl
theorem dksX5_maySwap_2 : cX5_maySwap.data.toList.drop 46 = dktX5_maySwap_2 := dk_seg dksX5_maySwap_1 24 rfl rfl
theorem dX5_maySwap_0 : decode cX5_maySwap 0 = .ok (.aload_n 0, 1) := dk_42 (dk_at dksX5_maySwap_0 0 rfl rfl)
theorem dX5_maySwap_1 : decode cX5_maySwap 1 = .ok (.getfield 115, 3) := dk_180 0 115 (dk_at dksX5_maySwap_0 1 rfl rfl)
theorem dX5_maySwap_4 : decode cX5_maySwap 4 = .ok (.iload_n 1, 1) := dk_27 (dk_at dksX5_maySwap_0 4 rfl rfl)
theorem dX5_maySwap_5 : decode cX5_maySwap 5 = .ok (.iconst 0, 1) := dk_3 (dk_at dksX5_maySwap_0 5 rfl rfl)
theorem dX5_maySwap_6 : decode cX5_maySwap 6 = .ok (.iadd, 1) := dk_96 (dk_at dksX5_maySwap_0 6 rfl rfl)
theorem dX5_maySwap_7 : decode cX5_maySwap 7 = .ok (.iaload, 1) := dk_46 (dk_at dksX5_maySwap_0 7 rfl rfl)
theorem dX5_maySwap_8 : decode cX5_maySwap 8 = .ok (.iconst 1, 1) := dk_4 (dk_at dksX5_maySwap_0 8 rfl rfl)
theorem dX5_maySwap_9 : decode cX5_maySwap 9 = .ok (.if_icmp .ne 40, 3) := dk_160 0 40 (dk_at dksX5_maySwap_0 9 rfl rfl)
theorem dX5_maySwap_12 : decode cX5_maySwap 12 = .ok (.iload_n 2, 1) := dk_28 (dk_at dksX5_maySwap_0 12 rfl rfl)
theorem dX5_maySwap_13 : decode cX5_maySwap 13 = .ok (.iload_n 3, 1) := dk_29 (dk_at dksX5_maySwap_0 13 rfl rfl)
theorem dX5_maySwap_14 : decode cX5_maySwap 14 = .ok (.if_icmp .eq 35, 3) := dk_159 0 35 (dk_at dksX5_maySwap_0 14 rfl rfl)
theorem dX5_maySwap_17 : decode cX5_maySwap 17 = .ok (.aload_n 0, 1) := dk_42 (dk_at dksX5_maySwap_0 17 rfl rfl)
theorem dX5_maySwap_18 : decode cX5_maySwap 18 = .ok (.iload_n 2, 1) := dk_28 (dk_at dksX5_maySwap_0 18 rfl rfl)
theorem dX5_maySwap_19 : decode cX5_maySwap 19 = .ok (.aload_n 0, 1) := dk_42 (dk_at dksX5_maySwap_0 19 rfl rfl)
theorem dX5_maySwap_20 : decode cX5_maySwap 20 = .ok (.iload_n 1, 1) := dk_27 (dk_at dksX5_maySwap_0 20 rfl rfl)
theorem dX5_maySwap_21 : decode cX5_maySwap 21 = .ok (.iload_n 3, 1) := dk_29 (dk_at dksX5_maySwap_0 21 rfl rfl)
theorem dX5_maySwap_22 : decode cX5_maySwap 22 = .ok (.invokevirtual 390, 3) := dk_182 1 134 (dk_at dksX5_maySwap_1 0 rfl rfl)
theorem dX5_maySwap_25 : decode cX5_maySwap 25 = .ok (.invokevirtual 319, 3) := dk_182 1 63 (dk_at dksX5_maySwap_1 3 rfl rfl)
theorem dX5_maySwap_28 : decode cX5_maySwap 28 = .ok (.ifCond .eq 21, 3) := dk_153 0 21 (dk_at dksX5_maySwap_1 6 rfl rfl)
theorem dX5_maySwap_31 : decode cX5_maySwap 31 = .ok (.aload_n 0, 1) := dk_42 (dk_at dksX5_maySwap_1 9 rfl rfl)
theorem dX5_maySwap_32 : decode cX5_maySwap 32 = .ok (.iload_n 3, 1) := dk_29 (dk_at dksX5_maySwap_1 10 rfl rfl)
theorem dX5_maySwap_33 : decode cX5_maySwap 33 = .ok (.aload_n 0, 1) := dk_42 (dk_at dksX5_maySwap_1 11 rfl rfl)
theorem dX5_maySwap_34 : decode cX5_maySwap 34 = .ok (.iload_n 1, 1) := dk_27 (dk_at dksX5_maySwap_1 12 rfl rfl)
theorem dX5_maySwap_35 : decode cX5_maySwap 35 = .ok (.iload_n 2, 1) := dk_28 (dk_at dksX5_maySwap_1 13 rfl rfl)
theorem dX5_maySwap_36 : decode cX5_maySwap 36 = .ok (.invokevirtual 390, 3) := dk_182 1 134 (dk_at dksX5_maySwap_1 14 rfl rfl)
theorem dX5_maySwap_39 : decode cX5_maySwap 39 = .ok (.invokevirtual 319, 3) := dk_182 1 63 (dk_at dksX5_maySwap_1 17 rfl rfl)
theorem dX5_maySwap_42 : decode cX5_maySwap 42 = .ok (.ifCond .eq 7, 3) := dk_153 0 7 (dk_at dksX5_maySwap_1 20 rfl rfl)
theorem dX5_maySwap_45 : decode cX5_maySwap 45 = .ok (.iconst 1, 1) := dk_4 (dk_at dksX5_maySwap_1 23 rfl rfl)
theorem dX5_maySwap_46 : decode cX5_maySwap 46 = .ok (.goto 4, 3) := dk_167 0 4 (dk_at dksX5_maySwap_2 0 rfl rfl)
theorem dX5_maySwap_49 : decode cX5_maySwap 49 = .ok (.iconst 0, 1) := dk_3 (dk_at dksX5_maySwap_2 3 rfl rfl)
theorem dX5_maySwap_50 : decode cX5_maySwap 50 = .ok (.ireturn, 1) := dk_172 (dk_at dksX5_maySwap_2 4 rfl rfl)
abbrev cX5_ledBy : ByteArray := prog_30_method_72_code
def yX5_ledBy : MethodName := ⟨RX5, "ledBy", "(II)I"⟩
def dkwX5_ledBy_1 : List UInt8 := [172]
abbrev dktX5_ledBy_1 : List UInt8 := dkwX5_ledBy_1 ++ []
def dkwX5_ledBy_0 : List UInt8 := [3, 62, 42, 180, 0, 115, 27, 16, 28, 96, 29, 96, 46, 28, 159, 0, 9, 132, 3, 1, 167, 255, 238, 29]
abbrev dktX5_ledBy_0 : List UInt8 := dkwX5_ledBy_0 ++ dktX5_ledBy_1
theorem dksX5_ledBy_0 : cX5_ledBy.data.toList.drop 0 = dktX5_ledBy_0 := by decide +kernel
theorem dksX5_ledBy_1 : cX5_ledBy.data.toList.drop 24 = dktX5_ledBy_1 := dk_seg dksX5_ledBy_0 24 rfl rfl
theorem dX5_ledBy_0 : decode cX5_ledBy 0 = .ok (.iconst 0, 1) := dk_3 (dk_at dksX5_ledBy_0 0 rfl rfl)
theorem dX5_ledBy_1 : decode cX5_ledBy 1 = .ok (.istore_n 3, 1) := dk_62 (dk_at dksX5_ledBy_0 1 rfl rfl)
theorem dX5_ledBy_2 : decode cX5_ledBy 2 = .ok (.aload_n 0, 1) := dk_42 (dk_at dksX5_ledBy_0 2 rfl rfl)
theorem dX5_ledBy_3 : decode cX5_ledBy 3 = .ok (.getfield 115, 3) := dk_180 0 115 (dk_at dksX5_ledBy_0 3 rfl rfl)
theorem dX5_ledBy_6 : decode cX5_ledBy 6 = .ok (.iload_n 1, 1) := dk_27 (dk_at dksX5_ledBy_0 6 rfl rfl)
theorem dX5_ledBy_7 : decode cX5_ledBy 7 = .ok (.bipush 28, 2) := dk_16 28 (dk_at dksX5_ledBy_0 7 rfl rfl)
theorem dX5_ledBy_9 : decode cX5_ledBy 9 = .ok (.iadd, 1) := dk_96 (dk_at dksX5_ledBy_0 9 rfl rfl)
theorem dX5_ledBy_10 : decode cX5_ledBy 10 = .ok (.iload_n 3, 1) := dk_29 (dk_at dksX5_ledBy_0 10 rfl rfl)
theorem dX5_ledBy_11 : decode cX5_ledBy 11 = .ok (.iadd, 1) := dk_96 (dk_at dksX5_ledBy_0 11 rfl rfl)
theorem dX5_ledBy_12 : decode cX5_ledBy 12 = .ok (.iaload, 1) := dk_46 (dk_at dksX5_ledBy_0 12 rfl rfl)
theorem dX5_ledBy_13 : decode cX5_ledBy 13 = .ok (.iload_n 2, 1) := dk_28 (dk_at dksX5_ledBy_0 13 rfl rfl)
theorem dX5_ledBy_14 : decode cX5_ledBy 14 = .ok (.if_icmp .eq 9, 3) := dk_159 0 9 (dk_at dksX5_ledBy_0 14 rfl rfl)
theorem dX5_ledBy_17 : decode cX5_ledBy 17 = .ok (.iinc 3 1, 3) := dk_132 3 1 (dk_at dksX5_ledBy_0 17 rfl rfl)
theorem dX5_ledBy_20 : decode cX5_ledBy 20 = .ok (.goto (-18), 3) := dk_167 255 238 (dk_at dksX5_ledBy_0 20 rfl rfl)
theorem dX5_ledBy_23 : decode cX5_ledBy 23 = .ok (.iload_n 3, 1) := dk_29 (dk_at dksX5_ledBy_0 23 rfl rfl)
theorem dX5_ledBy_24 : decode cX5_ledBy 24 = .ok (.ireturn, 1) := dk_172 (dk_at dksX5_ledBy_1 0 rfl rfl)
abbrev cX5_swaps : ByteArray := prog_30_method_74_code
def yX5_swaps : MethodName := ⟨RX5, "swaps", "(III)V"⟩
def dkwX5_swaps_1 : List UInt8 := [21, 4, 96, 29, 79, 42, 180, 0, 115, 27, 16, 28, 96, 21, 5, 96, 28, 79, 177]
abbrev dktX5_swaps_1 : List UInt8 := dkwX5_swaps_1 ++ []
def dkwX5_swaps_0 : List UInt8 := [42, 27, 28, 182, 1, 134, 54, 4, 42, 27, 29, 182, 1, 134, 54, 5, 42, 180, 0, 115, 27, 16, 28, 96]
abbrev dktX5_swaps_0 : List UInt8 := dkwX5_swaps_0 ++ dktX5_swaps_1
theorem dksX5_swaps_0 : cX5_swaps.data.toList.drop 0 = dktX5_swaps_0 := by decide +kernel
theorem dksX5_swaps_1 : cX5_swaps.data.toList.drop 24 = dktX5_swaps_1 := dk_seg dksX5_swaps_0 24 rfl rfl
theorem dX5_swaps_0 : decode cX5_swaps 0 = .ok (.aload_n 0, 1) := dk_42 (dk_at dksX5_swaps_0 0 rfl rfl)
theorem dX5_swaps_1 : decode cX5_swaps 1 = .ok (.iload_n 1, 1) := dk_27 (dk_at dksX5_swaps_0 1 rfl rfl)
theorem dX5_swaps_2 : decode cX5_swaps 2 = .ok (.iload_n 2, 1) := dk_28 (dk_at dksX5_swaps_0 2 rfl rfl)
theorem dX5_swaps_3 : decode cX5_swaps 3 = .ok (.invokevirtual 390, 3) := dk_182 1 134 (dk_at dksX5_swaps_0 3 rfl rfl)
theorem dX5_swaps_6 : decode cX5_swaps 6 = .ok (.istore 4, 2) := dk_54 4 (dk_at dksX5_swaps_0 6 rfl rfl)
theorem dX5_swaps_8 : decode cX5_swaps 8 = .ok (.aload_n 0, 1) := dk_42 (dk_at dksX5_swaps_0 8 rfl rfl)
theorem dX5_swaps_9 : decode cX5_swaps 9 = .ok (.iload_n 1, 1) := dk_27 (dk_at dksX5_swaps_0 9 rfl rfl)
theorem dX5_swaps_10 : decode cX5_swaps 10 = .ok (.iload_n 3, 1) := dk_29 (dk_at dksX5_swaps_0 10 rfl rfl)
theorem dX5_swaps_11 : decode cX5_swaps 11 = .ok (.invokevirtual 390, 3) := dk_182 1 134 (dk_at dksX5_swaps_0 11 rfl rfl)
theorem dX5_swaps_14 : decode cX5_swaps 14 = .ok (.istore 5, 2) := dk_54 5 (dk_at dksX5_swaps_0 14 rfl rfl)
theorem dX5_swaps_16 : decode cX5_swaps 16 = .ok (.aload_n 0, 1) := dk_42 (dk_at dksX5_swaps_0 16 rfl rfl)
theorem dX5_swaps_17 : decode cX5_swaps 17 = .ok (.getfield 115, 3) := dk_180 0 115 (dk_at dksX5_swaps_0 17 rfl rfl)
theorem dX5_swaps_20 : decode cX5_swaps 20 = .ok (.iload_n 1, 1) := dk_27 (dk_at dksX5_swaps_0 20 rfl rfl)
theorem dX5_swaps_21 : decode cX5_swaps 21 = .ok (.bipush 28, 2) := dk_16 28 (dk_at dksX5_swaps_0 21 rfl rfl)
theorem dX5_swaps_23 : decode cX5_swaps 23 = .ok (.iadd, 1) := dk_96 (dk_at dksX5_swaps_0 23 rfl rfl)
theorem dX5_swaps_24 : decode cX5_swaps 24 = .ok (.iload 4, 2) := dk_21 4 (dk_at dksX5_swaps_1 0 rfl rfl)
theorem dX5_swaps_26 : decode cX5_swaps 26 = .ok (.iadd, 1) := dk_96 (dk_at dksX5_swaps_1 2 rfl rfl)
theorem dX5_swaps_27 : decode cX5_swaps 27 = .ok (.iload_n 3, 1) := dk_29 (dk_at dksX5_swaps_1 3 rfl rfl)
theorem dX5_swaps_28 : decode cX5_swaps 28 = .ok (.iastore, 1) := dk_79 (dk_at dksX5_swaps_1 4 rfl rfl)
theorem dX5_swaps_29 : decode cX5_swaps 29 = .ok (.aload_n 0, 1) := dk_42 (dk_at dksX5_swaps_1 5 rfl rfl)
theorem dX5_swaps_30 : decode cX5_swaps 30 = .ok (.getfield 115, 3) := dk_180 0 115 (dk_at dksX5_swaps_1 6 rfl rfl)
theorem dX5_swaps_33 : decode cX5_swaps 33 = .ok (.iload_n 1, 1) := dk_27 (dk_at dksX5_swaps_1 9 rfl rfl)
theorem dX5_swaps_34 : decode cX5_swaps 34 = .ok (.bipush 28, 2) := dk_16 28 (dk_at dksX5_swaps_1 10 rfl rfl)
theorem dX5_swaps_36 : decode cX5_swaps 36 = .ok (.iadd, 1) := dk_96 (dk_at dksX5_swaps_1 12 rfl rfl)
theorem dX5_swaps_37 : decode cX5_swaps 37 = .ok (.iload 5, 2) := dk_21 5 (dk_at dksX5_swaps_1 13 rfl rfl)
theorem dX5_swaps_39 : decode cX5_swaps 39 = .ok (.iadd, 1) := dk_96 (dk_at dksX5_swaps_1 15 rfl rfl)
theorem dX5_swaps_40 : decode cX5_swaps 40 = .ok (.iload_n 2, 1) := dk_28 (dk_at dksX5_swaps_1 16 rfl rfl)
theorem dX5_swaps_41 : decode cX5_swaps 41 = .ok (.iastore, 1) := dk_79 (dk_at dksX5_swaps_1 17 rfl rfl)
theorem dX5_swaps_42 : decode cX5_swaps 42 = .ok (.return_, 1) := dk_177 (dk_at dksX5_swaps_1 18 rfl rfl)
abbrev cX5_day : ByteArray := prog_30_method_77_code
def yX5_day : MethodName := ⟨RX5, "day", "()I"⟩
def dkwX5_day_1 : List UInt8 := [42, 180, 0, 115, 4, 46, 172]
abbrev dktX5_day_1 : List UInt8 := dkwX5_day_1 ++ []
def dkwX5_day_0 : List UInt8 := [42, 3, 181, 0, 1, 42, 3, 182, 1, 143, 154, 0, 5, 2, 172, 42, 182, 1, 110, 42, 3, 182, 1, 146]
abbrev dktX5_day_0 : List UInt8 := dkwX5_day_0 ++ dktX5_day_1
theorem dksX5_day_0 : cX5_day.data.toList.drop 0 = dktX5_day_0 := by decide +kernel
theorem dksX5_day_1 : cX5_day.data.toList.drop 24 = dktX5_day_1 := dk_seg dksX5_day_0 24 rfl rfl
theorem dX5_day_0 : decode cX5_day 0 = .ok (.aload_n 0, 1) := dk_42 (dk_at dksX5_day_0 0 rfl rfl)
theorem dX5_day_1 : decode cX5_day 1 = .ok (.iconst 0, 1) := dk_3 (dk_at dksX5_day_0 1 rfl rfl)
theorem dX5_day_2 : decode cX5_day 2 = .ok (.putfield 1, 3) := dk_181 0 1 (dk_at dksX5_day_0 2 rfl rfl)
theorem dX5_day_5 : decode cX5_day 5 = .ok (.aload_n 0, 1) := dk_42 (dk_at dksX5_day_0 5 rfl rfl)
theorem dX5_day_6 : decode cX5_day 6 = .ok (.iconst 0, 1) := dk_3 (dk_at dksX5_day_0 6 rfl rfl)
theorem dX5_day_7 : decode cX5_day 7 = .ok (.invokevirtual 399, 3) := dk_182 1 143 (dk_at dksX5_day_0 7 rfl rfl)
theorem dX5_day_10 : decode cX5_day 10 = .ok (.ifCond .ne 5, 3) := dk_154 0 5 (dk_at dksX5_day_0 10 rfl rfl)
theorem dX5_day_13 : decode cX5_day 13 = .ok (.iconst (-1), 1) := dk_2 (dk_at dksX5_day_0 13 rfl rfl)
theorem dX5_day_14 : decode cX5_day 14 = .ok (.ireturn, 1) := dk_172 (dk_at dksX5_day_0 14 rfl rfl)
theorem dX5_day_15 : decode cX5_day 15 = .ok (.aload_n 0, 1) := dk_42 (dk_at dksX5_day_0 15 rfl rfl)
theorem dX5_day_16 : decode cX5_day 16 = .ok (.invokevirtual 366, 3) := dk_182 1 110 (dk_at dksX5_day_0 16 rfl rfl)
theorem dX5_day_19 : decode cX5_day 19 = .ok (.aload_n 0, 1) := dk_42 (dk_at dksX5_day_0 19 rfl rfl)
theorem dX5_day_20 : decode cX5_day 20 = .ok (.iconst 0, 1) := dk_3 (dk_at dksX5_day_0 20 rfl rfl)
theorem dX5_day_21 : decode cX5_day 21 = .ok (.invokevirtual 402, 3) := dk_182 1 146 (dk_at dksX5_day_0 21 rfl rfl)
theorem dX5_day_24 : decode cX5_day 24 = .ok (.aload_n 0, 1) := dk_42 (dk_at dksX5_day_1 0 rfl rfl)
theorem dX5_day_25 : decode cX5_day 25 = .ok (.getfield 115, 3) := dk_180 0 115 (dk_at dksX5_day_1 1 rfl rfl)
theorem dX5_day_28 : decode cX5_day 28 = .ok (.iconst 1, 1) := dk_4 (dk_at dksX5_day_1 4 rfl rfl)
theorem dX5_day_29 : decode cX5_day 29 = .ok (.iaload, 1) := dk_46 (dk_at dksX5_day_1 5 rfl rfl)
theorem dX5_day_30 : decode cX5_day 30 = .ok (.ireturn, 1) := dk_172 (dk_at dksX5_day_1 6 rfl rfl)
abbrev cX5_mayPass : ByteArray := prog_30_method_76_code
def yX5_mayPass : MethodName := ⟨RX5, "mayPass", "(I)Z"⟩
def dkwX5_mayPass_1 : List UInt8 := [162, 0, 7, 4, 167, 0, 4, 3, 172]
abbrev dktX5_mayPass_1 : List UInt8 := dkwX5_mayPass_1 ++ []
def dkwX5_mayPass_0 : List UInt8 := [42, 180, 0, 115, 27, 3, 96, 46, 4, 160, 0, 20, 42, 180, 0, 115, 27, 4, 96, 46, 16, 7]
abbrev dktX5_mayPass_0 : List UInt8 := dkwX5_mayPass_0 ++ dktX5_mayPass_1
theorem dksX5_mayPass_0 : cX5_mayPass.data.toList.drop 0 = dktX5_mayPass_0 := by decide +kernel
theorem dksX5_mayPass_1 : cX5_mayPass.data.toList.drop 22 = dktX5_mayPass_1 := dk_seg dksX5_mayPass_0 22 rfl rfl
theorem dX5_mayPass_0 : decode cX5_mayPass 0 = .ok (.aload_n 0, 1) := dk_42 (dk_at dksX5_mayPass_0 0 rfl rfl)
theorem dX5_mayPass_1 : decode cX5_mayPass 1 = .ok (.getfield 115, 3) := dk_180 0 115 (dk_at dksX5_mayPass_0 1 rfl rfl)
theorem dX5_mayPass_4 : decode cX5_mayPass 4 = .ok (.iload_n 1, 1) := dk_27 (dk_at dksX5_mayPass_0 4 rfl rfl)
theorem dX5_mayPass_5 : decode cX5_mayPass 5 = .ok (.iconst 0, 1) := dk_3 (dk_at dksX5_mayPass_0 5 rfl rfl)
theorem dX5_mayPass_6 : decode cX5_mayPass 6 = .ok (.iadd, 1) := dk_96 (dk_at dksX5_mayPass_0 6 rfl rfl)
theorem dX5_mayPass_7 : decode cX5_mayPass 7 = .ok (.iaload, 1) := dk_46 (dk_at dksX5_mayPass_0 7 rfl rfl)
theorem dX5_mayPass_8 : decode cX5_mayPass 8 = .ok (.iconst 1, 1) := dk_4 (dk_at dksX5_mayPass_0 8 rfl rfl)
theorem dX5_mayPass_9 : decode cX5_mayPass 9 = .ok (.if_icmp .ne 20, 3) := dk_160 0 20 (dk_at dksX5_mayPass_0 9 rfl rfl)
theorem dX5_mayPass_12 : decode cX5_mayPass 12 = .ok (.aload_n 0, 1) := dk_42 (dk_at dksX5_mayPass_0 12 rfl rfl)
theorem dX5_mayPass_13 : decode cX5_mayPass 13 = .ok (.getfield 115, 3) := dk_180 0 115 (dk_at dksX5_mayPass_0 13 rfl rfl)
theorem dX5_mayPass_16 : decode cX5_mayPass 16 = .ok (.iload_n 1, 1) := dk_27 (dk_at dksX5_mayPass_0 16 rfl rfl)
theorem dX5_mayPass_17 : decode cX5_mayPass 17 = .ok (.iconst 1, 1) := dk_4 (dk_at dksX5_mayPass_0 17 rfl rfl)
theorem dX5_mayPass_18 : decode cX5_mayPass 18 = .ok (.iadd, 1) := dk_96 (dk_at dksX5_mayPass_0 18 rfl rfl)
theorem dX5_mayPass_19 : decode cX5_mayPass 19 = .ok (.iaload, 1) := dk_46 (dk_at dksX5_mayPass_0 19 rfl rfl)
theorem dX5_mayPass_20 : decode cX5_mayPass 20 = .ok (.bipush 7, 2) := dk_16 7 (dk_at dksX5_mayPass_0 20 rfl rfl)
theorem dX5_mayPass_22 : decode cX5_mayPass 22 = .ok (.if_icmp .ge 7, 3) := dk_162 0 7 (dk_at dksX5_mayPass_1 0 rfl rfl)
theorem dX5_mayPass_25 : decode cX5_mayPass 25 = .ok (.iconst 1, 1) := dk_4 (dk_at dksX5_mayPass_1 3 rfl rfl)
theorem dX5_mayPass_26 : decode cX5_mayPass 26 = .ok (.goto 4, 3) := dk_167 0 4 (dk_at dksX5_mayPass_1 4 rfl rfl)
theorem dX5_mayPass_29 : decode cX5_mayPass 29 = .ok (.iconst 0, 1) := dk_3 (dk_at dksX5_mayPass_1 7 rfl rfl)
theorem dX5_mayPass_30 : decode cX5_mayPass 30 = .ok (.ireturn, 1) := dk_172 (dk_at dksX5_mayPass_1 8 rfl rfl)
abbrev cX5_passes : ByteArray := prog_30_method_59_code
def yX5_passes : MethodName := ⟨RX5, "passes", "(I)V"⟩
def dkwX5_passes_1 : List UInt8 := [132, 2, 1, 167, 255, 233, 42, 180, 0, 115, 27, 4, 96, 92, 46, 4, 96, 79, 177]
abbrev dktX5_passes_1 : List UInt8 := dkwX5_passes_1 ++ []
def dkwX5_passes_0 : List UInt8 := [3, 61, 28, 42, 182, 1, 35, 162, 0, 21, 42, 27, 28, 182, 1, 84, 42, 27, 28, 182, 1, 87]
abbrev dktX5_passes_0 : List UInt8 := dkwX5_passes_0 ++ dktX5_passes_1
theorem dksX5_passes_0 : cX5_passes.data.toList.drop 0 = dktX5_passes_0 := by decide +kernel
theorem dksX5_passes_1 : cX5_passes.data.toList.drop 22 = dktX5_passes_1 := dk_seg dksX5_passes_0 22 rfl rfl
theorem dX5_passes_0 : decode cX5_passes 0 = .ok (.iconst 0, 1) := dk_3 (dk_at dksX5_passes_0 0 rfl rfl)
theorem dX5_passes_1 : decode cX5_passes 1 = .ok (.istore_n 2, 1) := dk_61 (dk_at dksX5_passes_0 1 rfl rfl)
theorem dX5_passes_2 : decode cX5_passes 2 = .ok (.iload_n 2, 1) := dk_28 (dk_at dksX5_passes_0 2 rfl rfl)
theorem dX5_passes_3 : decode cX5_passes 3 = .ok (.aload_n 0, 1) := dk_42 (dk_at dksX5_passes_0 3 rfl rfl)
theorem dX5_passes_4 : decode cX5_passes 4 = .ok (.invokevirtual 291, 3) := dk_182 1 35 (dk_at dksX5_passes_0 4 rfl rfl)
theorem dX5_passes_7 : decode cX5_passes 7 = .ok (.if_icmp .ge 21, 3) := dk_162 0 21 (dk_at dksX5_passes_0 7 rfl rfl)
theorem dX5_passes_10 : decode cX5_passes 10 = .ok (.aload_n 0, 1) := dk_42 (dk_at dksX5_passes_0 10 rfl rfl)
theorem dX5_passes_11 : decode cX5_passes 11 = .ok (.iload_n 1, 1) := dk_27 (dk_at dksX5_passes_0 11 rfl rfl)
theorem dX5_passes_12 : decode cX5_passes 12 = .ok (.iload_n 2, 1) := dk_28 (dk_at dksX5_passes_0 12 rfl rfl)
theorem dX5_passes_13 : decode cX5_passes 13 = .ok (.invokevirtual 340, 3) := dk_182 1 84 (dk_at dksX5_passes_0 13 rfl rfl)
theorem dX5_passes_16 : decode cX5_passes 16 = .ok (.aload_n 0, 1) := dk_42 (dk_at dksX5_passes_0 16 rfl rfl)
theorem dX5_passes_17 : decode cX5_passes 17 = .ok (.iload_n 1, 1) := dk_27 (dk_at dksX5_passes_0 17 rfl rfl)
theorem dX5_passes_18 : decode cX5_passes 18 = .ok (.iload_n 2, 1) := dk_28 (dk_at dksX5_passes_0 18 rfl rfl)
theorem dX5_passes_19 : decode cX5_passes 19 = .ok (.invokevirtual 343, 3) := dk_182 1 87 (dk_at dksX5_passes_0 19 rfl rfl)
theorem dX5_passes_22 : decode cX5_passes 22 = .ok (.iinc 2 1, 3) := dk_132 2 1 (dk_at dksX5_passes_1 0 rfl rfl)
theorem dX5_passes_25 : decode cX5_passes 25 = .ok (.goto (-23), 3) := dk_167 255 233 (dk_at dksX5_passes_1 3 rfl rfl)
theorem dX5_passes_28 : decode cX5_passes 28 = .ok (.aload_n 0, 1) := dk_42 (dk_at dksX5_passes_1 6 rfl rfl)
theorem dX5_passes_29 : decode cX5_passes 29 = .ok (.getfield 115, 3) := dk_180 0 115 (dk_at dksX5_passes_1 7 rfl rfl)
theorem dX5_passes_32 : decode cX5_passes 32 = .ok (.iload_n 1, 1) := dk_27 (dk_at dksX5_passes_1 10 rfl rfl)
theorem dX5_passes_33 : decode cX5_passes 33 = .ok (.iconst 1, 1) := dk_4 (dk_at dksX5_passes_1 11 rfl rfl)
theorem dX5_passes_34 : decode cX5_passes 34 = .ok (.iadd, 1) := dk_96 (dk_at dksX5_passes_1 12 rfl rfl)
theorem dX5_passes_35 : decode cX5_passes 35 = .ok (.dup2, 1) := dk_92 (dk_at dksX5_passes_1 13 rfl rfl)
theorem dX5_passes_36 : decode cX5_passes 36 = .ok (.iaload, 1) := dk_46 (dk_at dksX5_passes_1 14 rfl rfl)
theorem dX5_passes_37 : decode cX5_passes 37 = .ok (.iconst 1, 1) := dk_4 (dk_at dksX5_passes_1 15 rfl rfl)
theorem dX5_passes_38 : decode cX5_passes 38 = .ok (.iadd, 1) := dk_96 (dk_at dksX5_passes_1 16 rfl rfl)
theorem dX5_passes_39 : decode cX5_passes 39 = .ok (.iastore, 1) := dk_79 (dk_at dksX5_passes_1 17 rfl rfl)
theorem dX5_passes_40 : decode cX5_passes 40 = .ok (.return_, 1) := dk_177 (dk_at dksX5_passes_1 18 rfl rfl)
abbrev cX5_spendsAs : ByteArray := prog_30_method_57_code
def yX5_spendsAs : MethodName := ⟨RX5, "spendsAs", "(II)V"⟩
def dkwX5_spendsAs_10 : List UInt8 := [182, 1, 81, 54, 7, 21, 7, 155, 0, 15, 42, 27, 21, 7, 21, 5, 21, 6, 100, 182, 1, 78, 177]
abbrev dktX5_spendsAs_10 : List UInt8 := dkwX5_spendsAs_10 ++ []
def dkwX5_spendsAs_9 : List UInt8 := [46, 54, 6, 42, 180, 0, 115, 27, 16, 10, 96, 28, 96, 92, 46, 21, 6, 100, 79, 42, 27, 28]
abbrev dktX5_spendsAs_9 : List UInt8 := dkwX5_spendsAs_9 ++ dktX5_spendsAs_10
def dkwX5_spendsAs_8 : List UInt8 := [16, 10, 96, 28, 96, 46, 162, 0, 8, 21, 5, 167, 0, 14, 42, 180, 0, 115, 27, 16, 10, 96, 28, 96]
abbrev dktX5_spendsAs_8 : List UInt8 := dkwX5_spendsAs_8 ++ dktX5_spendsAs_9
def dkwX5_spendsAs_7 : List UInt8 := [21, 5, 182, 1, 78, 177, 21, 4, 6, 159, 0, 7, 3, 167, 0, 35, 21, 5, 42, 180, 0, 115, 27]
abbrev dktX5_spendsAs_7 : List UInt8 := dkwX5_spendsAs_7 ++ dktX5_spendsAs_8
def dkwX5_spendsAs_6 : List UInt8 := [180, 0, 115, 27, 7, 96, 28, 96, 92, 46, 21, 5, 100, 79, 21, 4, 5, 160, 0, 12, 42, 27, 29]
abbrev dktX5_spendsAs_6 : List UInt8 := dkwX5_spendsAs_6 ++ dktX5_spendsAs_7
def dkwX5_spendsAs_5 : List UInt8 := [21, 5, 54, 5, 21, 4, 4, 160, 0, 10, 21, 5, 5, 108, 167, 0, 5, 21, 5, 54, 5, 42]
abbrev dktX5_spendsAs_5 : List UInt8 := dkwX5_spendsAs_5 ++ dktX5_spendsAs_6
def dkwX5_spendsAs_4 : List UInt8 := [21, 5, 54, 5, 21, 5, 42, 180, 0, 109, 3, 46, 164, 0, 12, 42, 180, 0, 109, 3, 46, 167, 0, 5]
abbrev dktX5_spendsAs_4 : List UInt8 := dkwX5_spendsAs_4 ++ dktX5_spendsAs_5
def dkwX5_spendsAs_3 : List UInt8 := [156, 0, 7, 3, 167, 0, 21, 21, 5, 42, 180, 1, 41, 164, 0, 10, 42, 180, 1, 41, 167, 0, 5]
abbrev dktX5_spendsAs_3 : List UInt8 := dkwX5_spendsAs_3 ++ dktX5_spendsAs_4
def dkwX5_spendsAs_2 : List UInt8 := [180, 0, 109, 6, 46, 5, 104, 167, 0, 13, 42, 42, 180, 0, 91, 6, 46, 182, 1, 75, 54, 5, 21, 5]
abbrev dktX5_spendsAs_2 : List UInt8 := dkwX5_spendsAs_2 ++ dktX5_spendsAs_3
def dkwX5_spendsAs_1 : List UInt8 := [21, 4, 5, 160, 0, 7, 4, 167, 0, 4, 3, 182, 1, 71, 42, 180, 0, 91, 6, 46, 156, 0, 14, 42]
abbrev dktX5_spendsAs_1 : List UInt8 := dkwX5_spendsAs_1 ++ dktX5_spendsAs_2
def dkwX5_spendsAs_0 : List UInt8 := [42, 180, 0, 115, 27, 16, 28, 96, 28, 96, 46, 62, 42, 29, 3, 182, 1, 38, 54, 4, 42, 27, 28, 29]
abbrev dktX5_spendsAs_0 : List UInt8 := dkwX5_spendsAs_0 ++ dktX5_spendsAs_1
theorem dksX5_spendsAs_0 : cX5_spendsAs.data.toList.drop 0 = dktX5_spendsAs_0 := by decide +kernel
theorem dksX5_spendsAs_1 : cX5_spendsAs.data.toList.drop 24 = dktX5_spendsAs_1 := dk_seg dksX5_spendsAs_0 24 rfl rfl
theorem dksX5_spendsAs_2 : cX5_spendsAs.data.toList.drop 48 = dktX5_spendsAs_2 := dk_seg dksX5_spendsAs_1 24 rfl rfl
theorem dksX5_spendsAs_3 : cX5_spendsAs.data.toList.drop 72 = dktX5_spendsAs_3 := dk_seg dksX5_spendsAs_2 24 rfl rfl
theorem dksX5_spendsAs_4 : cX5_spendsAs.data.toList.drop 95 = dktX5_spendsAs_4 := dk_seg dksX5_spendsAs_3 23 rfl rfl
theorem dksX5_spendsAs_5 : cX5_spendsAs.data.toList.drop 119 = dktX5_spendsAs_5 := dk_seg dksX5_spendsAs_4 24 rfl rfl
theorem dksX5_spendsAs_6 : cX5_spendsAs.data.toList.drop 141 = dktX5_spendsAs_6 := dk_seg dksX5_spendsAs_5 22 rfl rfl
theorem dksX5_spendsAs_7 : cX5_spendsAs.data.toList.drop 164 = dktX5_spendsAs_7 := dk_seg dksX5_spendsAs_6 23 rfl rfl
theorem dksX5_spendsAs_8 : cX5_spendsAs.data.toList.drop 187 = dktX5_spendsAs_8 := dk_seg dksX5_spendsAs_7 23 rfl rfl
theorem dksX5_spendsAs_9 : cX5_spendsAs.data.toList.drop 211 = dktX5_spendsAs_9 := dk_seg dksX5_spendsAs_8 24 rfl rfl
theorem dksX5_spendsAs_10 : cX5_spendsAs.data.toList.drop 233 = dktX5_spendsAs_10 := dk_seg dksX5_spendsAs_9 22 rfl rfl
theorem dX5_spendsAs_0 : decode cX5_spendsAs 0 = .ok (.aload_n 0, 1) := dk_42 (dk_at dksX5_spendsAs_0 0 rfl rfl)
theorem dX5_spendsAs_1 : decode cX5_spendsAs 1 = .ok (.getfield 115, 3) := dk_180 0 115 (dk_at dksX5_spendsAs_0 1 rfl rfl)
theorem dX5_spendsAs_4 : decode cX5_spendsAs 4 = .ok (.iload_n 1, 1) := dk_27 (dk_at dksX5_spendsAs_0 4 rfl rfl)
theorem dX5_spendsAs_5 : decode cX5_spendsAs 5 = .ok (.bipush 28, 2) := dk_16 28 (dk_at dksX5_spendsAs_0 5 rfl rfl)
theorem dX5_spendsAs_7 : decode cX5_spendsAs 7 = .ok (.iadd, 1) := dk_96 (dk_at dksX5_spendsAs_0 7 rfl rfl)
theorem dX5_spendsAs_8 : decode cX5_spendsAs 8 = .ok (.iload_n 2, 1) := dk_28 (dk_at dksX5_spendsAs_0 8 rfl rfl)
theorem dX5_spendsAs_9 : decode cX5_spendsAs 9 = .ok (.iadd, 1) := dk_96 (dk_at dksX5_spendsAs_0 9 rfl rfl)
theorem dX5_spendsAs_10 : decode cX5_spendsAs 10 = .ok (.iaload, 1) := dk_46 (dk_at dksX5_spendsAs_0 10 rfl rfl)
theorem dX5_spendsAs_11 : decode cX5_spendsAs 11 = .ok (.istore_n 3, 1) := dk_62 (dk_at dksX5_spendsAs_0 11 rfl rfl)
theorem dX5_spendsAs_12 : decode cX5_spendsAs 12 = .ok (.aload_n 0, 1) := dk_42 (dk_at dksX5_spendsAs_0 12 rfl rfl)
theorem dX5_spendsAs_13 : decode cX5_spendsAs 13 = .ok (.iload_n 3, 1) := dk_29 (dk_at dksX5_spendsAs_0 13 rfl rfl)
theorem dX5_spendsAs_14 : decode cX5_spendsAs 14 = .ok (.iconst 0, 1) := dk_3 (dk_at dksX5_spendsAs_0 14 rfl rfl)
theorem dX5_spendsAs_15 : decode cX5_spendsAs 15 = .ok (.invokevirtual 294, 3) := dk_182 1 38 (dk_at dksX5_spendsAs_0 15 rfl rfl)
theorem dX5_spendsAs_18 : decode cX5_spendsAs 18 = .ok (.istore 4, 2) := dk_54 4 (dk_at dksX5_spendsAs_0 18 rfl rfl)
theorem dX5_spendsAs_20 : decode cX5_spendsAs 20 = .ok (.aload_n 0, 1) := dk_42 (dk_at dksX5_spendsAs_0 20 rfl rfl)
theorem dX5_spendsAs_21 : decode cX5_spendsAs 21 = .ok (.iload_n 1, 1) := dk_27 (dk_at dksX5_spendsAs_0 21 rfl rfl)
theorem dX5_spendsAs_22 : decode cX5_spendsAs 22 = .ok (.iload_n 2, 1) := dk_28 (dk_at dksX5_spendsAs_0 22 rfl rfl)
theorem dX5_spendsAs_23 : decode cX5_spendsAs 23 = .ok (.iload_n 3, 1) := dk_29 (dk_at dksX5_spendsAs_0 23 rfl rfl)
theorem dX5_spendsAs_24 : decode cX5_spendsAs 24 = .ok (.iload 4, 2) := dk_21 4 (dk_at dksX5_spendsAs_1 0 rfl rfl)
theorem dX5_spendsAs_26 : decode cX5_spendsAs 26 = .ok (.iconst 2, 1) := dk_5 (dk_at dksX5_spendsAs_1 2 rfl rfl)
theorem dX5_spendsAs_27 : decode cX5_spendsAs 27 = .ok (.if_icmp .ne 7, 3) := dk_160 0 7 (dk_at dksX5_spendsAs_1 3 rfl rfl)
theorem dX5_spendsAs_30 : decode cX5_spendsAs 30 = .ok (.iconst 1, 1) := dk_4 (dk_at dksX5_spendsAs_1 6 rfl rfl)
theorem dX5_spendsAs_31 : decode cX5_spendsAs 31 = .ok (.goto 4, 3) := dk_167 0 4 (dk_at dksX5_spendsAs_1 7 rfl rfl)
theorem dX5_spendsAs_34 : decode cX5_spendsAs 34 = .ok (.iconst 0, 1) := dk_3 (dk_at dksX5_spendsAs_1 10 rfl rfl)
theorem dX5_spendsAs_35 : decode cX5_spendsAs 35 = .ok (.invokevirtual 327, 3) := dk_182 1 71 (dk_at dksX5_spendsAs_1 11 rfl rfl)
theorem dX5_spendsAs_38 : decode cX5_spendsAs 38 = .ok (.aload_n 0, 1) := dk_42 (dk_at dksX5_spendsAs_1 14 rfl rfl)
theorem dX5_spendsAs_39 : decode cX5_spendsAs 39 = .ok (.getfield 91, 3) := dk_180 0 91 (dk_at dksX5_spendsAs_1 15 rfl rfl)
theorem dX5_spendsAs_42 : decode cX5_spendsAs 42 = .ok (.iconst 3, 1) := dk_6 (dk_at dksX5_spendsAs_1 18 rfl rfl)
theorem dX5_spendsAs_43 : decode cX5_spendsAs 43 = .ok (.iaload, 1) := dk_46 (dk_at dksX5_spendsAs_1 19 rfl rfl)
theorem dX5_spendsAs_44 : decode cX5_spendsAs 44 = .ok (.ifCond .ge 14, 3) := dk_156 0 14 (dk_at dksX5_spendsAs_1 20 rfl rfl)
theorem dX5_spendsAs_47 : decode cX5_spendsAs 47 = .ok (.aload_n 0, 1) := dk_42 (dk_at dksX5_spendsAs_1 23 rfl rfl)
theorem dX5_spendsAs_48 : decode cX5_spendsAs 48 = .ok (.getfield 109, 3) := dk_180 0 109 (dk_at dksX5_spendsAs_2 0 rfl rfl)
theorem dX5_spendsAs_51 : decode cX5_spendsAs 51 = .ok (.iconst 3, 1) := dk_6 (dk_at dksX5_spendsAs_2 3 rfl rfl)
theorem dX5_spendsAs_52 : decode cX5_spendsAs 52 = .ok (.iaload, 1) := dk_46 (dk_at dksX5_spendsAs_2 4 rfl rfl)
theorem dX5_spendsAs_53 : decode cX5_spendsAs 53 = .ok (.iconst 2, 1) := dk_5 (dk_at dksX5_spendsAs_2 5 rfl rfl)
theorem dX5_spendsAs_54 : decode cX5_spendsAs 54 = .ok (.imul, 1) := dk_104 (dk_at dksX5_spendsAs_2 6 rfl rfl)
theorem dX5_spendsAs_55 : decode cX5_spendsAs 55 = .ok (.goto 13, 3) := dk_167 0 13 (dk_at dksX5_spendsAs_2 7 rfl rfl)
theorem dX5_spendsAs_58 : decode cX5_spendsAs 58 = .ok (.aload_n 0, 1) := dk_42 (dk_at dksX5_spendsAs_2 10 rfl rfl)
theorem dX5_spendsAs_59 : decode cX5_spendsAs 59 = .ok (.aload_n 0, 1) := dk_42 (dk_at dksX5_spendsAs_2 11 rfl rfl)
theorem dX5_spendsAs_60 : decode cX5_spendsAs 60 = .ok (.getfield 91, 3) := dk_180 0 91 (dk_at dksX5_spendsAs_2 12 rfl rfl)
theorem dX5_spendsAs_63 : decode cX5_spendsAs 63 = .ok (.iconst 3, 1) := dk_6 (dk_at dksX5_spendsAs_2 15 rfl rfl)
theorem dX5_spendsAs_64 : decode cX5_spendsAs 64 = .ok (.iaload, 1) := dk_46 (dk_at dksX5_spendsAs_2 16 rfl rfl)
theorem dX5_spendsAs_65 : decode cX5_spendsAs 65 = .ok (.invokevirtual 331, 3) := dk_182 1 75 (dk_at dksX5_spendsAs_2 17 rfl rfl)
theorem dX5_spendsAs_68 : decode cX5_spendsAs 68 = .ok (.istore 5, 2) := dk_54 5 (dk_at dksX5_spendsAs_2 20 rfl rfl)
theorem dX5_spendsAs_70 : decode cX5_spendsAs 70 = .ok (.iload 5, 2) := dk_21 5 (dk_at dksX5_spendsAs_2 22 rfl rfl)
theorem dX5_spendsAs_72 : decode cX5_spendsAs 72 = .ok (.ifCond .ge 7, 3) := dk_156 0 7 (dk_at dksX5_spendsAs_3 0 rfl rfl)
theorem dX5_spendsAs_75 : decode cX5_spendsAs 75 = .ok (.iconst 0, 1) := dk_3 (dk_at dksX5_spendsAs_3 3 rfl rfl)
theorem dX5_spendsAs_76 : decode cX5_spendsAs 76 = .ok (.goto 21, 3) := dk_167 0 21 (dk_at dksX5_spendsAs_3 4 rfl rfl)
theorem dX5_spendsAs_79 : decode cX5_spendsAs 79 = .ok (.iload 5, 2) := dk_21 5 (dk_at dksX5_spendsAs_3 7 rfl rfl)
theorem dX5_spendsAs_81 : decode cX5_spendsAs 81 = .ok (.aload_n 0, 1) := dk_42 (dk_at dksX5_spendsAs_3 9 rfl rfl)
theorem dX5_spendsAs_82 : decode cX5_spendsAs 82 = .ok (.getfield 297, 3) := dk_180 1 41 (dk_at dksX5_spendsAs_3 10 rfl rfl)
theorem dX5_spendsAs_85 : decode cX5_spendsAs 85 = .ok (.if_icmp .le 10, 3) := dk_164 0 10 (dk_at dksX5_spendsAs_3 13 rfl rfl)
theorem dX5_spendsAs_88 : decode cX5_spendsAs 88 = .ok (.aload_n 0, 1) := dk_42 (dk_at dksX5_spendsAs_3 16 rfl rfl)
theorem dX5_spendsAs_89 : decode cX5_spendsAs 89 = .ok (.getfield 297, 3) := dk_180 1 41 (dk_at dksX5_spendsAs_3 17 rfl rfl)
theorem dX5_spendsAs_92 : decode cX5_spendsAs 92 = .ok (.goto 5, 3) := dk_167 0 5 (dk_at dksX5_spendsAs_3 20 rfl rfl)
theorem dX5_spendsAs_95 : decode cX5_spendsAs 95 = .ok (.iload 5, 2) := dk_21 5 (dk_at dksX5_spendsAs_4 0 rfl rfl)
theorem dX5_spendsAs_97 : decode cX5_spendsAs 97 = .ok (.istore 5, 2) := dk_54 5 (dk_at dksX5_spendsAs_4 2 rfl rfl)
theorem dX5_spendsAs_99 : decode cX5_spendsAs 99 = .ok (.iload 5, 2) := dk_21 5 (dk_at dksX5_spendsAs_4 4 rfl rfl)
theorem dX5_spendsAs_101 : decode cX5_spendsAs 101 = .ok (.aload_n 0, 1) := dk_42 (dk_at dksX5_spendsAs_4 6 rfl rfl)
theorem dX5_spendsAs_102 : decode cX5_spendsAs 102 = .ok (.getfield 109, 3) := dk_180 0 109 (dk_at dksX5_spendsAs_4 7 rfl rfl)
theorem dX5_spendsAs_105 : decode cX5_spendsAs 105 = .ok (.iconst 0, 1) := dk_3 (dk_at dksX5_spendsAs_4 10 rfl rfl)
theorem dX5_spendsAs_106 : decode cX5_spendsAs 106 = .ok (.iaload, 1) := dk_46 (dk_at dksX5_spendsAs_4 11 rfl rfl)
theorem dX5_spendsAs_107 : decode cX5_spendsAs 107 = .ok (.if_icmp .le 12, 3) := dk_164 0 12 (dk_at dksX5_spendsAs_4 12 rfl rfl)
theorem dX5_spendsAs_110 : decode cX5_spendsAs 110 = .ok (.aload_n 0, 1) := dk_42 (dk_at dksX5_spendsAs_4 15 rfl rfl)
theorem dX5_spendsAs_111 : decode cX5_spendsAs 111 = .ok (.getfield 109, 3) := dk_180 0 109 (dk_at dksX5_spendsAs_4 16 rfl rfl)
theorem dX5_spendsAs_114 : decode cX5_spendsAs 114 = .ok (.iconst 0, 1) := dk_3 (dk_at dksX5_spendsAs_4 19 rfl rfl)
theorem dX5_spendsAs_115 : decode cX5_spendsAs 115 = .ok (.iaload, 1) := dk_46 (dk_at dksX5_spendsAs_4 20 rfl rfl)
theorem dX5_spendsAs_116 : decode cX5_spendsAs 116 = .ok (.goto 5, 3) := dk_167 0 5 (dk_at dksX5_spendsAs_4 21 rfl rfl)
theorem dX5_spendsAs_119 : decode cX5_spendsAs 119 = .ok (.iload 5, 2) := dk_21 5 (dk_at dksX5_spendsAs_5 0 rfl rfl)
theorem dX5_spendsAs_121 : decode cX5_spendsAs 121 = .ok (.istore 5, 2) := dk_54 5 (dk_at dksX5_spendsAs_5 2 rfl rfl)
theorem dX5_spendsAs_123 : decode cX5_spendsAs 123 = .ok (.iload 4, 2) := dk_21 4 (dk_at dksX5_spendsAs_5 4 rfl rfl)
theorem dX5_spendsAs_125 : decode cX5_spendsAs 125 = .ok (.iconst 1, 1) := dk_4 (dk_at dksX5_spendsAs_5 6 rfl rfl)
theorem dX5_spendsAs_126 : decode cX5_spendsAs 126 = .ok (.if_icmp .ne 10, 3) := dk_160 0 10 (dk_at dksX5_spendsAs_5 7 rfl rfl)
theorem dX5_spendsAs_129 : decode cX5_spendsAs 129 = .ok (.iload 5, 2) := dk_21 5 (dk_at dksX5_spendsAs_5 10 rfl rfl)
theorem dX5_spendsAs_131 : decode cX5_spendsAs 131 = .ok (.iconst 2, 1) := dk_5 (dk_at dksX5_spendsAs_5 12 rfl rfl)
theorem dX5_spendsAs_132 : decode cX5_spendsAs 132 = .ok (.idiv, 1) := dk_108 (dk_at dksX5_spendsAs_5 13 rfl rfl)
theorem dX5_spendsAs_133 : decode cX5_spendsAs 133 = .ok (.goto 5, 3) := dk_167 0 5 (dk_at dksX5_spendsAs_5 14 rfl rfl)
theorem dX5_spendsAs_136 : decode cX5_spendsAs 136 = .ok (.iload 5, 2) := dk_21 5 (dk_at dksX5_spendsAs_5 17 rfl rfl)
theorem dX5_spendsAs_138 : decode cX5_spendsAs 138 = .ok (.istore 5, 2) := dk_54 5 (dk_at dksX5_spendsAs_5 19 rfl rfl)
theorem dX5_spendsAs_140 : decode cX5_spendsAs 140 = .ok (.aload_n 0, 1) := dk_42 (dk_at dksX5_spendsAs_5 21 rfl rfl)
theorem dX5_spendsAs_141 : decode cX5_spendsAs 141 = .ok (.getfield 115, 3) := dk_180 0 115 (dk_at dksX5_spendsAs_6 0 rfl rfl)
theorem dX5_spendsAs_144 : decode cX5_spendsAs 144 = .ok (.iload_n 1, 1) := dk_27 (dk_at dksX5_spendsAs_6 3 rfl rfl)
theorem dX5_spendsAs_145 : decode cX5_spendsAs 145 = .ok (.iconst 4, 1) := dk_7 (dk_at dksX5_spendsAs_6 4 rfl rfl)
theorem dX5_spendsAs_146 : decode cX5_spendsAs 146 = .ok (.iadd, 1) := dk_96 (dk_at dksX5_spendsAs_6 5 rfl rfl)
theorem dX5_spendsAs_147 : decode cX5_spendsAs 147 = .ok (.iload_n 2, 1) := dk_28 (dk_at dksX5_spendsAs_6 6 rfl rfl)
theorem dX5_spendsAs_148 : decode cX5_spendsAs 148 = .ok (.iadd, 1) := dk_96 (dk_at dksX5_spendsAs_6 7 rfl rfl)
theorem dX5_spendsAs_149 : decode cX5_spendsAs 149 = .ok (.dup2, 1) := dk_92 (dk_at dksX5_spendsAs_6 8 rfl rfl)
theorem dX5_spendsAs_150 : decode cX5_spendsAs 150 = .ok (.iaload, 1) := dk_46 (dk_at dksX5_spendsAs_6 9 rfl rfl)
theorem dX5_spendsAs_151 : decode cX5_spendsAs 151 = .ok (.iload 5, 2) := dk_21 5 (dk_at dksX5_spendsAs_6 10 rfl rfl)
theorem dX5_spendsAs_153 : decode cX5_spendsAs 153 = .ok (.isub, 1) := dk_100 (dk_at dksX5_spendsAs_6 12 rfl rfl)
theorem dX5_spendsAs_154 : decode cX5_spendsAs 154 = .ok (.iastore, 1) := dk_79 (dk_at dksX5_spendsAs_6 13 rfl rfl)
theorem dX5_spendsAs_155 : decode cX5_spendsAs 155 = .ok (.iload 4, 2) := dk_21 4 (dk_at dksX5_spendsAs_6 14 rfl rfl)
theorem dX5_spendsAs_157 : decode cX5_spendsAs 157 = .ok (.iconst 2, 1) := dk_5 (dk_at dksX5_spendsAs_6 16 rfl rfl)
theorem dX5_spendsAs_158 : decode cX5_spendsAs 158 = .ok (.if_icmp .ne 12, 3) := dk_160 0 12 (dk_at dksX5_spendsAs_6 17 rfl rfl)
theorem dX5_spendsAs_161 : decode cX5_spendsAs 161 = .ok (.aload_n 0, 1) := dk_42 (dk_at dksX5_spendsAs_6 20 rfl rfl)
theorem dX5_spendsAs_162 : decode cX5_spendsAs 162 = .ok (.iload_n 1, 1) := dk_27 (dk_at dksX5_spendsAs_6 21 rfl rfl)
theorem dX5_spendsAs_163 : decode cX5_spendsAs 163 = .ok (.iload_n 3, 1) := dk_29 (dk_at dksX5_spendsAs_6 22 rfl rfl)
theorem dX5_spendsAs_164 : decode cX5_spendsAs 164 = .ok (.iload 5, 2) := dk_21 5 (dk_at dksX5_spendsAs_7 0 rfl rfl)
theorem dX5_spendsAs_166 : decode cX5_spendsAs 166 = .ok (.invokevirtual 334, 3) := dk_182 1 78 (dk_at dksX5_spendsAs_7 2 rfl rfl)
theorem dX5_spendsAs_169 : decode cX5_spendsAs 169 = .ok (.return_, 1) := dk_177 (dk_at dksX5_spendsAs_7 5 rfl rfl)
theorem dX5_spendsAs_170 : decode cX5_spendsAs 170 = .ok (.iload 4, 2) := dk_21 4 (dk_at dksX5_spendsAs_7 6 rfl rfl)
theorem dX5_spendsAs_172 : decode cX5_spendsAs 172 = .ok (.iconst 3, 1) := dk_6 (dk_at dksX5_spendsAs_7 8 rfl rfl)
theorem dX5_spendsAs_173 : decode cX5_spendsAs 173 = .ok (.if_icmp .eq 7, 3) := dk_159 0 7 (dk_at dksX5_spendsAs_7 9 rfl rfl)
theorem dX5_spendsAs_176 : decode cX5_spendsAs 176 = .ok (.iconst 0, 1) := dk_3 (dk_at dksX5_spendsAs_7 12 rfl rfl)
theorem dX5_spendsAs_177 : decode cX5_spendsAs 177 = .ok (.goto 35, 3) := dk_167 0 35 (dk_at dksX5_spendsAs_7 13 rfl rfl)
theorem dX5_spendsAs_180 : decode cX5_spendsAs 180 = .ok (.iload 5, 2) := dk_21 5 (dk_at dksX5_spendsAs_7 16 rfl rfl)
theorem dX5_spendsAs_182 : decode cX5_spendsAs 182 = .ok (.aload_n 0, 1) := dk_42 (dk_at dksX5_spendsAs_7 18 rfl rfl)
theorem dX5_spendsAs_183 : decode cX5_spendsAs 183 = .ok (.getfield 115, 3) := dk_180 0 115 (dk_at dksX5_spendsAs_7 19 rfl rfl)
theorem dX5_spendsAs_186 : decode cX5_spendsAs 186 = .ok (.iload_n 1, 1) := dk_27 (dk_at dksX5_spendsAs_7 22 rfl rfl)
theorem dX5_spendsAs_187 : decode cX5_spendsAs 187 = .ok (.bipush 10, 2) := dk_16 10 (dk_at dksX5_spendsAs_8 0 rfl rfl)
theorem dX5_spendsAs_189 : decode cX5_spendsAs 189 = .ok (.iadd, 1) := dk_96 (dk_at dksX5_spendsAs_8 2 rfl rfl)
theorem dX5_spendsAs_190 : decode cX5_spendsAs 190 = .ok (.iload_n 2, 1) := dk_28 (dk_at dksX5_spendsAs_8 3 rfl rfl)
theorem dX5_spendsAs_191 : decode cX5_spendsAs 191 = .ok (.iadd, 1) := dk_96 (dk_at dksX5_spendsAs_8 4 rfl rfl)
theorem dX5_spendsAs_192 : decode cX5_spendsAs 192 = .ok (.iaload, 1) := dk_46 (dk_at dksX5_spendsAs_8 5 rfl rfl)
theorem dX5_spendsAs_193 : decode cX5_spendsAs 193 = .ok (.if_icmp .ge 8, 3) := dk_162 0 8 (dk_at dksX5_spendsAs_8 6 rfl rfl)
theorem dX5_spendsAs_196 : decode cX5_spendsAs 196 = .ok (.iload 5, 2) := dk_21 5 (dk_at dksX5_spendsAs_8 9 rfl rfl)
theorem dX5_spendsAs_198 : decode cX5_spendsAs 198 = .ok (.goto 14, 3) := dk_167 0 14 (dk_at dksX5_spendsAs_8 11 rfl rfl)
theorem dX5_spendsAs_201 : decode cX5_spendsAs 201 = .ok (.aload_n 0, 1) := dk_42 (dk_at dksX5_spendsAs_8 14 rfl rfl)
theorem dX5_spendsAs_202 : decode cX5_spendsAs 202 = .ok (.getfield 115, 3) := dk_180 0 115 (dk_at dksX5_spendsAs_8 15 rfl rfl)
theorem dX5_spendsAs_205 : decode cX5_spendsAs 205 = .ok (.iload_n 1, 1) := dk_27 (dk_at dksX5_spendsAs_8 18 rfl rfl)
theorem dX5_spendsAs_206 : decode cX5_spendsAs 206 = .ok (.bipush 10, 2) := dk_16 10 (dk_at dksX5_spendsAs_8 19 rfl rfl)
theorem dX5_spendsAs_208 : decode cX5_spendsAs 208 = .ok (.iadd, 1) := dk_96 (dk_at dksX5_spendsAs_8 21 rfl rfl)
theorem dX5_spendsAs_209 : decode cX5_spendsAs 209 = .ok (.iload_n 2, 1) := dk_28 (dk_at dksX5_spendsAs_8 22 rfl rfl)
theorem dX5_spendsAs_210 : decode cX5_spendsAs 210 = .ok (.iadd, 1) := dk_96 (dk_at dksX5_spendsAs_8 23 rfl rfl)
theorem dX5_spendsAs_211 : decode cX5_spendsAs 211 = .ok (.iaload, 1) := dk_46 (dk_at dksX5_spendsAs_9 0 rfl rfl)
theorem dX5_spendsAs_212 : decode cX5_spendsAs 212 = .ok (.istore 6, 2) := dk_54 6 (dk_at dksX5_spendsAs_9 1 rfl rfl)
theorem dX5_spendsAs_214 : decode cX5_spendsAs 214 = .ok (.aload_n 0, 1) := dk_42 (dk_at dksX5_spendsAs_9 3 rfl rfl)
theorem dX5_spendsAs_215 : decode cX5_spendsAs 215 = .ok (.getfield 115, 3) := dk_180 0 115 (dk_at dksX5_spendsAs_9 4 rfl rfl)
theorem dX5_spendsAs_218 : decode cX5_spendsAs 218 = .ok (.iload_n 1, 1) := dk_27 (dk_at dksX5_spendsAs_9 7 rfl rfl)
theorem dX5_spendsAs_219 : decode cX5_spendsAs 219 = .ok (.bipush 10, 2) := dk_16 10 (dk_at dksX5_spendsAs_9 8 rfl rfl)
theorem dX5_spendsAs_221 : decode cX5_spendsAs 221 = .ok (.iadd, 1) := dk_96 (dk_at dksX5_spendsAs_9 10 rfl rfl)
theorem dX5_spendsAs_222 : decode cX5_spendsAs 222 = .ok (.iload_n 2, 1) := dk_28 (dk_at dksX5_spendsAs_9 11 rfl rfl)
theorem dX5_spendsAs_223 : decode cX5_spendsAs 223 = .ok (.iadd, 1) := dk_96 (dk_at dksX5_spendsAs_9 12 rfl rfl)
theorem dX5_spendsAs_224 : decode cX5_spendsAs 224 = .ok (.dup2, 1) := dk_92 (dk_at dksX5_spendsAs_9 13 rfl rfl)
theorem dX5_spendsAs_225 : decode cX5_spendsAs 225 = .ok (.iaload, 1) := dk_46 (dk_at dksX5_spendsAs_9 14 rfl rfl)
theorem dX5_spendsAs_226 : decode cX5_spendsAs 226 = .ok (.iload 6, 2) := dk_21 6 (dk_at dksX5_spendsAs_9 15 rfl rfl)
theorem dX5_spendsAs_228 : decode cX5_spendsAs 228 = .ok (.isub, 1) := dk_100 (dk_at dksX5_spendsAs_9 17 rfl rfl)
theorem dX5_spendsAs_229 : decode cX5_spendsAs 229 = .ok (.iastore, 1) := dk_79 (dk_at dksX5_spendsAs_9 18 rfl rfl)
theorem dX5_spendsAs_230 : decode cX5_spendsAs 230 = .ok (.aload_n 0, 1) := dk_42 (dk_at dksX5_spendsAs_9 19 rfl rfl)
theorem dX5_spendsAs_231 : decode cX5_spendsAs 231 = .ok (.iload_n 1, 1) := dk_27 (dk_at dksX5_spendsAs_9 20 rfl rfl)
theorem dX5_spendsAs_232 : decode cX5_spendsAs 232 = .ok (.iload_n 2, 1) := dk_28 (dk_at dksX5_spendsAs_9 21 rfl rfl)
theorem dX5_spendsAs_233 : decode cX5_spendsAs 233 = .ok (.invokevirtual 337, 3) := dk_182 1 81 (dk_at dksX5_spendsAs_10 0 rfl rfl)
theorem dX5_spendsAs_236 : decode cX5_spendsAs 236 = .ok (.istore 7, 2) := dk_54 7 (dk_at dksX5_spendsAs_10 3 rfl rfl)
theorem dX5_spendsAs_238 : decode cX5_spendsAs 238 = .ok (.iload 7, 2) := dk_21 7 (dk_at dksX5_spendsAs_10 5 rfl rfl)
theorem dX5_spendsAs_240 : decode cX5_spendsAs 240 = .ok (.ifCond .lt 15, 3) := dk_155 0 15 (dk_at dksX5_spendsAs_10 7 rfl rfl)
theorem dX5_spendsAs_243 : decode cX5_spendsAs 243 = .ok (.aload_n 0, 1) := dk_42 (dk_at dksX5_spendsAs_10 10 rfl rfl)
theorem dX5_spendsAs_244 : decode cX5_spendsAs 244 = .ok (.iload_n 1, 1) := dk_27 (dk_at dksX5_spendsAs_10 11 rfl rfl)
theorem dX5_spendsAs_245 : decode cX5_spendsAs 245 = .ok (.iload 7, 2) := dk_21 7 (dk_at dksX5_spendsAs_10 12 rfl rfl)
theorem dX5_spendsAs_247 : decode cX5_spendsAs 247 = .ok (.iload 5, 2) := dk_21 5 (dk_at dksX5_spendsAs_10 14 rfl rfl)
theorem dX5_spendsAs_249 : decode cX5_spendsAs 249 = .ok (.iload 6, 2) := dk_21 6 (dk_at dksX5_spendsAs_10 16 rfl rfl)
theorem dX5_spendsAs_251 : decode cX5_spendsAs 251 = .ok (.isub, 1) := dk_100 (dk_at dksX5_spendsAs_10 18 rfl rfl)
theorem dX5_spendsAs_252 : decode cX5_spendsAs 252 = .ok (.invokevirtual 334, 3) := dk_182 1 78 (dk_at dksX5_spendsAs_10 19 rfl rfl)
theorem dX5_spendsAs_255 : decode cX5_spendsAs 255 = .ok (.return_, 1) := dk_177 (dk_at dksX5_spendsAs_10 22 rfl rfl)
abbrev cX5_laysFacts : ByteArray := prog_30_method_54_code
def yX5_laysFacts : MethodName := ⟨RX5, "laysFacts", "(IIIZ)V"⟩
def dkwX5_laysFacts_3 : List UInt8 := [177]
abbrev dktX5_laysFacts_3 : List UInt8 := dkwX5_laysFacts_3 ++ []
def dkwX5_laysFacts_2 : List UInt8 := [42, 180, 0, 109, 6, 42, 29, 4, 182, 1, 38, 79, 42, 180, 0, 109, 7, 42, 29, 3, 182, 1, 38, 79]
abbrev dktX5_laysFacts_2 : List UInt8 := dkwX5_laysFacts_2 ++ dktX5_laysFacts_3
def dkwX5_laysFacts_1 : List UInt8 := [16, 10, 96, 28, 96, 46, 79, 42, 180, 0, 109, 5, 42, 180, 0, 115, 27, 16, 16, 96, 28, 96, 46, 79]
abbrev dktX5_laysFacts_1 : List UInt8 := dkwX5_laysFacts_1 ++ dktX5_laysFacts_2
def dkwX5_laysFacts_0 : List UInt8 := [42, 180, 0, 109, 3, 42, 27, 28, 21, 4, 182, 1, 67, 79, 42, 180, 0, 109, 4, 42, 180, 0, 115, 27]
abbrev dktX5_laysFacts_0 : List UInt8 := dkwX5_laysFacts_0 ++ dktX5_laysFacts_1
theorem dksX5_laysFacts_0 : cX5_laysFacts.data.toList.drop 0 = dktX5_laysFacts_0 := by decide +kernel
theorem dksX5_laysFacts_1 : cX5_laysFacts.data.toList.drop 24 = dktX5_laysFacts_1 := dk_seg dksX5_laysFacts_0 24 rfl rfl
theorem dksX5_laysFacts_2 : cX5_laysFacts.data.toList.drop 48 = dktX5_laysFacts_2 := dk_seg dksX5_laysFacts_1 24 rfl rfl
theorem dksX5_laysFacts_3 : cX5_laysFacts.data.toList.drop 72 = dktX5_laysFacts_3 := dk_seg dksX5_laysFacts_2 24 rfl rfl
theorem dX5_laysFacts_0 : decode cX5_laysFacts 0 = .ok (.aload_n 0, 1) := dk_42 (dk_at dksX5_laysFacts_0 0 rfl rfl)
theorem dX5_laysFacts_1 : decode cX5_laysFacts 1 = .ok (.getfield 109, 3) := dk_180 0 109 (dk_at dksX5_laysFacts_0 1 rfl rfl)
theorem dX5_laysFacts_4 : decode cX5_laysFacts 4 = .ok (.iconst 0, 1) := dk_3 (dk_at dksX5_laysFacts_0 4 rfl rfl)
theorem dX5_laysFacts_5 : decode cX5_laysFacts 5 = .ok (.aload_n 0, 1) := dk_42 (dk_at dksX5_laysFacts_0 5 rfl rfl)
theorem dX5_laysFacts_6 : decode cX5_laysFacts 6 = .ok (.iload_n 1, 1) := dk_27 (dk_at dksX5_laysFacts_0 6 rfl rfl)
theorem dX5_laysFacts_7 : decode cX5_laysFacts 7 = .ok (.iload_n 2, 1) := dk_28 (dk_at dksX5_laysFacts_0 7 rfl rfl)
theorem dX5_laysFacts_8 : decode cX5_laysFacts 8 = .ok (.iload 4, 2) := dk_21 4 (dk_at dksX5_laysFacts_0 8 rfl rfl)
theorem dX5_laysFacts_10 : decode cX5_laysFacts 10 = .ok (.invokevirtual 323, 3) := dk_182 1 67 (dk_at dksX5_laysFacts_0 10 rfl rfl)
theorem dX5_laysFacts_13 : decode cX5_laysFacts 13 = .ok (.iastore, 1) := dk_79 (dk_at dksX5_laysFacts_0 13 rfl rfl)
theorem dX5_laysFacts_14 : decode cX5_laysFacts 14 = .ok (.aload_n 0, 1) := dk_42 (dk_at dksX5_laysFacts_0 14 rfl rfl)
theorem dX5_laysFacts_15 : decode cX5_laysFacts 15 = .ok (.getfield 109, 3) := dk_180 0 109 (dk_at dksX5_laysFacts_0 15 rfl rfl)
theorem dX5_laysFacts_18 : decode cX5_laysFacts 18 = .ok (.iconst 1, 1) := dk_4 (dk_at dksX5_laysFacts_0 18 rfl rfl)
theorem dX5_laysFacts_19 : decode cX5_laysFacts 19 = .ok (.aload_n 0, 1) := dk_42 (dk_at dksX5_laysFacts_0 19 rfl rfl)
theorem dX5_laysFacts_20 : decode cX5_laysFacts 20 = .ok (.getfield 115, 3) := dk_180 0 115 (dk_at dksX5_laysFacts_0 20 rfl rfl)
theorem dX5_laysFacts_23 : decode cX5_laysFacts 23 = .ok (.iload_n 1, 1) := dk_27 (dk_at dksX5_laysFacts_0 23 rfl rfl)
theorem dX5_laysFacts_24 : decode cX5_laysFacts 24 = .ok (.bipush 10, 2) := dk_16 10 (dk_at dksX5_laysFacts_1 0 rfl rfl)
theorem dX5_laysFacts_26 : decode cX5_laysFacts 26 = .ok (.iadd, 1) := dk_96 (dk_at dksX5_laysFacts_1 2 rfl rfl)
theorem dX5_laysFacts_27 : decode cX5_laysFacts 27 = .ok (.iload_n 2, 1) := dk_28 (dk_at dksX5_laysFacts_1 3 rfl rfl)
theorem dX5_laysFacts_28 : decode cX5_laysFacts 28 = .ok (.iadd, 1) := dk_96 (dk_at dksX5_laysFacts_1 4 rfl rfl)
theorem dX5_laysFacts_29 : decode cX5_laysFacts 29 = .ok (.iaload, 1) := dk_46 (dk_at dksX5_laysFacts_1 5 rfl rfl)
theorem dX5_laysFacts_30 : decode cX5_laysFacts 30 = .ok (.iastore, 1) := dk_79 (dk_at dksX5_laysFacts_1 6 rfl rfl)
theorem dX5_laysFacts_31 : decode cX5_laysFacts 31 = .ok (.aload_n 0, 1) := dk_42 (dk_at dksX5_laysFacts_1 7 rfl rfl)
theorem dX5_laysFacts_32 : decode cX5_laysFacts 32 = .ok (.getfield 109, 3) := dk_180 0 109 (dk_at dksX5_laysFacts_1 8 rfl rfl)
theorem dX5_laysFacts_35 : decode cX5_laysFacts 35 = .ok (.iconst 2, 1) := dk_5 (dk_at dksX5_laysFacts_1 11 rfl rfl)
theorem dX5_laysFacts_36 : decode cX5_laysFacts 36 = .ok (.aload_n 0, 1) := dk_42 (dk_at dksX5_laysFacts_1 12 rfl rfl)
theorem dX5_laysFacts_37 : decode cX5_laysFacts 37 = .ok (.getfield 115, 3) := dk_180 0 115 (dk_at dksX5_laysFacts_1 13 rfl rfl)
theorem dX5_laysFacts_40 : decode cX5_laysFacts 40 = .ok (.iload_n 1, 1) := dk_27 (dk_at dksX5_laysFacts_1 16 rfl rfl)
theorem dX5_laysFacts_41 : decode cX5_laysFacts 41 = .ok (.bipush 16, 2) := dk_16 16 (dk_at dksX5_laysFacts_1 17 rfl rfl)
theorem dX5_laysFacts_43 : decode cX5_laysFacts 43 = .ok (.iadd, 1) := dk_96 (dk_at dksX5_laysFacts_1 19 rfl rfl)
theorem dX5_laysFacts_44 : decode cX5_laysFacts 44 = .ok (.iload_n 2, 1) := dk_28 (dk_at dksX5_laysFacts_1 20 rfl rfl)
theorem dX5_laysFacts_45 : decode cX5_laysFacts 45 = .ok (.iadd, 1) := dk_96 (dk_at dksX5_laysFacts_1 21 rfl rfl)
theorem dX5_laysFacts_46 : decode cX5_laysFacts 46 = .ok (.iaload, 1) := dk_46 (dk_at dksX5_laysFacts_1 22 rfl rfl)
theorem dX5_laysFacts_47 : decode cX5_laysFacts 47 = .ok (.iastore, 1) := dk_79 (dk_at dksX5_laysFacts_1 23 rfl rfl)
theorem dX5_laysFacts_48 : decode cX5_laysFacts 48 = .ok (.aload_n 0, 1) := dk_42 (dk_at dksX5_laysFacts_2 0 rfl rfl)
theorem dX5_laysFacts_49 : decode cX5_laysFacts 49 = .ok (.getfield 109, 3) := dk_180 0 109 (dk_at dksX5_laysFacts_2 1 rfl rfl)
theorem dX5_laysFacts_52 : decode cX5_laysFacts 52 = .ok (.iconst 3, 1) := dk_6 (dk_at dksX5_laysFacts_2 4 rfl rfl)
theorem dX5_laysFacts_53 : decode cX5_laysFacts 53 = .ok (.aload_n 0, 1) := dk_42 (dk_at dksX5_laysFacts_2 5 rfl rfl)
theorem dX5_laysFacts_54 : decode cX5_laysFacts 54 = .ok (.iload_n 3, 1) := dk_29 (dk_at dksX5_laysFacts_2 6 rfl rfl)
theorem dX5_laysFacts_55 : decode cX5_laysFacts 55 = .ok (.iconst 1, 1) := dk_4 (dk_at dksX5_laysFacts_2 7 rfl rfl)
theorem dX5_laysFacts_56 : decode cX5_laysFacts 56 = .ok (.invokevirtual 294, 3) := dk_182 1 38 (dk_at dksX5_laysFacts_2 8 rfl rfl)
theorem dX5_laysFacts_59 : decode cX5_laysFacts 59 = .ok (.iastore, 1) := dk_79 (dk_at dksX5_laysFacts_2 11 rfl rfl)
theorem dX5_laysFacts_60 : decode cX5_laysFacts 60 = .ok (.aload_n 0, 1) := dk_42 (dk_at dksX5_laysFacts_2 12 rfl rfl)
theorem dX5_laysFacts_61 : decode cX5_laysFacts 61 = .ok (.getfield 109, 3) := dk_180 0 109 (dk_at dksX5_laysFacts_2 13 rfl rfl)
theorem dX5_laysFacts_64 : decode cX5_laysFacts 64 = .ok (.iconst 4, 1) := dk_7 (dk_at dksX5_laysFacts_2 16 rfl rfl)
theorem dX5_laysFacts_65 : decode cX5_laysFacts 65 = .ok (.aload_n 0, 1) := dk_42 (dk_at dksX5_laysFacts_2 17 rfl rfl)
theorem dX5_laysFacts_66 : decode cX5_laysFacts 66 = .ok (.iload_n 3, 1) := dk_29 (dk_at dksX5_laysFacts_2 18 rfl rfl)
theorem dX5_laysFacts_67 : decode cX5_laysFacts 67 = .ok (.iconst 0, 1) := dk_3 (dk_at dksX5_laysFacts_2 19 rfl rfl)
theorem dX5_laysFacts_68 : decode cX5_laysFacts 68 = .ok (.invokevirtual 294, 3) := dk_182 1 38 (dk_at dksX5_laysFacts_2 20 rfl rfl)
theorem dX5_laysFacts_71 : decode cX5_laysFacts 71 = .ok (.iastore, 1) := dk_79 (dk_at dksX5_laysFacts_2 23 rfl rfl)
theorem dX5_laysFacts_72 : decode cX5_laysFacts 72 = .ok (.return_, 1) := dk_177 (dk_at dksX5_laysFacts_3 0 rfl rfl)
abbrev cX5_moneyOf : ByteArray := prog_30_method_53_code
def yX5_moneyOf : MethodName := ⟨RX5, "moneyOf", "(IIZ)I"⟩
def dkwX5_moneyOf_1 : List UInt8 := [16, 22, 96, 28, 96, 46, 100, 54, 4, 21, 4, 156, 0, 7, 3, 167, 0, 5, 21, 4, 172]
abbrev dktX5_moneyOf_1 : List UInt8 := dkwX5_moneyOf_1 ++ []
def dkwX5_moneyOf_0 : List UInt8 := [42, 180, 0, 115, 27, 7, 96, 28, 96, 46, 29, 153, 0, 7, 3, 167, 0, 14, 42, 180, 0, 115, 27]
abbrev dktX5_moneyOf_0 : List UInt8 := dkwX5_moneyOf_0 ++ dktX5_moneyOf_1
theorem dksX5_moneyOf_0 : cX5_moneyOf.data.toList.drop 0 = dktX5_moneyOf_0 := by decide +kernel
theorem dksX5_moneyOf_1 : cX5_moneyOf.data.toList.drop 23 = dktX5_moneyOf_1 := dk_seg dksX5_moneyOf_0 23 rfl rfl
theorem dX5_moneyOf_0 : decode cX5_moneyOf 0 = .ok (.aload_n 0, 1) := dk_42 (dk_at dksX5_moneyOf_0 0 rfl rfl)
theorem dX5_moneyOf_1 : decode cX5_moneyOf 1 = .ok (.getfield 115, 3) := dk_180 0 115 (dk_at dksX5_moneyOf_0 1 rfl rfl)
theorem dX5_moneyOf_4 : decode cX5_moneyOf 4 = .ok (.iload_n 1, 1) := dk_27 (dk_at dksX5_moneyOf_0 4 rfl rfl)
theorem dX5_moneyOf_5 : decode cX5_moneyOf 5 = .ok (.iconst 4, 1) := dk_7 (dk_at dksX5_moneyOf_0 5 rfl rfl)
theorem dX5_moneyOf_6 : decode cX5_moneyOf 6 = .ok (.iadd, 1) := dk_96 (dk_at dksX5_moneyOf_0 6 rfl rfl)
theorem dX5_moneyOf_7 : decode cX5_moneyOf 7 = .ok (.iload_n 2, 1) := dk_28 (dk_at dksX5_moneyOf_0 7 rfl rfl)
theorem dX5_moneyOf_8 : decode cX5_moneyOf 8 = .ok (.iadd, 1) := dk_96 (dk_at dksX5_moneyOf_0 8 rfl rfl)
theorem dX5_moneyOf_9 : decode cX5_moneyOf 9 = .ok (.iaload, 1) := dk_46 (dk_at dksX5_moneyOf_0 9 rfl rfl)
theorem dX5_moneyOf_10 : decode cX5_moneyOf 10 = .ok (.iload_n 3, 1) := dk_29 (dk_at dksX5_moneyOf_0 10 rfl rfl)
theorem dX5_moneyOf_11 : decode cX5_moneyOf 11 = .ok (.ifCond .eq 7, 3) := dk_153 0 7 (dk_at dksX5_moneyOf_0 11 rfl rfl)
theorem dX5_moneyOf_14 : decode cX5_moneyOf 14 = .ok (.iconst 0, 1) := dk_3 (dk_at dksX5_moneyOf_0 14 rfl rfl)
theorem dX5_moneyOf_15 : decode cX5_moneyOf 15 = .ok (.goto 14, 3) := dk_167 0 14 (dk_at dksX5_moneyOf_0 15 rfl rfl)
theorem dX5_moneyOf_18 : decode cX5_moneyOf 18 = .ok (.aload_n 0, 1) := dk_42 (dk_at dksX5_moneyOf_0 18 rfl rfl)
theorem dX5_moneyOf_19 : decode cX5_moneyOf 19 = .ok (.getfield 115, 3) := dk_180 0 115 (dk_at dksX5_moneyOf_0 19 rfl rfl)
theorem dX5_moneyOf_22 : decode cX5_moneyOf 22 = .ok (.iload_n 1, 1) := dk_27 (dk_at dksX5_moneyOf_0 22 rfl rfl)
theorem dX5_moneyOf_23 : decode cX5_moneyOf 23 = .ok (.bipush 22, 2) := dk_16 22 (dk_at dksX5_moneyOf_1 0 rfl rfl)
theorem dX5_moneyOf_25 : decode cX5_moneyOf 25 = .ok (.iadd, 1) := dk_96 (dk_at dksX5_moneyOf_1 2 rfl rfl)
theorem dX5_moneyOf_26 : decode cX5_moneyOf 26 = .ok (.iload_n 2, 1) := dk_28 (dk_at dksX5_moneyOf_1 3 rfl rfl)
theorem dX5_moneyOf_27 : decode cX5_moneyOf 27 = .ok (.iadd, 1) := dk_96 (dk_at dksX5_moneyOf_1 4 rfl rfl)
theorem dX5_moneyOf_28 : decode cX5_moneyOf 28 = .ok (.iaload, 1) := dk_46 (dk_at dksX5_moneyOf_1 5 rfl rfl)
theorem dX5_moneyOf_29 : decode cX5_moneyOf 29 = .ok (.isub, 1) := dk_100 (dk_at dksX5_moneyOf_1 6 rfl rfl)
theorem dX5_moneyOf_30 : decode cX5_moneyOf 30 = .ok (.istore 4, 2) := dk_54 4 (dk_at dksX5_moneyOf_1 7 rfl rfl)
theorem dX5_moneyOf_32 : decode cX5_moneyOf 32 = .ok (.iload 4, 2) := dk_21 4 (dk_at dksX5_moneyOf_1 9 rfl rfl)
theorem dX5_moneyOf_34 : decode cX5_moneyOf 34 = .ok (.ifCond .ge 7, 3) := dk_156 0 7 (dk_at dksX5_moneyOf_1 11 rfl rfl)
theorem dX5_moneyOf_37 : decode cX5_moneyOf 37 = .ok (.iconst 0, 1) := dk_3 (dk_at dksX5_moneyOf_1 14 rfl rfl)
theorem dX5_moneyOf_38 : decode cX5_moneyOf 38 = .ok (.goto 5, 3) := dk_167 0 5 (dk_at dksX5_moneyOf_1 15 rfl rfl)
theorem dX5_moneyOf_41 : decode cX5_moneyOf 41 = .ok (.iload 4, 2) := dk_21 4 (dk_at dksX5_moneyOf_1 18 rfl rfl)
theorem dX5_moneyOf_43 : decode cX5_moneyOf 43 = .ok (.ireturn, 1) := dk_172 (dk_at dksX5_moneyOf_1 20 rfl rfl)
abbrev cX5_worthAt : ByteArray := prog_30_method_40_code
def yX5_worthAt : MethodName := ⟨RX5, "worthAt", "(I)I"⟩
def dkwX5_worthAt_6 : List UInt8 := [180, 0, 112, 3, 46, 172]
abbrev dktX5_worthAt_6 : List UInt8 := dkwX5_worthAt_6 ++ []
def dkwX5_worthAt_5 : List UInt8 := [180, 0, 112, 28, 4, 100, 46, 42, 180, 0, 112, 28, 46, 184, 1, 32, 79, 132, 3, 1, 167, 255, 123, 42]
abbrev dktX5_worthAt_5 : List UInt8 := dkwX5_worthAt_5 ++ dktX5_worthAt_6
def dkwX5_worthAt_4 : List UInt8 := [4, 167, 0, 4, 3, 79, 167, 0, 33, 132, 2, 255, 42, 180, 0, 112, 28, 4, 100, 21, 4, 42]
abbrev dktX5_worthAt_4 : List UInt8 := dkwX5_worthAt_4 ++ dktX5_worthAt_5
def dkwX5_worthAt_3 : List UInt8 := [21, 4, 6, 160, 0, 30, 42, 180, 0, 112, 28, 4, 100, 42, 180, 0, 112, 28, 4, 100, 46, 154, 0, 7]
abbrev dktX5_worthAt_3 : List UInt8 := dkwX5_worthAt_3 ++ dktX5_worthAt_4
def dkwX5_worthAt_2 : List UInt8 := [29, 46, 167, 0, 14, 42, 180, 0, 109, 42, 180, 0, 97, 29, 46, 46, 79, 132, 2, 1, 167, 0, 66]
abbrev dktX5_worthAt_2 : List UInt8 := dkwX5_worthAt_2 ++ dktX5_worthAt_3
def dkwX5_worthAt_1 : List UInt8 := [159, 0, 9, 21, 4, 5, 160, 0, 41, 42, 180, 0, 112, 28, 21, 4, 4, 160, 0, 12, 42, 180, 0, 97]
abbrev dktX5_worthAt_1 : List UInt8 := dkwX5_worthAt_1 ++ dktX5_worthAt_2
def dkwX5_worthAt_0 : List UInt8 := [3, 61, 27, 62, 42, 180, 0, 94, 29, 46, 153, 0, 130, 42, 180, 0, 94, 29, 46, 54, 4, 21, 4, 4]
abbrev dktX5_worthAt_0 : List UInt8 := dkwX5_worthAt_0 ++ dktX5_worthAt_1
theorem dksX5_worthAt_0 : cX5_worthAt.data.toList.drop 0 = dktX5_worthAt_0 := by decide +kernel
theorem dksX5_worthAt_1 : cX5_worthAt.data.toList.drop 24 = dktX5_worthAt_1 := dk_seg dksX5_worthAt_0 24 rfl rfl
theorem dksX5_worthAt_2 : cX5_worthAt.data.toList.drop 48 = dktX5_worthAt_2 := dk_seg dksX5_worthAt_1 24 rfl rfl
theorem dksX5_worthAt_3 : cX5_worthAt.data.toList.drop 71 = dktX5_worthAt_3 := dk_seg dksX5_worthAt_2 23 rfl rfl
theorem dksX5_worthAt_4 : cX5_worthAt.data.toList.drop 95 = dktX5_worthAt_4 := dk_seg dksX5_worthAt_3 24 rfl rfl
theorem dksX5_worthAt_5 : cX5_worthAt.data.toList.drop 117 = dktX5_worthAt_5 := dk_seg dksX5_worthAt_4 22 rfl rfl
theorem dksX5_worthAt_6 : cX5_worthAt.data.toList.drop 141 = dktX5_worthAt_6 := dk_seg dksX5_worthAt_5 24 rfl rfl
theorem dX5_worthAt_0 : decode cX5_worthAt 0 = .ok (.iconst 0, 1) := dk_3 (dk_at dksX5_worthAt_0 0 rfl rfl)
theorem dX5_worthAt_1 : decode cX5_worthAt 1 = .ok (.istore_n 2, 1) := dk_61 (dk_at dksX5_worthAt_0 1 rfl rfl)
theorem dX5_worthAt_2 : decode cX5_worthAt 2 = .ok (.iload_n 1, 1) := dk_27 (dk_at dksX5_worthAt_0 2 rfl rfl)
theorem dX5_worthAt_3 : decode cX5_worthAt 3 = .ok (.istore_n 3, 1) := dk_62 (dk_at dksX5_worthAt_0 3 rfl rfl)
theorem dX5_worthAt_4 : decode cX5_worthAt 4 = .ok (.aload_n 0, 1) := dk_42 (dk_at dksX5_worthAt_0 4 rfl rfl)
theorem dX5_worthAt_5 : decode cX5_worthAt 5 = .ok (.getfield 94, 3) := dk_180 0 94 (dk_at dksX5_worthAt_0 5 rfl rfl)
theorem dX5_worthAt_8 : decode cX5_worthAt 8 = .ok (.iload_n 3, 1) := dk_29 (dk_at dksX5_worthAt_0 8 rfl rfl)
theorem dX5_worthAt_9 : decode cX5_worthAt 9 = .ok (.iaload, 1) := dk_46 (dk_at dksX5_worthAt_0 9 rfl rfl)
theorem dX5_worthAt_10 : decode cX5_worthAt 10 = .ok (.ifCond .eq 130, 3) := dk_153 0 130 (dk_at dksX5_worthAt_0 10 rfl rfl)
theorem dX5_worthAt_13 : decode cX5_worthAt 13 = .ok (.aload_n 0, 1) := dk_42 (dk_at dksX5_worthAt_0 13 rfl rfl)
theorem dX5_worthAt_14 : decode cX5_worthAt 14 = .ok (.getfield 94, 3) := dk_180 0 94 (dk_at dksX5_worthAt_0 14 rfl rfl)
theorem dX5_worthAt_17 : decode cX5_worthAt 17 = .ok (.iload_n 3, 1) := dk_29 (dk_at dksX5_worthAt_0 17 rfl rfl)
theorem dX5_worthAt_18 : decode cX5_worthAt 18 = .ok (.iaload, 1) := dk_46 (dk_at dksX5_worthAt_0 18 rfl rfl)
theorem dX5_worthAt_19 : decode cX5_worthAt 19 = .ok (.istore 4, 2) := dk_54 4 (dk_at dksX5_worthAt_0 19 rfl rfl)
theorem dX5_worthAt_21 : decode cX5_worthAt 21 = .ok (.iload 4, 2) := dk_21 4 (dk_at dksX5_worthAt_0 21 rfl rfl)
theorem dX5_worthAt_23 : decode cX5_worthAt 23 = .ok (.iconst 1, 1) := dk_4 (dk_at dksX5_worthAt_0 23 rfl rfl)
theorem dX5_worthAt_24 : decode cX5_worthAt 24 = .ok (.if_icmp .eq 9, 3) := dk_159 0 9 (dk_at dksX5_worthAt_1 0 rfl rfl)
theorem dX5_worthAt_27 : decode cX5_worthAt 27 = .ok (.iload 4, 2) := dk_21 4 (dk_at dksX5_worthAt_1 3 rfl rfl)
theorem dX5_worthAt_29 : decode cX5_worthAt 29 = .ok (.iconst 2, 1) := dk_5 (dk_at dksX5_worthAt_1 5 rfl rfl)
theorem dX5_worthAt_30 : decode cX5_worthAt 30 = .ok (.if_icmp .ne 41, 3) := dk_160 0 41 (dk_at dksX5_worthAt_1 6 rfl rfl)
theorem dX5_worthAt_33 : decode cX5_worthAt 33 = .ok (.aload_n 0, 1) := dk_42 (dk_at dksX5_worthAt_1 9 rfl rfl)
theorem dX5_worthAt_34 : decode cX5_worthAt 34 = .ok (.getfield 112, 3) := dk_180 0 112 (dk_at dksX5_worthAt_1 10 rfl rfl)
theorem dX5_worthAt_37 : decode cX5_worthAt 37 = .ok (.iload_n 2, 1) := dk_28 (dk_at dksX5_worthAt_1 13 rfl rfl)
theorem dX5_worthAt_38 : decode cX5_worthAt 38 = .ok (.iload 4, 2) := dk_21 4 (dk_at dksX5_worthAt_1 14 rfl rfl)
theorem dX5_worthAt_40 : decode cX5_worthAt 40 = .ok (.iconst 1, 1) := dk_4 (dk_at dksX5_worthAt_1 16 rfl rfl)
theorem dX5_worthAt_41 : decode cX5_worthAt 41 = .ok (.if_icmp .ne 12, 3) := dk_160 0 12 (dk_at dksX5_worthAt_1 17 rfl rfl)
theorem dX5_worthAt_44 : decode cX5_worthAt 44 = .ok (.aload_n 0, 1) := dk_42 (dk_at dksX5_worthAt_1 20 rfl rfl)
theorem dX5_worthAt_45 : decode cX5_worthAt 45 = .ok (.getfield 97, 3) := dk_180 0 97 (dk_at dksX5_worthAt_1 21 rfl rfl)
theorem dX5_worthAt_48 : decode cX5_worthAt 48 = .ok (.iload_n 3, 1) := dk_29 (dk_at dksX5_worthAt_2 0 rfl rfl)
theorem dX5_worthAt_49 : decode cX5_worthAt 49 = .ok (.iaload, 1) := dk_46 (dk_at dksX5_worthAt_2 1 rfl rfl)
theorem dX5_worthAt_50 : decode cX5_worthAt 50 = .ok (.goto 14, 3) := dk_167 0 14 (dk_at dksX5_worthAt_2 2 rfl rfl)
theorem dX5_worthAt_53 : decode cX5_worthAt 53 = .ok (.aload_n 0, 1) := dk_42 (dk_at dksX5_worthAt_2 5 rfl rfl)
theorem dX5_worthAt_54 : decode cX5_worthAt 54 = .ok (.getfield 109, 3) := dk_180 0 109 (dk_at dksX5_worthAt_2 6 rfl rfl)
theorem dX5_worthAt_57 : decode cX5_worthAt 57 = .ok (.aload_n 0, 1) := dk_42 (dk_at dksX5_worthAt_2 9 rfl rfl)
theorem dX5_worthAt_58 : decode cX5_worthAt 58 = .ok (.getfield 97, 3) := dk_180 0 97 (dk_at dksX5_worthAt_2 10 rfl rfl)
theorem dX5_worthAt_61 : decode cX5_worthAt 61 = .ok (.iload_n 3, 1) := dk_29 (dk_at dksX5_worthAt_2 13 rfl rfl)
theorem dX5_worthAt_62 : decode cX5_worthAt 62 = .ok (.iaload, 1) := dk_46 (dk_at dksX5_worthAt_2 14 rfl rfl)
theorem dX5_worthAt_63 : decode cX5_worthAt 63 = .ok (.iaload, 1) := dk_46 (dk_at dksX5_worthAt_2 15 rfl rfl)
theorem dX5_worthAt_64 : decode cX5_worthAt 64 = .ok (.iastore, 1) := dk_79 (dk_at dksX5_worthAt_2 16 rfl rfl)
theorem dX5_worthAt_65 : decode cX5_worthAt 65 = .ok (.iinc 2 1, 3) := dk_132 2 1 (dk_at dksX5_worthAt_2 17 rfl rfl)
theorem dX5_worthAt_68 : decode cX5_worthAt 68 = .ok (.goto 66, 3) := dk_167 0 66 (dk_at dksX5_worthAt_2 20 rfl rfl)
theorem dX5_worthAt_71 : decode cX5_worthAt 71 = .ok (.iload 4, 2) := dk_21 4 (dk_at dksX5_worthAt_3 0 rfl rfl)
theorem dX5_worthAt_73 : decode cX5_worthAt 73 = .ok (.iconst 3, 1) := dk_6 (dk_at dksX5_worthAt_3 2 rfl rfl)
theorem dX5_worthAt_74 : decode cX5_worthAt 74 = .ok (.if_icmp .ne 30, 3) := dk_160 0 30 (dk_at dksX5_worthAt_3 3 rfl rfl)
theorem dX5_worthAt_77 : decode cX5_worthAt 77 = .ok (.aload_n 0, 1) := dk_42 (dk_at dksX5_worthAt_3 6 rfl rfl)
theorem dX5_worthAt_78 : decode cX5_worthAt 78 = .ok (.getfield 112, 3) := dk_180 0 112 (dk_at dksX5_worthAt_3 7 rfl rfl)
theorem dX5_worthAt_81 : decode cX5_worthAt 81 = .ok (.iload_n 2, 1) := dk_28 (dk_at dksX5_worthAt_3 10 rfl rfl)
theorem dX5_worthAt_82 : decode cX5_worthAt 82 = .ok (.iconst 1, 1) := dk_4 (dk_at dksX5_worthAt_3 11 rfl rfl)
theorem dX5_worthAt_83 : decode cX5_worthAt 83 = .ok (.isub, 1) := dk_100 (dk_at dksX5_worthAt_3 12 rfl rfl)
theorem dX5_worthAt_84 : decode cX5_worthAt 84 = .ok (.aload_n 0, 1) := dk_42 (dk_at dksX5_worthAt_3 13 rfl rfl)
theorem dX5_worthAt_85 : decode cX5_worthAt 85 = .ok (.getfield 112, 3) := dk_180 0 112 (dk_at dksX5_worthAt_3 14 rfl rfl)
theorem dX5_worthAt_88 : decode cX5_worthAt 88 = .ok (.iload_n 2, 1) := dk_28 (dk_at dksX5_worthAt_3 17 rfl rfl)
theorem dX5_worthAt_89 : decode cX5_worthAt 89 = .ok (.iconst 1, 1) := dk_4 (dk_at dksX5_worthAt_3 18 rfl rfl)
theorem dX5_worthAt_90 : decode cX5_worthAt 90 = .ok (.isub, 1) := dk_100 (dk_at dksX5_worthAt_3 19 rfl rfl)
theorem dX5_worthAt_91 : decode cX5_worthAt 91 = .ok (.iaload, 1) := dk_46 (dk_at dksX5_worthAt_3 20 rfl rfl)
theorem dX5_worthAt_92 : decode cX5_worthAt 92 = .ok (.ifCond .ne 7, 3) := dk_154 0 7 (dk_at dksX5_worthAt_3 21 rfl rfl)
theorem dX5_worthAt_95 : decode cX5_worthAt 95 = .ok (.iconst 1, 1) := dk_4 (dk_at dksX5_worthAt_4 0 rfl rfl)
theorem dX5_worthAt_96 : decode cX5_worthAt 96 = .ok (.goto 4, 3) := dk_167 0 4 (dk_at dksX5_worthAt_4 1 rfl rfl)
theorem dX5_worthAt_99 : decode cX5_worthAt 99 = .ok (.iconst 0, 1) := dk_3 (dk_at dksX5_worthAt_4 4 rfl rfl)
theorem dX5_worthAt_100 : decode cX5_worthAt 100 = .ok (.iastore, 1) := dk_79 (dk_at dksX5_worthAt_4 5 rfl rfl)
theorem dX5_worthAt_101 : decode cX5_worthAt 101 = .ok (.goto 33, 3) := dk_167 0 33 (dk_at dksX5_worthAt_4 6 rfl rfl)
theorem dX5_worthAt_104 : decode cX5_worthAt 104 = .ok (.iinc 2 (-1), 3) := dk_132 2 255 (dk_at dksX5_worthAt_4 9 rfl rfl)
theorem dX5_worthAt_107 : decode cX5_worthAt 107 = .ok (.aload_n 0, 1) := dk_42 (dk_at dksX5_worthAt_4 12 rfl rfl)
theorem dX5_worthAt_108 : decode cX5_worthAt 108 = .ok (.getfield 112, 3) := dk_180 0 112 (dk_at dksX5_worthAt_4 13 rfl rfl)
theorem dX5_worthAt_111 : decode cX5_worthAt 111 = .ok (.iload_n 2, 1) := dk_28 (dk_at dksX5_worthAt_4 16 rfl rfl)
theorem dX5_worthAt_112 : decode cX5_worthAt 112 = .ok (.iconst 1, 1) := dk_4 (dk_at dksX5_worthAt_4 17 rfl rfl)
theorem dX5_worthAt_113 : decode cX5_worthAt 113 = .ok (.isub, 1) := dk_100 (dk_at dksX5_worthAt_4 18 rfl rfl)
theorem dX5_worthAt_114 : decode cX5_worthAt 114 = .ok (.iload 4, 2) := dk_21 4 (dk_at dksX5_worthAt_4 19 rfl rfl)
theorem dX5_worthAt_116 : decode cX5_worthAt 116 = .ok (.aload_n 0, 1) := dk_42 (dk_at dksX5_worthAt_4 21 rfl rfl)
theorem dX5_worthAt_117 : decode cX5_worthAt 117 = .ok (.getfield 112, 3) := dk_180 0 112 (dk_at dksX5_worthAt_5 0 rfl rfl)
theorem dX5_worthAt_120 : decode cX5_worthAt 120 = .ok (.iload_n 2, 1) := dk_28 (dk_at dksX5_worthAt_5 3 rfl rfl)
theorem dX5_worthAt_121 : decode cX5_worthAt 121 = .ok (.iconst 1, 1) := dk_4 (dk_at dksX5_worthAt_5 4 rfl rfl)
theorem dX5_worthAt_122 : decode cX5_worthAt 122 = .ok (.isub, 1) := dk_100 (dk_at dksX5_worthAt_5 5 rfl rfl)
theorem dX5_worthAt_123 : decode cX5_worthAt 123 = .ok (.iaload, 1) := dk_46 (dk_at dksX5_worthAt_5 6 rfl rfl)
theorem dX5_worthAt_124 : decode cX5_worthAt 124 = .ok (.aload_n 0, 1) := dk_42 (dk_at dksX5_worthAt_5 7 rfl rfl)
theorem dX5_worthAt_125 : decode cX5_worthAt 125 = .ok (.getfield 112, 3) := dk_180 0 112 (dk_at dksX5_worthAt_5 8 rfl rfl)
theorem dX5_worthAt_128 : decode cX5_worthAt 128 = .ok (.iload_n 2, 1) := dk_28 (dk_at dksX5_worthAt_5 11 rfl rfl)
theorem dX5_worthAt_129 : decode cX5_worthAt 129 = .ok (.iaload, 1) := dk_46 (dk_at dksX5_worthAt_5 12 rfl rfl)
theorem dX5_worthAt_130 : decode cX5_worthAt 130 = .ok (.invokestatic 288, 3) := dk_184 1 32 (dk_at dksX5_worthAt_5 13 rfl rfl)
theorem dX5_worthAt_133 : decode cX5_worthAt 133 = .ok (.iastore, 1) := dk_79 (dk_at dksX5_worthAt_5 16 rfl rfl)
theorem dX5_worthAt_134 : decode cX5_worthAt 134 = .ok (.iinc 3 1, 3) := dk_132 3 1 (dk_at dksX5_worthAt_5 17 rfl rfl)
theorem dX5_worthAt_137 : decode cX5_worthAt 137 = .ok (.goto (-133), 3) := dk_167 255 123 (dk_at dksX5_worthAt_5 20 rfl rfl)
theorem dX5_worthAt_140 : decode cX5_worthAt 140 = .ok (.aload_n 0, 1) := dk_42 (dk_at dksX5_worthAt_5 23 rfl rfl)
theorem dX5_worthAt_141 : decode cX5_worthAt 141 = .ok (.getfield 112, 3) := dk_180 0 112 (dk_at dksX5_worthAt_6 0 rfl rfl)
theorem dX5_worthAt_144 : decode cX5_worthAt 144 = .ok (.iconst 0, 1) := dk_3 (dk_at dksX5_worthAt_6 3 rfl rfl)
theorem dX5_worthAt_145 : decode cX5_worthAt 145 = .ok (.iaload, 1) := dk_46 (dk_at dksX5_worthAt_6 4 rfl rfl)
theorem dX5_worthAt_146 : decode cX5_worthAt 146 = .ok (.ireturn, 1) := dk_172 (dk_at dksX5_worthAt_6 5 rfl rfl)
abbrev cX5_both : ByteArray := prog_30_method_41_code
def yX5_both : MethodName := ⟨RX5, "both", "(III)I"⟩
def dkwX5_both_4 : List UInt8 := [27, 154, 0, 7, 28, 153, 0, 7, 4, 167, 0, 4, 3, 172]
abbrev dktX5_both_4 : List UInt8 := dkwX5_both_4 ++ []
def dkwX5_both_3 : List UInt8 := [28, 160, 0, 7, 4, 167, 0, 4, 3, 172, 27, 153, 0, 11, 28, 153, 0, 7, 4, 167, 0, 4, 3, 172]
abbrev dktX5_both_3 : List UInt8 := dkwX5_both_3 ++ dktX5_both_4
def dkwX5_both_2 : List UInt8 := [27, 28, 96, 172, 27, 28, 100, 172, 27, 28, 104, 172, 27, 28, 162, 0, 7, 4, 167, 0, 4, 3, 172, 27]
abbrev dktX5_both_2 : List UInt8 := dkwX5_both_2 ++ dktX5_both_3
def dkwX5_both_1 : List UInt8 := [170, 0, 0, 0, 0, 0, 87, 0, 0, 0, 4, 0, 0, 0, 9, 0, 0, 0, 39, 0, 0, 0, 43, 0, 0, 0, 47, 0, 0, 0, 51, 0, 0, 0, 62, 0, 0, 0, 73]
abbrev dktX5_both_1 : List UInt8 := dkwX5_both_1 ++ dktX5_both_2
def dkwX5_both_0 : List UInt8 := [26]
abbrev dktX5_both_0 : List UInt8 := dkwX5_both_0 ++ dktX5_both_1
theorem dksX5_both_0 : cX5_both.data.toList.drop 0 = dktX5_both_0 := by decide +kernel
theorem dksX5_both_1 : cX5_both.data.toList.drop 1 = dktX5_both_1 := dk_seg dksX5_both_0 1 rfl rfl
theorem dksX5_both_2 : cX5_both.data.toList.drop 40 = dktX5_both_2 := dk_seg dksX5_both_1 39 rfl rfl
theorem dksX5_both_3 : cX5_both.data.toList.drop 64 = dktX5_both_3 := dk_seg dksX5_both_2 24 rfl rfl
theorem dksX5_both_4 : cX5_both.data.toList.drop 88 = dktX5_both_4 := dk_seg dksX5_both_3 24 rfl rfl
theorem dX5_both_0 : decode cX5_both 0 = .ok (.iload_n 0, 1) := dk_26 (dk_at dksX5_both_0 0 rfl rfl)
theorem dX5_both_1 : decode cX5_both 1 = .ok (.tableswitch 87 4 9 #[39, 43, 47, 51, 62, 73], 39) := by decide +kernel
theorem dX5_both_40 : decode cX5_both 40 = .ok (.iload_n 1, 1) := dk_27 (dk_at dksX5_both_2 0 rfl rfl)
theorem dX5_both_41 : decode cX5_both 41 = .ok (.iload_n 2, 1) := dk_28 (dk_at dksX5_both_2 1 rfl rfl)
theorem dX5_both_42 : decode cX5_both 42 = .ok (.iadd, 1) := dk_96 (dk_at dksX5_both_2 2 rfl rfl)
theorem dX5_both_43 : decode cX5_both 43 = .ok (.ireturn, 1) := dk_172 (dk_at dksX5_both_2 3 rfl rfl)
theorem dX5_both_44 : decode cX5_both 44 = .ok (.iload_n 1, 1) := dk_27 (dk_at dksX5_both_2 4 rfl rfl)
theorem dX5_both_45 : decode cX5_both 45 = .ok (.iload_n 2, 1) := dk_28 (dk_at dksX5_both_2 5 rfl rfl)
theorem dX5_both_46 : decode cX5_both 46 = .ok (.isub, 1) := dk_100 (dk_at dksX5_both_2 6 rfl rfl)
theorem dX5_both_47 : decode cX5_both 47 = .ok (.ireturn, 1) := dk_172 (dk_at dksX5_both_2 7 rfl rfl)
theorem dX5_both_48 : decode cX5_both 48 = .ok (.iload_n 1, 1) := dk_27 (dk_at dksX5_both_2 8 rfl rfl)
theorem dX5_both_49 : decode cX5_both 49 = .ok (.iload_n 2, 1) := dk_28 (dk_at dksX5_both_2 9 rfl rfl)
theorem dX5_both_50 : decode cX5_both 50 = .ok (.imul, 1) := dk_104 (dk_at dksX5_both_2 10 rfl rfl)
theorem dX5_both_51 : decode cX5_both 51 = .ok (.ireturn, 1) := dk_172 (dk_at dksX5_both_2 11 rfl rfl)
theorem dX5_both_52 : decode cX5_both 52 = .ok (.iload_n 1, 1) := dk_27 (dk_at dksX5_both_2 12 rfl rfl)
theorem dX5_both_53 : decode cX5_both 53 = .ok (.iload_n 2, 1) := dk_28 (dk_at dksX5_both_2 13 rfl rfl)
theorem dX5_both_54 : decode cX5_both 54 = .ok (.if_icmp .ge 7, 3) := dk_162 0 7 (dk_at dksX5_both_2 14 rfl rfl)
theorem dX5_both_57 : decode cX5_both 57 = .ok (.iconst 1, 1) := dk_4 (dk_at dksX5_both_2 17 rfl rfl)
theorem dX5_both_58 : decode cX5_both 58 = .ok (.goto 4, 3) := dk_167 0 4 (dk_at dksX5_both_2 18 rfl rfl)
theorem dX5_both_61 : decode cX5_both 61 = .ok (.iconst 0, 1) := dk_3 (dk_at dksX5_both_2 21 rfl rfl)
theorem dX5_both_62 : decode cX5_both 62 = .ok (.ireturn, 1) := dk_172 (dk_at dksX5_both_2 22 rfl rfl)
theorem dX5_both_63 : decode cX5_both 63 = .ok (.iload_n 1, 1) := dk_27 (dk_at dksX5_both_2 23 rfl rfl)
theorem dX5_both_64 : decode cX5_both 64 = .ok (.iload_n 2, 1) := dk_28 (dk_at dksX5_both_3 0 rfl rfl)
theorem dX5_both_65 : decode cX5_both 65 = .ok (.if_icmp .ne 7, 3) := dk_160 0 7 (dk_at dksX5_both_3 1 rfl rfl)
theorem dX5_both_68 : decode cX5_both 68 = .ok (.iconst 1, 1) := dk_4 (dk_at dksX5_both_3 4 rfl rfl)
theorem dX5_both_69 : decode cX5_both 69 = .ok (.goto 4, 3) := dk_167 0 4 (dk_at dksX5_both_3 5 rfl rfl)
theorem dX5_both_72 : decode cX5_both 72 = .ok (.iconst 0, 1) := dk_3 (dk_at dksX5_both_3 8 rfl rfl)
theorem dX5_both_73 : decode cX5_both 73 = .ok (.ireturn, 1) := dk_172 (dk_at dksX5_both_3 9 rfl rfl)
theorem dX5_both_74 : decode cX5_both 74 = .ok (.iload_n 1, 1) := dk_27 (dk_at dksX5_both_3 10 rfl rfl)
theorem dX5_both_75 : decode cX5_both 75 = .ok (.ifCond .eq 11, 3) := dk_153 0 11 (dk_at dksX5_both_3 11 rfl rfl)
theorem dX5_both_78 : decode cX5_both 78 = .ok (.iload_n 2, 1) := dk_28 (dk_at dksX5_both_3 14 rfl rfl)
theorem dX5_both_79 : decode cX5_both 79 = .ok (.ifCond .eq 7, 3) := dk_153 0 7 (dk_at dksX5_both_3 15 rfl rfl)
theorem dX5_both_82 : decode cX5_both 82 = .ok (.iconst 1, 1) := dk_4 (dk_at dksX5_both_3 18 rfl rfl)
theorem dX5_both_83 : decode cX5_both 83 = .ok (.goto 4, 3) := dk_167 0 4 (dk_at dksX5_both_3 19 rfl rfl)
theorem dX5_both_86 : decode cX5_both 86 = .ok (.iconst 0, 1) := dk_3 (dk_at dksX5_both_3 22 rfl rfl)
theorem dX5_both_87 : decode cX5_both 87 = .ok (.ireturn, 1) := dk_172 (dk_at dksX5_both_3 23 rfl rfl)
theorem dX5_both_88 : decode cX5_both 88 = .ok (.iload_n 1, 1) := dk_27 (dk_at dksX5_both_4 0 rfl rfl)
theorem dX5_both_89 : decode cX5_both 89 = .ok (.ifCond .ne 7, 3) := dk_154 0 7 (dk_at dksX5_both_4 1 rfl rfl)
theorem dX5_both_92 : decode cX5_both 92 = .ok (.iload_n 2, 1) := dk_28 (dk_at dksX5_both_4 4 rfl rfl)
theorem dX5_both_93 : decode cX5_both 93 = .ok (.ifCond .eq 7, 3) := dk_153 0 7 (dk_at dksX5_both_4 5 rfl rfl)
theorem dX5_both_96 : decode cX5_both 96 = .ok (.iconst 1, 1) := dk_4 (dk_at dksX5_both_4 8 rfl rfl)
theorem dX5_both_97 : decode cX5_both 97 = .ok (.goto 4, 3) := dk_167 0 4 (dk_at dksX5_both_4 9 rfl rfl)
theorem dX5_both_100 : decode cX5_both 100 = .ok (.iconst 0, 1) := dk_3 (dk_at dksX5_both_4 12 rfl rfl)
theorem dX5_both_101 : decode cX5_both 101 = .ok (.ireturn, 1) := dk_172 (dk_at dksX5_both_4 13 rfl rfl)
abbrev cX5_gets : ByteArray := prog_30_method_55_code
def yX5_gets : MethodName := ⟨RX5, "gets", "(III)V"⟩
def dkwX5_gets_1 : List UInt8 := [21, 4, 17, 39, 15, 164, 0, 9, 17, 39, 15, 167, 0, 5, 21, 4, 79, 177]
abbrev dktX5_gets_1 : List UInt8 := dkwX5_gets_1 ++ []
def dkwX5_gets_0 : List UInt8 := [42, 180, 0, 115, 27, 7, 96, 28, 96, 46, 29, 96, 54, 4, 42, 180, 0, 115, 27, 7, 96, 28, 96]
abbrev dktX5_gets_0 : List UInt8 := dkwX5_gets_0 ++ dktX5_gets_1
theorem dksX5_gets_0 : cX5_gets.data.toList.drop 0 = dktX5_gets_0 := by decide +kernel
theorem dksX5_gets_1 : cX5_gets.data.toList.drop 23 = dktX5_gets_1 := dk_seg dksX5_gets_0 23 rfl rfl
theorem dX5_gets_0 : decode cX5_gets 0 = .ok (.aload_n 0, 1) := dk_42 (dk_at dksX5_gets_0 0 rfl rfl)
theorem dX5_gets_1 : decode cX5_gets 1 = .ok (.getfield 115, 3) := dk_180 0 115 (dk_at dksX5_gets_0 1 rfl rfl)
theorem dX5_gets_4 : decode cX5_gets 4 = .ok (.iload_n 1, 1) := dk_27 (dk_at dksX5_gets_0 4 rfl rfl)
theorem dX5_gets_5 : decode cX5_gets 5 = .ok (.iconst 4, 1) := dk_7 (dk_at dksX5_gets_0 5 rfl rfl)
theorem dX5_gets_6 : decode cX5_gets 6 = .ok (.iadd, 1) := dk_96 (dk_at dksX5_gets_0 6 rfl rfl)
theorem dX5_gets_7 : decode cX5_gets 7 = .ok (.iload_n 2, 1) := dk_28 (dk_at dksX5_gets_0 7 rfl rfl)
theorem dX5_gets_8 : decode cX5_gets 8 = .ok (.iadd, 1) := dk_96 (dk_at dksX5_gets_0 8 rfl rfl)
theorem dX5_gets_9 : decode cX5_gets 9 = .ok (.iaload, 1) := dk_46 (dk_at dksX5_gets_0 9 rfl rfl)
theorem dX5_gets_10 : decode cX5_gets 10 = .ok (.iload_n 3, 1) := dk_29 (dk_at dksX5_gets_0 10 rfl rfl)
theorem dX5_gets_11 : decode cX5_gets 11 = .ok (.iadd, 1) := dk_96 (dk_at dksX5_gets_0 11 rfl rfl)
theorem dX5_gets_12 : decode cX5_gets 12 = .ok (.istore 4, 2) := dk_54 4 (dk_at dksX5_gets_0 12 rfl rfl)
theorem dX5_gets_14 : decode cX5_gets 14 = .ok (.aload_n 0, 1) := dk_42 (dk_at dksX5_gets_0 14 rfl rfl)
theorem dX5_gets_15 : decode cX5_gets 15 = .ok (.getfield 115, 3) := dk_180 0 115 (dk_at dksX5_gets_0 15 rfl rfl)
theorem dX5_gets_18 : decode cX5_gets 18 = .ok (.iload_n 1, 1) := dk_27 (dk_at dksX5_gets_0 18 rfl rfl)
theorem dX5_gets_19 : decode cX5_gets 19 = .ok (.iconst 4, 1) := dk_7 (dk_at dksX5_gets_0 19 rfl rfl)
theorem dX5_gets_20 : decode cX5_gets 20 = .ok (.iadd, 1) := dk_96 (dk_at dksX5_gets_0 20 rfl rfl)
theorem dX5_gets_21 : decode cX5_gets 21 = .ok (.iload_n 2, 1) := dk_28 (dk_at dksX5_gets_0 21 rfl rfl)
theorem dX5_gets_22 : decode cX5_gets 22 = .ok (.iadd, 1) := dk_96 (dk_at dksX5_gets_0 22 rfl rfl)
theorem dX5_gets_23 : decode cX5_gets 23 = .ok (.iload 4, 2) := dk_21 4 (dk_at dksX5_gets_1 0 rfl rfl)
theorem dX5_gets_25 : decode cX5_gets 25 = .ok (.sipush 9999, 3) := dk_17 39 15 (dk_at dksX5_gets_1 2 rfl rfl)
theorem dX5_gets_28 : decode cX5_gets 28 = .ok (.if_icmp .le 9, 3) := dk_164 0 9 (dk_at dksX5_gets_1 5 rfl rfl)
theorem dX5_gets_31 : decode cX5_gets 31 = .ok (.sipush 9999, 3) := dk_17 39 15 (dk_at dksX5_gets_1 8 rfl rfl)
theorem dX5_gets_34 : decode cX5_gets 34 = .ok (.goto 5, 3) := dk_167 0 5 (dk_at dksX5_gets_1 11 rfl rfl)
theorem dX5_gets_37 : decode cX5_gets 37 = .ok (.iload 4, 2) := dk_21 4 (dk_at dksX5_gets_1 14 rfl rfl)
theorem dX5_gets_39 : decode cX5_gets 39 = .ok (.iastore, 1) := dk_79 (dk_at dksX5_gets_1 16 rfl rfl)
theorem dX5_gets_40 : decode cX5_gets 40 = .ok (.return_, 1) := dk_177 (dk_at dksX5_gets_1 17 rfl rfl)
abbrev cX5_poorest : ByteArray := prog_30_method_56_code
def yX5_poorest : MethodName := ⟨RX5, "poorest", "(II)I"⟩
def dkwX5_poorest_3 : List UInt8 := [167, 255, 191, 29, 172]
abbrev dktX5_poorest_3 : List UInt8 := dkwX5_poorest_3 ++ []
def dkwX5_poorest_2 : List UInt8 := [4, 167, 0, 4, 3, 54, 5, 21, 5, 153, 0, 8, 21, 4, 167, 0, 4, 29, 62, 132, 4, 1]
abbrev dktX5_poorest_2 : List UInt8 := dkwX5_poorest_2 ++ dktX5_poorest_3
def dkwX5_poorest_1 : List UInt8 := [42, 180, 0, 115, 27, 7, 96, 21, 4, 96, 46, 42, 180, 0, 115, 27, 7, 96, 29, 96, 46, 162, 0, 7]
abbrev dktX5_poorest_1 : List UInt8 := dkwX5_poorest_1 ++ dktX5_poorest_2
def dkwX5_poorest_0 : List UInt8 := [2, 62, 3, 54, 4, 21, 4, 42, 182, 1, 35, 162, 0, 62, 21, 4, 28, 159, 0, 35, 29, 155, 0, 27]
abbrev dktX5_poorest_0 : List UInt8 := dkwX5_poorest_0 ++ dktX5_poorest_1
theorem dksX5_poorest_0 : cX5_poorest.data.toList.drop 0 = dktX5_poorest_0 := by decide +kernel
theorem dksX5_poorest_1 : cX5_poorest.data.toList.drop 24 = dktX5_poorest_1 := dk_seg dksX5_poorest_0 24 rfl rfl
theorem dksX5_poorest_2 : cX5_poorest.data.toList.drop 48 = dktX5_poorest_2 := dk_seg dksX5_poorest_1 24 rfl rfl
theorem dksX5_poorest_3 : cX5_poorest.data.toList.drop 70 = dktX5_poorest_3 := dk_seg dksX5_poorest_2 22 rfl rfl
theorem dX5_poorest_0 : decode cX5_poorest 0 = .ok (.iconst (-1), 1) := dk_2 (dk_at dksX5_poorest_0 0 rfl rfl)
theorem dX5_poorest_1 : decode cX5_poorest 1 = .ok (.istore_n 3, 1) := dk_62 (dk_at dksX5_poorest_0 1 rfl rfl)
theorem dX5_poorest_2 : decode cX5_poorest 2 = .ok (.iconst 0, 1) := dk_3 (dk_at dksX5_poorest_0 2 rfl rfl)
theorem dX5_poorest_3 : decode cX5_poorest 3 = .ok (.istore 4, 2) := dk_54 4 (dk_at dksX5_poorest_0 3 rfl rfl)
theorem dX5_poorest_5 : decode cX5_poorest 5 = .ok (.iload 4, 2) := dk_21 4 (dk_at dksX5_poorest_0 5 rfl rfl)
theorem dX5_poorest_7 : decode cX5_poorest 7 = .ok (.aload_n 0, 1) := dk_42 (dk_at dksX5_poorest_0 7 rfl rfl)
theorem dX5_poorest_8 : decode cX5_poorest 8 = .ok (.invokevirtual 291, 3) := dk_182 1 35 (dk_at dksX5_poorest_0 8 rfl rfl)
theorem dX5_poorest_11 : decode cX5_poorest 11 = .ok (.if_icmp .ge 62, 3) := dk_162 0 62 (dk_at dksX5_poorest_0 11 rfl rfl)
theorem dX5_poorest_14 : decode cX5_poorest 14 = .ok (.iload 4, 2) := dk_21 4 (dk_at dksX5_poorest_0 14 rfl rfl)
theorem dX5_poorest_16 : decode cX5_poorest 16 = .ok (.iload_n 2, 1) := dk_28 (dk_at dksX5_poorest_0 16 rfl rfl)
theorem dX5_poorest_17 : decode cX5_poorest 17 = .ok (.if_icmp .eq 35, 3) := dk_159 0 35 (dk_at dksX5_poorest_0 17 rfl rfl)
theorem dX5_poorest_20 : decode cX5_poorest 20 = .ok (.iload_n 3, 1) := dk_29 (dk_at dksX5_poorest_0 20 rfl rfl)
theorem dX5_poorest_21 : decode cX5_poorest 21 = .ok (.ifCond .lt 27, 3) := dk_155 0 27 (dk_at dksX5_poorest_0 21 rfl rfl)
theorem dX5_poorest_24 : decode cX5_poorest 24 = .ok (.aload_n 0, 1) := dk_42 (dk_at dksX5_poorest_1 0 rfl rfl)
theorem dX5_poorest_25 : decode cX5_poorest 25 = .ok (.getfield 115, 3) := dk_180 0 115 (dk_at dksX5_poorest_1 1 rfl rfl)
theorem dX5_poorest_28 : decode cX5_poorest 28 = .ok (.iload_n 1, 1) := dk_27 (dk_at dksX5_poorest_1 4 rfl rfl)
theorem dX5_poorest_29 : decode cX5_poorest 29 = .ok (.iconst 4, 1) := dk_7 (dk_at dksX5_poorest_1 5 rfl rfl)
theorem dX5_poorest_30 : decode cX5_poorest 30 = .ok (.iadd, 1) := dk_96 (dk_at dksX5_poorest_1 6 rfl rfl)
theorem dX5_poorest_31 : decode cX5_poorest 31 = .ok (.iload 4, 2) := dk_21 4 (dk_at dksX5_poorest_1 7 rfl rfl)
theorem dX5_poorest_33 : decode cX5_poorest 33 = .ok (.iadd, 1) := dk_96 (dk_at dksX5_poorest_1 9 rfl rfl)
theorem dX5_poorest_34 : decode cX5_poorest 34 = .ok (.iaload, 1) := dk_46 (dk_at dksX5_poorest_1 10 rfl rfl)
theorem dX5_poorest_35 : decode cX5_poorest 35 = .ok (.aload_n 0, 1) := dk_42 (dk_at dksX5_poorest_1 11 rfl rfl)
theorem dX5_poorest_36 : decode cX5_poorest 36 = .ok (.getfield 115, 3) := dk_180 0 115 (dk_at dksX5_poorest_1 12 rfl rfl)
theorem dX5_poorest_39 : decode cX5_poorest 39 = .ok (.iload_n 1, 1) := dk_27 (dk_at dksX5_poorest_1 15 rfl rfl)
theorem dX5_poorest_40 : decode cX5_poorest 40 = .ok (.iconst 4, 1) := dk_7 (dk_at dksX5_poorest_1 16 rfl rfl)
theorem dX5_poorest_41 : decode cX5_poorest 41 = .ok (.iadd, 1) := dk_96 (dk_at dksX5_poorest_1 17 rfl rfl)
theorem dX5_poorest_42 : decode cX5_poorest 42 = .ok (.iload_n 3, 1) := dk_29 (dk_at dksX5_poorest_1 18 rfl rfl)
theorem dX5_poorest_43 : decode cX5_poorest 43 = .ok (.iadd, 1) := dk_96 (dk_at dksX5_poorest_1 19 rfl rfl)
theorem dX5_poorest_44 : decode cX5_poorest 44 = .ok (.iaload, 1) := dk_46 (dk_at dksX5_poorest_1 20 rfl rfl)
theorem dX5_poorest_45 : decode cX5_poorest 45 = .ok (.if_icmp .ge 7, 3) := dk_162 0 7 (dk_at dksX5_poorest_1 21 rfl rfl)
theorem dX5_poorest_48 : decode cX5_poorest 48 = .ok (.iconst 1, 1) := dk_4 (dk_at dksX5_poorest_2 0 rfl rfl)
theorem dX5_poorest_49 : decode cX5_poorest 49 = .ok (.goto 4, 3) := dk_167 0 4 (dk_at dksX5_poorest_2 1 rfl rfl)
theorem dX5_poorest_52 : decode cX5_poorest 52 = .ok (.iconst 0, 1) := dk_3 (dk_at dksX5_poorest_2 4 rfl rfl)
theorem dX5_poorest_53 : decode cX5_poorest 53 = .ok (.istore 5, 2) := dk_54 5 (dk_at dksX5_poorest_2 5 rfl rfl)
theorem dX5_poorest_55 : decode cX5_poorest 55 = .ok (.iload 5, 2) := dk_21 5 (dk_at dksX5_poorest_2 7 rfl rfl)
theorem dX5_poorest_57 : decode cX5_poorest 57 = .ok (.ifCond .eq 8, 3) := dk_153 0 8 (dk_at dksX5_poorest_2 9 rfl rfl)
theorem dX5_poorest_60 : decode cX5_poorest 60 = .ok (.iload 4, 2) := dk_21 4 (dk_at dksX5_poorest_2 12 rfl rfl)
theorem dX5_poorest_62 : decode cX5_poorest 62 = .ok (.goto 4, 3) := dk_167 0 4 (dk_at dksX5_poorest_2 14 rfl rfl)
theorem dX5_poorest_65 : decode cX5_poorest 65 = .ok (.iload_n 3, 1) := dk_29 (dk_at dksX5_poorest_2 17 rfl rfl)
theorem dX5_poorest_66 : decode cX5_poorest 66 = .ok (.istore_n 3, 1) := dk_62 (dk_at dksX5_poorest_2 18 rfl rfl)
theorem dX5_poorest_67 : decode cX5_poorest 67 = .ok (.iinc 4 1, 3) := dk_132 4 1 (dk_at dksX5_poorest_2 19 rfl rfl)
theorem dX5_poorest_70 : decode cX5_poorest 70 = .ok (.goto (-65), 3) := dk_167 255 191 (dk_at dksX5_poorest_3 0 rfl rfl)
theorem dX5_poorest_73 : decode cX5_poorest 73 = .ok (.iload_n 3, 1) := dk_29 (dk_at dksX5_poorest_3 3 rfl rfl)
theorem dX5_poorest_74 : decode cX5_poorest 74 = .ok (.ireturn, 1) := dk_172 (dk_at dksX5_poorest_3 4 rfl rfl)
abbrev cX5_mendsAs : ByteArray := prog_30_method_58_code
def yX5_mendsAs : MethodName := ⟨RX5, "mendsAs", "(II)V"⟩
def dkwX5_mendsAs_7 : List UInt8 := [177]
abbrev dktX5_mendsAs_7 : List UInt8 := dkwX5_mendsAs_7 ++ []
def dkwX5_mendsAs_6 : List UInt8 := [21, 4, 156, 0, 7, 3, 167, 0, 17, 21, 4, 16, 9, 164, 0, 8, 16, 9, 167, 0, 5, 21, 4, 79]
abbrev dktX5_mendsAs_6 : List UInt8 := dkwX5_mendsAs_6 ++ dktX5_mendsAs_7
def dkwX5_mendsAs_5 : List UInt8 := [6, 164, 0, 7, 6, 167, 0, 5, 21, 4, 96, 54, 4, 42, 180, 0, 115, 27, 16, 16, 96, 28, 96]
abbrev dktX5_mendsAs_5 : List UInt8 := dkwX5_mendsAs_5 ++ dktX5_mendsAs_6
def dkwX5_mendsAs_4 : List UInt8 := [180, 0, 115, 27, 16, 16, 96, 28, 96, 46, 21, 4, 16, 253, 162, 0, 8, 16, 253, 167, 0, 15, 21, 4]
abbrev dktX5_mendsAs_4 : List UInt8 := dkwX5_mendsAs_4 ++ dktX5_mendsAs_5
def dkwX5_mendsAs_3 : List UInt8 := [7, 46, 156, 0, 8, 21, 4, 167, 0, 13, 42, 42, 180, 0, 91, 7, 46, 182, 1, 75, 54, 4, 42]
abbrev dktX5_mendsAs_3 : List UInt8 := dkwX5_mendsAs_3 ++ dktX5_mendsAs_4
def dkwX5_mendsAs_2 : List UInt8 := [167, 0, 18, 42, 180, 0, 109, 6, 46, 6, 162, 0, 7, 2, 167, 0, 4, 3, 54, 4, 42, 180, 0, 91]
abbrev dktX5_mendsAs_2 : List UInt8 := dkwX5_mendsAs_2 ++ dktX5_mendsAs_3
def dkwX5_mendsAs_1 : List UInt8 := [160, 0, 7, 4, 167, 0, 4, 3, 182, 1, 71, 42, 180, 0, 109, 6, 46, 7, 164, 0, 7, 4]
abbrev dktX5_mendsAs_1 : List UInt8 := dkwX5_mendsAs_1 ++ dktX5_mendsAs_2
def dkwX5_mendsAs_0 : List UInt8 := [42, 180, 0, 115, 27, 16, 28, 96, 28, 96, 46, 62, 42, 27, 28, 29, 42, 29, 3, 182, 1, 38, 5]
abbrev dktX5_mendsAs_0 : List UInt8 := dkwX5_mendsAs_0 ++ dktX5_mendsAs_1
theorem dksX5_mendsAs_0 : cX5_mendsAs.data.toList.drop 0 = dktX5_mendsAs_0 := by decide +kernel
theorem dksX5_mendsAs_1 : cX5_mendsAs.data.toList.drop 23 = dktX5_mendsAs_1 := dk_seg dksX5_mendsAs_0 23 rfl rfl
theorem dksX5_mendsAs_2 : cX5_mendsAs.data.toList.drop 45 = dktX5_mendsAs_2 := dk_seg dksX5_mendsAs_1 22 rfl rfl
theorem dksX5_mendsAs_3 : cX5_mendsAs.data.toList.drop 69 = dktX5_mendsAs_3 := dk_seg dksX5_mendsAs_2 24 rfl rfl
theorem dksX5_mendsAs_4 : cX5_mendsAs.data.toList.drop 92 = dktX5_mendsAs_4 := dk_seg dksX5_mendsAs_3 23 rfl rfl
theorem dksX5_mendsAs_5 : cX5_mendsAs.data.toList.drop 116 = dktX5_mendsAs_5 := dk_seg dksX5_mendsAs_4 24 rfl rfl
theorem dksX5_mendsAs_6 : cX5_mendsAs.data.toList.drop 139 = dktX5_mendsAs_6 := dk_seg dksX5_mendsAs_5 23 rfl rfl
theorem dksX5_mendsAs_7 : cX5_mendsAs.data.toList.drop 163 = dktX5_mendsAs_7 := dk_seg dksX5_mendsAs_6 24 rfl rfl
theorem dX5_mendsAs_0 : decode cX5_mendsAs 0 = .ok (.aload_n 0, 1) := dk_42 (dk_at dksX5_mendsAs_0 0 rfl rfl)
theorem dX5_mendsAs_1 : decode cX5_mendsAs 1 = .ok (.getfield 115, 3) := dk_180 0 115 (dk_at dksX5_mendsAs_0 1 rfl rfl)
theorem dX5_mendsAs_4 : decode cX5_mendsAs 4 = .ok (.iload_n 1, 1) := dk_27 (dk_at dksX5_mendsAs_0 4 rfl rfl)
theorem dX5_mendsAs_5 : decode cX5_mendsAs 5 = .ok (.bipush 28, 2) := dk_16 28 (dk_at dksX5_mendsAs_0 5 rfl rfl)
theorem dX5_mendsAs_7 : decode cX5_mendsAs 7 = .ok (.iadd, 1) := dk_96 (dk_at dksX5_mendsAs_0 7 rfl rfl)
theorem dX5_mendsAs_8 : decode cX5_mendsAs 8 = .ok (.iload_n 2, 1) := dk_28 (dk_at dksX5_mendsAs_0 8 rfl rfl)
theorem dX5_mendsAs_9 : decode cX5_mendsAs 9 = .ok (.iadd, 1) := dk_96 (dk_at dksX5_mendsAs_0 9 rfl rfl)
theorem dX5_mendsAs_10 : decode cX5_mendsAs 10 = .ok (.iaload, 1) := dk_46 (dk_at dksX5_mendsAs_0 10 rfl rfl)
theorem dX5_mendsAs_11 : decode cX5_mendsAs 11 = .ok (.istore_n 3, 1) := dk_62 (dk_at dksX5_mendsAs_0 11 rfl rfl)
theorem dX5_mendsAs_12 : decode cX5_mendsAs 12 = .ok (.aload_n 0, 1) := dk_42 (dk_at dksX5_mendsAs_0 12 rfl rfl)
theorem dX5_mendsAs_13 : decode cX5_mendsAs 13 = .ok (.iload_n 1, 1) := dk_27 (dk_at dksX5_mendsAs_0 13 rfl rfl)
theorem dX5_mendsAs_14 : decode cX5_mendsAs 14 = .ok (.iload_n 2, 1) := dk_28 (dk_at dksX5_mendsAs_0 14 rfl rfl)
theorem dX5_mendsAs_15 : decode cX5_mendsAs 15 = .ok (.iload_n 3, 1) := dk_29 (dk_at dksX5_mendsAs_0 15 rfl rfl)
theorem dX5_mendsAs_16 : decode cX5_mendsAs 16 = .ok (.aload_n 0, 1) := dk_42 (dk_at dksX5_mendsAs_0 16 rfl rfl)
theorem dX5_mendsAs_17 : decode cX5_mendsAs 17 = .ok (.iload_n 3, 1) := dk_29 (dk_at dksX5_mendsAs_0 17 rfl rfl)
theorem dX5_mendsAs_18 : decode cX5_mendsAs 18 = .ok (.iconst 0, 1) := dk_3 (dk_at dksX5_mendsAs_0 18 rfl rfl)
theorem dX5_mendsAs_19 : decode cX5_mendsAs 19 = .ok (.invokevirtual 294, 3) := dk_182 1 38 (dk_at dksX5_mendsAs_0 19 rfl rfl)
theorem dX5_mendsAs_22 : decode cX5_mendsAs 22 = .ok (.iconst 2, 1) := dk_5 (dk_at dksX5_mendsAs_0 22 rfl rfl)
theorem dX5_mendsAs_23 : decode cX5_mendsAs 23 = .ok (.if_icmp .ne 7, 3) := dk_160 0 7 (dk_at dksX5_mendsAs_1 0 rfl rfl)
theorem dX5_mendsAs_26 : decode cX5_mendsAs 26 = .ok (.iconst 1, 1) := dk_4 (dk_at dksX5_mendsAs_1 3 rfl rfl)
theorem dX5_mendsAs_27 : decode cX5_mendsAs 27 = .ok (.goto 4, 3) := dk_167 0 4 (dk_at dksX5_mendsAs_1 4 rfl rfl)
theorem dX5_mendsAs_30 : decode cX5_mendsAs 30 = .ok (.iconst 0, 1) := dk_3 (dk_at dksX5_mendsAs_1 7 rfl rfl)
theorem dX5_mendsAs_31 : decode cX5_mendsAs 31 = .ok (.invokevirtual 327, 3) := dk_182 1 71 (dk_at dksX5_mendsAs_1 8 rfl rfl)
theorem dX5_mendsAs_34 : decode cX5_mendsAs 34 = .ok (.aload_n 0, 1) := dk_42 (dk_at dksX5_mendsAs_1 11 rfl rfl)
theorem dX5_mendsAs_35 : decode cX5_mendsAs 35 = .ok (.getfield 109, 3) := dk_180 0 109 (dk_at dksX5_mendsAs_1 12 rfl rfl)
theorem dX5_mendsAs_38 : decode cX5_mendsAs 38 = .ok (.iconst 3, 1) := dk_6 (dk_at dksX5_mendsAs_1 15 rfl rfl)
theorem dX5_mendsAs_39 : decode cX5_mendsAs 39 = .ok (.iaload, 1) := dk_46 (dk_at dksX5_mendsAs_1 16 rfl rfl)
theorem dX5_mendsAs_40 : decode cX5_mendsAs 40 = .ok (.iconst 4, 1) := dk_7 (dk_at dksX5_mendsAs_1 17 rfl rfl)
theorem dX5_mendsAs_41 : decode cX5_mendsAs 41 = .ok (.if_icmp .le 7, 3) := dk_164 0 7 (dk_at dksX5_mendsAs_1 18 rfl rfl)
theorem dX5_mendsAs_44 : decode cX5_mendsAs 44 = .ok (.iconst 1, 1) := dk_4 (dk_at dksX5_mendsAs_1 21 rfl rfl)
theorem dX5_mendsAs_45 : decode cX5_mendsAs 45 = .ok (.goto 18, 3) := dk_167 0 18 (dk_at dksX5_mendsAs_2 0 rfl rfl)
theorem dX5_mendsAs_48 : decode cX5_mendsAs 48 = .ok (.aload_n 0, 1) := dk_42 (dk_at dksX5_mendsAs_2 3 rfl rfl)
theorem dX5_mendsAs_49 : decode cX5_mendsAs 49 = .ok (.getfield 109, 3) := dk_180 0 109 (dk_at dksX5_mendsAs_2 4 rfl rfl)
theorem dX5_mendsAs_52 : decode cX5_mendsAs 52 = .ok (.iconst 3, 1) := dk_6 (dk_at dksX5_mendsAs_2 7 rfl rfl)
theorem dX5_mendsAs_53 : decode cX5_mendsAs 53 = .ok (.iaload, 1) := dk_46 (dk_at dksX5_mendsAs_2 8 rfl rfl)
theorem dX5_mendsAs_54 : decode cX5_mendsAs 54 = .ok (.iconst 3, 1) := dk_6 (dk_at dksX5_mendsAs_2 9 rfl rfl)
theorem dX5_mendsAs_55 : decode cX5_mendsAs 55 = .ok (.if_icmp .ge 7, 3) := dk_162 0 7 (dk_at dksX5_mendsAs_2 10 rfl rfl)
theorem dX5_mendsAs_58 : decode cX5_mendsAs 58 = .ok (.iconst (-1), 1) := dk_2 (dk_at dksX5_mendsAs_2 13 rfl rfl)
theorem dX5_mendsAs_59 : decode cX5_mendsAs 59 = .ok (.goto 4, 3) := dk_167 0 4 (dk_at dksX5_mendsAs_2 14 rfl rfl)
theorem dX5_mendsAs_62 : decode cX5_mendsAs 62 = .ok (.iconst 0, 1) := dk_3 (dk_at dksX5_mendsAs_2 17 rfl rfl)
theorem dX5_mendsAs_63 : decode cX5_mendsAs 63 = .ok (.istore 4, 2) := dk_54 4 (dk_at dksX5_mendsAs_2 18 rfl rfl)
theorem dX5_mendsAs_65 : decode cX5_mendsAs 65 = .ok (.aload_n 0, 1) := dk_42 (dk_at dksX5_mendsAs_2 20 rfl rfl)
theorem dX5_mendsAs_66 : decode cX5_mendsAs 66 = .ok (.getfield 91, 3) := dk_180 0 91 (dk_at dksX5_mendsAs_2 21 rfl rfl)
theorem dX5_mendsAs_69 : decode cX5_mendsAs 69 = .ok (.iconst 4, 1) := dk_7 (dk_at dksX5_mendsAs_3 0 rfl rfl)
theorem dX5_mendsAs_70 : decode cX5_mendsAs 70 = .ok (.iaload, 1) := dk_46 (dk_at dksX5_mendsAs_3 1 rfl rfl)
theorem dX5_mendsAs_71 : decode cX5_mendsAs 71 = .ok (.ifCond .ge 8, 3) := dk_156 0 8 (dk_at dksX5_mendsAs_3 2 rfl rfl)
theorem dX5_mendsAs_74 : decode cX5_mendsAs 74 = .ok (.iload 4, 2) := dk_21 4 (dk_at dksX5_mendsAs_3 5 rfl rfl)
theorem dX5_mendsAs_76 : decode cX5_mendsAs 76 = .ok (.goto 13, 3) := dk_167 0 13 (dk_at dksX5_mendsAs_3 7 rfl rfl)
theorem dX5_mendsAs_79 : decode cX5_mendsAs 79 = .ok (.aload_n 0, 1) := dk_42 (dk_at dksX5_mendsAs_3 10 rfl rfl)
theorem dX5_mendsAs_80 : decode cX5_mendsAs 80 = .ok (.aload_n 0, 1) := dk_42 (dk_at dksX5_mendsAs_3 11 rfl rfl)
theorem dX5_mendsAs_81 : decode cX5_mendsAs 81 = .ok (.getfield 91, 3) := dk_180 0 91 (dk_at dksX5_mendsAs_3 12 rfl rfl)
theorem dX5_mendsAs_84 : decode cX5_mendsAs 84 = .ok (.iconst 4, 1) := dk_7 (dk_at dksX5_mendsAs_3 15 rfl rfl)
theorem dX5_mendsAs_85 : decode cX5_mendsAs 85 = .ok (.iaload, 1) := dk_46 (dk_at dksX5_mendsAs_3 16 rfl rfl)
theorem dX5_mendsAs_86 : decode cX5_mendsAs 86 = .ok (.invokevirtual 331, 3) := dk_182 1 75 (dk_at dksX5_mendsAs_3 17 rfl rfl)
theorem dX5_mendsAs_89 : decode cX5_mendsAs 89 = .ok (.istore 4, 2) := dk_54 4 (dk_at dksX5_mendsAs_3 20 rfl rfl)
theorem dX5_mendsAs_91 : decode cX5_mendsAs 91 = .ok (.aload_n 0, 1) := dk_42 (dk_at dksX5_mendsAs_3 22 rfl rfl)
theorem dX5_mendsAs_92 : decode cX5_mendsAs 92 = .ok (.getfield 115, 3) := dk_180 0 115 (dk_at dksX5_mendsAs_4 0 rfl rfl)
theorem dX5_mendsAs_95 : decode cX5_mendsAs 95 = .ok (.iload_n 1, 1) := dk_27 (dk_at dksX5_mendsAs_4 3 rfl rfl)
theorem dX5_mendsAs_96 : decode cX5_mendsAs 96 = .ok (.bipush 16, 2) := dk_16 16 (dk_at dksX5_mendsAs_4 4 rfl rfl)
theorem dX5_mendsAs_98 : decode cX5_mendsAs 98 = .ok (.iadd, 1) := dk_96 (dk_at dksX5_mendsAs_4 6 rfl rfl)
theorem dX5_mendsAs_99 : decode cX5_mendsAs 99 = .ok (.iload_n 2, 1) := dk_28 (dk_at dksX5_mendsAs_4 7 rfl rfl)
theorem dX5_mendsAs_100 : decode cX5_mendsAs 100 = .ok (.iadd, 1) := dk_96 (dk_at dksX5_mendsAs_4 8 rfl rfl)
theorem dX5_mendsAs_101 : decode cX5_mendsAs 101 = .ok (.iaload, 1) := dk_46 (dk_at dksX5_mendsAs_4 9 rfl rfl)
theorem dX5_mendsAs_102 : decode cX5_mendsAs 102 = .ok (.iload 4, 2) := dk_21 4 (dk_at dksX5_mendsAs_4 10 rfl rfl)
theorem dX5_mendsAs_104 : decode cX5_mendsAs 104 = .ok (.bipush (-3), 2) := dk_16 253 (dk_at dksX5_mendsAs_4 12 rfl rfl)
theorem dX5_mendsAs_106 : decode cX5_mendsAs 106 = .ok (.if_icmp .ge 8, 3) := dk_162 0 8 (dk_at dksX5_mendsAs_4 14 rfl rfl)
theorem dX5_mendsAs_109 : decode cX5_mendsAs 109 = .ok (.bipush (-3), 2) := dk_16 253 (dk_at dksX5_mendsAs_4 17 rfl rfl)
theorem dX5_mendsAs_111 : decode cX5_mendsAs 111 = .ok (.goto 15, 3) := dk_167 0 15 (dk_at dksX5_mendsAs_4 19 rfl rfl)
theorem dX5_mendsAs_114 : decode cX5_mendsAs 114 = .ok (.iload 4, 2) := dk_21 4 (dk_at dksX5_mendsAs_4 22 rfl rfl)
theorem dX5_mendsAs_116 : decode cX5_mendsAs 116 = .ok (.iconst 3, 1) := dk_6 (dk_at dksX5_mendsAs_5 0 rfl rfl)
theorem dX5_mendsAs_117 : decode cX5_mendsAs 117 = .ok (.if_icmp .le 7, 3) := dk_164 0 7 (dk_at dksX5_mendsAs_5 1 rfl rfl)
theorem dX5_mendsAs_120 : decode cX5_mendsAs 120 = .ok (.iconst 3, 1) := dk_6 (dk_at dksX5_mendsAs_5 4 rfl rfl)
theorem dX5_mendsAs_121 : decode cX5_mendsAs 121 = .ok (.goto 5, 3) := dk_167 0 5 (dk_at dksX5_mendsAs_5 5 rfl rfl)
theorem dX5_mendsAs_124 : decode cX5_mendsAs 124 = .ok (.iload 4, 2) := dk_21 4 (dk_at dksX5_mendsAs_5 8 rfl rfl)
theorem dX5_mendsAs_126 : decode cX5_mendsAs 126 = .ok (.iadd, 1) := dk_96 (dk_at dksX5_mendsAs_5 10 rfl rfl)
theorem dX5_mendsAs_127 : decode cX5_mendsAs 127 = .ok (.istore 4, 2) := dk_54 4 (dk_at dksX5_mendsAs_5 11 rfl rfl)
theorem dX5_mendsAs_129 : decode cX5_mendsAs 129 = .ok (.aload_n 0, 1) := dk_42 (dk_at dksX5_mendsAs_5 13 rfl rfl)
theorem dX5_mendsAs_130 : decode cX5_mendsAs 130 = .ok (.getfield 115, 3) := dk_180 0 115 (dk_at dksX5_mendsAs_5 14 rfl rfl)
theorem dX5_mendsAs_133 : decode cX5_mendsAs 133 = .ok (.iload_n 1, 1) := dk_27 (dk_at dksX5_mendsAs_5 17 rfl rfl)
theorem dX5_mendsAs_134 : decode cX5_mendsAs 134 = .ok (.bipush 16, 2) := dk_16 16 (dk_at dksX5_mendsAs_5 18 rfl rfl)
theorem dX5_mendsAs_136 : decode cX5_mendsAs 136 = .ok (.iadd, 1) := dk_96 (dk_at dksX5_mendsAs_5 20 rfl rfl)
theorem dX5_mendsAs_137 : decode cX5_mendsAs 137 = .ok (.iload_n 2, 1) := dk_28 (dk_at dksX5_mendsAs_5 21 rfl rfl)
theorem dX5_mendsAs_138 : decode cX5_mendsAs 138 = .ok (.iadd, 1) := dk_96 (dk_at dksX5_mendsAs_5 22 rfl rfl)
theorem dX5_mendsAs_139 : decode cX5_mendsAs 139 = .ok (.iload 4, 2) := dk_21 4 (dk_at dksX5_mendsAs_6 0 rfl rfl)
theorem dX5_mendsAs_141 : decode cX5_mendsAs 141 = .ok (.ifCond .ge 7, 3) := dk_156 0 7 (dk_at dksX5_mendsAs_6 2 rfl rfl)
theorem dX5_mendsAs_144 : decode cX5_mendsAs 144 = .ok (.iconst 0, 1) := dk_3 (dk_at dksX5_mendsAs_6 5 rfl rfl)
theorem dX5_mendsAs_145 : decode cX5_mendsAs 145 = .ok (.goto 17, 3) := dk_167 0 17 (dk_at dksX5_mendsAs_6 6 rfl rfl)
theorem dX5_mendsAs_148 : decode cX5_mendsAs 148 = .ok (.iload 4, 2) := dk_21 4 (dk_at dksX5_mendsAs_6 9 rfl rfl)
theorem dX5_mendsAs_150 : decode cX5_mendsAs 150 = .ok (.bipush 9, 2) := dk_16 9 (dk_at dksX5_mendsAs_6 11 rfl rfl)
theorem dX5_mendsAs_152 : decode cX5_mendsAs 152 = .ok (.if_icmp .le 8, 3) := dk_164 0 8 (dk_at dksX5_mendsAs_6 13 rfl rfl)
theorem dX5_mendsAs_155 : decode cX5_mendsAs 155 = .ok (.bipush 9, 2) := dk_16 9 (dk_at dksX5_mendsAs_6 16 rfl rfl)
theorem dX5_mendsAs_157 : decode cX5_mendsAs 157 = .ok (.goto 5, 3) := dk_167 0 5 (dk_at dksX5_mendsAs_6 18 rfl rfl)
theorem dX5_mendsAs_160 : decode cX5_mendsAs 160 = .ok (.iload 4, 2) := dk_21 4 (dk_at dksX5_mendsAs_6 21 rfl rfl)
theorem dX5_mendsAs_162 : decode cX5_mendsAs 162 = .ok (.iastore, 1) := dk_79 (dk_at dksX5_mendsAs_6 23 rfl rfl)
theorem dX5_mendsAs_163 : decode cX5_mendsAs 163 = .ok (.return_, 1) := dk_177 (dk_at dksX5_mendsAs_7 0 rfl rfl)
abbrev cX5_home : ByteArray := prog_30_method_78_code
def yX5_home : MethodName := ⟨RX5, "home", "()I"⟩
def dkwX5_home_1 : List UInt8 := [182, 1, 149, 172]
abbrev dktX5_home_1 : List UInt8 := dkwX5_home_1 ++ []
def dkwX5_home_0 : List UInt8 := [42, 3, 181, 0, 1, 42, 180, 0, 115, 3, 46, 154, 0, 5, 2, 172, 42, 182, 1, 110, 42, 3]
abbrev dktX5_home_0 : List UInt8 := dkwX5_home_0 ++ dktX5_home_1
theorem dksX5_home_0 : cX5_home.data.toList.drop 0 = dktX5_home_0 := by decide +kernel
theorem dksX5_home_1 : cX5_home.data.toList.drop 22 = dktX5_home_1 := dk_seg dksX5_home_0 22 rfl rfl
theorem dX5_home_0 : decode cX5_home 0 = .ok (.aload_n 0, 1) := dk_42 (dk_at dksX5_home_0 0 rfl rfl)
theorem dX5_home_1 : decode cX5_home 1 = .ok (.iconst 0, 1) := dk_3 (dk_at dksX5_home_0 1 rfl rfl)
theorem dX5_home_2 : decode cX5_home 2 = .ok (.putfield 1, 3) := dk_181 0 1 (dk_at dksX5_home_0 2 rfl rfl)
theorem dX5_home_5 : decode cX5_home 5 = .ok (.aload_n 0, 1) := dk_42 (dk_at dksX5_home_0 5 rfl rfl)
theorem dX5_home_6 : decode cX5_home 6 = .ok (.getfield 115, 3) := dk_180 0 115 (dk_at dksX5_home_0 6 rfl rfl)
theorem dX5_home_9 : decode cX5_home 9 = .ok (.iconst 0, 1) := dk_3 (dk_at dksX5_home_0 9 rfl rfl)
theorem dX5_home_10 : decode cX5_home 10 = .ok (.iaload, 1) := dk_46 (dk_at dksX5_home_0 10 rfl rfl)
theorem dX5_home_11 : decode cX5_home 11 = .ok (.ifCond .ne 5, 3) := dk_154 0 5 (dk_at dksX5_home_0 11 rfl rfl)
theorem dX5_home_14 : decode cX5_home 14 = .ok (.iconst (-1), 1) := dk_2 (dk_at dksX5_home_0 14 rfl rfl)
theorem dX5_home_15 : decode cX5_home 15 = .ok (.ireturn, 1) := dk_172 (dk_at dksX5_home_0 15 rfl rfl)
theorem dX5_home_16 : decode cX5_home 16 = .ok (.aload_n 0, 1) := dk_42 (dk_at dksX5_home_0 16 rfl rfl)
theorem dX5_home_17 : decode cX5_home 17 = .ok (.invokevirtual 366, 3) := dk_182 1 110 (dk_at dksX5_home_0 17 rfl rfl)
theorem dX5_home_20 : decode cX5_home 20 = .ok (.aload_n 0, 1) := dk_42 (dk_at dksX5_home_0 20 rfl rfl)
theorem dX5_home_21 : decode cX5_home 21 = .ok (.iconst 0, 1) := dk_3 (dk_at dksX5_home_0 21 rfl rfl)
theorem dX5_home_22 : decode cX5_home 22 = .ok (.invokevirtual 405, 3) := dk_182 1 149 (dk_at dksX5_home_1 0 rfl rfl)
theorem dX5_home_25 : decode cX5_home 25 = .ok (.ireturn, 1) := dk_172 (dk_at dksX5_home_1 3 rfl rfl)
abbrev cX5_goesHome : ByteArray := prog_30_method_63_code
def yX5_goesHome : MethodName := ⟨RX5, "goesHome", "(I)I"⟩
def dkwX5_goesHome_3 : List UInt8 := [180, 0, 115, 27, 16, 22, 96, 29, 96, 3, 79, 132, 3, 1, 167, 255, 221, 28, 172]
abbrev dktX5_goesHome_3 : List UInt8 := dkwX5_goesHome_3 ++ []
def dkwX5_goesHome_2 : List UInt8 := [79, 3, 62, 29, 42, 182, 1, 35, 162, 0, 33, 42, 180, 0, 115, 27, 16, 28, 96, 29, 96, 29, 79, 42]
abbrev dktX5_goesHome_2 : List UInt8 := dkwX5_goesHome_2 ++ dktX5_goesHome_3
def dkwX5_goesHome_1 : List UInt8 := [79, 42, 180, 0, 115, 27, 5, 96, 92, 46, 4, 96, 79, 42, 180, 0, 115, 27, 6, 96, 92, 46, 28, 96]
abbrev dktX5_goesHome_1 : List UInt8 := dkwX5_goesHome_1 ++ dktX5_goesHome_2
def dkwX5_goesHome_0 : List UInt8 := [42, 27, 3, 182, 1, 96, 61, 42, 180, 0, 115, 27, 3, 96, 3, 79, 42, 180, 0, 115, 27, 4, 96, 3]
abbrev dktX5_goesHome_0 : List UInt8 := dkwX5_goesHome_0 ++ dktX5_goesHome_1
theorem dksX5_goesHome_0 : cX5_goesHome.data.toList.drop 0 = dktX5_goesHome_0 := by decide +kernel
theorem dksX5_goesHome_1 : cX5_goesHome.data.toList.drop 24 = dktX5_goesHome_1 := dk_seg dksX5_goesHome_0 24 rfl rfl
theorem dksX5_goesHome_2 : cX5_goesHome.data.toList.drop 48 = dktX5_goesHome_2 := dk_seg dksX5_goesHome_1 24 rfl rfl
theorem dksX5_goesHome_3 : cX5_goesHome.data.toList.drop 72 = dktX5_goesHome_3 := dk_seg dksX5_goesHome_2 24 rfl rfl
theorem dX5_goesHome_0 : decode cX5_goesHome 0 = .ok (.aload_n 0, 1) := dk_42 (dk_at dksX5_goesHome_0 0 rfl rfl)
theorem dX5_goesHome_1 : decode cX5_goesHome 1 = .ok (.iload_n 1, 1) := dk_27 (dk_at dksX5_goesHome_0 1 rfl rfl)
theorem dX5_goesHome_2 : decode cX5_goesHome 2 = .ok (.iconst 0, 1) := dk_3 (dk_at dksX5_goesHome_0 2 rfl rfl)
theorem dX5_goesHome_3 : decode cX5_goesHome 3 = .ok (.invokevirtual 352, 3) := dk_182 1 96 (dk_at dksX5_goesHome_0 3 rfl rfl)
theorem dX5_goesHome_6 : decode cX5_goesHome 6 = .ok (.istore_n 2, 1) := dk_61 (dk_at dksX5_goesHome_0 6 rfl rfl)
theorem dX5_goesHome_7 : decode cX5_goesHome 7 = .ok (.aload_n 0, 1) := dk_42 (dk_at dksX5_goesHome_0 7 rfl rfl)
theorem dX5_goesHome_8 : decode cX5_goesHome 8 = .ok (.getfield 115, 3) := dk_180 0 115 (dk_at dksX5_goesHome_0 8 rfl rfl)
theorem dX5_goesHome_11 : decode cX5_goesHome 11 = .ok (.iload_n 1, 1) := dk_27 (dk_at dksX5_goesHome_0 11 rfl rfl)
theorem dX5_goesHome_12 : decode cX5_goesHome 12 = .ok (.iconst 0, 1) := dk_3 (dk_at dksX5_goesHome_0 12 rfl rfl)
theorem dX5_goesHome_13 : decode cX5_goesHome 13 = .ok (.iadd, 1) := dk_96 (dk_at dksX5_goesHome_0 13 rfl rfl)
theorem dX5_goesHome_14 : decode cX5_goesHome 14 = .ok (.iconst 0, 1) := dk_3 (dk_at dksX5_goesHome_0 14 rfl rfl)
theorem dX5_goesHome_15 : decode cX5_goesHome 15 = .ok (.iastore, 1) := dk_79 (dk_at dksX5_goesHome_0 15 rfl rfl)
theorem dX5_goesHome_16 : decode cX5_goesHome 16 = .ok (.aload_n 0, 1) := dk_42 (dk_at dksX5_goesHome_0 16 rfl rfl)
theorem dX5_goesHome_17 : decode cX5_goesHome 17 = .ok (.getfield 115, 3) := dk_180 0 115 (dk_at dksX5_goesHome_0 17 rfl rfl)
theorem dX5_goesHome_20 : decode cX5_goesHome 20 = .ok (.iload_n 1, 1) := dk_27 (dk_at dksX5_goesHome_0 20 rfl rfl)
theorem dX5_goesHome_21 : decode cX5_goesHome 21 = .ok (.iconst 1, 1) := dk_4 (dk_at dksX5_goesHome_0 21 rfl rfl)
theorem dX5_goesHome_22 : decode cX5_goesHome 22 = .ok (.iadd, 1) := dk_96 (dk_at dksX5_goesHome_0 22 rfl rfl)
theorem dX5_goesHome_23 : decode cX5_goesHome 23 = .ok (.iconst 0, 1) := dk_3 (dk_at dksX5_goesHome_0 23 rfl rfl)
theorem dX5_goesHome_24 : decode cX5_goesHome 24 = .ok (.iastore, 1) := dk_79 (dk_at dksX5_goesHome_1 0 rfl rfl)
theorem dX5_goesHome_25 : decode cX5_goesHome 25 = .ok (.aload_n 0, 1) := dk_42 (dk_at dksX5_goesHome_1 1 rfl rfl)
theorem dX5_goesHome_26 : decode cX5_goesHome 26 = .ok (.getfield 115, 3) := dk_180 0 115 (dk_at dksX5_goesHome_1 2 rfl rfl)
theorem dX5_goesHome_29 : decode cX5_goesHome 29 = .ok (.iload_n 1, 1) := dk_27 (dk_at dksX5_goesHome_1 5 rfl rfl)
theorem dX5_goesHome_30 : decode cX5_goesHome 30 = .ok (.iconst 2, 1) := dk_5 (dk_at dksX5_goesHome_1 6 rfl rfl)
theorem dX5_goesHome_31 : decode cX5_goesHome 31 = .ok (.iadd, 1) := dk_96 (dk_at dksX5_goesHome_1 7 rfl rfl)
theorem dX5_goesHome_32 : decode cX5_goesHome 32 = .ok (.dup2, 1) := dk_92 (dk_at dksX5_goesHome_1 8 rfl rfl)
theorem dX5_goesHome_33 : decode cX5_goesHome 33 = .ok (.iaload, 1) := dk_46 (dk_at dksX5_goesHome_1 9 rfl rfl)
theorem dX5_goesHome_34 : decode cX5_goesHome 34 = .ok (.iconst 1, 1) := dk_4 (dk_at dksX5_goesHome_1 10 rfl rfl)
theorem dX5_goesHome_35 : decode cX5_goesHome 35 = .ok (.iadd, 1) := dk_96 (dk_at dksX5_goesHome_1 11 rfl rfl)
theorem dX5_goesHome_36 : decode cX5_goesHome 36 = .ok (.iastore, 1) := dk_79 (dk_at dksX5_goesHome_1 12 rfl rfl)
theorem dX5_goesHome_37 : decode cX5_goesHome 37 = .ok (.aload_n 0, 1) := dk_42 (dk_at dksX5_goesHome_1 13 rfl rfl)
theorem dX5_goesHome_38 : decode cX5_goesHome 38 = .ok (.getfield 115, 3) := dk_180 0 115 (dk_at dksX5_goesHome_1 14 rfl rfl)
theorem dX5_goesHome_41 : decode cX5_goesHome 41 = .ok (.iload_n 1, 1) := dk_27 (dk_at dksX5_goesHome_1 17 rfl rfl)
theorem dX5_goesHome_42 : decode cX5_goesHome 42 = .ok (.iconst 3, 1) := dk_6 (dk_at dksX5_goesHome_1 18 rfl rfl)
theorem dX5_goesHome_43 : decode cX5_goesHome 43 = .ok (.iadd, 1) := dk_96 (dk_at dksX5_goesHome_1 19 rfl rfl)
theorem dX5_goesHome_44 : decode cX5_goesHome 44 = .ok (.dup2, 1) := dk_92 (dk_at dksX5_goesHome_1 20 rfl rfl)
theorem dX5_goesHome_45 : decode cX5_goesHome 45 = .ok (.iaload, 1) := dk_46 (dk_at dksX5_goesHome_1 21 rfl rfl)
theorem dX5_goesHome_46 : decode cX5_goesHome 46 = .ok (.iload_n 2, 1) := dk_28 (dk_at dksX5_goesHome_1 22 rfl rfl)
theorem dX5_goesHome_47 : decode cX5_goesHome 47 = .ok (.iadd, 1) := dk_96 (dk_at dksX5_goesHome_1 23 rfl rfl)
theorem dX5_goesHome_48 : decode cX5_goesHome 48 = .ok (.iastore, 1) := dk_79 (dk_at dksX5_goesHome_2 0 rfl rfl)
theorem dX5_goesHome_49 : decode cX5_goesHome 49 = .ok (.iconst 0, 1) := dk_3 (dk_at dksX5_goesHome_2 1 rfl rfl)
theorem dX5_goesHome_50 : decode cX5_goesHome 50 = .ok (.istore_n 3, 1) := dk_62 (dk_at dksX5_goesHome_2 2 rfl rfl)
theorem dX5_goesHome_51 : decode cX5_goesHome 51 = .ok (.iload_n 3, 1) := dk_29 (dk_at dksX5_goesHome_2 3 rfl rfl)
theorem dX5_goesHome_52 : decode cX5_goesHome 52 = .ok (.aload_n 0, 1) := dk_42 (dk_at dksX5_goesHome_2 4 rfl rfl)
theorem dX5_goesHome_53 : decode cX5_goesHome 53 = .ok (.invokevirtual 291, 3) := dk_182 1 35 (dk_at dksX5_goesHome_2 5 rfl rfl)
theorem dX5_goesHome_56 : decode cX5_goesHome 56 = .ok (.if_icmp .ge 33, 3) := dk_162 0 33 (dk_at dksX5_goesHome_2 8 rfl rfl)
theorem dX5_goesHome_59 : decode cX5_goesHome 59 = .ok (.aload_n 0, 1) := dk_42 (dk_at dksX5_goesHome_2 11 rfl rfl)
theorem dX5_goesHome_60 : decode cX5_goesHome 60 = .ok (.getfield 115, 3) := dk_180 0 115 (dk_at dksX5_goesHome_2 12 rfl rfl)
theorem dX5_goesHome_63 : decode cX5_goesHome 63 = .ok (.iload_n 1, 1) := dk_27 (dk_at dksX5_goesHome_2 15 rfl rfl)
theorem dX5_goesHome_64 : decode cX5_goesHome 64 = .ok (.bipush 28, 2) := dk_16 28 (dk_at dksX5_goesHome_2 16 rfl rfl)
theorem dX5_goesHome_66 : decode cX5_goesHome 66 = .ok (.iadd, 1) := dk_96 (dk_at dksX5_goesHome_2 18 rfl rfl)
theorem dX5_goesHome_67 : decode cX5_goesHome 67 = .ok (.iload_n 3, 1) := dk_29 (dk_at dksX5_goesHome_2 19 rfl rfl)
theorem dX5_goesHome_68 : decode cX5_goesHome 68 = .ok (.iadd, 1) := dk_96 (dk_at dksX5_goesHome_2 20 rfl rfl)
theorem dX5_goesHome_69 : decode cX5_goesHome 69 = .ok (.iload_n 3, 1) := dk_29 (dk_at dksX5_goesHome_2 21 rfl rfl)
theorem dX5_goesHome_70 : decode cX5_goesHome 70 = .ok (.iastore, 1) := dk_79 (dk_at dksX5_goesHome_2 22 rfl rfl)
theorem dX5_goesHome_71 : decode cX5_goesHome 71 = .ok (.aload_n 0, 1) := dk_42 (dk_at dksX5_goesHome_2 23 rfl rfl)
theorem dX5_goesHome_72 : decode cX5_goesHome 72 = .ok (.getfield 115, 3) := dk_180 0 115 (dk_at dksX5_goesHome_3 0 rfl rfl)
theorem dX5_goesHome_75 : decode cX5_goesHome 75 = .ok (.iload_n 1, 1) := dk_27 (dk_at dksX5_goesHome_3 3 rfl rfl)
theorem dX5_goesHome_76 : decode cX5_goesHome 76 = .ok (.bipush 22, 2) := dk_16 22 (dk_at dksX5_goesHome_3 4 rfl rfl)
theorem dX5_goesHome_78 : decode cX5_goesHome 78 = .ok (.iadd, 1) := dk_96 (dk_at dksX5_goesHome_3 6 rfl rfl)
theorem dX5_goesHome_79 : decode cX5_goesHome 79 = .ok (.iload_n 3, 1) := dk_29 (dk_at dksX5_goesHome_3 7 rfl rfl)
theorem dX5_goesHome_80 : decode cX5_goesHome 80 = .ok (.iadd, 1) := dk_96 (dk_at dksX5_goesHome_3 8 rfl rfl)
theorem dX5_goesHome_81 : decode cX5_goesHome 81 = .ok (.iconst 0, 1) := dk_3 (dk_at dksX5_goesHome_3 9 rfl rfl)
theorem dX5_goesHome_82 : decode cX5_goesHome 82 = .ok (.iastore, 1) := dk_79 (dk_at dksX5_goesHome_3 10 rfl rfl)
theorem dX5_goesHome_83 : decode cX5_goesHome 83 = .ok (.iinc 3 1, 3) := dk_132 3 1 (dk_at dksX5_goesHome_3 11 rfl rfl)
theorem dX5_goesHome_86 : decode cX5_goesHome 86 = .ok (.goto (-35), 3) := dk_167 255 221 (dk_at dksX5_goesHome_3 14 rfl rfl)
theorem dX5_goesHome_89 : decode cX5_goesHome 89 = .ok (.iload_n 2, 1) := dk_28 (dk_at dksX5_goesHome_3 17 rfl rfl)
theorem dX5_goesHome_90 : decode cX5_goesHome 90 = .ok (.ireturn, 1) := dk_172 (dk_at dksX5_goesHome_3 18 rfl rfl)
abbrev cX5_allHarm : ByteArray := prog_30_method_62_code
def yX5_allHarm : MethodName := ⟨RX5, "allHarm", "(IZ)I"⟩
def dkwX5_allHarm_1 : List UInt8 := [62, 132, 4, 1, 167, 255, 233, 29, 172]
abbrev dktX5_allHarm_1 : List UInt8 := dkwX5_allHarm_1 ++ []
def dkwX5_allHarm_0 : List UInt8 := [3, 62, 3, 54, 4, 21, 4, 42, 182, 1, 35, 162, 0, 20, 29, 42, 27, 21, 4, 28, 182, 1, 93, 96]
abbrev dktX5_allHarm_0 : List UInt8 := dkwX5_allHarm_0 ++ dktX5_allHarm_1
theorem dksX5_allHarm_0 : cX5_allHarm.data.toList.drop 0 = dktX5_allHarm_0 := by decide +kernel
theorem dksX5_allHarm_1 : cX5_allHarm.data.toList.drop 24 = dktX5_allHarm_1 := dk_seg dksX5_allHarm_0 24 rfl rfl
theorem dX5_allHarm_0 : decode cX5_allHarm 0 = .ok (.iconst 0, 1) := dk_3 (dk_at dksX5_allHarm_0 0 rfl rfl)
theorem dX5_allHarm_1 : decode cX5_allHarm 1 = .ok (.istore_n 3, 1) := dk_62 (dk_at dksX5_allHarm_0 1 rfl rfl)
theorem dX5_allHarm_2 : decode cX5_allHarm 2 = .ok (.iconst 0, 1) := dk_3 (dk_at dksX5_allHarm_0 2 rfl rfl)
theorem dX5_allHarm_3 : decode cX5_allHarm 3 = .ok (.istore 4, 2) := dk_54 4 (dk_at dksX5_allHarm_0 3 rfl rfl)
theorem dX5_allHarm_5 : decode cX5_allHarm 5 = .ok (.iload 4, 2) := dk_21 4 (dk_at dksX5_allHarm_0 5 rfl rfl)
theorem dX5_allHarm_7 : decode cX5_allHarm 7 = .ok (.aload_n 0, 1) := dk_42 (dk_at dksX5_allHarm_0 7 rfl rfl)
theorem dX5_allHarm_8 : decode cX5_allHarm 8 = .ok (.invokevirtual 291, 3) := dk_182 1 35 (dk_at dksX5_allHarm_0 8 rfl rfl)
theorem dX5_allHarm_11 : decode cX5_allHarm 11 = .ok (.if_icmp .ge 20, 3) := dk_162 0 20 (dk_at dksX5_allHarm_0 11 rfl rfl)
theorem dX5_allHarm_14 : decode cX5_allHarm 14 = .ok (.iload_n 3, 1) := dk_29 (dk_at dksX5_allHarm_0 14 rfl rfl)
theorem dX5_allHarm_15 : decode cX5_allHarm 15 = .ok (.aload_n 0, 1) := dk_42 (dk_at dksX5_allHarm_0 15 rfl rfl)
theorem dX5_allHarm_16 : decode cX5_allHarm 16 = .ok (.iload_n 1, 1) := dk_27 (dk_at dksX5_allHarm_0 16 rfl rfl)
theorem dX5_allHarm_17 : decode cX5_allHarm 17 = .ok (.iload 4, 2) := dk_21 4 (dk_at dksX5_allHarm_0 17 rfl rfl)
theorem dX5_allHarm_19 : decode cX5_allHarm 19 = .ok (.iload_n 2, 1) := dk_28 (dk_at dksX5_allHarm_0 19 rfl rfl)
theorem dX5_allHarm_20 : decode cX5_allHarm 20 = .ok (.invokevirtual 349, 3) := dk_182 1 93 (dk_at dksX5_allHarm_0 20 rfl rfl)
theorem dX5_allHarm_23 : decode cX5_allHarm 23 = .ok (.iadd, 1) := dk_96 (dk_at dksX5_allHarm_0 23 rfl rfl)
theorem dX5_allHarm_24 : decode cX5_allHarm 24 = .ok (.istore_n 3, 1) := dk_62 (dk_at dksX5_allHarm_1 0 rfl rfl)
theorem dX5_allHarm_25 : decode cX5_allHarm 25 = .ok (.iinc 4 1, 3) := dk_132 4 1 (dk_at dksX5_allHarm_1 1 rfl rfl)
theorem dX5_allHarm_28 : decode cX5_allHarm 28 = .ok (.goto (-23), 3) := dk_167 255 233 (dk_at dksX5_allHarm_1 4 rfl rfl)
theorem dX5_allHarm_31 : decode cX5_allHarm 31 = .ok (.iload_n 3, 1) := dk_29 (dk_at dksX5_allHarm_1 7 rfl rfl)
theorem dX5_allHarm_32 : decode cX5_allHarm 32 = .ok (.ireturn, 1) := dk_172 (dk_at dksX5_allHarm_1 8 rfl rfl)
abbrev cX5_undo : ByteArray := prog_30_method_79_code
def yX5_undo : MethodName := ⟨RX5, "undo", "()Z"⟩
def dkwX5_undo_1 : List UInt8 := [42, 16, 72, 8, 42, 180, 1, 47, 96, 104, 3, 16, 46, 182, 1, 53, 4, 172]
abbrev dktX5_undo_1 : List UInt8 := dkwX5_undo_1 ++ []
def dkwX5_undo_0 : List UInt8 := [42, 3, 181, 0, 1, 42, 180, 1, 47, 154, 0, 5, 3, 172, 42, 89, 180, 1, 47, 4, 100, 181, 1, 47]
abbrev dktX5_undo_0 : List UInt8 := dkwX5_undo_0 ++ dktX5_undo_1
theorem dksX5_undo_0 : cX5_undo.data.toList.drop 0 = dktX5_undo_0 := by decide +kernel
theorem dksX5_undo_1 : cX5_undo.data.toList.drop 24 = dktX5_undo_1 := dk_seg dksX5_undo_0 24 rfl rfl
theorem dX5_undo_0 : decode cX5_undo 0 = .ok (.aload_n 0, 1) := dk_42 (dk_at dksX5_undo_0 0 rfl rfl)
theorem dX5_undo_1 : decode cX5_undo 1 = .ok (.iconst 0, 1) := dk_3 (dk_at dksX5_undo_0 1 rfl rfl)
theorem dX5_undo_2 : decode cX5_undo 2 = .ok (.putfield 1, 3) := dk_181 0 1 (dk_at dksX5_undo_0 2 rfl rfl)
theorem dX5_undo_5 : decode cX5_undo 5 = .ok (.aload_n 0, 1) := dk_42 (dk_at dksX5_undo_0 5 rfl rfl)
theorem dX5_undo_6 : decode cX5_undo 6 = .ok (.getfield 303, 3) := dk_180 1 47 (dk_at dksX5_undo_0 6 rfl rfl)
theorem dX5_undo_9 : decode cX5_undo 9 = .ok (.ifCond .ne 5, 3) := dk_154 0 5 (dk_at dksX5_undo_0 9 rfl rfl)
theorem dX5_undo_12 : decode cX5_undo 12 = .ok (.iconst 0, 1) := dk_3 (dk_at dksX5_undo_0 12 rfl rfl)
theorem dX5_undo_13 : decode cX5_undo 13 = .ok (.ireturn, 1) := dk_172 (dk_at dksX5_undo_0 13 rfl rfl)
theorem dX5_undo_14 : decode cX5_undo 14 = .ok (.aload_n 0, 1) := dk_42 (dk_at dksX5_undo_0 14 rfl rfl)
theorem dX5_undo_15 : decode cX5_undo 15 = .ok (.dup, 1) := dk_89 (dk_at dksX5_undo_0 15 rfl rfl)
theorem dX5_undo_16 : decode cX5_undo 16 = .ok (.getfield 303, 3) := dk_180 1 47 (dk_at dksX5_undo_0 16 rfl rfl)
theorem dX5_undo_19 : decode cX5_undo 19 = .ok (.iconst 1, 1) := dk_4 (dk_at dksX5_undo_0 19 rfl rfl)
theorem dX5_undo_20 : decode cX5_undo 20 = .ok (.isub, 1) := dk_100 (dk_at dksX5_undo_0 20 rfl rfl)
theorem dX5_undo_21 : decode cX5_undo 21 = .ok (.putfield 303, 3) := dk_181 1 47 (dk_at dksX5_undo_0 21 rfl rfl)
theorem dX5_undo_24 : decode cX5_undo 24 = .ok (.aload_n 0, 1) := dk_42 (dk_at dksX5_undo_1 0 rfl rfl)
theorem dX5_undo_25 : decode cX5_undo 25 = .ok (.bipush 72, 2) := dk_16 72 (dk_at dksX5_undo_1 1 rfl rfl)
theorem dX5_undo_27 : decode cX5_undo 27 = .ok (.iconst 5, 1) := dk_8 (dk_at dksX5_undo_1 3 rfl rfl)
theorem dX5_undo_28 : decode cX5_undo 28 = .ok (.aload_n 0, 1) := dk_42 (dk_at dksX5_undo_1 4 rfl rfl)
theorem dX5_undo_29 : decode cX5_undo 29 = .ok (.getfield 303, 3) := dk_180 1 47 (dk_at dksX5_undo_1 5 rfl rfl)
theorem dX5_undo_32 : decode cX5_undo 32 = .ok (.iadd, 1) := dk_96 (dk_at dksX5_undo_1 8 rfl rfl)
theorem dX5_undo_33 : decode cX5_undo 33 = .ok (.imul, 1) := dk_104 (dk_at dksX5_undo_1 9 rfl rfl)
theorem dX5_undo_34 : decode cX5_undo 34 = .ok (.iconst 0, 1) := dk_3 (dk_at dksX5_undo_1 10 rfl rfl)
theorem dX5_undo_35 : decode cX5_undo 35 = .ok (.bipush 46, 2) := dk_16 46 (dk_at dksX5_undo_1 11 rfl rfl)
theorem dX5_undo_37 : decode cX5_undo 37 = .ok (.invokevirtual 309, 3) := dk_182 1 53 (dk_at dksX5_undo_1 13 rfl rfl)
theorem dX5_undo_40 : decode cX5_undo 40 = .ok (.iconst 1, 1) := dk_4 (dk_at dksX5_undo_1 16 rfl rfl)
theorem dX5_undo_41 : decode cX5_undo 41 = .ok (.ireturn, 1) := dk_172 (dk_at dksX5_undo_1 17 rfl rfl)
abbrev cX5_judged : ByteArray := prog_30_method_82_code
def yX5_judged : MethodName := ⟨RX5, "judged", "(I)I"⟩
def dkwX5_judged_6 : List UInt8 := [42, 180, 0, 115, 17, 5, 234, 46, 167, 0, 11, 42, 180, 0, 115, 17, 5, 235, 46, 172]
abbrev dktX5_judged_6 : List UInt8 := dkwX5_judged_6 ++ []
def dkwX5_judged_5 : List UInt8 := [167, 0, 4, 28, 61, 132, 3, 1, 167, 255, 157, 27, 154, 0, 7, 28, 167, 0, 27, 27, 4, 160, 0, 14]
abbrev dktX5_judged_5 : List UInt8 := dkwX5_judged_5 ++ dktX5_judged_6
def dkwX5_judged_4 : List UInt8 := [42, 180, 0, 106, 6, 6, 29, 104, 96, 46, 182, 1, 155, 21, 5, 154, 0, 11, 28, 156, 0, 7, 29]
abbrev dktX5_judged_4 : List UInt8 := dkwX5_judged_4 ++ dktX5_judged_5
def dkwX5_judged_3 : List UInt8 := [46, 182, 1, 152, 54, 5, 21, 5, 153, 0, 29, 42, 21, 4, 42, 180, 0, 106, 5, 6, 29, 104, 96, 46]
abbrev dktX5_judged_3 : List UInt8 := dkwX5_judged_3 ++ dktX5_judged_4
def dkwX5_judged_2 : List UInt8 := [54, 4, 42, 21, 4, 42, 180, 0, 106, 5, 6, 29, 104, 96, 46, 42, 180, 0, 106, 6, 6, 29, 104, 96]
abbrev dktX5_judged_2 : List UInt8 := dkwX5_judged_2 ++ dktX5_judged_3
def dkwX5_judged_1 : List UInt8 := [2, 61, 3, 62, 29, 42, 180, 0, 106, 3, 46, 162, 0, 95, 42, 180, 0, 106, 4, 6, 29, 104, 96, 46]
abbrev dktX5_judged_1 : List UInt8 := dkwX5_judged_1 ++ dktX5_judged_2
def dkwX5_judged_0 : List UInt8 := [42, 3, 181, 0, 1, 27, 3, 5, 184, 1, 103, 154, 0, 6, 16, 254, 172, 42, 17, 5, 232, 182, 1, 44]
abbrev dktX5_judged_0 : List UInt8 := dkwX5_judged_0 ++ dktX5_judged_1
theorem dksX5_judged_0 : cX5_judged.data.toList.drop 0 = dktX5_judged_0 := by decide +kernel
theorem dksX5_judged_1 : cX5_judged.data.toList.drop 24 = dktX5_judged_1 := dk_seg dksX5_judged_0 24 rfl rfl
theorem dksX5_judged_2 : cX5_judged.data.toList.drop 48 = dktX5_judged_2 := dk_seg dksX5_judged_1 24 rfl rfl
theorem dksX5_judged_3 : cX5_judged.data.toList.drop 72 = dktX5_judged_3 := dk_seg dksX5_judged_2 24 rfl rfl
theorem dksX5_judged_4 : cX5_judged.data.toList.drop 96 = dktX5_judged_4 := dk_seg dksX5_judged_3 24 rfl rfl
theorem dksX5_judged_5 : cX5_judged.data.toList.drop 119 = dktX5_judged_5 := dk_seg dksX5_judged_4 23 rfl rfl
theorem dksX5_judged_6 : cX5_judged.data.toList.drop 143 = dktX5_judged_6 := dk_seg dksX5_judged_5 24 rfl rfl
theorem dX5_judged_0 : decode cX5_judged 0 = .ok (.aload_n 0, 1) := dk_42 (dk_at dksX5_judged_0 0 rfl rfl)
theorem dX5_judged_1 : decode cX5_judged 1 = .ok (.iconst 0, 1) := dk_3 (dk_at dksX5_judged_0 1 rfl rfl)
theorem dX5_judged_2 : decode cX5_judged 2 = .ok (.putfield 1, 3) := dk_181 0 1 (dk_at dksX5_judged_0 2 rfl rfl)
theorem dX5_judged_5 : decode cX5_judged 5 = .ok (.iload_n 1, 1) := dk_27 (dk_at dksX5_judged_0 5 rfl rfl)
theorem dX5_judged_6 : decode cX5_judged 6 = .ok (.iconst 0, 1) := dk_3 (dk_at dksX5_judged_0 6 rfl rfl)
theorem dX5_judged_7 : decode cX5_judged 7 = .ok (.iconst 2, 1) := dk_5 (dk_at dksX5_judged_0 7 rfl rfl)
theorem dX5_judged_8 : decode cX5_judged 8 = .ok (.invokestatic 359, 3) := dk_184 1 103 (dk_at dksX5_judged_0 8 rfl rfl)
theorem dX5_judged_11 : decode cX5_judged 11 = .ok (.ifCond .ne 6, 3) := dk_154 0 6 (dk_at dksX5_judged_0 11 rfl rfl)
theorem dX5_judged_14 : decode cX5_judged 14 = .ok (.bipush (-2), 2) := dk_16 254 (dk_at dksX5_judged_0 14 rfl rfl)
theorem dX5_judged_16 : decode cX5_judged 16 = .ok (.ireturn, 1) := dk_172 (dk_at dksX5_judged_0 16 rfl rfl)
theorem dX5_judged_17 : decode cX5_judged 17 = .ok (.aload_n 0, 1) := dk_42 (dk_at dksX5_judged_0 17 rfl rfl)
theorem dX5_judged_18 : decode cX5_judged 18 = .ok (.sipush 1512, 3) := dk_17 5 232 (dk_at dksX5_judged_0 18 rfl rfl)
theorem dX5_judged_21 : decode cX5_judged 21 = .ok (.invokevirtual 300, 3) := dk_182 1 44 (dk_at dksX5_judged_0 21 rfl rfl)
theorem dX5_judged_24 : decode cX5_judged 24 = .ok (.iconst (-1), 1) := dk_2 (dk_at dksX5_judged_1 0 rfl rfl)
theorem dX5_judged_25 : decode cX5_judged 25 = .ok (.istore_n 2, 1) := dk_61 (dk_at dksX5_judged_1 1 rfl rfl)
theorem dX5_judged_26 : decode cX5_judged 26 = .ok (.iconst 0, 1) := dk_3 (dk_at dksX5_judged_1 2 rfl rfl)
theorem dX5_judged_27 : decode cX5_judged 27 = .ok (.istore_n 3, 1) := dk_62 (dk_at dksX5_judged_1 3 rfl rfl)
theorem dX5_judged_28 : decode cX5_judged 28 = .ok (.iload_n 3, 1) := dk_29 (dk_at dksX5_judged_1 4 rfl rfl)
theorem dX5_judged_29 : decode cX5_judged 29 = .ok (.aload_n 0, 1) := dk_42 (dk_at dksX5_judged_1 5 rfl rfl)
theorem dX5_judged_30 : decode cX5_judged 30 = .ok (.getfield 106, 3) := dk_180 0 106 (dk_at dksX5_judged_1 6 rfl rfl)
theorem dX5_judged_33 : decode cX5_judged 33 = .ok (.iconst 0, 1) := dk_3 (dk_at dksX5_judged_1 9 rfl rfl)
theorem dX5_judged_34 : decode cX5_judged 34 = .ok (.iaload, 1) := dk_46 (dk_at dksX5_judged_1 10 rfl rfl)
theorem dX5_judged_35 : decode cX5_judged 35 = .ok (.if_icmp .ge 95, 3) := dk_162 0 95 (dk_at dksX5_judged_1 11 rfl rfl)
theorem dX5_judged_38 : decode cX5_judged 38 = .ok (.aload_n 0, 1) := dk_42 (dk_at dksX5_judged_1 14 rfl rfl)
theorem dX5_judged_39 : decode cX5_judged 39 = .ok (.getfield 106, 3) := dk_180 0 106 (dk_at dksX5_judged_1 15 rfl rfl)
theorem dX5_judged_42 : decode cX5_judged 42 = .ok (.iconst 1, 1) := dk_4 (dk_at dksX5_judged_1 18 rfl rfl)
theorem dX5_judged_43 : decode cX5_judged 43 = .ok (.iconst 3, 1) := dk_6 (dk_at dksX5_judged_1 19 rfl rfl)
theorem dX5_judged_44 : decode cX5_judged 44 = .ok (.iload_n 3, 1) := dk_29 (dk_at dksX5_judged_1 20 rfl rfl)
theorem dX5_judged_45 : decode cX5_judged 45 = .ok (.imul, 1) := dk_104 (dk_at dksX5_judged_1 21 rfl rfl)
theorem dX5_judged_46 : decode cX5_judged 46 = .ok (.iadd, 1) := dk_96 (dk_at dksX5_judged_1 22 rfl rfl)
theorem dX5_judged_47 : decode cX5_judged 47 = .ok (.iaload, 1) := dk_46 (dk_at dksX5_judged_1 23 rfl rfl)
theorem dX5_judged_48 : decode cX5_judged 48 = .ok (.istore 4, 2) := dk_54 4 (dk_at dksX5_judged_2 0 rfl rfl)
theorem dX5_judged_50 : decode cX5_judged 50 = .ok (.aload_n 0, 1) := dk_42 (dk_at dksX5_judged_2 2 rfl rfl)
theorem dX5_judged_51 : decode cX5_judged 51 = .ok (.iload 4, 2) := dk_21 4 (dk_at dksX5_judged_2 3 rfl rfl)
theorem dX5_judged_53 : decode cX5_judged 53 = .ok (.aload_n 0, 1) := dk_42 (dk_at dksX5_judged_2 5 rfl rfl)
theorem dX5_judged_54 : decode cX5_judged 54 = .ok (.getfield 106, 3) := dk_180 0 106 (dk_at dksX5_judged_2 6 rfl rfl)
theorem dX5_judged_57 : decode cX5_judged 57 = .ok (.iconst 2, 1) := dk_5 (dk_at dksX5_judged_2 9 rfl rfl)
theorem dX5_judged_58 : decode cX5_judged 58 = .ok (.iconst 3, 1) := dk_6 (dk_at dksX5_judged_2 10 rfl rfl)
theorem dX5_judged_59 : decode cX5_judged 59 = .ok (.iload_n 3, 1) := dk_29 (dk_at dksX5_judged_2 11 rfl rfl)
theorem dX5_judged_60 : decode cX5_judged 60 = .ok (.imul, 1) := dk_104 (dk_at dksX5_judged_2 12 rfl rfl)
theorem dX5_judged_61 : decode cX5_judged 61 = .ok (.iadd, 1) := dk_96 (dk_at dksX5_judged_2 13 rfl rfl)
theorem dX5_judged_62 : decode cX5_judged 62 = .ok (.iaload, 1) := dk_46 (dk_at dksX5_judged_2 14 rfl rfl)
theorem dX5_judged_63 : decode cX5_judged 63 = .ok (.aload_n 0, 1) := dk_42 (dk_at dksX5_judged_2 15 rfl rfl)
theorem dX5_judged_64 : decode cX5_judged 64 = .ok (.getfield 106, 3) := dk_180 0 106 (dk_at dksX5_judged_2 16 rfl rfl)
theorem dX5_judged_67 : decode cX5_judged 67 = .ok (.iconst 3, 1) := dk_6 (dk_at dksX5_judged_2 19 rfl rfl)
theorem dX5_judged_68 : decode cX5_judged 68 = .ok (.iconst 3, 1) := dk_6 (dk_at dksX5_judged_2 20 rfl rfl)
theorem dX5_judged_69 : decode cX5_judged 69 = .ok (.iload_n 3, 1) := dk_29 (dk_at dksX5_judged_2 21 rfl rfl)
theorem dX5_judged_70 : decode cX5_judged 70 = .ok (.imul, 1) := dk_104 (dk_at dksX5_judged_2 22 rfl rfl)
theorem dX5_judged_71 : decode cX5_judged 71 = .ok (.iadd, 1) := dk_96 (dk_at dksX5_judged_2 23 rfl rfl)
theorem dX5_judged_72 : decode cX5_judged 72 = .ok (.iaload, 1) := dk_46 (dk_at dksX5_judged_3 0 rfl rfl)
theorem dX5_judged_73 : decode cX5_judged 73 = .ok (.invokevirtual 408, 3) := dk_182 1 152 (dk_at dksX5_judged_3 1 rfl rfl)
theorem dX5_judged_76 : decode cX5_judged 76 = .ok (.istore 5, 2) := dk_54 5 (dk_at dksX5_judged_3 4 rfl rfl)
theorem dX5_judged_78 : decode cX5_judged 78 = .ok (.iload 5, 2) := dk_21 5 (dk_at dksX5_judged_3 6 rfl rfl)
theorem dX5_judged_80 : decode cX5_judged 80 = .ok (.ifCond .eq 29, 3) := dk_153 0 29 (dk_at dksX5_judged_3 8 rfl rfl)
theorem dX5_judged_83 : decode cX5_judged 83 = .ok (.aload_n 0, 1) := dk_42 (dk_at dksX5_judged_3 11 rfl rfl)
theorem dX5_judged_84 : decode cX5_judged 84 = .ok (.iload 4, 2) := dk_21 4 (dk_at dksX5_judged_3 12 rfl rfl)
theorem dX5_judged_86 : decode cX5_judged 86 = .ok (.aload_n 0, 1) := dk_42 (dk_at dksX5_judged_3 14 rfl rfl)
theorem dX5_judged_87 : decode cX5_judged 87 = .ok (.getfield 106, 3) := dk_180 0 106 (dk_at dksX5_judged_3 15 rfl rfl)
theorem dX5_judged_90 : decode cX5_judged 90 = .ok (.iconst 2, 1) := dk_5 (dk_at dksX5_judged_3 18 rfl rfl)
theorem dX5_judged_91 : decode cX5_judged 91 = .ok (.iconst 3, 1) := dk_6 (dk_at dksX5_judged_3 19 rfl rfl)
theorem dX5_judged_92 : decode cX5_judged 92 = .ok (.iload_n 3, 1) := dk_29 (dk_at dksX5_judged_3 20 rfl rfl)
theorem dX5_judged_93 : decode cX5_judged 93 = .ok (.imul, 1) := dk_104 (dk_at dksX5_judged_3 21 rfl rfl)
theorem dX5_judged_94 : decode cX5_judged 94 = .ok (.iadd, 1) := dk_96 (dk_at dksX5_judged_3 22 rfl rfl)
theorem dX5_judged_95 : decode cX5_judged 95 = .ok (.iaload, 1) := dk_46 (dk_at dksX5_judged_3 23 rfl rfl)
theorem dX5_judged_96 : decode cX5_judged 96 = .ok (.aload_n 0, 1) := dk_42 (dk_at dksX5_judged_4 0 rfl rfl)
theorem dX5_judged_97 : decode cX5_judged 97 = .ok (.getfield 106, 3) := dk_180 0 106 (dk_at dksX5_judged_4 1 rfl rfl)
theorem dX5_judged_100 : decode cX5_judged 100 = .ok (.iconst 3, 1) := dk_6 (dk_at dksX5_judged_4 4 rfl rfl)
theorem dX5_judged_101 : decode cX5_judged 101 = .ok (.iconst 3, 1) := dk_6 (dk_at dksX5_judged_4 5 rfl rfl)
theorem dX5_judged_102 : decode cX5_judged 102 = .ok (.iload_n 3, 1) := dk_29 (dk_at dksX5_judged_4 6 rfl rfl)
theorem dX5_judged_103 : decode cX5_judged 103 = .ok (.imul, 1) := dk_104 (dk_at dksX5_judged_4 7 rfl rfl)
theorem dX5_judged_104 : decode cX5_judged 104 = .ok (.iadd, 1) := dk_96 (dk_at dksX5_judged_4 8 rfl rfl)
theorem dX5_judged_105 : decode cX5_judged 105 = .ok (.iaload, 1) := dk_46 (dk_at dksX5_judged_4 9 rfl rfl)
theorem dX5_judged_106 : decode cX5_judged 106 = .ok (.invokevirtual 411, 3) := dk_182 1 155 (dk_at dksX5_judged_4 10 rfl rfl)
theorem dX5_judged_109 : decode cX5_judged 109 = .ok (.iload 5, 2) := dk_21 5 (dk_at dksX5_judged_4 13 rfl rfl)
theorem dX5_judged_111 : decode cX5_judged 111 = .ok (.ifCond .ne 11, 3) := dk_154 0 11 (dk_at dksX5_judged_4 15 rfl rfl)
theorem dX5_judged_114 : decode cX5_judged 114 = .ok (.iload_n 2, 1) := dk_28 (dk_at dksX5_judged_4 18 rfl rfl)
theorem dX5_judged_115 : decode cX5_judged 115 = .ok (.ifCond .ge 7, 3) := dk_156 0 7 (dk_at dksX5_judged_4 19 rfl rfl)
theorem dX5_judged_118 : decode cX5_judged 118 = .ok (.iload_n 3, 1) := dk_29 (dk_at dksX5_judged_4 22 rfl rfl)
theorem dX5_judged_119 : decode cX5_judged 119 = .ok (.goto 4, 3) := dk_167 0 4 (dk_at dksX5_judged_5 0 rfl rfl)
theorem dX5_judged_122 : decode cX5_judged 122 = .ok (.iload_n 2, 1) := dk_28 (dk_at dksX5_judged_5 3 rfl rfl)
theorem dX5_judged_123 : decode cX5_judged 123 = .ok (.istore_n 2, 1) := dk_61 (dk_at dksX5_judged_5 4 rfl rfl)
theorem dX5_judged_124 : decode cX5_judged 124 = .ok (.iinc 3 1, 3) := dk_132 3 1 (dk_at dksX5_judged_5 5 rfl rfl)
theorem dX5_judged_127 : decode cX5_judged 127 = .ok (.goto (-99), 3) := dk_167 255 157 (dk_at dksX5_judged_5 8 rfl rfl)
theorem dX5_judged_130 : decode cX5_judged 130 = .ok (.iload_n 1, 1) := dk_27 (dk_at dksX5_judged_5 11 rfl rfl)
theorem dX5_judged_131 : decode cX5_judged 131 = .ok (.ifCond .ne 7, 3) := dk_154 0 7 (dk_at dksX5_judged_5 12 rfl rfl)
theorem dX5_judged_134 : decode cX5_judged 134 = .ok (.iload_n 2, 1) := dk_28 (dk_at dksX5_judged_5 15 rfl rfl)
theorem dX5_judged_135 : decode cX5_judged 135 = .ok (.goto 27, 3) := dk_167 0 27 (dk_at dksX5_judged_5 16 rfl rfl)
theorem dX5_judged_138 : decode cX5_judged 138 = .ok (.iload_n 1, 1) := dk_27 (dk_at dksX5_judged_5 19 rfl rfl)
theorem dX5_judged_139 : decode cX5_judged 139 = .ok (.iconst 1, 1) := dk_4 (dk_at dksX5_judged_5 20 rfl rfl)
theorem dX5_judged_140 : decode cX5_judged 140 = .ok (.if_icmp .ne 14, 3) := dk_160 0 14 (dk_at dksX5_judged_5 21 rfl rfl)
theorem dX5_judged_143 : decode cX5_judged 143 = .ok (.aload_n 0, 1) := dk_42 (dk_at dksX5_judged_6 0 rfl rfl)
theorem dX5_judged_144 : decode cX5_judged 144 = .ok (.getfield 115, 3) := dk_180 0 115 (dk_at dksX5_judged_6 1 rfl rfl)
theorem dX5_judged_147 : decode cX5_judged 147 = .ok (.sipush 1514, 3) := dk_17 5 234 (dk_at dksX5_judged_6 4 rfl rfl)
theorem dX5_judged_150 : decode cX5_judged 150 = .ok (.iaload, 1) := dk_46 (dk_at dksX5_judged_6 7 rfl rfl)
theorem dX5_judged_151 : decode cX5_judged 151 = .ok (.goto 11, 3) := dk_167 0 11 (dk_at dksX5_judged_6 8 rfl rfl)
theorem dX5_judged_154 : decode cX5_judged 154 = .ok (.aload_n 0, 1) := dk_42 (dk_at dksX5_judged_6 11 rfl rfl)
theorem dX5_judged_155 : decode cX5_judged 155 = .ok (.getfield 115, 3) := dk_180 0 115 (dk_at dksX5_judged_6 12 rfl rfl)
theorem dX5_judged_158 : decode cX5_judged 158 = .ok (.sipush 1515, 3) := dk_17 5 235 (dk_at dksX5_judged_6 15 rfl rfl)
theorem dX5_judged_161 : decode cX5_judged 161 = .ok (.iaload, 1) := dk_46 (dk_at dksX5_judged_6 18 rfl rfl)
theorem dX5_judged_162 : decode cX5_judged 162 = .ok (.ireturn, 1) := dk_172 (dk_at dksX5_judged_6 19 rfl rfl)
abbrev cX5_mayDo : ByteArray := prog_30_method_80_code
def yX5_mayDo : MethodName := ⟨RX5, "mayDo", "(III)Z"⟩
def dkwX5_mayDo_4 : List UInt8 := [4, 167, 0, 4, 3, 172]
abbrev dktX5_mayDo_4 : List UInt8 := dkwX5_mayDo_4 ++ []
def dkwX5_mayDo_3 : List UInt8 := [182, 1, 137, 172, 42, 17, 5, 232, 182, 1, 143, 172, 42, 180, 0, 115, 17, 5, 232, 46, 4, 160, 0, 7]
abbrev dktX5_mayDo_3 : List UInt8 := dkwX5_mayDo_3 ++ dktX5_mayDo_4
def dkwX5_mayDo_2 : List UInt8 := [42, 17, 5, 232, 28, 29, 182, 1, 107, 172, 42, 17, 5, 232, 182, 1, 125, 172, 42, 17, 5, 232, 28, 29]
abbrev dktX5_mayDo_2 : List UInt8 := dkwX5_mayDo_2 ++ dktX5_mayDo_3
def dkwX5_mayDo_1 : List UInt8 := [170, 0, 0, 0, 0, 0, 67, 0, 0, 0, 0, 0, 0, 0, 3, 0, 0, 0, 31, 0, 0, 0, 41, 0, 0, 0, 49, 0, 0, 0, 59]
abbrev dktX5_mayDo_1 : List UInt8 := dkwX5_mayDo_1 ++ dktX5_mayDo_2
def dkwX5_mayDo_0 : List UInt8 := [27]
abbrev dktX5_mayDo_0 : List UInt8 := dkwX5_mayDo_0 ++ dktX5_mayDo_1
theorem dksX5_mayDo_0 : cX5_mayDo.data.toList.drop 0 = dktX5_mayDo_0 := by decide +kernel
theorem dksX5_mayDo_1 : cX5_mayDo.data.toList.drop 1 = dktX5_mayDo_1 := dk_seg dksX5_mayDo_0 1 rfl rfl
theorem dksX5_mayDo_2 : cX5_mayDo.data.toList.drop 32 = dktX5_mayDo_2 := dk_seg dksX5_mayDo_1 31 rfl rfl
theorem dksX5_mayDo_3 : cX5_mayDo.data.toList.drop 56 = dktX5_mayDo_3 := dk_seg dksX5_mayDo_2 24 rfl rfl
theorem dksX5_mayDo_4 : cX5_mayDo.data.toList.drop 80 = dktX5_mayDo_4 := dk_seg dksX5_mayDo_3 24 rfl rfl
theorem dX5_mayDo_0 : decode cX5_mayDo 0 = .ok (.iload_n 1, 1) := dk_27 (dk_at dksX5_mayDo_0 0 rfl rfl)
theorem dX5_mayDo_1 : decode cX5_mayDo 1 = .ok (.tableswitch 67 0 3 #[31, 41, 49, 59], 31) := by decide +kernel
theorem dX5_mayDo_32 : decode cX5_mayDo 32 = .ok (.aload_n 0, 1) := dk_42 (dk_at dksX5_mayDo_2 0 rfl rfl)
theorem dX5_mayDo_33 : decode cX5_mayDo 33 = .ok (.sipush 1512, 3) := dk_17 5 232 (dk_at dksX5_mayDo_2 1 rfl rfl)
theorem dX5_mayDo_36 : decode cX5_mayDo 36 = .ok (.iload_n 2, 1) := dk_28 (dk_at dksX5_mayDo_2 4 rfl rfl)
theorem dX5_mayDo_37 : decode cX5_mayDo 37 = .ok (.iload_n 3, 1) := dk_29 (dk_at dksX5_mayDo_2 5 rfl rfl)
theorem dX5_mayDo_38 : decode cX5_mayDo 38 = .ok (.invokevirtual 363, 3) := dk_182 1 107 (dk_at dksX5_mayDo_2 6 rfl rfl)
theorem dX5_mayDo_41 : decode cX5_mayDo 41 = .ok (.ireturn, 1) := dk_172 (dk_at dksX5_mayDo_2 9 rfl rfl)
theorem dX5_mayDo_42 : decode cX5_mayDo 42 = .ok (.aload_n 0, 1) := dk_42 (dk_at dksX5_mayDo_2 10 rfl rfl)
theorem dX5_mayDo_43 : decode cX5_mayDo 43 = .ok (.sipush 1512, 3) := dk_17 5 232 (dk_at dksX5_mayDo_2 11 rfl rfl)
theorem dX5_mayDo_46 : decode cX5_mayDo 46 = .ok (.invokevirtual 381, 3) := dk_182 1 125 (dk_at dksX5_mayDo_2 14 rfl rfl)
theorem dX5_mayDo_49 : decode cX5_mayDo 49 = .ok (.ireturn, 1) := dk_172 (dk_at dksX5_mayDo_2 17 rfl rfl)
theorem dX5_mayDo_50 : decode cX5_mayDo 50 = .ok (.aload_n 0, 1) := dk_42 (dk_at dksX5_mayDo_2 18 rfl rfl)
theorem dX5_mayDo_51 : decode cX5_mayDo 51 = .ok (.sipush 1512, 3) := dk_17 5 232 (dk_at dksX5_mayDo_2 19 rfl rfl)
theorem dX5_mayDo_54 : decode cX5_mayDo 54 = .ok (.iload_n 2, 1) := dk_28 (dk_at dksX5_mayDo_2 22 rfl rfl)
theorem dX5_mayDo_55 : decode cX5_mayDo 55 = .ok (.iload_n 3, 1) := dk_29 (dk_at dksX5_mayDo_2 23 rfl rfl)
theorem dX5_mayDo_56 : decode cX5_mayDo 56 = .ok (.invokevirtual 393, 3) := dk_182 1 137 (dk_at dksX5_mayDo_3 0 rfl rfl)
theorem dX5_mayDo_59 : decode cX5_mayDo 59 = .ok (.ireturn, 1) := dk_172 (dk_at dksX5_mayDo_3 3 rfl rfl)
theorem dX5_mayDo_60 : decode cX5_mayDo 60 = .ok (.aload_n 0, 1) := dk_42 (dk_at dksX5_mayDo_3 4 rfl rfl)
theorem dX5_mayDo_61 : decode cX5_mayDo 61 = .ok (.sipush 1512, 3) := dk_17 5 232 (dk_at dksX5_mayDo_3 5 rfl rfl)
theorem dX5_mayDo_64 : decode cX5_mayDo 64 = .ok (.invokevirtual 399, 3) := dk_182 1 143 (dk_at dksX5_mayDo_3 8 rfl rfl)
theorem dX5_mayDo_67 : decode cX5_mayDo 67 = .ok (.ireturn, 1) := dk_172 (dk_at dksX5_mayDo_3 11 rfl rfl)
theorem dX5_mayDo_68 : decode cX5_mayDo 68 = .ok (.aload_n 0, 1) := dk_42 (dk_at dksX5_mayDo_3 12 rfl rfl)
theorem dX5_mayDo_69 : decode cX5_mayDo 69 = .ok (.getfield 115, 3) := dk_180 0 115 (dk_at dksX5_mayDo_3 13 rfl rfl)
theorem dX5_mayDo_72 : decode cX5_mayDo 72 = .ok (.sipush 1512, 3) := dk_17 5 232 (dk_at dksX5_mayDo_3 16 rfl rfl)
theorem dX5_mayDo_75 : decode cX5_mayDo 75 = .ok (.iaload, 1) := dk_46 (dk_at dksX5_mayDo_3 19 rfl rfl)
theorem dX5_mayDo_76 : decode cX5_mayDo 76 = .ok (.iconst 1, 1) := dk_4 (dk_at dksX5_mayDo_3 20 rfl rfl)
theorem dX5_mayDo_77 : decode cX5_mayDo 77 = .ok (.if_icmp .ne 7, 3) := dk_160 0 7 (dk_at dksX5_mayDo_3 21 rfl rfl)
theorem dX5_mayDo_80 : decode cX5_mayDo 80 = .ok (.iconst 1, 1) := dk_4 (dk_at dksX5_mayDo_4 0 rfl rfl)
theorem dX5_mayDo_81 : decode cX5_mayDo 81 = .ok (.goto 4, 3) := dk_167 0 4 (dk_at dksX5_mayDo_4 1 rfl rfl)
theorem dX5_mayDo_84 : decode cX5_mayDo 84 = .ok (.iconst 0, 1) := dk_3 (dk_at dksX5_mayDo_4 4 rfl rfl)
theorem dX5_mayDo_85 : decode cX5_mayDo 85 = .ok (.ireturn, 1) := dk_172 (dk_at dksX5_mayDo_4 5 rfl rfl)
abbrev cX5_does : ByteArray := prog_30_method_81_code
def yX5_does : MethodName := ⟨RX5, "does", "(III)V"⟩
def dkwX5_does_3 : List UInt8 := [17, 5, 232, 182, 1, 146, 167, 0, 11, 42, 17, 5, 232, 182, 1, 149, 87, 177]
abbrev dktX5_does_3 : List UInt8 := dkwX5_does_3 ++ []
def dkwX5_does_2 : List UInt8 := [5, 160, 0, 15, 42, 17, 5, 232, 28, 29, 182, 1, 140, 167, 0, 26, 27, 6, 160, 0, 13, 42]
abbrev dktX5_does_2 : List UInt8 := dkwX5_does_2 ++ dktX5_does_3
def dkwX5_does_1 : List UInt8 := [28, 133, 181, 1, 113, 42, 17, 5, 232, 42, 42, 180, 1, 57, 182, 1, 128, 182, 1, 131, 167, 0, 43, 27]
abbrev dktX5_does_1 : List UInt8 := dkwX5_does_1 ++ dktX5_does_2
def dkwX5_does_0 : List UInt8 := [27, 154, 0, 17, 42, 180, 0, 115, 17, 5, 254, 28, 96, 29, 79, 167, 0, 72, 27, 4, 160, 0, 27, 42]
abbrev dktX5_does_0 : List UInt8 := dkwX5_does_0 ++ dktX5_does_1
theorem dksX5_does_0 : cX5_does.data.toList.drop 0 = dktX5_does_0 := by decide +kernel
theorem dksX5_does_1 : cX5_does.data.toList.drop 24 = dktX5_does_1 := dk_seg dksX5_does_0 24 rfl rfl
theorem dksX5_does_2 : cX5_does.data.toList.drop 48 = dktX5_does_2 := dk_seg dksX5_does_1 24 rfl rfl
theorem dksX5_does_3 : cX5_does.data.toList.drop 70 = dktX5_does_3 := dk_seg dksX5_does_2 22 rfl rfl
theorem dX5_does_0 : decode cX5_does 0 = .ok (.iload_n 1, 1) := dk_27 (dk_at dksX5_does_0 0 rfl rfl)
theorem dX5_does_1 : decode cX5_does 1 = .ok (.ifCond .ne 17, 3) := dk_154 0 17 (dk_at dksX5_does_0 1 rfl rfl)
theorem dX5_does_4 : decode cX5_does 4 = .ok (.aload_n 0, 1) := dk_42 (dk_at dksX5_does_0 4 rfl rfl)
theorem dX5_does_5 : decode cX5_does 5 = .ok (.getfield 115, 3) := dk_180 0 115 (dk_at dksX5_does_0 5 rfl rfl)
theorem dX5_does_8 : decode cX5_does 8 = .ok (.sipush 1534, 3) := dk_17 5 254 (dk_at dksX5_does_0 8 rfl rfl)
theorem dX5_does_11 : decode cX5_does 11 = .ok (.iload_n 2, 1) := dk_28 (dk_at dksX5_does_0 11 rfl rfl)
theorem dX5_does_12 : decode cX5_does 12 = .ok (.iadd, 1) := dk_96 (dk_at dksX5_does_0 12 rfl rfl)
theorem dX5_does_13 : decode cX5_does 13 = .ok (.iload_n 3, 1) := dk_29 (dk_at dksX5_does_0 13 rfl rfl)
theorem dX5_does_14 : decode cX5_does 14 = .ok (.iastore, 1) := dk_79 (dk_at dksX5_does_0 14 rfl rfl)
theorem dX5_does_15 : decode cX5_does 15 = .ok (.goto 72, 3) := dk_167 0 72 (dk_at dksX5_does_0 15 rfl rfl)
theorem dX5_does_18 : decode cX5_does 18 = .ok (.iload_n 1, 1) := dk_27 (dk_at dksX5_does_0 18 rfl rfl)
theorem dX5_does_19 : decode cX5_does 19 = .ok (.iconst 1, 1) := dk_4 (dk_at dksX5_does_0 19 rfl rfl)
theorem dX5_does_20 : decode cX5_does 20 = .ok (.if_icmp .ne 27, 3) := dk_160 0 27 (dk_at dksX5_does_0 20 rfl rfl)
theorem dX5_does_23 : decode cX5_does 23 = .ok (.aload_n 0, 1) := dk_42 (dk_at dksX5_does_0 23 rfl rfl)
theorem dX5_does_24 : decode cX5_does 24 = .ok (.iload_n 2, 1) := dk_28 (dk_at dksX5_does_1 0 rfl rfl)
theorem dX5_does_25 : decode cX5_does 25 = .ok (.i2l, 1) := dk_133 (dk_at dksX5_does_1 1 rfl rfl)
theorem dX5_does_26 : decode cX5_does 26 = .ok (.putfield 369, 3) := dk_181 1 113 (dk_at dksX5_does_1 2 rfl rfl)
theorem dX5_does_29 : decode cX5_does 29 = .ok (.aload_n 0, 1) := dk_42 (dk_at dksX5_does_1 5 rfl rfl)
theorem dX5_does_30 : decode cX5_does 30 = .ok (.sipush 1512, 3) := dk_17 5 232 (dk_at dksX5_does_1 6 rfl rfl)
theorem dX5_does_33 : decode cX5_does 33 = .ok (.aload_n 0, 1) := dk_42 (dk_at dksX5_does_1 9 rfl rfl)
theorem dX5_does_34 : decode cX5_does 34 = .ok (.aload_n 0, 1) := dk_42 (dk_at dksX5_does_1 10 rfl rfl)
theorem dX5_does_35 : decode cX5_does 35 = .ok (.getfield 313, 3) := dk_180 1 57 (dk_at dksX5_does_1 11 rfl rfl)
theorem dX5_does_38 : decode cX5_does 38 = .ok (.invokevirtual 384, 3) := dk_182 1 128 (dk_at dksX5_does_1 14 rfl rfl)
theorem dX5_does_41 : decode cX5_does 41 = .ok (.invokevirtual 387, 3) := dk_182 1 131 (dk_at dksX5_does_1 17 rfl rfl)
theorem dX5_does_44 : decode cX5_does 44 = .ok (.goto 43, 3) := dk_167 0 43 (dk_at dksX5_does_1 20 rfl rfl)
theorem dX5_does_47 : decode cX5_does 47 = .ok (.iload_n 1, 1) := dk_27 (dk_at dksX5_does_1 23 rfl rfl)
theorem dX5_does_48 : decode cX5_does 48 = .ok (.iconst 2, 1) := dk_5 (dk_at dksX5_does_2 0 rfl rfl)
theorem dX5_does_49 : decode cX5_does 49 = .ok (.if_icmp .ne 15, 3) := dk_160 0 15 (dk_at dksX5_does_2 1 rfl rfl)
theorem dX5_does_52 : decode cX5_does 52 = .ok (.aload_n 0, 1) := dk_42 (dk_at dksX5_does_2 4 rfl rfl)
theorem dX5_does_53 : decode cX5_does 53 = .ok (.sipush 1512, 3) := dk_17 5 232 (dk_at dksX5_does_2 5 rfl rfl)
theorem dX5_does_56 : decode cX5_does 56 = .ok (.iload_n 2, 1) := dk_28 (dk_at dksX5_does_2 8 rfl rfl)
theorem dX5_does_57 : decode cX5_does 57 = .ok (.iload_n 3, 1) := dk_29 (dk_at dksX5_does_2 9 rfl rfl)
theorem dX5_does_58 : decode cX5_does 58 = .ok (.invokevirtual 396, 3) := dk_182 1 140 (dk_at dksX5_does_2 10 rfl rfl)
theorem dX5_does_61 : decode cX5_does 61 = .ok (.goto 26, 3) := dk_167 0 26 (dk_at dksX5_does_2 13 rfl rfl)
theorem dX5_does_64 : decode cX5_does 64 = .ok (.iload_n 1, 1) := dk_27 (dk_at dksX5_does_2 16 rfl rfl)
theorem dX5_does_65 : decode cX5_does 65 = .ok (.iconst 3, 1) := dk_6 (dk_at dksX5_does_2 17 rfl rfl)
theorem dX5_does_66 : decode cX5_does 66 = .ok (.if_icmp .ne 13, 3) := dk_160 0 13 (dk_at dksX5_does_2 18 rfl rfl)
theorem dX5_does_69 : decode cX5_does 69 = .ok (.aload_n 0, 1) := dk_42 (dk_at dksX5_does_2 21 rfl rfl)
theorem dX5_does_70 : decode cX5_does 70 = .ok (.sipush 1512, 3) := dk_17 5 232 (dk_at dksX5_does_3 0 rfl rfl)
theorem dX5_does_73 : decode cX5_does 73 = .ok (.invokevirtual 402, 3) := dk_182 1 146 (dk_at dksX5_does_3 3 rfl rfl)
theorem dX5_does_76 : decode cX5_does 76 = .ok (.goto 11, 3) := dk_167 0 11 (dk_at dksX5_does_3 6 rfl rfl)
theorem dX5_does_79 : decode cX5_does 79 = .ok (.aload_n 0, 1) := dk_42 (dk_at dksX5_does_3 9 rfl rfl)
theorem dX5_does_80 : decode cX5_does 80 = .ok (.sipush 1512, 3) := dk_17 5 232 (dk_at dksX5_does_3 10 rfl rfl)
theorem dX5_does_83 : decode cX5_does 83 = .ok (.invokevirtual 405, 3) := dk_182 1 149 (dk_at dksX5_does_3 13 rfl rfl)
theorem dX5_does_86 : decode cX5_does 86 = .ok (.pop, 1) := dk_87 (dk_at dksX5_does_3 16 rfl rfl)
theorem dX5_does_87 : decode cX5_does 87 = .ok (.return_, 1) := dk_177 (dk_at dksX5_does_3 17 rfl rfl)
abbrev cX5_lots : ByteArray := prog_30_method_84_code
def yX5_lots : MethodName := ⟨RX5, "lots", "()I"⟩
def dkwX5_lots_0 : List UInt8 := [42, 3, 181, 0, 1, 42, 180, 1, 57, 172]
abbrev dktX5_lots_0 : List UInt8 := dkwX5_lots_0 ++ []
theorem dksX5_lots_0 : cX5_lots.data.toList.drop 0 = dktX5_lots_0 := by decide +kernel
theorem dX5_lots_0 : decode cX5_lots 0 = .ok (.aload_n 0, 1) := dk_42 (dk_at dksX5_lots_0 0 rfl rfl)
theorem dX5_lots_1 : decode cX5_lots 1 = .ok (.iconst 0, 1) := dk_3 (dk_at dksX5_lots_0 1 rfl rfl)
theorem dX5_lots_2 : decode cX5_lots 2 = .ok (.putfield 1, 3) := dk_181 0 1 (dk_at dksX5_lots_0 2 rfl rfl)
theorem dX5_lots_5 : decode cX5_lots 5 = .ok (.aload_n 0, 1) := dk_42 (dk_at dksX5_lots_0 5 rfl rfl)
theorem dX5_lots_6 : decode cX5_lots 6 = .ok (.getfield 313, 3) := dk_180 1 57 (dk_at dksX5_lots_0 6 rfl rfl)
theorem dX5_lots_9 : decode cX5_lots 9 = .ok (.ireturn, 1) := dk_172 (dk_at dksX5_lots_0 9 rfl rfl)
abbrev cX5_odds : ByteArray := prog_30_method_85_code
def yX5_odds : MethodName := ⟨RX5, "odds", "(II)I"⟩
def dkwX5_odds_3 : List UInt8 := [19, 1, 158, 104, 42, 180, 1, 57, 108, 172]
abbrev dktX5_odds_3 : List UInt8 := dkwX5_odds_3 ++ []
def dkwX5_odds_2 : List UInt8 := [21, 4, 28, 182, 1, 90, 27, 160, 0, 7, 4, 167, 0, 4, 3, 96, 62, 132, 4, 1, 167, 255, 225, 29]
abbrev dktX5_odds_2 : List UInt8 := dkwX5_odds_2 ++ dktX5_odds_3
def dkwX5_odds_1 : List UInt8 := [180, 1, 57, 154, 0, 5, 2, 172, 3, 62, 3, 54, 4, 21, 4, 42, 180, 1, 57, 162, 0, 28, 29, 42]
abbrev dktX5_odds_1 : List UInt8 := dkwX5_odds_1 ++ dktX5_odds_2
def dkwX5_odds_0 : List UInt8 := [42, 3, 181, 0, 1, 42, 27, 182, 1, 100, 153, 0, 18, 42, 28, 182, 1, 100, 153, 0, 10, 42]
abbrev dktX5_odds_0 : List UInt8 := dkwX5_odds_0 ++ dktX5_odds_1
theorem dksX5_odds_0 : cX5_odds.data.toList.drop 0 = dktX5_odds_0 := by decide +kernel
theorem dksX5_odds_1 : cX5_odds.data.toList.drop 22 = dktX5_odds_1 := dk_seg dksX5_odds_0 22 rfl rfl
theorem dksX5_odds_2 : cX5_odds.data.toList.drop 46 = dktX5_odds_2 := dk_seg dksX5_odds_1 24 rfl rfl
theorem dksX5_odds_3 : cX5_odds.data.toList.drop 70 = dktX5_odds_3 := dk_seg dksX5_odds_2 24 rfl rfl
theorem dX5_odds_0 : decode cX5_odds 0 = .ok (.aload_n 0, 1) := dk_42 (dk_at dksX5_odds_0 0 rfl rfl)
theorem dX5_odds_1 : decode cX5_odds 1 = .ok (.iconst 0, 1) := dk_3 (dk_at dksX5_odds_0 1 rfl rfl)
theorem dX5_odds_2 : decode cX5_odds 2 = .ok (.putfield 1, 3) := dk_181 0 1 (dk_at dksX5_odds_0 2 rfl rfl)
theorem dX5_odds_5 : decode cX5_odds 5 = .ok (.aload_n 0, 1) := dk_42 (dk_at dksX5_odds_0 5 rfl rfl)
theorem dX5_odds_6 : decode cX5_odds 6 = .ok (.iload_n 1, 1) := dk_27 (dk_at dksX5_odds_0 6 rfl rfl)
theorem dX5_odds_7 : decode cX5_odds 7 = .ok (.invokevirtual 356, 3) := dk_182 1 100 (dk_at dksX5_odds_0 7 rfl rfl)
theorem dX5_odds_10 : decode cX5_odds 10 = .ok (.ifCond .eq 18, 3) := dk_153 0 18 (dk_at dksX5_odds_0 10 rfl rfl)
theorem dX5_odds_13 : decode cX5_odds 13 = .ok (.aload_n 0, 1) := dk_42 (dk_at dksX5_odds_0 13 rfl rfl)
theorem dX5_odds_14 : decode cX5_odds 14 = .ok (.iload_n 2, 1) := dk_28 (dk_at dksX5_odds_0 14 rfl rfl)
theorem dX5_odds_15 : decode cX5_odds 15 = .ok (.invokevirtual 356, 3) := dk_182 1 100 (dk_at dksX5_odds_0 15 rfl rfl)
theorem dX5_odds_18 : decode cX5_odds 18 = .ok (.ifCond .eq 10, 3) := dk_153 0 10 (dk_at dksX5_odds_0 18 rfl rfl)
theorem dX5_odds_21 : decode cX5_odds 21 = .ok (.aload_n 0, 1) := dk_42 (dk_at dksX5_odds_0 21 rfl rfl)
theorem dX5_odds_22 : decode cX5_odds 22 = .ok (.getfield 313, 3) := dk_180 1 57 (dk_at dksX5_odds_1 0 rfl rfl)
theorem dX5_odds_25 : decode cX5_odds 25 = .ok (.ifCond .ne 5, 3) := dk_154 0 5 (dk_at dksX5_odds_1 3 rfl rfl)
theorem dX5_odds_28 : decode cX5_odds 28 = .ok (.iconst (-1), 1) := dk_2 (dk_at dksX5_odds_1 6 rfl rfl)
theorem dX5_odds_29 : decode cX5_odds 29 = .ok (.ireturn, 1) := dk_172 (dk_at dksX5_odds_1 7 rfl rfl)
theorem dX5_odds_30 : decode cX5_odds 30 = .ok (.iconst 0, 1) := dk_3 (dk_at dksX5_odds_1 8 rfl rfl)
theorem dX5_odds_31 : decode cX5_odds 31 = .ok (.istore_n 3, 1) := dk_62 (dk_at dksX5_odds_1 9 rfl rfl)
theorem dX5_odds_32 : decode cX5_odds 32 = .ok (.iconst 0, 1) := dk_3 (dk_at dksX5_odds_1 10 rfl rfl)
theorem dX5_odds_33 : decode cX5_odds 33 = .ok (.istore 4, 2) := dk_54 4 (dk_at dksX5_odds_1 11 rfl rfl)
theorem dX5_odds_35 : decode cX5_odds 35 = .ok (.iload 4, 2) := dk_21 4 (dk_at dksX5_odds_1 13 rfl rfl)
theorem dX5_odds_37 : decode cX5_odds 37 = .ok (.aload_n 0, 1) := dk_42 (dk_at dksX5_odds_1 15 rfl rfl)
theorem dX5_odds_38 : decode cX5_odds 38 = .ok (.getfield 313, 3) := dk_180 1 57 (dk_at dksX5_odds_1 16 rfl rfl)
theorem dX5_odds_41 : decode cX5_odds 41 = .ok (.if_icmp .ge 28, 3) := dk_162 0 28 (dk_at dksX5_odds_1 19 rfl rfl)
theorem dX5_odds_44 : decode cX5_odds 44 = .ok (.iload_n 3, 1) := dk_29 (dk_at dksX5_odds_1 22 rfl rfl)
theorem dX5_odds_45 : decode cX5_odds 45 = .ok (.aload_n 0, 1) := dk_42 (dk_at dksX5_odds_1 23 rfl rfl)
theorem dX5_odds_46 : decode cX5_odds 46 = .ok (.iload 4, 2) := dk_21 4 (dk_at dksX5_odds_2 0 rfl rfl)
theorem dX5_odds_48 : decode cX5_odds 48 = .ok (.iload_n 2, 1) := dk_28 (dk_at dksX5_odds_2 2 rfl rfl)
theorem dX5_odds_49 : decode cX5_odds 49 = .ok (.invokevirtual 346, 3) := dk_182 1 90 (dk_at dksX5_odds_2 3 rfl rfl)
theorem dX5_odds_52 : decode cX5_odds 52 = .ok (.iload_n 1, 1) := dk_27 (dk_at dksX5_odds_2 6 rfl rfl)
theorem dX5_odds_53 : decode cX5_odds 53 = .ok (.if_icmp .ne 7, 3) := dk_160 0 7 (dk_at dksX5_odds_2 7 rfl rfl)
theorem dX5_odds_56 : decode cX5_odds 56 = .ok (.iconst 1, 1) := dk_4 (dk_at dksX5_odds_2 10 rfl rfl)
theorem dX5_odds_57 : decode cX5_odds 57 = .ok (.goto 4, 3) := dk_167 0 4 (dk_at dksX5_odds_2 11 rfl rfl)
theorem dX5_odds_60 : decode cX5_odds 60 = .ok (.iconst 0, 1) := dk_3 (dk_at dksX5_odds_2 14 rfl rfl)
theorem dX5_odds_61 : decode cX5_odds 61 = .ok (.iadd, 1) := dk_96 (dk_at dksX5_odds_2 15 rfl rfl)
theorem dX5_odds_62 : decode cX5_odds 62 = .ok (.istore_n 3, 1) := dk_62 (dk_at dksX5_odds_2 16 rfl rfl)
theorem dX5_odds_63 : decode cX5_odds 63 = .ok (.iinc 4 1, 3) := dk_132 4 1 (dk_at dksX5_odds_2 17 rfl rfl)
theorem dX5_odds_66 : decode cX5_odds 66 = .ok (.goto (-31), 3) := dk_167 255 225 (dk_at dksX5_odds_2 20 rfl rfl)
theorem dX5_odds_69 : decode cX5_odds 69 = .ok (.iload_n 3, 1) := dk_29 (dk_at dksX5_odds_2 23 rfl rfl)
theorem dX5_odds_70 : decode cX5_odds 70 = .ok (.ldc_w 414, 3) := dk_19 1 158 (dk_at dksX5_odds_3 0 rfl rfl)
theorem dX5_odds_73 : decode cX5_odds 73 = .ok (.imul, 1) := dk_104 (dk_at dksX5_odds_3 3 rfl rfl)
theorem dX5_odds_74 : decode cX5_odds 74 = .ok (.aload_n 0, 1) := dk_42 (dk_at dksX5_odds_3 4 rfl rfl)
theorem dX5_odds_75 : decode cX5_odds 75 = .ok (.getfield 313, 3) := dk_180 1 57 (dk_at dksX5_odds_3 5 rfl rfl)
theorem dX5_odds_78 : decode cX5_odds 78 = .ok (.idiv, 1) := dk_108 (dk_at dksX5_odds_3 8 rfl rfl)
theorem dX5_odds_79 : decode cX5_odds 79 = .ok (.ireturn, 1) := dk_172 (dk_at dksX5_odds_3 9 rfl rfl)
abbrev cX5_least : ByteArray := prog_30_method_86_code
def yX5_least : MethodName := ⟨RX5, "least", "(I)I"⟩
def dkwX5_least_5 : List UInt8 := [182, 1, 90, 172]
abbrev dktX5_least_5 : List UInt8 := dkwX5_least_5 ++ []
def dkwX5_least_4 : List UInt8 := [167, 0, 4, 29, 62, 132, 4, 1, 167, 255, 194, 27, 156, 0, 7, 29, 167, 0, 9, 42, 28, 27]
abbrev dktX5_least_4 : List UInt8 := dkwX5_least_4 ++ dktX5_least_5
def dkwX5_least_3 : List UInt8 := [162, 0, 8, 21, 4, 167, 0, 4, 28, 61, 29, 155, 0, 9, 21, 5, 29, 162, 0, 8, 21, 5]
abbrev dktX5_least_3 : List UInt8 := dkwX5_least_3 ++ dktX5_least_4
def dkwX5_least_2 : List UInt8 := [21, 4, 182, 1, 159, 42, 17, 6, 48, 3, 182, 1, 96, 54, 5, 29, 155, 0, 9, 21, 5, 29]
abbrev dktX5_least_2 : List UInt8 := dkwX5_least_2 ++ dktX5_least_3
def dkwX5_least_1 : List UInt8 := [154, 0, 6, 16, 254, 172, 3, 61, 2, 62, 3, 54, 4, 21, 4, 42, 180, 1, 57, 162, 0, 59, 42]
abbrev dktX5_least_1 : List UInt8 := dkwX5_least_1 ++ dktX5_least_2
def dkwX5_least_0 : List UInt8 := [42, 3, 181, 0, 1, 27, 2, 159, 0, 11, 42, 27, 182, 1, 100, 153, 0, 10, 42, 180, 1, 57]
abbrev dktX5_least_0 : List UInt8 := dkwX5_least_0 ++ dktX5_least_1
theorem dksX5_least_0 : cX5_least.data.toList.drop 0 = dktX5_least_0 := by decide +kernel
theorem dksX5_least_1 : cX5_least.data.toList.drop 22 = dktX5_least_1 := dk_seg dksX5_least_0 22 rfl rfl
theorem dksX5_least_2 : cX5_least.data.toList.drop 45 = dktX5_least_2 := dk_seg dksX5_least_1 23 rfl rfl
theorem dksX5_least_3 : cX5_least.data.toList.drop 67 = dktX5_least_3 := dk_seg dksX5_least_2 22 rfl rfl
theorem dksX5_least_4 : cX5_least.data.toList.drop 89 = dktX5_least_4 := dk_seg dksX5_least_3 22 rfl rfl
theorem dksX5_least_5 : cX5_least.data.toList.drop 111 = dktX5_least_5 := dk_seg dksX5_least_4 22 rfl rfl
theorem dX5_least_0 : decode cX5_least 0 = .ok (.aload_n 0, 1) := dk_42 (dk_at dksX5_least_0 0 rfl rfl)
theorem dX5_least_1 : decode cX5_least 1 = .ok (.iconst 0, 1) := dk_3 (dk_at dksX5_least_0 1 rfl rfl)
theorem dX5_least_2 : decode cX5_least 2 = .ok (.putfield 1, 3) := dk_181 0 1 (dk_at dksX5_least_0 2 rfl rfl)
theorem dX5_least_5 : decode cX5_least 5 = .ok (.iload_n 1, 1) := dk_27 (dk_at dksX5_least_0 5 rfl rfl)
theorem dX5_least_6 : decode cX5_least 6 = .ok (.iconst (-1), 1) := dk_2 (dk_at dksX5_least_0 6 rfl rfl)
theorem dX5_least_7 : decode cX5_least 7 = .ok (.if_icmp .eq 11, 3) := dk_159 0 11 (dk_at dksX5_least_0 7 rfl rfl)
theorem dX5_least_10 : decode cX5_least 10 = .ok (.aload_n 0, 1) := dk_42 (dk_at dksX5_least_0 10 rfl rfl)
theorem dX5_least_11 : decode cX5_least 11 = .ok (.iload_n 1, 1) := dk_27 (dk_at dksX5_least_0 11 rfl rfl)
theorem dX5_least_12 : decode cX5_least 12 = .ok (.invokevirtual 356, 3) := dk_182 1 100 (dk_at dksX5_least_0 12 rfl rfl)
theorem dX5_least_15 : decode cX5_least 15 = .ok (.ifCond .eq 10, 3) := dk_153 0 10 (dk_at dksX5_least_0 15 rfl rfl)
theorem dX5_least_18 : decode cX5_least 18 = .ok (.aload_n 0, 1) := dk_42 (dk_at dksX5_least_0 18 rfl rfl)
theorem dX5_least_19 : decode cX5_least 19 = .ok (.getfield 313, 3) := dk_180 1 57 (dk_at dksX5_least_0 19 rfl rfl)
theorem dX5_least_22 : decode cX5_least 22 = .ok (.ifCond .ne 6, 3) := dk_154 0 6 (dk_at dksX5_least_1 0 rfl rfl)
theorem dX5_least_25 : decode cX5_least 25 = .ok (.bipush (-2), 2) := dk_16 254 (dk_at dksX5_least_1 3 rfl rfl)
theorem dX5_least_27 : decode cX5_least 27 = .ok (.ireturn, 1) := dk_172 (dk_at dksX5_least_1 5 rfl rfl)
theorem dX5_least_28 : decode cX5_least 28 = .ok (.iconst 0, 1) := dk_3 (dk_at dksX5_least_1 6 rfl rfl)
theorem dX5_least_29 : decode cX5_least 29 = .ok (.istore_n 2, 1) := dk_61 (dk_at dksX5_least_1 7 rfl rfl)
theorem dX5_least_30 : decode cX5_least 30 = .ok (.iconst (-1), 1) := dk_2 (dk_at dksX5_least_1 8 rfl rfl)
theorem dX5_least_31 : decode cX5_least 31 = .ok (.istore_n 3, 1) := dk_62 (dk_at dksX5_least_1 9 rfl rfl)
theorem dX5_least_32 : decode cX5_least 32 = .ok (.iconst 0, 1) := dk_3 (dk_at dksX5_least_1 10 rfl rfl)
theorem dX5_least_33 : decode cX5_least 33 = .ok (.istore 4, 2) := dk_54 4 (dk_at dksX5_least_1 11 rfl rfl)
theorem dX5_least_35 : decode cX5_least 35 = .ok (.iload 4, 2) := dk_21 4 (dk_at dksX5_least_1 13 rfl rfl)
theorem dX5_least_37 : decode cX5_least 37 = .ok (.aload_n 0, 1) := dk_42 (dk_at dksX5_least_1 15 rfl rfl)
theorem dX5_least_38 : decode cX5_least 38 = .ok (.getfield 313, 3) := dk_180 1 57 (dk_at dksX5_least_1 16 rfl rfl)
theorem dX5_least_41 : decode cX5_least 41 = .ok (.if_icmp .ge 59, 3) := dk_162 0 59 (dk_at dksX5_least_1 19 rfl rfl)
theorem dX5_least_44 : decode cX5_least 44 = .ok (.aload_n 0, 1) := dk_42 (dk_at dksX5_least_1 22 rfl rfl)
theorem dX5_least_45 : decode cX5_least 45 = .ok (.iload 4, 2) := dk_21 4 (dk_at dksX5_least_2 0 rfl rfl)
theorem dX5_least_47 : decode cX5_least 47 = .ok (.invokevirtual 415, 3) := dk_182 1 159 (dk_at dksX5_least_2 2 rfl rfl)
theorem dX5_least_50 : decode cX5_least 50 = .ok (.aload_n 0, 1) := dk_42 (dk_at dksX5_least_2 5 rfl rfl)
theorem dX5_least_51 : decode cX5_least 51 = .ok (.sipush 1584, 3) := dk_17 6 48 (dk_at dksX5_least_2 6 rfl rfl)
theorem dX5_least_54 : decode cX5_least 54 = .ok (.iconst 0, 1) := dk_3 (dk_at dksX5_least_2 9 rfl rfl)
theorem dX5_least_55 : decode cX5_least 55 = .ok (.invokevirtual 352, 3) := dk_182 1 96 (dk_at dksX5_least_2 10 rfl rfl)
theorem dX5_least_58 : decode cX5_least 58 = .ok (.istore 5, 2) := dk_54 5 (dk_at dksX5_least_2 13 rfl rfl)
theorem dX5_least_60 : decode cX5_least 60 = .ok (.iload_n 3, 1) := dk_29 (dk_at dksX5_least_2 15 rfl rfl)
theorem dX5_least_61 : decode cX5_least 61 = .ok (.ifCond .lt 9, 3) := dk_155 0 9 (dk_at dksX5_least_2 16 rfl rfl)
theorem dX5_least_64 : decode cX5_least 64 = .ok (.iload 5, 2) := dk_21 5 (dk_at dksX5_least_2 19 rfl rfl)
theorem dX5_least_66 : decode cX5_least 66 = .ok (.iload_n 3, 1) := dk_29 (dk_at dksX5_least_2 21 rfl rfl)
theorem dX5_least_67 : decode cX5_least 67 = .ok (.if_icmp .ge 8, 3) := dk_162 0 8 (dk_at dksX5_least_3 0 rfl rfl)
theorem dX5_least_70 : decode cX5_least 70 = .ok (.iload 4, 2) := dk_21 4 (dk_at dksX5_least_3 3 rfl rfl)
theorem dX5_least_72 : decode cX5_least 72 = .ok (.goto 4, 3) := dk_167 0 4 (dk_at dksX5_least_3 5 rfl rfl)
theorem dX5_least_75 : decode cX5_least 75 = .ok (.iload_n 2, 1) := dk_28 (dk_at dksX5_least_3 8 rfl rfl)
theorem dX5_least_76 : decode cX5_least 76 = .ok (.istore_n 2, 1) := dk_61 (dk_at dksX5_least_3 9 rfl rfl)
theorem dX5_least_77 : decode cX5_least 77 = .ok (.iload_n 3, 1) := dk_29 (dk_at dksX5_least_3 10 rfl rfl)
theorem dX5_least_78 : decode cX5_least 78 = .ok (.ifCond .lt 9, 3) := dk_155 0 9 (dk_at dksX5_least_3 11 rfl rfl)
theorem dX5_least_81 : decode cX5_least 81 = .ok (.iload 5, 2) := dk_21 5 (dk_at dksX5_least_3 14 rfl rfl)
theorem dX5_least_83 : decode cX5_least 83 = .ok (.iload_n 3, 1) := dk_29 (dk_at dksX5_least_3 16 rfl rfl)
theorem dX5_least_84 : decode cX5_least 84 = .ok (.if_icmp .ge 8, 3) := dk_162 0 8 (dk_at dksX5_least_3 17 rfl rfl)
theorem dX5_least_87 : decode cX5_least 87 = .ok (.iload 5, 2) := dk_21 5 (dk_at dksX5_least_3 20 rfl rfl)
theorem dX5_least_89 : decode cX5_least 89 = .ok (.goto 4, 3) := dk_167 0 4 (dk_at dksX5_least_4 0 rfl rfl)
theorem dX5_least_92 : decode cX5_least 92 = .ok (.iload_n 3, 1) := dk_29 (dk_at dksX5_least_4 3 rfl rfl)
theorem dX5_least_93 : decode cX5_least 93 = .ok (.istore_n 3, 1) := dk_62 (dk_at dksX5_least_4 4 rfl rfl)
theorem dX5_least_94 : decode cX5_least 94 = .ok (.iinc 4 1, 3) := dk_132 4 1 (dk_at dksX5_least_4 5 rfl rfl)
theorem dX5_least_97 : decode cX5_least 97 = .ok (.goto (-62), 3) := dk_167 255 194 (dk_at dksX5_least_4 8 rfl rfl)
theorem dX5_least_100 : decode cX5_least 100 = .ok (.iload_n 1, 1) := dk_27 (dk_at dksX5_least_4 11 rfl rfl)
theorem dX5_least_101 : decode cX5_least 101 = .ok (.ifCond .ge 7, 3) := dk_156 0 7 (dk_at dksX5_least_4 12 rfl rfl)
theorem dX5_least_104 : decode cX5_least 104 = .ok (.iload_n 3, 1) := dk_29 (dk_at dksX5_least_4 15 rfl rfl)
theorem dX5_least_105 : decode cX5_least 105 = .ok (.goto 9, 3) := dk_167 0 9 (dk_at dksX5_least_4 16 rfl rfl)
theorem dX5_least_108 : decode cX5_least 108 = .ok (.aload_n 0, 1) := dk_42 (dk_at dksX5_least_4 19 rfl rfl)
theorem dX5_least_109 : decode cX5_least 109 = .ok (.iload_n 2, 1) := dk_28 (dk_at dksX5_least_4 20 rfl rfl)
theorem dX5_least_110 : decode cX5_least 110 = .ok (.iload_n 1, 1) := dk_27 (dk_at dksX5_least_4 21 rfl rfl)
theorem dX5_least_111 : decode cX5_least 111 = .ok (.invokevirtual 346, 3) := dk_182 1 90 (dk_at dksX5_least_5 0 rfl rfl)
theorem dX5_least_114 : decode cX5_least 114 = .ok (.ireturn, 1) := dk_172 (dk_at dksX5_least_5 3 rfl rfl)
abbrev cX5_weekBy : ByteArray := prog_30_method_83_code
def yX5_weekBy : MethodName := ⟨RX5, "weekBy", "(I)V"⟩
def dkwX5_weekBy_1 : List UInt8 := [162, 0, 16, 42, 17, 6, 48, 182, 1, 146, 132, 2, 1, 167, 255, 240, 177]
abbrev dktX5_weekBy_1 : List UInt8 := dkwX5_weekBy_1 ++ []
def dkwX5_weekBy_0 : List UInt8 := [42, 3, 17, 6, 48, 16, 46, 182, 1, 53, 42, 17, 6, 48, 27, 182, 1, 131, 3, 61, 28, 16, 7]
abbrev dktX5_weekBy_0 : List UInt8 := dkwX5_weekBy_0 ++ dktX5_weekBy_1
theorem dksX5_weekBy_0 : cX5_weekBy.data.toList.drop 0 = dktX5_weekBy_0 := by decide +kernel
theorem dksX5_weekBy_1 : cX5_weekBy.data.toList.drop 23 = dktX5_weekBy_1 := dk_seg dksX5_weekBy_0 23 rfl rfl
theorem dX5_weekBy_0 : decode cX5_weekBy 0 = .ok (.aload_n 0, 1) := dk_42 (dk_at dksX5_weekBy_0 0 rfl rfl)
theorem dX5_weekBy_1 : decode cX5_weekBy 1 = .ok (.iconst 0, 1) := dk_3 (dk_at dksX5_weekBy_0 1 rfl rfl)
theorem dX5_weekBy_2 : decode cX5_weekBy 2 = .ok (.sipush 1584, 3) := dk_17 6 48 (dk_at dksX5_weekBy_0 2 rfl rfl)
theorem dX5_weekBy_5 : decode cX5_weekBy 5 = .ok (.bipush 46, 2) := dk_16 46 (dk_at dksX5_weekBy_0 5 rfl rfl)
theorem dX5_weekBy_7 : decode cX5_weekBy 7 = .ok (.invokevirtual 309, 3) := dk_182 1 53 (dk_at dksX5_weekBy_0 7 rfl rfl)
theorem dX5_weekBy_10 : decode cX5_weekBy 10 = .ok (.aload_n 0, 1) := dk_42 (dk_at dksX5_weekBy_0 10 rfl rfl)
theorem dX5_weekBy_11 : decode cX5_weekBy 11 = .ok (.sipush 1584, 3) := dk_17 6 48 (dk_at dksX5_weekBy_0 11 rfl rfl)
theorem dX5_weekBy_14 : decode cX5_weekBy 14 = .ok (.iload_n 1, 1) := dk_27 (dk_at dksX5_weekBy_0 14 rfl rfl)
theorem dX5_weekBy_15 : decode cX5_weekBy 15 = .ok (.invokevirtual 387, 3) := dk_182 1 131 (dk_at dksX5_weekBy_0 15 rfl rfl)
theorem dX5_weekBy_18 : decode cX5_weekBy 18 = .ok (.iconst 0, 1) := dk_3 (dk_at dksX5_weekBy_0 18 rfl rfl)
theorem dX5_weekBy_19 : decode cX5_weekBy 19 = .ok (.istore_n 2, 1) := dk_61 (dk_at dksX5_weekBy_0 19 rfl rfl)
theorem dX5_weekBy_20 : decode cX5_weekBy 20 = .ok (.iload_n 2, 1) := dk_28 (dk_at dksX5_weekBy_0 20 rfl rfl)
theorem dX5_weekBy_21 : decode cX5_weekBy 21 = .ok (.bipush 7, 2) := dk_16 7 (dk_at dksX5_weekBy_0 21 rfl rfl)
theorem dX5_weekBy_23 : decode cX5_weekBy 23 = .ok (.if_icmp .ge 16, 3) := dk_162 0 16 (dk_at dksX5_weekBy_1 0 rfl rfl)
theorem dX5_weekBy_26 : decode cX5_weekBy 26 = .ok (.aload_n 0, 1) := dk_42 (dk_at dksX5_weekBy_1 3 rfl rfl)
theorem dX5_weekBy_27 : decode cX5_weekBy 27 = .ok (.sipush 1584, 3) := dk_17 6 48 (dk_at dksX5_weekBy_1 4 rfl rfl)
theorem dX5_weekBy_30 : decode cX5_weekBy 30 = .ok (.invokevirtual 402, 3) := dk_182 1 146 (dk_at dksX5_weekBy_1 7 rfl rfl)
theorem dX5_weekBy_33 : decode cX5_weekBy 33 = .ok (.iinc 2 1, 3) := dk_132 2 1 (dk_at dksX5_weekBy_1 10 rfl rfl)
theorem dX5_weekBy_36 : decode cX5_weekBy 36 = .ok (.goto (-16), 3) := dk_167 255 240 (dk_at dksX5_weekBy_1 13 rfl rfl)
theorem dX5_weekBy_39 : decode cX5_weekBy 39 = .ok (.return_, 1) := dk_177 (dk_at dksX5_weekBy_1 16 rfl rfl)
abbrev cX5_prepare : ByteArray := prog_30_method_87_code
def yX5_prepare : MethodName := ⟨RX5, "prepare", "(II)I"⟩
def dkwX5_prepare_8 : List UInt8 := [167, 0, 16, 22, 5, 20, 1, 164, 105, 42, 180, 1, 57, 133, 109, 136, 172]
abbrev dktX5_prepare_8 : List UInt8 := dkwX5_prepare_8 ++ []
def dkwX5_prepare_7 : List UInt8 := [132, 7, 25, 167, 255, 139, 42, 180, 0, 115, 16, 22, 27, 96, 29, 79, 28, 154, 0, 8, 21, 4]
abbrev dktX5_prepare_7 : List UInt8 := dkwX5_prepare_7 ++ dktX5_prepare_8
def dkwX5_prepare_6 : List UInt8 := [22, 5, 9, 148, 155, 0, 11, 22, 8, 22, 5, 148, 156, 0, 8, 22, 8, 167, 0, 5, 22, 5, 55, 5]
abbrev dktX5_prepare_6 : List UInt8 := dkwX5_prepare_6 ++ dktX5_prepare_7
def dkwX5_prepare_5 : List UInt8 := [22, 5, 9, 148, 155, 0, 11, 22, 8, 22, 5, 148, 156, 0, 8, 21, 7, 167, 0, 5, 21, 4, 54, 4]
abbrev dktX5_prepare_5 : List UInt8 := dkwX5_prepare_5 ++ dktX5_prepare_6
def dkwX5_prepare_4 : List UInt8 := [182, 1, 159, 22, 8, 42, 17, 6, 48, 27, 3, 182, 1, 93, 133, 97, 55, 8, 132, 10, 1, 167, 255, 223]
abbrev dktX5_prepare_4 : List UInt8 := dkwX5_prepare_4 ++ dktX5_prepare_5
def dkwX5_prepare_3 : List UInt8 := [27, 96, 21, 7, 79, 9, 55, 8, 3, 54, 10, 21, 10, 42, 180, 1, 57, 162, 0, 30, 42, 21, 10]
abbrev dktX5_prepare_3 : List UInt8 := dkwX5_prepare_3 ++ dktX5_prepare_4
def dkwX5_prepare_2 : List UInt8 := [55, 5, 3, 54, 7, 21, 7, 42, 180, 0, 115, 7, 27, 96, 46, 163, 0, 110, 42, 180, 0, 115, 16, 22]
abbrev dktX5_prepare_2 : List UInt8 := dkwX5_prepare_2 ++ dktX5_prepare_3
def dkwX5_prepare_1 : List UInt8 := [180, 1, 57, 154, 0, 5, 2, 172, 42, 180, 0, 115, 16, 22, 27, 96, 46, 62, 3, 54, 4, 20, 1, 162]
abbrev dktX5_prepare_1 : List UInt8 := dkwX5_prepare_1 ++ dktX5_prepare_2
def dkwX5_prepare_0 : List UInt8 := [42, 3, 181, 0, 1, 42, 27, 182, 1, 100, 153, 0, 19, 28, 3, 4, 184, 1, 103, 153, 0, 10, 42]
abbrev dktX5_prepare_0 : List UInt8 := dkwX5_prepare_0 ++ dktX5_prepare_1
theorem dksX5_prepare_0 : cX5_prepare.data.toList.drop 0 = dktX5_prepare_0 := by decide +kernel
theorem dksX5_prepare_1 : cX5_prepare.data.toList.drop 23 = dktX5_prepare_1 := dk_seg dksX5_prepare_0 23 rfl rfl
theorem dksX5_prepare_2 : cX5_prepare.data.toList.drop 47 = dktX5_prepare_2 := dk_seg dksX5_prepare_1 24 rfl rfl
theorem dksX5_prepare_3 : cX5_prepare.data.toList.drop 71 = dktX5_prepare_3 := dk_seg dksX5_prepare_2 24 rfl rfl
theorem dksX5_prepare_4 : cX5_prepare.data.toList.drop 94 = dktX5_prepare_4 := dk_seg dksX5_prepare_3 23 rfl rfl
theorem dksX5_prepare_5 : cX5_prepare.data.toList.drop 118 = dktX5_prepare_5 := dk_seg dksX5_prepare_4 24 rfl rfl
theorem dksX5_prepare_6 : cX5_prepare.data.toList.drop 142 = dktX5_prepare_6 := dk_seg dksX5_prepare_5 24 rfl rfl
theorem dksX5_prepare_7 : cX5_prepare.data.toList.drop 166 = dktX5_prepare_7 := dk_seg dksX5_prepare_6 24 rfl rfl
theorem dksX5_prepare_8 : cX5_prepare.data.toList.drop 188 = dktX5_prepare_8 := dk_seg dksX5_prepare_7 22 rfl rfl
theorem dX5_prepare_0 : decode cX5_prepare 0 = .ok (.aload_n 0, 1) := dk_42 (dk_at dksX5_prepare_0 0 rfl rfl)
theorem dX5_prepare_1 : decode cX5_prepare 1 = .ok (.iconst 0, 1) := dk_3 (dk_at dksX5_prepare_0 1 rfl rfl)
theorem dX5_prepare_2 : decode cX5_prepare 2 = .ok (.putfield 1, 3) := dk_181 0 1 (dk_at dksX5_prepare_0 2 rfl rfl)
theorem dX5_prepare_5 : decode cX5_prepare 5 = .ok (.aload_n 0, 1) := dk_42 (dk_at dksX5_prepare_0 5 rfl rfl)
theorem dX5_prepare_6 : decode cX5_prepare 6 = .ok (.iload_n 1, 1) := dk_27 (dk_at dksX5_prepare_0 6 rfl rfl)
theorem dX5_prepare_7 : decode cX5_prepare 7 = .ok (.invokevirtual 356, 3) := dk_182 1 100 (dk_at dksX5_prepare_0 7 rfl rfl)
theorem dX5_prepare_10 : decode cX5_prepare 10 = .ok (.ifCond .eq 19, 3) := dk_153 0 19 (dk_at dksX5_prepare_0 10 rfl rfl)
theorem dX5_prepare_13 : decode cX5_prepare 13 = .ok (.iload_n 2, 1) := dk_28 (dk_at dksX5_prepare_0 13 rfl rfl)
theorem dX5_prepare_14 : decode cX5_prepare 14 = .ok (.iconst 0, 1) := dk_3 (dk_at dksX5_prepare_0 14 rfl rfl)
theorem dX5_prepare_15 : decode cX5_prepare 15 = .ok (.iconst 1, 1) := dk_4 (dk_at dksX5_prepare_0 15 rfl rfl)
theorem dX5_prepare_16 : decode cX5_prepare 16 = .ok (.invokestatic 359, 3) := dk_184 1 103 (dk_at dksX5_prepare_0 16 rfl rfl)
theorem dX5_prepare_19 : decode cX5_prepare 19 = .ok (.ifCond .eq 10, 3) := dk_153 0 10 (dk_at dksX5_prepare_0 19 rfl rfl)
theorem dX5_prepare_22 : decode cX5_prepare 22 = .ok (.aload_n 0, 1) := dk_42 (dk_at dksX5_prepare_0 22 rfl rfl)
theorem dX5_prepare_23 : decode cX5_prepare 23 = .ok (.getfield 313, 3) := dk_180 1 57 (dk_at dksX5_prepare_1 0 rfl rfl)
theorem dX5_prepare_26 : decode cX5_prepare 26 = .ok (.ifCond .ne 5, 3) := dk_154 0 5 (dk_at dksX5_prepare_1 3 rfl rfl)
theorem dX5_prepare_29 : decode cX5_prepare 29 = .ok (.iconst (-1), 1) := dk_2 (dk_at dksX5_prepare_1 6 rfl rfl)
theorem dX5_prepare_30 : decode cX5_prepare 30 = .ok (.ireturn, 1) := dk_172 (dk_at dksX5_prepare_1 7 rfl rfl)
theorem dX5_prepare_31 : decode cX5_prepare 31 = .ok (.aload_n 0, 1) := dk_42 (dk_at dksX5_prepare_1 8 rfl rfl)
theorem dX5_prepare_32 : decode cX5_prepare 32 = .ok (.getfield 115, 3) := dk_180 0 115 (dk_at dksX5_prepare_1 9 rfl rfl)
theorem dX5_prepare_35 : decode cX5_prepare 35 = .ok (.bipush 22, 2) := dk_16 22 (dk_at dksX5_prepare_1 12 rfl rfl)
theorem dX5_prepare_37 : decode cX5_prepare 37 = .ok (.iload_n 1, 1) := dk_27 (dk_at dksX5_prepare_1 14 rfl rfl)
theorem dX5_prepare_38 : decode cX5_prepare 38 = .ok (.iadd, 1) := dk_96 (dk_at dksX5_prepare_1 15 rfl rfl)
theorem dX5_prepare_39 : decode cX5_prepare 39 = .ok (.iaload, 1) := dk_46 (dk_at dksX5_prepare_1 16 rfl rfl)
theorem dX5_prepare_40 : decode cX5_prepare 40 = .ok (.istore_n 3, 1) := dk_62 (dk_at dksX5_prepare_1 17 rfl rfl)
theorem dX5_prepare_41 : decode cX5_prepare 41 = .ok (.iconst 0, 1) := dk_3 (dk_at dksX5_prepare_1 18 rfl rfl)
theorem dX5_prepare_42 : decode cX5_prepare 42 = .ok (.istore 4, 2) := dk_54 4 (dk_at dksX5_prepare_1 19 rfl rfl)
theorem dX5_prepare_44 : decode cX5_prepare 44 = .ok (.ldc2_w 418, 3) := dk_20 1 162 (dk_at dksX5_prepare_1 21 rfl rfl)
theorem dX5_prepare_47 : decode cX5_prepare 47 = .ok (.lstore 5, 2) := dk_55 5 (dk_at dksX5_prepare_2 0 rfl rfl)
theorem dX5_prepare_49 : decode cX5_prepare 49 = .ok (.iconst 0, 1) := dk_3 (dk_at dksX5_prepare_2 2 rfl rfl)
theorem dX5_prepare_50 : decode cX5_prepare 50 = .ok (.istore 7, 2) := dk_54 7 (dk_at dksX5_prepare_2 3 rfl rfl)
theorem dX5_prepare_52 : decode cX5_prepare 52 = .ok (.iload 7, 2) := dk_21 7 (dk_at dksX5_prepare_2 5 rfl rfl)
theorem dX5_prepare_54 : decode cX5_prepare 54 = .ok (.aload_n 0, 1) := dk_42 (dk_at dksX5_prepare_2 7 rfl rfl)
theorem dX5_prepare_55 : decode cX5_prepare 55 = .ok (.getfield 115, 3) := dk_180 0 115 (dk_at dksX5_prepare_2 8 rfl rfl)
theorem dX5_prepare_58 : decode cX5_prepare 58 = .ok (.iconst 4, 1) := dk_7 (dk_at dksX5_prepare_2 11 rfl rfl)
theorem dX5_prepare_59 : decode cX5_prepare 59 = .ok (.iload_n 1, 1) := dk_27 (dk_at dksX5_prepare_2 12 rfl rfl)
theorem dX5_prepare_60 : decode cX5_prepare 60 = .ok (.iadd, 1) := dk_96 (dk_at dksX5_prepare_2 13 rfl rfl)
theorem dX5_prepare_61 : decode cX5_prepare 61 = .ok (.iaload, 1) := dk_46 (dk_at dksX5_prepare_2 14 rfl rfl)
theorem dX5_prepare_62 : decode cX5_prepare 62 = .ok (.if_icmp .gt 110, 3) := dk_163 0 110 (dk_at dksX5_prepare_2 15 rfl rfl)
theorem dX5_prepare_65 : decode cX5_prepare 65 = .ok (.aload_n 0, 1) := dk_42 (dk_at dksX5_prepare_2 18 rfl rfl)
theorem dX5_prepare_66 : decode cX5_prepare 66 = .ok (.getfield 115, 3) := dk_180 0 115 (dk_at dksX5_prepare_2 19 rfl rfl)
theorem dX5_prepare_69 : decode cX5_prepare 69 = .ok (.bipush 22, 2) := dk_16 22 (dk_at dksX5_prepare_2 22 rfl rfl)
theorem dX5_prepare_71 : decode cX5_prepare 71 = .ok (.iload_n 1, 1) := dk_27 (dk_at dksX5_prepare_3 0 rfl rfl)
theorem dX5_prepare_72 : decode cX5_prepare 72 = .ok (.iadd, 1) := dk_96 (dk_at dksX5_prepare_3 1 rfl rfl)
theorem dX5_prepare_73 : decode cX5_prepare 73 = .ok (.iload 7, 2) := dk_21 7 (dk_at dksX5_prepare_3 2 rfl rfl)
theorem dX5_prepare_75 : decode cX5_prepare 75 = .ok (.iastore, 1) := dk_79 (dk_at dksX5_prepare_3 4 rfl rfl)
theorem dX5_prepare_76 : decode cX5_prepare 76 = .ok (.lconst 0, 1) := dk_9 (dk_at dksX5_prepare_3 5 rfl rfl)
theorem dX5_prepare_77 : decode cX5_prepare 77 = .ok (.lstore 8, 2) := dk_55 8 (dk_at dksX5_prepare_3 6 rfl rfl)
theorem dX5_prepare_79 : decode cX5_prepare 79 = .ok (.iconst 0, 1) := dk_3 (dk_at dksX5_prepare_3 8 rfl rfl)
theorem dX5_prepare_80 : decode cX5_prepare 80 = .ok (.istore 10, 2) := dk_54 10 (dk_at dksX5_prepare_3 9 rfl rfl)
theorem dX5_prepare_82 : decode cX5_prepare 82 = .ok (.iload 10, 2) := dk_21 10 (dk_at dksX5_prepare_3 11 rfl rfl)
theorem dX5_prepare_84 : decode cX5_prepare 84 = .ok (.aload_n 0, 1) := dk_42 (dk_at dksX5_prepare_3 13 rfl rfl)
theorem dX5_prepare_85 : decode cX5_prepare 85 = .ok (.getfield 313, 3) := dk_180 1 57 (dk_at dksX5_prepare_3 14 rfl rfl)
theorem dX5_prepare_88 : decode cX5_prepare 88 = .ok (.if_icmp .ge 30, 3) := dk_162 0 30 (dk_at dksX5_prepare_3 17 rfl rfl)
theorem dX5_prepare_91 : decode cX5_prepare 91 = .ok (.aload_n 0, 1) := dk_42 (dk_at dksX5_prepare_3 20 rfl rfl)
theorem dX5_prepare_92 : decode cX5_prepare 92 = .ok (.iload 10, 2) := dk_21 10 (dk_at dksX5_prepare_3 21 rfl rfl)
theorem dX5_prepare_94 : decode cX5_prepare 94 = .ok (.invokevirtual 415, 3) := dk_182 1 159 (dk_at dksX5_prepare_4 0 rfl rfl)
theorem dX5_prepare_97 : decode cX5_prepare 97 = .ok (.lload 8, 2) := dk_22 8 (dk_at dksX5_prepare_4 3 rfl rfl)
theorem dX5_prepare_99 : decode cX5_prepare 99 = .ok (.aload_n 0, 1) := dk_42 (dk_at dksX5_prepare_4 5 rfl rfl)
theorem dX5_prepare_100 : decode cX5_prepare 100 = .ok (.sipush 1584, 3) := dk_17 6 48 (dk_at dksX5_prepare_4 6 rfl rfl)
theorem dX5_prepare_103 : decode cX5_prepare 103 = .ok (.iload_n 1, 1) := dk_27 (dk_at dksX5_prepare_4 9 rfl rfl)
theorem dX5_prepare_104 : decode cX5_prepare 104 = .ok (.iconst 0, 1) := dk_3 (dk_at dksX5_prepare_4 10 rfl rfl)
theorem dX5_prepare_105 : decode cX5_prepare 105 = .ok (.invokevirtual 349, 3) := dk_182 1 93 (dk_at dksX5_prepare_4 11 rfl rfl)
theorem dX5_prepare_108 : decode cX5_prepare 108 = .ok (.i2l, 1) := dk_133 (dk_at dksX5_prepare_4 14 rfl rfl)
theorem dX5_prepare_109 : decode cX5_prepare 109 = .ok (.ladd, 1) := dk_97 (dk_at dksX5_prepare_4 15 rfl rfl)
theorem dX5_prepare_110 : decode cX5_prepare 110 = .ok (.lstore 8, 2) := dk_55 8 (dk_at dksX5_prepare_4 16 rfl rfl)
theorem dX5_prepare_112 : decode cX5_prepare 112 = .ok (.iinc 10 1, 3) := dk_132 10 1 (dk_at dksX5_prepare_4 18 rfl rfl)
theorem dX5_prepare_115 : decode cX5_prepare 115 = .ok (.goto (-33), 3) := dk_167 255 223 (dk_at dksX5_prepare_4 21 rfl rfl)
theorem dX5_prepare_118 : decode cX5_prepare 118 = .ok (.lload 5, 2) := dk_22 5 (dk_at dksX5_prepare_5 0 rfl rfl)
theorem dX5_prepare_120 : decode cX5_prepare 120 = .ok (.lconst 0, 1) := dk_9 (dk_at dksX5_prepare_5 2 rfl rfl)
theorem dX5_prepare_121 : decode cX5_prepare 121 = .ok (.lcmp, 1) := dk_148 (dk_at dksX5_prepare_5 3 rfl rfl)
theorem dX5_prepare_122 : decode cX5_prepare 122 = .ok (.ifCond .lt 11, 3) := dk_155 0 11 (dk_at dksX5_prepare_5 4 rfl rfl)
theorem dX5_prepare_125 : decode cX5_prepare 125 = .ok (.lload 8, 2) := dk_22 8 (dk_at dksX5_prepare_5 7 rfl rfl)
theorem dX5_prepare_127 : decode cX5_prepare 127 = .ok (.lload 5, 2) := dk_22 5 (dk_at dksX5_prepare_5 9 rfl rfl)
theorem dX5_prepare_129 : decode cX5_prepare 129 = .ok (.lcmp, 1) := dk_148 (dk_at dksX5_prepare_5 11 rfl rfl)
theorem dX5_prepare_130 : decode cX5_prepare 130 = .ok (.ifCond .ge 8, 3) := dk_156 0 8 (dk_at dksX5_prepare_5 12 rfl rfl)
theorem dX5_prepare_133 : decode cX5_prepare 133 = .ok (.iload 7, 2) := dk_21 7 (dk_at dksX5_prepare_5 15 rfl rfl)
theorem dX5_prepare_135 : decode cX5_prepare 135 = .ok (.goto 5, 3) := dk_167 0 5 (dk_at dksX5_prepare_5 17 rfl rfl)
theorem dX5_prepare_138 : decode cX5_prepare 138 = .ok (.iload 4, 2) := dk_21 4 (dk_at dksX5_prepare_5 20 rfl rfl)
theorem dX5_prepare_140 : decode cX5_prepare 140 = .ok (.istore 4, 2) := dk_54 4 (dk_at dksX5_prepare_5 22 rfl rfl)
theorem dX5_prepare_142 : decode cX5_prepare 142 = .ok (.lload 5, 2) := dk_22 5 (dk_at dksX5_prepare_6 0 rfl rfl)
theorem dX5_prepare_144 : decode cX5_prepare 144 = .ok (.lconst 0, 1) := dk_9 (dk_at dksX5_prepare_6 2 rfl rfl)
theorem dX5_prepare_145 : decode cX5_prepare 145 = .ok (.lcmp, 1) := dk_148 (dk_at dksX5_prepare_6 3 rfl rfl)
theorem dX5_prepare_146 : decode cX5_prepare 146 = .ok (.ifCond .lt 11, 3) := dk_155 0 11 (dk_at dksX5_prepare_6 4 rfl rfl)
theorem dX5_prepare_149 : decode cX5_prepare 149 = .ok (.lload 8, 2) := dk_22 8 (dk_at dksX5_prepare_6 7 rfl rfl)
theorem dX5_prepare_151 : decode cX5_prepare 151 = .ok (.lload 5, 2) := dk_22 5 (dk_at dksX5_prepare_6 9 rfl rfl)
theorem dX5_prepare_153 : decode cX5_prepare 153 = .ok (.lcmp, 1) := dk_148 (dk_at dksX5_prepare_6 11 rfl rfl)
theorem dX5_prepare_154 : decode cX5_prepare 154 = .ok (.ifCond .ge 8, 3) := dk_156 0 8 (dk_at dksX5_prepare_6 12 rfl rfl)
theorem dX5_prepare_157 : decode cX5_prepare 157 = .ok (.lload 8, 2) := dk_22 8 (dk_at dksX5_prepare_6 15 rfl rfl)
theorem dX5_prepare_159 : decode cX5_prepare 159 = .ok (.goto 5, 3) := dk_167 0 5 (dk_at dksX5_prepare_6 17 rfl rfl)
theorem dX5_prepare_162 : decode cX5_prepare 162 = .ok (.lload 5, 2) := dk_22 5 (dk_at dksX5_prepare_6 20 rfl rfl)
theorem dX5_prepare_164 : decode cX5_prepare 164 = .ok (.lstore 5, 2) := dk_55 5 (dk_at dksX5_prepare_6 22 rfl rfl)
theorem dX5_prepare_166 : decode cX5_prepare 166 = .ok (.iinc 7 25, 3) := dk_132 7 25 (dk_at dksX5_prepare_7 0 rfl rfl)
theorem dX5_prepare_169 : decode cX5_prepare 169 = .ok (.goto (-117), 3) := dk_167 255 139 (dk_at dksX5_prepare_7 3 rfl rfl)
theorem dX5_prepare_172 : decode cX5_prepare 172 = .ok (.aload_n 0, 1) := dk_42 (dk_at dksX5_prepare_7 6 rfl rfl)
theorem dX5_prepare_173 : decode cX5_prepare 173 = .ok (.getfield 115, 3) := dk_180 0 115 (dk_at dksX5_prepare_7 7 rfl rfl)
theorem dX5_prepare_176 : decode cX5_prepare 176 = .ok (.bipush 22, 2) := dk_16 22 (dk_at dksX5_prepare_7 10 rfl rfl)
theorem dX5_prepare_178 : decode cX5_prepare 178 = .ok (.iload_n 1, 1) := dk_27 (dk_at dksX5_prepare_7 12 rfl rfl)
theorem dX5_prepare_179 : decode cX5_prepare 179 = .ok (.iadd, 1) := dk_96 (dk_at dksX5_prepare_7 13 rfl rfl)
theorem dX5_prepare_180 : decode cX5_prepare 180 = .ok (.iload_n 3, 1) := dk_29 (dk_at dksX5_prepare_7 14 rfl rfl)
theorem dX5_prepare_181 : decode cX5_prepare 181 = .ok (.iastore, 1) := dk_79 (dk_at dksX5_prepare_7 15 rfl rfl)
theorem dX5_prepare_182 : decode cX5_prepare 182 = .ok (.iload_n 2, 1) := dk_28 (dk_at dksX5_prepare_7 16 rfl rfl)
theorem dX5_prepare_183 : decode cX5_prepare 183 = .ok (.ifCond .ne 8, 3) := dk_154 0 8 (dk_at dksX5_prepare_7 17 rfl rfl)
theorem dX5_prepare_186 : decode cX5_prepare 186 = .ok (.iload 4, 2) := dk_21 4 (dk_at dksX5_prepare_7 20 rfl rfl)
theorem dX5_prepare_188 : decode cX5_prepare 188 = .ok (.goto 16, 3) := dk_167 0 16 (dk_at dksX5_prepare_8 0 rfl rfl)
theorem dX5_prepare_191 : decode cX5_prepare 191 = .ok (.lload 5, 2) := dk_22 5 (dk_at dksX5_prepare_8 3 rfl rfl)
theorem dX5_prepare_193 : decode cX5_prepare 193 = .ok (.ldc2_w 420, 3) := dk_20 1 164 (dk_at dksX5_prepare_8 5 rfl rfl)
theorem dX5_prepare_196 : decode cX5_prepare 196 = .ok (.lmul, 1) := dk_105 (dk_at dksX5_prepare_8 8 rfl rfl)
theorem dX5_prepare_197 : decode cX5_prepare 197 = .ok (.aload_n 0, 1) := dk_42 (dk_at dksX5_prepare_8 9 rfl rfl)
theorem dX5_prepare_198 : decode cX5_prepare 198 = .ok (.getfield 313, 3) := dk_180 1 57 (dk_at dksX5_prepare_8 10 rfl rfl)
theorem dX5_prepare_201 : decode cX5_prepare 201 = .ok (.i2l, 1) := dk_133 (dk_at dksX5_prepare_8 13 rfl rfl)
theorem dX5_prepare_202 : decode cX5_prepare 202 = .ok (.ldiv, 1) := dk_109 (dk_at dksX5_prepare_8 14 rfl rfl)
theorem dX5_prepare_203 : decode cX5_prepare 203 = .ok (.l2i, 1) := dk_136 (dk_at dksX5_prepare_8 15 rfl rfl)
theorem dX5_prepare_204 : decode cX5_prepare 204 = .ok (.ireturn, 1) := dk_172 (dk_at dksX5_prepare_8 16 rfl rfl)
abbrev cX5_law : ByteArray := prog_30_method_88_code
def yX5_law : MethodName := ⟨RX5, "law", "(I)I"⟩
def dkwX5_law_3 : List UInt8 := [180, 0, 91, 5, 46, 181, 1, 41, 32, 20, 1, 164, 105, 42, 180, 1, 57, 133, 109, 136, 172]
abbrev dktX5_law_3 : List UInt8 := dkwX5_law_3 ++ []
def dkwX5_law_2 : List UInt8 := [182, 1, 159, 32, 42, 17, 6, 48, 3, 182, 1, 96, 133, 97, 65, 132, 4, 1, 167, 255, 226, 42, 42]
abbrev dktX5_law_2 : List UInt8 := dkwX5_law_2 ++ dktX5_law_3
def dkwX5_law_1 : List UInt8 := [172, 42, 27, 181, 1, 41, 9, 65, 3, 54, 4, 21, 4, 42, 180, 1, 57, 162, 0, 27, 42, 21, 4]
abbrev dktX5_law_1 : List UInt8 := dkwX5_law_1 ++ dktX5_law_2
def dkwX5_law_0 : List UInt8 := [42, 3, 181, 0, 1, 27, 3, 17, 3, 231, 184, 1, 103, 153, 0, 10, 42, 180, 1, 57, 154, 0, 5, 2]
abbrev dktX5_law_0 : List UInt8 := dkwX5_law_0 ++ dktX5_law_1
theorem dksX5_law_0 : cX5_law.data.toList.drop 0 = dktX5_law_0 := by decide +kernel
theorem dksX5_law_1 : cX5_law.data.toList.drop 24 = dktX5_law_1 := dk_seg dksX5_law_0 24 rfl rfl
theorem dksX5_law_2 : cX5_law.data.toList.drop 47 = dktX5_law_2 := dk_seg dksX5_law_1 23 rfl rfl
theorem dksX5_law_3 : cX5_law.data.toList.drop 70 = dktX5_law_3 := dk_seg dksX5_law_2 23 rfl rfl
theorem dX5_law_0 : decode cX5_law 0 = .ok (.aload_n 0, 1) := dk_42 (dk_at dksX5_law_0 0 rfl rfl)
theorem dX5_law_1 : decode cX5_law 1 = .ok (.iconst 0, 1) := dk_3 (dk_at dksX5_law_0 1 rfl rfl)
theorem dX5_law_2 : decode cX5_law 2 = .ok (.putfield 1, 3) := dk_181 0 1 (dk_at dksX5_law_0 2 rfl rfl)
theorem dX5_law_5 : decode cX5_law 5 = .ok (.iload_n 1, 1) := dk_27 (dk_at dksX5_law_0 5 rfl rfl)
theorem dX5_law_6 : decode cX5_law 6 = .ok (.iconst 0, 1) := dk_3 (dk_at dksX5_law_0 6 rfl rfl)
theorem dX5_law_7 : decode cX5_law 7 = .ok (.sipush 999, 3) := dk_17 3 231 (dk_at dksX5_law_0 7 rfl rfl)
theorem dX5_law_10 : decode cX5_law 10 = .ok (.invokestatic 359, 3) := dk_184 1 103 (dk_at dksX5_law_0 10 rfl rfl)
theorem dX5_law_13 : decode cX5_law 13 = .ok (.ifCond .eq 10, 3) := dk_153 0 10 (dk_at dksX5_law_0 13 rfl rfl)
theorem dX5_law_16 : decode cX5_law 16 = .ok (.aload_n 0, 1) := dk_42 (dk_at dksX5_law_0 16 rfl rfl)
theorem dX5_law_17 : decode cX5_law 17 = .ok (.getfield 313, 3) := dk_180 1 57 (dk_at dksX5_law_0 17 rfl rfl)
theorem dX5_law_20 : decode cX5_law 20 = .ok (.ifCond .ne 5, 3) := dk_154 0 5 (dk_at dksX5_law_0 20 rfl rfl)
theorem dX5_law_23 : decode cX5_law 23 = .ok (.iconst (-1), 1) := dk_2 (dk_at dksX5_law_0 23 rfl rfl)
theorem dX5_law_24 : decode cX5_law 24 = .ok (.ireturn, 1) := dk_172 (dk_at dksX5_law_1 0 rfl rfl)
theorem dX5_law_25 : decode cX5_law 25 = .ok (.aload_n 0, 1) := dk_42 (dk_at dksX5_law_1 1 rfl rfl)
theorem dX5_law_26 : decode cX5_law 26 = .ok (.iload_n 1, 1) := dk_27 (dk_at dksX5_law_1 2 rfl rfl)
theorem dX5_law_27 : decode cX5_law 27 = .ok (.putfield 297, 3) := dk_181 1 41 (dk_at dksX5_law_1 3 rfl rfl)
theorem dX5_law_30 : decode cX5_law 30 = .ok (.lconst 0, 1) := dk_9 (dk_at dksX5_law_1 6 rfl rfl)
theorem dX5_law_31 : decode cX5_law 31 = .ok (.lstore_n 2, 1) := dk_65 (dk_at dksX5_law_1 7 rfl rfl)
theorem dX5_law_32 : decode cX5_law 32 = .ok (.iconst 0, 1) := dk_3 (dk_at dksX5_law_1 8 rfl rfl)
theorem dX5_law_33 : decode cX5_law 33 = .ok (.istore 4, 2) := dk_54 4 (dk_at dksX5_law_1 9 rfl rfl)
theorem dX5_law_35 : decode cX5_law 35 = .ok (.iload 4, 2) := dk_21 4 (dk_at dksX5_law_1 11 rfl rfl)
theorem dX5_law_37 : decode cX5_law 37 = .ok (.aload_n 0, 1) := dk_42 (dk_at dksX5_law_1 13 rfl rfl)
theorem dX5_law_38 : decode cX5_law 38 = .ok (.getfield 313, 3) := dk_180 1 57 (dk_at dksX5_law_1 14 rfl rfl)
theorem dX5_law_41 : decode cX5_law 41 = .ok (.if_icmp .ge 27, 3) := dk_162 0 27 (dk_at dksX5_law_1 17 rfl rfl)
theorem dX5_law_44 : decode cX5_law 44 = .ok (.aload_n 0, 1) := dk_42 (dk_at dksX5_law_1 20 rfl rfl)
theorem dX5_law_45 : decode cX5_law 45 = .ok (.iload 4, 2) := dk_21 4 (dk_at dksX5_law_1 21 rfl rfl)
theorem dX5_law_47 : decode cX5_law 47 = .ok (.invokevirtual 415, 3) := dk_182 1 159 (dk_at dksX5_law_2 0 rfl rfl)
theorem dX5_law_50 : decode cX5_law 50 = .ok (.lload_n 2, 1) := dk_32 (dk_at dksX5_law_2 3 rfl rfl)
theorem dX5_law_51 : decode cX5_law 51 = .ok (.aload_n 0, 1) := dk_42 (dk_at dksX5_law_2 4 rfl rfl)
theorem dX5_law_52 : decode cX5_law 52 = .ok (.sipush 1584, 3) := dk_17 6 48 (dk_at dksX5_law_2 5 rfl rfl)
theorem dX5_law_55 : decode cX5_law 55 = .ok (.iconst 0, 1) := dk_3 (dk_at dksX5_law_2 8 rfl rfl)
theorem dX5_law_56 : decode cX5_law 56 = .ok (.invokevirtual 352, 3) := dk_182 1 96 (dk_at dksX5_law_2 9 rfl rfl)
theorem dX5_law_59 : decode cX5_law 59 = .ok (.i2l, 1) := dk_133 (dk_at dksX5_law_2 12 rfl rfl)
theorem dX5_law_60 : decode cX5_law 60 = .ok (.ladd, 1) := dk_97 (dk_at dksX5_law_2 13 rfl rfl)
theorem dX5_law_61 : decode cX5_law 61 = .ok (.lstore_n 2, 1) := dk_65 (dk_at dksX5_law_2 14 rfl rfl)
theorem dX5_law_62 : decode cX5_law 62 = .ok (.iinc 4 1, 3) := dk_132 4 1 (dk_at dksX5_law_2 15 rfl rfl)
theorem dX5_law_65 : decode cX5_law 65 = .ok (.goto (-30), 3) := dk_167 255 226 (dk_at dksX5_law_2 18 rfl rfl)
theorem dX5_law_68 : decode cX5_law 68 = .ok (.aload_n 0, 1) := dk_42 (dk_at dksX5_law_2 21 rfl rfl)
theorem dX5_law_69 : decode cX5_law 69 = .ok (.aload_n 0, 1) := dk_42 (dk_at dksX5_law_2 22 rfl rfl)
theorem dX5_law_70 : decode cX5_law 70 = .ok (.getfield 91, 3) := dk_180 0 91 (dk_at dksX5_law_3 0 rfl rfl)
theorem dX5_law_73 : decode cX5_law 73 = .ok (.iconst 2, 1) := dk_5 (dk_at dksX5_law_3 3 rfl rfl)
theorem dX5_law_74 : decode cX5_law 74 = .ok (.iaload, 1) := dk_46 (dk_at dksX5_law_3 4 rfl rfl)
theorem dX5_law_75 : decode cX5_law 75 = .ok (.putfield 297, 3) := dk_181 1 41 (dk_at dksX5_law_3 5 rfl rfl)
theorem dX5_law_78 : decode cX5_law 78 = .ok (.lload_n 2, 1) := dk_32 (dk_at dksX5_law_3 8 rfl rfl)
theorem dX5_law_79 : decode cX5_law 79 = .ok (.ldc2_w 420, 3) := dk_20 1 164 (dk_at dksX5_law_3 9 rfl rfl)
theorem dX5_law_82 : decode cX5_law 82 = .ok (.lmul, 1) := dk_105 (dk_at dksX5_law_3 12 rfl rfl)
theorem dX5_law_83 : decode cX5_law 83 = .ok (.aload_n 0, 1) := dk_42 (dk_at dksX5_law_3 13 rfl rfl)
theorem dX5_law_84 : decode cX5_law 84 = .ok (.getfield 313, 3) := dk_180 1 57 (dk_at dksX5_law_3 14 rfl rfl)
theorem dX5_law_87 : decode cX5_law 87 = .ok (.i2l, 1) := dk_133 (dk_at dksX5_law_3 17 rfl rfl)
theorem dX5_law_88 : decode cX5_law 88 = .ok (.ldiv, 1) := dk_109 (dk_at dksX5_law_3 18 rfl rfl)
theorem dX5_law_89 : decode cX5_law 89 = .ok (.l2i, 1) := dk_136 (dk_at dksX5_law_3 19 rfl rfl)
theorem dX5_law_90 : decode cX5_law 90 = .ok (.ireturn, 1) := dk_172 (dk_at dksX5_law_3 20 rfl rfl)
abbrev cX5_deeds : ByteArray := prog_30_method_91_code
def yX5_deeds : MethodName := ⟨RX5, "deeds", "(IIII)I"⟩
def dkwX5_deeds_5 : List UInt8 := [180, 1, 175, 167, 0, 10, 42, 180, 0, 131, 21, 4, 46, 172]
abbrev dktX5_deeds_5 : List UInt8 := dkwX5_deeds_5 ++ []
def dkwX5_deeds_4 : List UInt8 := [16, 10, 28, 96, 46, 42, 180, 0, 115, 16, 16, 28, 96, 46, 182, 1, 178, 21, 4, 156, 0, 10, 42]
abbrev dktX5_deeds_4 : List UInt8 := dkwX5_deeds_4 ++ dktX5_deeds_5
def dkwX5_deeds_3 : List UInt8 := [182, 1, 38, 42, 180, 0, 115, 7, 28, 96, 46, 42, 180, 0, 115, 16, 22, 28, 96, 46, 42, 180, 0, 115]
abbrev dktX5_deeds_3 : List UInt8 := dkwX5_deeds_3 ++ dktX5_deeds_4
def dkwX5_deeds_2 : List UInt8 := [180, 0, 1, 158, 0, 5, 3, 172, 42, 29, 181, 1, 166, 42, 3, 181, 1, 172, 42, 3, 42, 27, 4]
abbrev dktX5_deeds_2 : List UInt8 := dkwX5_deeds_2 ++ dktX5_deeds_3
def dkwX5_deeds_1 : List UInt8 := [153, 0, 19, 21, 4, 2, 29, 4, 100, 184, 1, 103, 153, 0, 7, 3, 167, 0, 4, 4, 181, 0, 1, 42]
abbrev dktX5_deeds_1 : List UInt8 := dkwX5_deeds_1 ++ dktX5_deeds_2
def dkwX5_deeds_0 : List UInt8 := [42, 42, 27, 182, 1, 100, 153, 0, 37, 42, 28, 182, 1, 100, 153, 0, 29, 29, 4, 16, 7, 184, 1, 103]
abbrev dktX5_deeds_0 : List UInt8 := dkwX5_deeds_0 ++ dktX5_deeds_1
theorem dksX5_deeds_0 : cX5_deeds.data.toList.drop 0 = dktX5_deeds_0 := by decide +kernel
theorem dksX5_deeds_1 : cX5_deeds.data.toList.drop 24 = dktX5_deeds_1 := dk_seg dksX5_deeds_0 24 rfl rfl
theorem dksX5_deeds_2 : cX5_deeds.data.toList.drop 48 = dktX5_deeds_2 := dk_seg dksX5_deeds_1 24 rfl rfl
theorem dksX5_deeds_3 : cX5_deeds.data.toList.drop 71 = dktX5_deeds_3 := dk_seg dksX5_deeds_2 23 rfl rfl
theorem dksX5_deeds_4 : cX5_deeds.data.toList.drop 95 = dktX5_deeds_4 := dk_seg dksX5_deeds_3 24 rfl rfl
theorem dksX5_deeds_5 : cX5_deeds.data.toList.drop 118 = dktX5_deeds_5 := dk_seg dksX5_deeds_4 23 rfl rfl
theorem dX5_deeds_0 : decode cX5_deeds 0 = .ok (.aload_n 0, 1) := dk_42 (dk_at dksX5_deeds_0 0 rfl rfl)
theorem dX5_deeds_1 : decode cX5_deeds 1 = .ok (.aload_n 0, 1) := dk_42 (dk_at dksX5_deeds_0 1 rfl rfl)
theorem dX5_deeds_2 : decode cX5_deeds 2 = .ok (.iload_n 1, 1) := dk_27 (dk_at dksX5_deeds_0 2 rfl rfl)
theorem dX5_deeds_3 : decode cX5_deeds 3 = .ok (.invokevirtual 356, 3) := dk_182 1 100 (dk_at dksX5_deeds_0 3 rfl rfl)
theorem dX5_deeds_6 : decode cX5_deeds 6 = .ok (.ifCond .eq 37, 3) := dk_153 0 37 (dk_at dksX5_deeds_0 6 rfl rfl)
theorem dX5_deeds_9 : decode cX5_deeds 9 = .ok (.aload_n 0, 1) := dk_42 (dk_at dksX5_deeds_0 9 rfl rfl)
theorem dX5_deeds_10 : decode cX5_deeds 10 = .ok (.iload_n 2, 1) := dk_28 (dk_at dksX5_deeds_0 10 rfl rfl)
theorem dX5_deeds_11 : decode cX5_deeds 11 = .ok (.invokevirtual 356, 3) := dk_182 1 100 (dk_at dksX5_deeds_0 11 rfl rfl)
theorem dX5_deeds_14 : decode cX5_deeds 14 = .ok (.ifCond .eq 29, 3) := dk_153 0 29 (dk_at dksX5_deeds_0 14 rfl rfl)
theorem dX5_deeds_17 : decode cX5_deeds 17 = .ok (.iload_n 3, 1) := dk_29 (dk_at dksX5_deeds_0 17 rfl rfl)
theorem dX5_deeds_18 : decode cX5_deeds 18 = .ok (.iconst 1, 1) := dk_4 (dk_at dksX5_deeds_0 18 rfl rfl)
theorem dX5_deeds_19 : decode cX5_deeds 19 = .ok (.bipush 7, 2) := dk_16 7 (dk_at dksX5_deeds_0 19 rfl rfl)
theorem dX5_deeds_21 : decode cX5_deeds 21 = .ok (.invokestatic 359, 3) := dk_184 1 103 (dk_at dksX5_deeds_0 21 rfl rfl)
theorem dX5_deeds_24 : decode cX5_deeds 24 = .ok (.ifCond .eq 19, 3) := dk_153 0 19 (dk_at dksX5_deeds_1 0 rfl rfl)
theorem dX5_deeds_27 : decode cX5_deeds 27 = .ok (.iload 4, 2) := dk_21 4 (dk_at dksX5_deeds_1 3 rfl rfl)
theorem dX5_deeds_29 : decode cX5_deeds 29 = .ok (.iconst (-1), 1) := dk_2 (dk_at dksX5_deeds_1 5 rfl rfl)
theorem dX5_deeds_30 : decode cX5_deeds 30 = .ok (.iload_n 3, 1) := dk_29 (dk_at dksX5_deeds_1 6 rfl rfl)
theorem dX5_deeds_31 : decode cX5_deeds 31 = .ok (.iconst 1, 1) := dk_4 (dk_at dksX5_deeds_1 7 rfl rfl)
theorem dX5_deeds_32 : decode cX5_deeds 32 = .ok (.isub, 1) := dk_100 (dk_at dksX5_deeds_1 8 rfl rfl)
theorem dX5_deeds_33 : decode cX5_deeds 33 = .ok (.invokestatic 359, 3) := dk_184 1 103 (dk_at dksX5_deeds_1 9 rfl rfl)
theorem dX5_deeds_36 : decode cX5_deeds 36 = .ok (.ifCond .eq 7, 3) := dk_153 0 7 (dk_at dksX5_deeds_1 12 rfl rfl)
theorem dX5_deeds_39 : decode cX5_deeds 39 = .ok (.iconst 0, 1) := dk_3 (dk_at dksX5_deeds_1 15 rfl rfl)
theorem dX5_deeds_40 : decode cX5_deeds 40 = .ok (.goto 4, 3) := dk_167 0 4 (dk_at dksX5_deeds_1 16 rfl rfl)
theorem dX5_deeds_43 : decode cX5_deeds 43 = .ok (.iconst 1, 1) := dk_4 (dk_at dksX5_deeds_1 19 rfl rfl)
theorem dX5_deeds_44 : decode cX5_deeds 44 = .ok (.putfield 1, 3) := dk_181 0 1 (dk_at dksX5_deeds_1 20 rfl rfl)
theorem dX5_deeds_47 : decode cX5_deeds 47 = .ok (.aload_n 0, 1) := dk_42 (dk_at dksX5_deeds_1 23 rfl rfl)
theorem dX5_deeds_48 : decode cX5_deeds 48 = .ok (.getfield 1, 3) := dk_180 0 1 (dk_at dksX5_deeds_2 0 rfl rfl)
theorem dX5_deeds_51 : decode cX5_deeds 51 = .ok (.ifCond .le 5, 3) := dk_158 0 5 (dk_at dksX5_deeds_2 3 rfl rfl)
theorem dX5_deeds_54 : decode cX5_deeds 54 = .ok (.iconst 0, 1) := dk_3 (dk_at dksX5_deeds_2 6 rfl rfl)
theorem dX5_deeds_55 : decode cX5_deeds 55 = .ok (.ireturn, 1) := dk_172 (dk_at dksX5_deeds_2 7 rfl rfl)
theorem dX5_deeds_56 : decode cX5_deeds 56 = .ok (.aload_n 0, 1) := dk_42 (dk_at dksX5_deeds_2 8 rfl rfl)
theorem dX5_deeds_57 : decode cX5_deeds 57 = .ok (.iload_n 3, 1) := dk_29 (dk_at dksX5_deeds_2 9 rfl rfl)
theorem dX5_deeds_58 : decode cX5_deeds 58 = .ok (.putfield 422, 3) := dk_181 1 166 (dk_at dksX5_deeds_2 10 rfl rfl)
theorem dX5_deeds_61 : decode cX5_deeds 61 = .ok (.aload_n 0, 1) := dk_42 (dk_at dksX5_deeds_2 13 rfl rfl)
theorem dX5_deeds_62 : decode cX5_deeds 62 = .ok (.iconst 0, 1) := dk_3 (dk_at dksX5_deeds_2 14 rfl rfl)
theorem dX5_deeds_63 : decode cX5_deeds 63 = .ok (.putfield 428, 3) := dk_181 1 172 (dk_at dksX5_deeds_2 15 rfl rfl)
theorem dX5_deeds_66 : decode cX5_deeds 66 = .ok (.aload_n 0, 1) := dk_42 (dk_at dksX5_deeds_2 18 rfl rfl)
theorem dX5_deeds_67 : decode cX5_deeds 67 = .ok (.iconst 0, 1) := dk_3 (dk_at dksX5_deeds_2 19 rfl rfl)
theorem dX5_deeds_68 : decode cX5_deeds 68 = .ok (.aload_n 0, 1) := dk_42 (dk_at dksX5_deeds_2 20 rfl rfl)
theorem dX5_deeds_69 : decode cX5_deeds 69 = .ok (.iload_n 1, 1) := dk_27 (dk_at dksX5_deeds_2 21 rfl rfl)
theorem dX5_deeds_70 : decode cX5_deeds 70 = .ok (.iconst 1, 1) := dk_4 (dk_at dksX5_deeds_2 22 rfl rfl)
theorem dX5_deeds_71 : decode cX5_deeds 71 = .ok (.invokevirtual 294, 3) := dk_182 1 38 (dk_at dksX5_deeds_3 0 rfl rfl)
theorem dX5_deeds_74 : decode cX5_deeds 74 = .ok (.aload_n 0, 1) := dk_42 (dk_at dksX5_deeds_3 3 rfl rfl)
theorem dX5_deeds_75 : decode cX5_deeds 75 = .ok (.getfield 115, 3) := dk_180 0 115 (dk_at dksX5_deeds_3 4 rfl rfl)
theorem dX5_deeds_78 : decode cX5_deeds 78 = .ok (.iconst 4, 1) := dk_7 (dk_at dksX5_deeds_3 7 rfl rfl)
theorem dX5_deeds_79 : decode cX5_deeds 79 = .ok (.iload_n 2, 1) := dk_28 (dk_at dksX5_deeds_3 8 rfl rfl)
theorem dX5_deeds_80 : decode cX5_deeds 80 = .ok (.iadd, 1) := dk_96 (dk_at dksX5_deeds_3 9 rfl rfl)
theorem dX5_deeds_81 : decode cX5_deeds 81 = .ok (.iaload, 1) := dk_46 (dk_at dksX5_deeds_3 10 rfl rfl)
theorem dX5_deeds_82 : decode cX5_deeds 82 = .ok (.aload_n 0, 1) := dk_42 (dk_at dksX5_deeds_3 11 rfl rfl)
theorem dX5_deeds_83 : decode cX5_deeds 83 = .ok (.getfield 115, 3) := dk_180 0 115 (dk_at dksX5_deeds_3 12 rfl rfl)
theorem dX5_deeds_86 : decode cX5_deeds 86 = .ok (.bipush 22, 2) := dk_16 22 (dk_at dksX5_deeds_3 15 rfl rfl)
theorem dX5_deeds_88 : decode cX5_deeds 88 = .ok (.iload_n 2, 1) := dk_28 (dk_at dksX5_deeds_3 17 rfl rfl)
theorem dX5_deeds_89 : decode cX5_deeds 89 = .ok (.iadd, 1) := dk_96 (dk_at dksX5_deeds_3 18 rfl rfl)
theorem dX5_deeds_90 : decode cX5_deeds 90 = .ok (.iaload, 1) := dk_46 (dk_at dksX5_deeds_3 19 rfl rfl)
theorem dX5_deeds_91 : decode cX5_deeds 91 = .ok (.aload_n 0, 1) := dk_42 (dk_at dksX5_deeds_3 20 rfl rfl)
theorem dX5_deeds_92 : decode cX5_deeds 92 = .ok (.getfield 115, 3) := dk_180 0 115 (dk_at dksX5_deeds_3 21 rfl rfl)
theorem dX5_deeds_95 : decode cX5_deeds 95 = .ok (.bipush 10, 2) := dk_16 10 (dk_at dksX5_deeds_4 0 rfl rfl)
theorem dX5_deeds_97 : decode cX5_deeds 97 = .ok (.iload_n 2, 1) := dk_28 (dk_at dksX5_deeds_4 2 rfl rfl)
theorem dX5_deeds_98 : decode cX5_deeds 98 = .ok (.iadd, 1) := dk_96 (dk_at dksX5_deeds_4 3 rfl rfl)
theorem dX5_deeds_99 : decode cX5_deeds 99 = .ok (.iaload, 1) := dk_46 (dk_at dksX5_deeds_4 4 rfl rfl)
theorem dX5_deeds_100 : decode cX5_deeds 100 = .ok (.aload_n 0, 1) := dk_42 (dk_at dksX5_deeds_4 5 rfl rfl)
theorem dX5_deeds_101 : decode cX5_deeds 101 = .ok (.getfield 115, 3) := dk_180 0 115 (dk_at dksX5_deeds_4 6 rfl rfl)
theorem dX5_deeds_104 : decode cX5_deeds 104 = .ok (.bipush 16, 2) := dk_16 16 (dk_at dksX5_deeds_4 9 rfl rfl)
theorem dX5_deeds_106 : decode cX5_deeds 106 = .ok (.iload_n 2, 1) := dk_28 (dk_at dksX5_deeds_4 11 rfl rfl)
theorem dX5_deeds_107 : decode cX5_deeds 107 = .ok (.iadd, 1) := dk_96 (dk_at dksX5_deeds_4 12 rfl rfl)
theorem dX5_deeds_108 : decode cX5_deeds 108 = .ok (.iaload, 1) := dk_46 (dk_at dksX5_deeds_4 13 rfl rfl)
theorem dX5_deeds_109 : decode cX5_deeds 109 = .ok (.invokevirtual 434, 3) := dk_182 1 178 (dk_at dksX5_deeds_4 14 rfl rfl)
theorem dX5_deeds_112 : decode cX5_deeds 112 = .ok (.iload 4, 2) := dk_21 4 (dk_at dksX5_deeds_4 17 rfl rfl)
theorem dX5_deeds_114 : decode cX5_deeds 114 = .ok (.ifCond .ge 10, 3) := dk_156 0 10 (dk_at dksX5_deeds_4 19 rfl rfl)
theorem dX5_deeds_117 : decode cX5_deeds 117 = .ok (.aload_n 0, 1) := dk_42 (dk_at dksX5_deeds_4 22 rfl rfl)
theorem dX5_deeds_118 : decode cX5_deeds 118 = .ok (.getfield 431, 3) := dk_180 1 175 (dk_at dksX5_deeds_5 0 rfl rfl)
theorem dX5_deeds_121 : decode cX5_deeds 121 = .ok (.goto 10, 3) := dk_167 0 10 (dk_at dksX5_deeds_5 3 rfl rfl)
theorem dX5_deeds_124 : decode cX5_deeds 124 = .ok (.aload_n 0, 1) := dk_42 (dk_at dksX5_deeds_5 6 rfl rfl)
theorem dX5_deeds_125 : decode cX5_deeds 125 = .ok (.getfield 131, 3) := dk_180 0 131 (dk_at dksX5_deeds_5 7 rfl rfl)
theorem dX5_deeds_128 : decode cX5_deeds 128 = .ok (.iload 4, 2) := dk_21 4 (dk_at dksX5_deeds_5 10 rfl rfl)
theorem dX5_deeds_130 : decode cX5_deeds 130 = .ok (.iaload, 1) := dk_46 (dk_at dksX5_deeds_5 12 rfl rfl)
theorem dX5_deeds_131 : decode cX5_deeds 131 = .ok (.ireturn, 1) := dk_172 (dk_at dksX5_deeds_5 13 rfl rfl)
abbrev cX5_deedsFrom : ByteArray := prog_30_method_90_code
def yX5_deedsFrom : MethodName := ⟨RX5, "deedsFrom", "(IIIIII)V"⟩
def dkwX5_deedsFrom_10 : List UInt8 := [21, 9, 182, 1, 178, 177]
abbrev dktX5_deedsFrom_10 : List UInt8 := dkwX5_deedsFrom_10 ++ []
def dkwX5_deedsFrom_9 : List UInt8 := [79, 42, 27, 4, 96, 28, 29, 21, 4, 21, 5, 21, 9, 16, 9, 164, 0, 8, 16, 9, 167, 0, 5]
abbrev dktX5_deedsFrom_9 : List UInt8 := dkwX5_deedsFrom_9 ++ dktX5_deedsFrom_10
def dkwX5_deedsFrom_8 : List UInt8 := [96, 28, 29, 21, 8, 100, 21, 4, 21, 5, 21, 8, 100, 21, 6, 182, 1, 178, 42, 180, 0, 128, 27, 5]
abbrev dktX5_deedsFrom_8 : List UInt8 := dkwX5_deedsFrom_8 ++ dktX5_deedsFrom_9
def dkwX5_deedsFrom_7 : List UInt8 := [4, 96, 28, 21, 7, 21, 4, 21, 5, 21, 6, 182, 1, 178, 42, 180, 0, 128, 27, 4, 79, 42, 27, 4]
abbrev dktX5_deedsFrom_7 : List UInt8 := dkwX5_deedsFrom_7 ++ dktX5_deedsFrom_8
def dkwX5_deedsFrom_6 : List UInt8 := [21, 6, 28, 7, 164, 0, 7, 5, 167, 0, 4, 4, 96, 54, 9, 42, 180, 0, 128, 27, 3, 79, 42, 27]
abbrev dktX5_deedsFrom_6 : List UInt8 := dkwX5_deedsFrom_6 ++ dktX5_deedsFrom_7
def dkwX5_deedsFrom_5 : List UInt8 := [21, 5, 167, 0, 5, 16, 10, 54, 8, 29, 21, 8, 162, 0, 7, 29, 167, 0, 5, 21, 8, 54, 8]
abbrev dktX5_deedsFrom_5 : List UInt8 := dkwX5_deedsFrom_5 ++ dktX5_deedsFrom_6
def dkwX5_deedsFrom_4 : List UInt8 := [17, 39, 15, 164, 0, 9, 17, 39, 15, 167, 0, 6, 29, 28, 96, 54, 7, 21, 5, 16, 10, 162, 0, 8]
abbrev dktX5_deedsFrom_4 : List UInt8 := dkwX5_deedsFrom_4 ++ dktX5_deedsFrom_5
def dkwX5_deedsFrom_3 : List UInt8 := [180, 0, 131, 21, 8, 42, 180, 0, 128, 21, 8, 46, 79, 132, 8, 1, 167, 255, 233, 177, 29, 28, 96]
abbrev dktX5_deedsFrom_3 : List UInt8 := dkwX5_deedsFrom_3 ++ dktX5_deedsFrom_4
def dkwX5_deedsFrom_2 : List UInt8 := [164, 0, 43, 42, 4, 181, 1, 172, 42, 21, 7, 181, 1, 175, 3, 54, 8, 21, 8, 27, 162, 0, 23, 42]
abbrev dktX5_deedsFrom_2 : List UInt8 := dkwX5_deedsFrom_2 ++ dktX5_deedsFrom_3
def dkwX5_deedsFrom_1 : List UInt8 := [21, 5, 21, 6, 182, 1, 169, 54, 7, 42, 180, 1, 172, 153, 0, 12, 21, 7, 42, 180, 1, 175]
abbrev dktX5_deedsFrom_1 : List UInt8 := dkwX5_deedsFrom_1 ++ dktX5_deedsFrom_2
def dkwX5_deedsFrom_0 : List UInt8 := [27, 42, 180, 1, 166, 160, 0, 84, 42, 29, 21, 4, 162, 0, 7, 3, 167, 0, 7, 29, 21, 4, 100]
abbrev dktX5_deedsFrom_0 : List UInt8 := dkwX5_deedsFrom_0 ++ dktX5_deedsFrom_1
theorem dksX5_deedsFrom_0 : cX5_deedsFrom.data.toList.drop 0 = dktX5_deedsFrom_0 := by decide +kernel
theorem dksX5_deedsFrom_1 : cX5_deedsFrom.data.toList.drop 23 = dktX5_deedsFrom_1 := dk_seg dksX5_deedsFrom_0 23 rfl rfl
theorem dksX5_deedsFrom_2 : cX5_deedsFrom.data.toList.drop 45 = dktX5_deedsFrom_2 := dk_seg dksX5_deedsFrom_1 22 rfl rfl
theorem dksX5_deedsFrom_3 : cX5_deedsFrom.data.toList.drop 69 = dktX5_deedsFrom_3 := dk_seg dksX5_deedsFrom_2 24 rfl rfl
theorem dksX5_deedsFrom_4 : cX5_deedsFrom.data.toList.drop 92 = dktX5_deedsFrom_4 := dk_seg dksX5_deedsFrom_3 23 rfl rfl
theorem dksX5_deedsFrom_5 : cX5_deedsFrom.data.toList.drop 116 = dktX5_deedsFrom_5 := dk_seg dksX5_deedsFrom_4 24 rfl rfl
theorem dksX5_deedsFrom_6 : cX5_deedsFrom.data.toList.drop 139 = dktX5_deedsFrom_6 := dk_seg dksX5_deedsFrom_5 23 rfl rfl
theorem dksX5_deedsFrom_7 : cX5_deedsFrom.data.toList.drop 163 = dktX5_deedsFrom_7 := dk_seg dksX5_deedsFrom_6 24 rfl rfl
theorem dksX5_deedsFrom_8 : cX5_deedsFrom.data.toList.drop 187 = dktX5_deedsFrom_8 := dk_seg dksX5_deedsFrom_7 24 rfl rfl
theorem dksX5_deedsFrom_9 : cX5_deedsFrom.data.toList.drop 211 = dktX5_deedsFrom_9 := dk_seg dksX5_deedsFrom_8 24 rfl rfl
theorem dksX5_deedsFrom_10 : cX5_deedsFrom.data.toList.drop 234 = dktX5_deedsFrom_10 := dk_seg dksX5_deedsFrom_9 23 rfl rfl
theorem dX5_deedsFrom_0 : decode cX5_deedsFrom 0 = .ok (.iload_n 1, 1) := dk_27 (dk_at dksX5_deedsFrom_0 0 rfl rfl)
theorem dX5_deedsFrom_1 : decode cX5_deedsFrom 1 = .ok (.aload_n 0, 1) := dk_42 (dk_at dksX5_deedsFrom_0 1 rfl rfl)
theorem dX5_deedsFrom_2 : decode cX5_deedsFrom 2 = .ok (.getfield 422, 3) := dk_180 1 166 (dk_at dksX5_deedsFrom_0 2 rfl rfl)
theorem dX5_deedsFrom_5 : decode cX5_deedsFrom 5 = .ok (.if_icmp .ne 84, 3) := dk_160 0 84 (dk_at dksX5_deedsFrom_0 5 rfl rfl)
theorem dX5_deedsFrom_8 : decode cX5_deedsFrom 8 = .ok (.aload_n 0, 1) := dk_42 (dk_at dksX5_deedsFrom_0 8 rfl rfl)
theorem dX5_deedsFrom_9 : decode cX5_deedsFrom 9 = .ok (.iload_n 3, 1) := dk_29 (dk_at dksX5_deedsFrom_0 9 rfl rfl)
theorem dX5_deedsFrom_10 : decode cX5_deedsFrom 10 = .ok (.iload 4, 2) := dk_21 4 (dk_at dksX5_deedsFrom_0 10 rfl rfl)
theorem dX5_deedsFrom_12 : decode cX5_deedsFrom 12 = .ok (.if_icmp .ge 7, 3) := dk_162 0 7 (dk_at dksX5_deedsFrom_0 12 rfl rfl)
theorem dX5_deedsFrom_15 : decode cX5_deedsFrom 15 = .ok (.iconst 0, 1) := dk_3 (dk_at dksX5_deedsFrom_0 15 rfl rfl)
theorem dX5_deedsFrom_16 : decode cX5_deedsFrom 16 = .ok (.goto 7, 3) := dk_167 0 7 (dk_at dksX5_deedsFrom_0 16 rfl rfl)
theorem dX5_deedsFrom_19 : decode cX5_deedsFrom 19 = .ok (.iload_n 3, 1) := dk_29 (dk_at dksX5_deedsFrom_0 19 rfl rfl)
theorem dX5_deedsFrom_20 : decode cX5_deedsFrom 20 = .ok (.iload 4, 2) := dk_21 4 (dk_at dksX5_deedsFrom_0 20 rfl rfl)
theorem dX5_deedsFrom_22 : decode cX5_deedsFrom 22 = .ok (.isub, 1) := dk_100 (dk_at dksX5_deedsFrom_0 22 rfl rfl)
theorem dX5_deedsFrom_23 : decode cX5_deedsFrom 23 = .ok (.iload 5, 2) := dk_21 5 (dk_at dksX5_deedsFrom_1 0 rfl rfl)
theorem dX5_deedsFrom_25 : decode cX5_deedsFrom 25 = .ok (.iload 6, 2) := dk_21 6 (dk_at dksX5_deedsFrom_1 2 rfl rfl)
theorem dX5_deedsFrom_27 : decode cX5_deedsFrom 27 = .ok (.invokevirtual 425, 3) := dk_182 1 169 (dk_at dksX5_deedsFrom_1 4 rfl rfl)
theorem dX5_deedsFrom_30 : decode cX5_deedsFrom 30 = .ok (.istore 7, 2) := dk_54 7 (dk_at dksX5_deedsFrom_1 7 rfl rfl)
theorem dX5_deedsFrom_32 : decode cX5_deedsFrom 32 = .ok (.aload_n 0, 1) := dk_42 (dk_at dksX5_deedsFrom_1 9 rfl rfl)
theorem dX5_deedsFrom_33 : decode cX5_deedsFrom 33 = .ok (.getfield 428, 3) := dk_180 1 172 (dk_at dksX5_deedsFrom_1 10 rfl rfl)
theorem dX5_deedsFrom_36 : decode cX5_deedsFrom 36 = .ok (.ifCond .eq 12, 3) := dk_153 0 12 (dk_at dksX5_deedsFrom_1 13 rfl rfl)
theorem dX5_deedsFrom_39 : decode cX5_deedsFrom 39 = .ok (.iload 7, 2) := dk_21 7 (dk_at dksX5_deedsFrom_1 16 rfl rfl)
theorem dX5_deedsFrom_41 : decode cX5_deedsFrom 41 = .ok (.aload_n 0, 1) := dk_42 (dk_at dksX5_deedsFrom_1 18 rfl rfl)
theorem dX5_deedsFrom_42 : decode cX5_deedsFrom 42 = .ok (.getfield 431, 3) := dk_180 1 175 (dk_at dksX5_deedsFrom_1 19 rfl rfl)
theorem dX5_deedsFrom_45 : decode cX5_deedsFrom 45 = .ok (.if_icmp .le 43, 3) := dk_164 0 43 (dk_at dksX5_deedsFrom_2 0 rfl rfl)
theorem dX5_deedsFrom_48 : decode cX5_deedsFrom 48 = .ok (.aload_n 0, 1) := dk_42 (dk_at dksX5_deedsFrom_2 3 rfl rfl)
theorem dX5_deedsFrom_49 : decode cX5_deedsFrom 49 = .ok (.iconst 1, 1) := dk_4 (dk_at dksX5_deedsFrom_2 4 rfl rfl)
theorem dX5_deedsFrom_50 : decode cX5_deedsFrom 50 = .ok (.putfield 428, 3) := dk_181 1 172 (dk_at dksX5_deedsFrom_2 5 rfl rfl)
theorem dX5_deedsFrom_53 : decode cX5_deedsFrom 53 = .ok (.aload_n 0, 1) := dk_42 (dk_at dksX5_deedsFrom_2 8 rfl rfl)
theorem dX5_deedsFrom_54 : decode cX5_deedsFrom 54 = .ok (.iload 7, 2) := dk_21 7 (dk_at dksX5_deedsFrom_2 9 rfl rfl)
theorem dX5_deedsFrom_56 : decode cX5_deedsFrom 56 = .ok (.putfield 431, 3) := dk_181 1 175 (dk_at dksX5_deedsFrom_2 11 rfl rfl)
theorem dX5_deedsFrom_59 : decode cX5_deedsFrom 59 = .ok (.iconst 0, 1) := dk_3 (dk_at dksX5_deedsFrom_2 14 rfl rfl)
theorem dX5_deedsFrom_60 : decode cX5_deedsFrom 60 = .ok (.istore 8, 2) := dk_54 8 (dk_at dksX5_deedsFrom_2 15 rfl rfl)
theorem dX5_deedsFrom_62 : decode cX5_deedsFrom 62 = .ok (.iload 8, 2) := dk_21 8 (dk_at dksX5_deedsFrom_2 17 rfl rfl)
theorem dX5_deedsFrom_64 : decode cX5_deedsFrom 64 = .ok (.iload_n 1, 1) := dk_27 (dk_at dksX5_deedsFrom_2 19 rfl rfl)
theorem dX5_deedsFrom_65 : decode cX5_deedsFrom 65 = .ok (.if_icmp .ge 23, 3) := dk_162 0 23 (dk_at dksX5_deedsFrom_2 20 rfl rfl)
theorem dX5_deedsFrom_68 : decode cX5_deedsFrom 68 = .ok (.aload_n 0, 1) := dk_42 (dk_at dksX5_deedsFrom_2 23 rfl rfl)
theorem dX5_deedsFrom_69 : decode cX5_deedsFrom 69 = .ok (.getfield 131, 3) := dk_180 0 131 (dk_at dksX5_deedsFrom_3 0 rfl rfl)
theorem dX5_deedsFrom_72 : decode cX5_deedsFrom 72 = .ok (.iload 8, 2) := dk_21 8 (dk_at dksX5_deedsFrom_3 3 rfl rfl)
theorem dX5_deedsFrom_74 : decode cX5_deedsFrom 74 = .ok (.aload_n 0, 1) := dk_42 (dk_at dksX5_deedsFrom_3 5 rfl rfl)
theorem dX5_deedsFrom_75 : decode cX5_deedsFrom 75 = .ok (.getfield 128, 3) := dk_180 0 128 (dk_at dksX5_deedsFrom_3 6 rfl rfl)
theorem dX5_deedsFrom_78 : decode cX5_deedsFrom 78 = .ok (.iload 8, 2) := dk_21 8 (dk_at dksX5_deedsFrom_3 9 rfl rfl)
theorem dX5_deedsFrom_80 : decode cX5_deedsFrom 80 = .ok (.iaload, 1) := dk_46 (dk_at dksX5_deedsFrom_3 11 rfl rfl)
theorem dX5_deedsFrom_81 : decode cX5_deedsFrom 81 = .ok (.iastore, 1) := dk_79 (dk_at dksX5_deedsFrom_3 12 rfl rfl)
theorem dX5_deedsFrom_82 : decode cX5_deedsFrom 82 = .ok (.iinc 8 1, 3) := dk_132 8 1 (dk_at dksX5_deedsFrom_3 13 rfl rfl)
theorem dX5_deedsFrom_85 : decode cX5_deedsFrom 85 = .ok (.goto (-23), 3) := dk_167 255 233 (dk_at dksX5_deedsFrom_3 16 rfl rfl)
theorem dX5_deedsFrom_88 : decode cX5_deedsFrom 88 = .ok (.return_, 1) := dk_177 (dk_at dksX5_deedsFrom_3 19 rfl rfl)
theorem dX5_deedsFrom_89 : decode cX5_deedsFrom 89 = .ok (.iload_n 3, 1) := dk_29 (dk_at dksX5_deedsFrom_3 20 rfl rfl)
theorem dX5_deedsFrom_90 : decode cX5_deedsFrom 90 = .ok (.iload_n 2, 1) := dk_28 (dk_at dksX5_deedsFrom_3 21 rfl rfl)
theorem dX5_deedsFrom_91 : decode cX5_deedsFrom 91 = .ok (.iadd, 1) := dk_96 (dk_at dksX5_deedsFrom_3 22 rfl rfl)
theorem dX5_deedsFrom_92 : decode cX5_deedsFrom 92 = .ok (.sipush 9999, 3) := dk_17 39 15 (dk_at dksX5_deedsFrom_4 0 rfl rfl)
theorem dX5_deedsFrom_95 : decode cX5_deedsFrom 95 = .ok (.if_icmp .le 9, 3) := dk_164 0 9 (dk_at dksX5_deedsFrom_4 3 rfl rfl)
theorem dX5_deedsFrom_98 : decode cX5_deedsFrom 98 = .ok (.sipush 9999, 3) := dk_17 39 15 (dk_at dksX5_deedsFrom_4 6 rfl rfl)
theorem dX5_deedsFrom_101 : decode cX5_deedsFrom 101 = .ok (.goto 6, 3) := dk_167 0 6 (dk_at dksX5_deedsFrom_4 9 rfl rfl)
theorem dX5_deedsFrom_104 : decode cX5_deedsFrom 104 = .ok (.iload_n 3, 1) := dk_29 (dk_at dksX5_deedsFrom_4 12 rfl rfl)
theorem dX5_deedsFrom_105 : decode cX5_deedsFrom 105 = .ok (.iload_n 2, 1) := dk_28 (dk_at dksX5_deedsFrom_4 13 rfl rfl)
theorem dX5_deedsFrom_106 : decode cX5_deedsFrom 106 = .ok (.iadd, 1) := dk_96 (dk_at dksX5_deedsFrom_4 14 rfl rfl)
theorem dX5_deedsFrom_107 : decode cX5_deedsFrom 107 = .ok (.istore 7, 2) := dk_54 7 (dk_at dksX5_deedsFrom_4 15 rfl rfl)
theorem dX5_deedsFrom_109 : decode cX5_deedsFrom 109 = .ok (.iload 5, 2) := dk_21 5 (dk_at dksX5_deedsFrom_4 17 rfl rfl)
theorem dX5_deedsFrom_111 : decode cX5_deedsFrom 111 = .ok (.bipush 10, 2) := dk_16 10 (dk_at dksX5_deedsFrom_4 19 rfl rfl)
theorem dX5_deedsFrom_113 : decode cX5_deedsFrom 113 = .ok (.if_icmp .ge 8, 3) := dk_162 0 8 (dk_at dksX5_deedsFrom_4 21 rfl rfl)
theorem dX5_deedsFrom_116 : decode cX5_deedsFrom 116 = .ok (.iload 5, 2) := dk_21 5 (dk_at dksX5_deedsFrom_5 0 rfl rfl)
theorem dX5_deedsFrom_118 : decode cX5_deedsFrom 118 = .ok (.goto 5, 3) := dk_167 0 5 (dk_at dksX5_deedsFrom_5 2 rfl rfl)
theorem dX5_deedsFrom_121 : decode cX5_deedsFrom 121 = .ok (.bipush 10, 2) := dk_16 10 (dk_at dksX5_deedsFrom_5 5 rfl rfl)
theorem dX5_deedsFrom_123 : decode cX5_deedsFrom 123 = .ok (.istore 8, 2) := dk_54 8 (dk_at dksX5_deedsFrom_5 7 rfl rfl)
theorem dX5_deedsFrom_125 : decode cX5_deedsFrom 125 = .ok (.iload_n 3, 1) := dk_29 (dk_at dksX5_deedsFrom_5 9 rfl rfl)
theorem dX5_deedsFrom_126 : decode cX5_deedsFrom 126 = .ok (.iload 8, 2) := dk_21 8 (dk_at dksX5_deedsFrom_5 10 rfl rfl)
theorem dX5_deedsFrom_128 : decode cX5_deedsFrom 128 = .ok (.if_icmp .ge 7, 3) := dk_162 0 7 (dk_at dksX5_deedsFrom_5 12 rfl rfl)
theorem dX5_deedsFrom_131 : decode cX5_deedsFrom 131 = .ok (.iload_n 3, 1) := dk_29 (dk_at dksX5_deedsFrom_5 15 rfl rfl)
theorem dX5_deedsFrom_132 : decode cX5_deedsFrom 132 = .ok (.goto 5, 3) := dk_167 0 5 (dk_at dksX5_deedsFrom_5 16 rfl rfl)
theorem dX5_deedsFrom_135 : decode cX5_deedsFrom 135 = .ok (.iload 8, 2) := dk_21 8 (dk_at dksX5_deedsFrom_5 19 rfl rfl)
theorem dX5_deedsFrom_137 : decode cX5_deedsFrom 137 = .ok (.istore 8, 2) := dk_54 8 (dk_at dksX5_deedsFrom_5 21 rfl rfl)
theorem dX5_deedsFrom_139 : decode cX5_deedsFrom 139 = .ok (.iload 6, 2) := dk_21 6 (dk_at dksX5_deedsFrom_6 0 rfl rfl)
theorem dX5_deedsFrom_141 : decode cX5_deedsFrom 141 = .ok (.iload_n 2, 1) := dk_28 (dk_at dksX5_deedsFrom_6 2 rfl rfl)
theorem dX5_deedsFrom_142 : decode cX5_deedsFrom 142 = .ok (.iconst 4, 1) := dk_7 (dk_at dksX5_deedsFrom_6 3 rfl rfl)
theorem dX5_deedsFrom_143 : decode cX5_deedsFrom 143 = .ok (.if_icmp .le 7, 3) := dk_164 0 7 (dk_at dksX5_deedsFrom_6 4 rfl rfl)
theorem dX5_deedsFrom_146 : decode cX5_deedsFrom 146 = .ok (.iconst 2, 1) := dk_5 (dk_at dksX5_deedsFrom_6 7 rfl rfl)
theorem dX5_deedsFrom_147 : decode cX5_deedsFrom 147 = .ok (.goto 4, 3) := dk_167 0 4 (dk_at dksX5_deedsFrom_6 8 rfl rfl)
theorem dX5_deedsFrom_150 : decode cX5_deedsFrom 150 = .ok (.iconst 1, 1) := dk_4 (dk_at dksX5_deedsFrom_6 11 rfl rfl)
theorem dX5_deedsFrom_151 : decode cX5_deedsFrom 151 = .ok (.iadd, 1) := dk_96 (dk_at dksX5_deedsFrom_6 12 rfl rfl)
theorem dX5_deedsFrom_152 : decode cX5_deedsFrom 152 = .ok (.istore 9, 2) := dk_54 9 (dk_at dksX5_deedsFrom_6 13 rfl rfl)
theorem dX5_deedsFrom_154 : decode cX5_deedsFrom 154 = .ok (.aload_n 0, 1) := dk_42 (dk_at dksX5_deedsFrom_6 15 rfl rfl)
theorem dX5_deedsFrom_155 : decode cX5_deedsFrom 155 = .ok (.getfield 128, 3) := dk_180 0 128 (dk_at dksX5_deedsFrom_6 16 rfl rfl)
theorem dX5_deedsFrom_158 : decode cX5_deedsFrom 158 = .ok (.iload_n 1, 1) := dk_27 (dk_at dksX5_deedsFrom_6 19 rfl rfl)
theorem dX5_deedsFrom_159 : decode cX5_deedsFrom 159 = .ok (.iconst 0, 1) := dk_3 (dk_at dksX5_deedsFrom_6 20 rfl rfl)
theorem dX5_deedsFrom_160 : decode cX5_deedsFrom 160 = .ok (.iastore, 1) := dk_79 (dk_at dksX5_deedsFrom_6 21 rfl rfl)
theorem dX5_deedsFrom_161 : decode cX5_deedsFrom 161 = .ok (.aload_n 0, 1) := dk_42 (dk_at dksX5_deedsFrom_6 22 rfl rfl)
theorem dX5_deedsFrom_162 : decode cX5_deedsFrom 162 = .ok (.iload_n 1, 1) := dk_27 (dk_at dksX5_deedsFrom_6 23 rfl rfl)
theorem dX5_deedsFrom_163 : decode cX5_deedsFrom 163 = .ok (.iconst 1, 1) := dk_4 (dk_at dksX5_deedsFrom_7 0 rfl rfl)
theorem dX5_deedsFrom_164 : decode cX5_deedsFrom 164 = .ok (.iadd, 1) := dk_96 (dk_at dksX5_deedsFrom_7 1 rfl rfl)
theorem dX5_deedsFrom_165 : decode cX5_deedsFrom 165 = .ok (.iload_n 2, 1) := dk_28 (dk_at dksX5_deedsFrom_7 2 rfl rfl)
theorem dX5_deedsFrom_166 : decode cX5_deedsFrom 166 = .ok (.iload 7, 2) := dk_21 7 (dk_at dksX5_deedsFrom_7 3 rfl rfl)
theorem dX5_deedsFrom_168 : decode cX5_deedsFrom 168 = .ok (.iload 4, 2) := dk_21 4 (dk_at dksX5_deedsFrom_7 5 rfl rfl)
theorem dX5_deedsFrom_170 : decode cX5_deedsFrom 170 = .ok (.iload 5, 2) := dk_21 5 (dk_at dksX5_deedsFrom_7 7 rfl rfl)
theorem dX5_deedsFrom_172 : decode cX5_deedsFrom 172 = .ok (.iload 6, 2) := dk_21 6 (dk_at dksX5_deedsFrom_7 9 rfl rfl)
theorem dX5_deedsFrom_174 : decode cX5_deedsFrom 174 = .ok (.invokevirtual 434, 3) := dk_182 1 178 (dk_at dksX5_deedsFrom_7 11 rfl rfl)
theorem dX5_deedsFrom_177 : decode cX5_deedsFrom 177 = .ok (.aload_n 0, 1) := dk_42 (dk_at dksX5_deedsFrom_7 14 rfl rfl)
theorem dX5_deedsFrom_178 : decode cX5_deedsFrom 178 = .ok (.getfield 128, 3) := dk_180 0 128 (dk_at dksX5_deedsFrom_7 15 rfl rfl)
theorem dX5_deedsFrom_181 : decode cX5_deedsFrom 181 = .ok (.iload_n 1, 1) := dk_27 (dk_at dksX5_deedsFrom_7 18 rfl rfl)
theorem dX5_deedsFrom_182 : decode cX5_deedsFrom 182 = .ok (.iconst 1, 1) := dk_4 (dk_at dksX5_deedsFrom_7 19 rfl rfl)
theorem dX5_deedsFrom_183 : decode cX5_deedsFrom 183 = .ok (.iastore, 1) := dk_79 (dk_at dksX5_deedsFrom_7 20 rfl rfl)
theorem dX5_deedsFrom_184 : decode cX5_deedsFrom 184 = .ok (.aload_n 0, 1) := dk_42 (dk_at dksX5_deedsFrom_7 21 rfl rfl)
theorem dX5_deedsFrom_185 : decode cX5_deedsFrom 185 = .ok (.iload_n 1, 1) := dk_27 (dk_at dksX5_deedsFrom_7 22 rfl rfl)
theorem dX5_deedsFrom_186 : decode cX5_deedsFrom 186 = .ok (.iconst 1, 1) := dk_4 (dk_at dksX5_deedsFrom_7 23 rfl rfl)
theorem dX5_deedsFrom_187 : decode cX5_deedsFrom 187 = .ok (.iadd, 1) := dk_96 (dk_at dksX5_deedsFrom_8 0 rfl rfl)
theorem dX5_deedsFrom_188 : decode cX5_deedsFrom 188 = .ok (.iload_n 2, 1) := dk_28 (dk_at dksX5_deedsFrom_8 1 rfl rfl)
theorem dX5_deedsFrom_189 : decode cX5_deedsFrom 189 = .ok (.iload_n 3, 1) := dk_29 (dk_at dksX5_deedsFrom_8 2 rfl rfl)
theorem dX5_deedsFrom_190 : decode cX5_deedsFrom 190 = .ok (.iload 8, 2) := dk_21 8 (dk_at dksX5_deedsFrom_8 3 rfl rfl)
theorem dX5_deedsFrom_192 : decode cX5_deedsFrom 192 = .ok (.isub, 1) := dk_100 (dk_at dksX5_deedsFrom_8 5 rfl rfl)
theorem dX5_deedsFrom_193 : decode cX5_deedsFrom 193 = .ok (.iload 4, 2) := dk_21 4 (dk_at dksX5_deedsFrom_8 6 rfl rfl)
theorem dX5_deedsFrom_195 : decode cX5_deedsFrom 195 = .ok (.iload 5, 2) := dk_21 5 (dk_at dksX5_deedsFrom_8 8 rfl rfl)
theorem dX5_deedsFrom_197 : decode cX5_deedsFrom 197 = .ok (.iload 8, 2) := dk_21 8 (dk_at dksX5_deedsFrom_8 10 rfl rfl)
theorem dX5_deedsFrom_199 : decode cX5_deedsFrom 199 = .ok (.isub, 1) := dk_100 (dk_at dksX5_deedsFrom_8 12 rfl rfl)
theorem dX5_deedsFrom_200 : decode cX5_deedsFrom 200 = .ok (.iload 6, 2) := dk_21 6 (dk_at dksX5_deedsFrom_8 13 rfl rfl)
theorem dX5_deedsFrom_202 : decode cX5_deedsFrom 202 = .ok (.invokevirtual 434, 3) := dk_182 1 178 (dk_at dksX5_deedsFrom_8 15 rfl rfl)
theorem dX5_deedsFrom_205 : decode cX5_deedsFrom 205 = .ok (.aload_n 0, 1) := dk_42 (dk_at dksX5_deedsFrom_8 18 rfl rfl)
theorem dX5_deedsFrom_206 : decode cX5_deedsFrom 206 = .ok (.getfield 128, 3) := dk_180 0 128 (dk_at dksX5_deedsFrom_8 19 rfl rfl)
theorem dX5_deedsFrom_209 : decode cX5_deedsFrom 209 = .ok (.iload_n 1, 1) := dk_27 (dk_at dksX5_deedsFrom_8 22 rfl rfl)
theorem dX5_deedsFrom_210 : decode cX5_deedsFrom 210 = .ok (.iconst 2, 1) := dk_5 (dk_at dksX5_deedsFrom_8 23 rfl rfl)
theorem dX5_deedsFrom_211 : decode cX5_deedsFrom 211 = .ok (.iastore, 1) := dk_79 (dk_at dksX5_deedsFrom_9 0 rfl rfl)
theorem dX5_deedsFrom_212 : decode cX5_deedsFrom 212 = .ok (.aload_n 0, 1) := dk_42 (dk_at dksX5_deedsFrom_9 1 rfl rfl)
theorem dX5_deedsFrom_213 : decode cX5_deedsFrom 213 = .ok (.iload_n 1, 1) := dk_27 (dk_at dksX5_deedsFrom_9 2 rfl rfl)
theorem dX5_deedsFrom_214 : decode cX5_deedsFrom 214 = .ok (.iconst 1, 1) := dk_4 (dk_at dksX5_deedsFrom_9 3 rfl rfl)
theorem dX5_deedsFrom_215 : decode cX5_deedsFrom 215 = .ok (.iadd, 1) := dk_96 (dk_at dksX5_deedsFrom_9 4 rfl rfl)
theorem dX5_deedsFrom_216 : decode cX5_deedsFrom 216 = .ok (.iload_n 2, 1) := dk_28 (dk_at dksX5_deedsFrom_9 5 rfl rfl)
theorem dX5_deedsFrom_217 : decode cX5_deedsFrom 217 = .ok (.iload_n 3, 1) := dk_29 (dk_at dksX5_deedsFrom_9 6 rfl rfl)
theorem dX5_deedsFrom_218 : decode cX5_deedsFrom 218 = .ok (.iload 4, 2) := dk_21 4 (dk_at dksX5_deedsFrom_9 7 rfl rfl)
theorem dX5_deedsFrom_220 : decode cX5_deedsFrom 220 = .ok (.iload 5, 2) := dk_21 5 (dk_at dksX5_deedsFrom_9 9 rfl rfl)
theorem dX5_deedsFrom_222 : decode cX5_deedsFrom 222 = .ok (.iload 9, 2) := dk_21 9 (dk_at dksX5_deedsFrom_9 11 rfl rfl)
theorem dX5_deedsFrom_224 : decode cX5_deedsFrom 224 = .ok (.bipush 9, 2) := dk_16 9 (dk_at dksX5_deedsFrom_9 13 rfl rfl)
theorem dX5_deedsFrom_226 : decode cX5_deedsFrom 226 = .ok (.if_icmp .le 8, 3) := dk_164 0 8 (dk_at dksX5_deedsFrom_9 15 rfl rfl)
theorem dX5_deedsFrom_229 : decode cX5_deedsFrom 229 = .ok (.bipush 9, 2) := dk_16 9 (dk_at dksX5_deedsFrom_9 18 rfl rfl)
theorem dX5_deedsFrom_231 : decode cX5_deedsFrom 231 = .ok (.goto 5, 3) := dk_167 0 5 (dk_at dksX5_deedsFrom_9 20 rfl rfl)
theorem dX5_deedsFrom_234 : decode cX5_deedsFrom 234 = .ok (.iload 9, 2) := dk_21 9 (dk_at dksX5_deedsFrom_10 0 rfl rfl)
theorem dX5_deedsFrom_236 : decode cX5_deedsFrom 236 = .ok (.invokevirtual 434, 3) := dk_182 1 178 (dk_at dksX5_deedsFrom_10 2 rfl rfl)
theorem dX5_deedsFrom_239 : decode cX5_deedsFrom 239 = .ok (.return_, 1) := dk_177 (dk_at dksX5_deedsFrom_10 5 rfl rfl)
abbrev cX5_goodOf : ByteArray := prog_30_method_89_code
def yX5_goodOf : MethodName := ⟨RX5, "goodOf", "(III)I"⟩
def dkwX5_goodOf_2 : List UInt8 := [180, 0, 91, 8, 46, 182, 1, 75, 172]
abbrev dktX5_goodOf_2 : List UInt8 := dkwX5_goodOf_2 ++ []
def dkwX5_goodOf_1 : List UInt8 := [180, 0, 91, 8, 46, 156, 0, 16, 27, 28, 5, 104, 100, 29, 16, 10, 104, 96, 167, 0, 13, 42, 42]
abbrev dktX5_goodOf_1 : List UInt8 := dkwX5_goodOf_1 ++ dktX5_goodOf_2
def dkwX5_goodOf_0 : List UInt8 := [42, 180, 0, 109, 3, 27, 79, 42, 180, 0, 109, 4, 28, 79, 42, 180, 0, 109, 5, 29, 79, 42]
abbrev dktX5_goodOf_0 : List UInt8 := dkwX5_goodOf_0 ++ dktX5_goodOf_1
theorem dksX5_goodOf_0 : cX5_goodOf.data.toList.drop 0 = dktX5_goodOf_0 := by decide +kernel
theorem dksX5_goodOf_1 : cX5_goodOf.data.toList.drop 22 = dktX5_goodOf_1 := dk_seg dksX5_goodOf_0 22 rfl rfl
theorem dksX5_goodOf_2 : cX5_goodOf.data.toList.drop 45 = dktX5_goodOf_2 := dk_seg dksX5_goodOf_1 23 rfl rfl
theorem dX5_goodOf_0 : decode cX5_goodOf 0 = .ok (.aload_n 0, 1) := dk_42 (dk_at dksX5_goodOf_0 0 rfl rfl)
theorem dX5_goodOf_1 : decode cX5_goodOf 1 = .ok (.getfield 109, 3) := dk_180 0 109 (dk_at dksX5_goodOf_0 1 rfl rfl)
theorem dX5_goodOf_4 : decode cX5_goodOf 4 = .ok (.iconst 0, 1) := dk_3 (dk_at dksX5_goodOf_0 4 rfl rfl)
theorem dX5_goodOf_5 : decode cX5_goodOf 5 = .ok (.iload_n 1, 1) := dk_27 (dk_at dksX5_goodOf_0 5 rfl rfl)
theorem dX5_goodOf_6 : decode cX5_goodOf 6 = .ok (.iastore, 1) := dk_79 (dk_at dksX5_goodOf_0 6 rfl rfl)
theorem dX5_goodOf_7 : decode cX5_goodOf 7 = .ok (.aload_n 0, 1) := dk_42 (dk_at dksX5_goodOf_0 7 rfl rfl)
theorem dX5_goodOf_8 : decode cX5_goodOf 8 = .ok (.getfield 109, 3) := dk_180 0 109 (dk_at dksX5_goodOf_0 8 rfl rfl)
theorem dX5_goodOf_11 : decode cX5_goodOf 11 = .ok (.iconst 1, 1) := dk_4 (dk_at dksX5_goodOf_0 11 rfl rfl)
theorem dX5_goodOf_12 : decode cX5_goodOf 12 = .ok (.iload_n 2, 1) := dk_28 (dk_at dksX5_goodOf_0 12 rfl rfl)
theorem dX5_goodOf_13 : decode cX5_goodOf 13 = .ok (.iastore, 1) := dk_79 (dk_at dksX5_goodOf_0 13 rfl rfl)
theorem dX5_goodOf_14 : decode cX5_goodOf 14 = .ok (.aload_n 0, 1) := dk_42 (dk_at dksX5_goodOf_0 14 rfl rfl)
theorem dX5_goodOf_15 : decode cX5_goodOf 15 = .ok (.getfield 109, 3) := dk_180 0 109 (dk_at dksX5_goodOf_0 15 rfl rfl)
theorem dX5_goodOf_18 : decode cX5_goodOf 18 = .ok (.iconst 2, 1) := dk_5 (dk_at dksX5_goodOf_0 18 rfl rfl)
theorem dX5_goodOf_19 : decode cX5_goodOf 19 = .ok (.iload_n 3, 1) := dk_29 (dk_at dksX5_goodOf_0 19 rfl rfl)
theorem dX5_goodOf_20 : decode cX5_goodOf 20 = .ok (.iastore, 1) := dk_79 (dk_at dksX5_goodOf_0 20 rfl rfl)
theorem dX5_goodOf_21 : decode cX5_goodOf 21 = .ok (.aload_n 0, 1) := dk_42 (dk_at dksX5_goodOf_0 21 rfl rfl)
theorem dX5_goodOf_22 : decode cX5_goodOf 22 = .ok (.getfield 91, 3) := dk_180 0 91 (dk_at dksX5_goodOf_1 0 rfl rfl)
theorem dX5_goodOf_25 : decode cX5_goodOf 25 = .ok (.iconst 5, 1) := dk_8 (dk_at dksX5_goodOf_1 3 rfl rfl)
theorem dX5_goodOf_26 : decode cX5_goodOf 26 = .ok (.iaload, 1) := dk_46 (dk_at dksX5_goodOf_1 4 rfl rfl)
theorem dX5_goodOf_27 : decode cX5_goodOf 27 = .ok (.ifCond .ge 16, 3) := dk_156 0 16 (dk_at dksX5_goodOf_1 5 rfl rfl)
theorem dX5_goodOf_30 : decode cX5_goodOf 30 = .ok (.iload_n 1, 1) := dk_27 (dk_at dksX5_goodOf_1 8 rfl rfl)
theorem dX5_goodOf_31 : decode cX5_goodOf 31 = .ok (.iload_n 2, 1) := dk_28 (dk_at dksX5_goodOf_1 9 rfl rfl)
theorem dX5_goodOf_32 : decode cX5_goodOf 32 = .ok (.iconst 2, 1) := dk_5 (dk_at dksX5_goodOf_1 10 rfl rfl)
theorem dX5_goodOf_33 : decode cX5_goodOf 33 = .ok (.imul, 1) := dk_104 (dk_at dksX5_goodOf_1 11 rfl rfl)
theorem dX5_goodOf_34 : decode cX5_goodOf 34 = .ok (.isub, 1) := dk_100 (dk_at dksX5_goodOf_1 12 rfl rfl)
theorem dX5_goodOf_35 : decode cX5_goodOf 35 = .ok (.iload_n 3, 1) := dk_29 (dk_at dksX5_goodOf_1 13 rfl rfl)
theorem dX5_goodOf_36 : decode cX5_goodOf 36 = .ok (.bipush 10, 2) := dk_16 10 (dk_at dksX5_goodOf_1 14 rfl rfl)
theorem dX5_goodOf_38 : decode cX5_goodOf 38 = .ok (.imul, 1) := dk_104 (dk_at dksX5_goodOf_1 16 rfl rfl)
theorem dX5_goodOf_39 : decode cX5_goodOf 39 = .ok (.iadd, 1) := dk_96 (dk_at dksX5_goodOf_1 17 rfl rfl)
theorem dX5_goodOf_40 : decode cX5_goodOf 40 = .ok (.goto 13, 3) := dk_167 0 13 (dk_at dksX5_goodOf_1 18 rfl rfl)
theorem dX5_goodOf_43 : decode cX5_goodOf 43 = .ok (.aload_n 0, 1) := dk_42 (dk_at dksX5_goodOf_1 21 rfl rfl)
theorem dX5_goodOf_44 : decode cX5_goodOf 44 = .ok (.aload_n 0, 1) := dk_42 (dk_at dksX5_goodOf_1 22 rfl rfl)
theorem dX5_goodOf_45 : decode cX5_goodOf 45 = .ok (.getfield 91, 3) := dk_180 0 91 (dk_at dksX5_goodOf_2 0 rfl rfl)
theorem dX5_goodOf_48 : decode cX5_goodOf 48 = .ok (.iconst 5, 1) := dk_8 (dk_at dksX5_goodOf_2 3 rfl rfl)
theorem dX5_goodOf_49 : decode cX5_goodOf 49 = .ok (.iaload, 1) := dk_46 (dk_at dksX5_goodOf_2 4 rfl rfl)
theorem dX5_goodOf_50 : decode cX5_goodOf 50 = .ok (.invokevirtual 331, 3) := dk_182 1 75 (dk_at dksX5_goodOf_2 5 rfl rfl)
theorem dX5_goodOf_53 : decode cX5_goodOf 53 = .ok (.ireturn, 1) := dk_172 (dk_at dksX5_goodOf_2 8 rfl rfl)
abbrev cX5_pairs : ByteArray := prog_30_method_94_code
def yX5_pairs : MethodName := ⟨RX5, "pairs", "(I)I"⟩
def dkwX5_pairs_5 : List UInt8 := [27, 46, 172]
abbrev dktX5_pairs_5 : List UInt8 := dkwX5_pairs_5 ++ []
def dkwX5_pairs_4 : List UInt8 := [181, 1, 182, 42, 3, 3, 182, 1, 185, 27, 156, 0, 10, 42, 180, 1, 182, 167, 0, 9, 42, 180, 0, 140]
abbrev dktX5_pairs_4 : List UInt8 := dkwX5_pairs_4 ++ dktX5_pairs_5
def dkwX5_pairs_3 : List UInt8 := [164, 0, 7, 4, 167, 0, 4, 3, 84, 132, 3, 1, 167, 255, 214, 132, 2, 1, 167, 255, 191, 42, 2]
abbrev dktX5_pairs_3 : List UInt8 := dkwX5_pairs_3 ++ dktX5_pairs_4
def dkwX5_pairs_2 : List UInt8 := [42, 180, 0, 134, 16, 6, 28, 104, 29, 96, 42, 28, 29, 182, 1, 188, 42, 28, 28, 182, 1, 188]
abbrev dktX5_pairs_2 : List UInt8 := dkwX5_pairs_2 ++ dktX5_pairs_3
def dkwX5_pairs_1 : List UInt8 := [42, 182, 1, 35, 162, 0, 63, 42, 180, 0, 137, 28, 2, 79, 3, 62, 29, 42, 182, 1, 35, 162, 0, 40]
abbrev dktX5_pairs_1 : List UInt8 := dkwX5_pairs_1 ++ dktX5_pairs_2
def dkwX5_pairs_0 : List UInt8 := [42, 3, 181, 0, 1, 27, 2, 159, 0, 14, 42, 27, 182, 1, 100, 154, 0, 6, 16, 254, 172, 3, 61, 28]
abbrev dktX5_pairs_0 : List UInt8 := dkwX5_pairs_0 ++ dktX5_pairs_1
theorem dksX5_pairs_0 : cX5_pairs.data.toList.drop 0 = dktX5_pairs_0 := by decide +kernel
theorem dksX5_pairs_1 : cX5_pairs.data.toList.drop 24 = dktX5_pairs_1 := dk_seg dksX5_pairs_0 24 rfl rfl
theorem dksX5_pairs_2 : cX5_pairs.data.toList.drop 48 = dktX5_pairs_2 := dk_seg dksX5_pairs_1 24 rfl rfl
theorem dksX5_pairs_3 : cX5_pairs.data.toList.drop 70 = dktX5_pairs_3 := dk_seg dksX5_pairs_2 22 rfl rfl
theorem dksX5_pairs_4 : cX5_pairs.data.toList.drop 93 = dktX5_pairs_4 := dk_seg dksX5_pairs_3 23 rfl rfl
theorem dksX5_pairs_5 : cX5_pairs.data.toList.drop 117 = dktX5_pairs_5 := dk_seg dksX5_pairs_4 24 rfl rfl
theorem dX5_pairs_0 : decode cX5_pairs 0 = .ok (.aload_n 0, 1) := dk_42 (dk_at dksX5_pairs_0 0 rfl rfl)
theorem dX5_pairs_1 : decode cX5_pairs 1 = .ok (.iconst 0, 1) := dk_3 (dk_at dksX5_pairs_0 1 rfl rfl)
theorem dX5_pairs_2 : decode cX5_pairs 2 = .ok (.putfield 1, 3) := dk_181 0 1 (dk_at dksX5_pairs_0 2 rfl rfl)
theorem dX5_pairs_5 : decode cX5_pairs 5 = .ok (.iload_n 1, 1) := dk_27 (dk_at dksX5_pairs_0 5 rfl rfl)
theorem dX5_pairs_6 : decode cX5_pairs 6 = .ok (.iconst (-1), 1) := dk_2 (dk_at dksX5_pairs_0 6 rfl rfl)
theorem dX5_pairs_7 : decode cX5_pairs 7 = .ok (.if_icmp .eq 14, 3) := dk_159 0 14 (dk_at dksX5_pairs_0 7 rfl rfl)
theorem dX5_pairs_10 : decode cX5_pairs 10 = .ok (.aload_n 0, 1) := dk_42 (dk_at dksX5_pairs_0 10 rfl rfl)
theorem dX5_pairs_11 : decode cX5_pairs 11 = .ok (.iload_n 1, 1) := dk_27 (dk_at dksX5_pairs_0 11 rfl rfl)
theorem dX5_pairs_12 : decode cX5_pairs 12 = .ok (.invokevirtual 356, 3) := dk_182 1 100 (dk_at dksX5_pairs_0 12 rfl rfl)
theorem dX5_pairs_15 : decode cX5_pairs 15 = .ok (.ifCond .ne 6, 3) := dk_154 0 6 (dk_at dksX5_pairs_0 15 rfl rfl)
theorem dX5_pairs_18 : decode cX5_pairs 18 = .ok (.bipush (-2), 2) := dk_16 254 (dk_at dksX5_pairs_0 18 rfl rfl)
theorem dX5_pairs_20 : decode cX5_pairs 20 = .ok (.ireturn, 1) := dk_172 (dk_at dksX5_pairs_0 20 rfl rfl)
theorem dX5_pairs_21 : decode cX5_pairs 21 = .ok (.iconst 0, 1) := dk_3 (dk_at dksX5_pairs_0 21 rfl rfl)
theorem dX5_pairs_22 : decode cX5_pairs 22 = .ok (.istore_n 2, 1) := dk_61 (dk_at dksX5_pairs_0 22 rfl rfl)
theorem dX5_pairs_23 : decode cX5_pairs 23 = .ok (.iload_n 2, 1) := dk_28 (dk_at dksX5_pairs_0 23 rfl rfl)
theorem dX5_pairs_24 : decode cX5_pairs 24 = .ok (.aload_n 0, 1) := dk_42 (dk_at dksX5_pairs_1 0 rfl rfl)
theorem dX5_pairs_25 : decode cX5_pairs 25 = .ok (.invokevirtual 291, 3) := dk_182 1 35 (dk_at dksX5_pairs_1 1 rfl rfl)
theorem dX5_pairs_28 : decode cX5_pairs 28 = .ok (.if_icmp .ge 63, 3) := dk_162 0 63 (dk_at dksX5_pairs_1 4 rfl rfl)
theorem dX5_pairs_31 : decode cX5_pairs 31 = .ok (.aload_n 0, 1) := dk_42 (dk_at dksX5_pairs_1 7 rfl rfl)
theorem dX5_pairs_32 : decode cX5_pairs 32 = .ok (.getfield 137, 3) := dk_180 0 137 (dk_at dksX5_pairs_1 8 rfl rfl)
theorem dX5_pairs_35 : decode cX5_pairs 35 = .ok (.iload_n 2, 1) := dk_28 (dk_at dksX5_pairs_1 11 rfl rfl)
theorem dX5_pairs_36 : decode cX5_pairs 36 = .ok (.iconst (-1), 1) := dk_2 (dk_at dksX5_pairs_1 12 rfl rfl)
theorem dX5_pairs_37 : decode cX5_pairs 37 = .ok (.iastore, 1) := dk_79 (dk_at dksX5_pairs_1 13 rfl rfl)
theorem dX5_pairs_38 : decode cX5_pairs 38 = .ok (.iconst 0, 1) := dk_3 (dk_at dksX5_pairs_1 14 rfl rfl)
theorem dX5_pairs_39 : decode cX5_pairs 39 = .ok (.istore_n 3, 1) := dk_62 (dk_at dksX5_pairs_1 15 rfl rfl)
theorem dX5_pairs_40 : decode cX5_pairs 40 = .ok (.iload_n 3, 1) := dk_29 (dk_at dksX5_pairs_1 16 rfl rfl)
theorem dX5_pairs_41 : decode cX5_pairs 41 = .ok (.aload_n 0, 1) := dk_42 (dk_at dksX5_pairs_1 17 rfl rfl)
theorem dX5_pairs_42 : decode cX5_pairs 42 = .ok (.invokevirtual 291, 3) := dk_182 1 35 (dk_at dksX5_pairs_1 18 rfl rfl)
theorem dX5_pairs_45 : decode cX5_pairs 45 = .ok (.if_icmp .ge 40, 3) := dk_162 0 40 (dk_at dksX5_pairs_1 21 rfl rfl)
theorem dX5_pairs_48 : decode cX5_pairs 48 = .ok (.aload_n 0, 1) := dk_42 (dk_at dksX5_pairs_2 0 rfl rfl)
theorem dX5_pairs_49 : decode cX5_pairs 49 = .ok (.getfield 134, 3) := dk_180 0 134 (dk_at dksX5_pairs_2 1 rfl rfl)
theorem dX5_pairs_52 : decode cX5_pairs 52 = .ok (.bipush 6, 2) := dk_16 6 (dk_at dksX5_pairs_2 4 rfl rfl)
theorem dX5_pairs_54 : decode cX5_pairs 54 = .ok (.iload_n 2, 1) := dk_28 (dk_at dksX5_pairs_2 6 rfl rfl)
theorem dX5_pairs_55 : decode cX5_pairs 55 = .ok (.imul, 1) := dk_104 (dk_at dksX5_pairs_2 7 rfl rfl)
theorem dX5_pairs_56 : decode cX5_pairs 56 = .ok (.iload_n 3, 1) := dk_29 (dk_at dksX5_pairs_2 8 rfl rfl)
theorem dX5_pairs_57 : decode cX5_pairs 57 = .ok (.iadd, 1) := dk_96 (dk_at dksX5_pairs_2 9 rfl rfl)
theorem dX5_pairs_58 : decode cX5_pairs 58 = .ok (.aload_n 0, 1) := dk_42 (dk_at dksX5_pairs_2 10 rfl rfl)
theorem dX5_pairs_59 : decode cX5_pairs 59 = .ok (.iload_n 2, 1) := dk_28 (dk_at dksX5_pairs_2 11 rfl rfl)
theorem dX5_pairs_60 : decode cX5_pairs 60 = .ok (.iload_n 3, 1) := dk_29 (dk_at dksX5_pairs_2 12 rfl rfl)
theorem dX5_pairs_61 : decode cX5_pairs 61 = .ok (.invokevirtual 444, 3) := dk_182 1 188 (dk_at dksX5_pairs_2 13 rfl rfl)
theorem dX5_pairs_64 : decode cX5_pairs 64 = .ok (.aload_n 0, 1) := dk_42 (dk_at dksX5_pairs_2 16 rfl rfl)
theorem dX5_pairs_65 : decode cX5_pairs 65 = .ok (.iload_n 2, 1) := dk_28 (dk_at dksX5_pairs_2 17 rfl rfl)
theorem dX5_pairs_66 : decode cX5_pairs 66 = .ok (.iload_n 2, 1) := dk_28 (dk_at dksX5_pairs_2 18 rfl rfl)
theorem dX5_pairs_67 : decode cX5_pairs 67 = .ok (.invokevirtual 444, 3) := dk_182 1 188 (dk_at dksX5_pairs_2 19 rfl rfl)
theorem dX5_pairs_70 : decode cX5_pairs 70 = .ok (.if_icmp .le 7, 3) := dk_164 0 7 (dk_at dksX5_pairs_3 0 rfl rfl)
theorem dX5_pairs_73 : decode cX5_pairs 73 = .ok (.iconst 1, 1) := dk_4 (dk_at dksX5_pairs_3 3 rfl rfl)
theorem dX5_pairs_74 : decode cX5_pairs 74 = .ok (.goto 4, 3) := dk_167 0 4 (dk_at dksX5_pairs_3 4 rfl rfl)
theorem dX5_pairs_77 : decode cX5_pairs 77 = .ok (.iconst 0, 1) := dk_3 (dk_at dksX5_pairs_3 7 rfl rfl)
theorem dX5_pairs_78 : decode cX5_pairs 78 = .ok (.bastore, 1) := dk_84 (dk_at dksX5_pairs_3 8 rfl rfl)
theorem dX5_pairs_79 : decode cX5_pairs 79 = .ok (.iinc 3 1, 3) := dk_132 3 1 (dk_at dksX5_pairs_3 9 rfl rfl)
theorem dX5_pairs_82 : decode cX5_pairs 82 = .ok (.goto (-42), 3) := dk_167 255 214 (dk_at dksX5_pairs_3 12 rfl rfl)
theorem dX5_pairs_85 : decode cX5_pairs 85 = .ok (.iinc 2 1, 3) := dk_132 2 1 (dk_at dksX5_pairs_3 15 rfl rfl)
theorem dX5_pairs_88 : decode cX5_pairs 88 = .ok (.goto (-65), 3) := dk_167 255 191 (dk_at dksX5_pairs_3 18 rfl rfl)
theorem dX5_pairs_91 : decode cX5_pairs 91 = .ok (.aload_n 0, 1) := dk_42 (dk_at dksX5_pairs_3 21 rfl rfl)
theorem dX5_pairs_92 : decode cX5_pairs 92 = .ok (.iconst (-1), 1) := dk_2 (dk_at dksX5_pairs_3 22 rfl rfl)
theorem dX5_pairs_93 : decode cX5_pairs 93 = .ok (.putfield 438, 3) := dk_181 1 182 (dk_at dksX5_pairs_4 0 rfl rfl)
theorem dX5_pairs_96 : decode cX5_pairs 96 = .ok (.aload_n 0, 1) := dk_42 (dk_at dksX5_pairs_4 3 rfl rfl)
theorem dX5_pairs_97 : decode cX5_pairs 97 = .ok (.iconst 0, 1) := dk_3 (dk_at dksX5_pairs_4 4 rfl rfl)
theorem dX5_pairs_98 : decode cX5_pairs 98 = .ok (.iconst 0, 1) := dk_3 (dk_at dksX5_pairs_4 5 rfl rfl)
theorem dX5_pairs_99 : decode cX5_pairs 99 = .ok (.invokevirtual 441, 3) := dk_182 1 185 (dk_at dksX5_pairs_4 6 rfl rfl)
theorem dX5_pairs_102 : decode cX5_pairs 102 = .ok (.iload_n 1, 1) := dk_27 (dk_at dksX5_pairs_4 9 rfl rfl)
theorem dX5_pairs_103 : decode cX5_pairs 103 = .ok (.ifCond .ge 10, 3) := dk_156 0 10 (dk_at dksX5_pairs_4 10 rfl rfl)
theorem dX5_pairs_106 : decode cX5_pairs 106 = .ok (.aload_n 0, 1) := dk_42 (dk_at dksX5_pairs_4 13 rfl rfl)
theorem dX5_pairs_107 : decode cX5_pairs 107 = .ok (.getfield 438, 3) := dk_180 1 182 (dk_at dksX5_pairs_4 14 rfl rfl)
theorem dX5_pairs_110 : decode cX5_pairs 110 = .ok (.goto 9, 3) := dk_167 0 9 (dk_at dksX5_pairs_4 17 rfl rfl)
theorem dX5_pairs_113 : decode cX5_pairs 113 = .ok (.aload_n 0, 1) := dk_42 (dk_at dksX5_pairs_4 20 rfl rfl)
theorem dX5_pairs_114 : decode cX5_pairs 114 = .ok (.getfield 140, 3) := dk_180 0 140 (dk_at dksX5_pairs_4 21 rfl rfl)
theorem dX5_pairs_117 : decode cX5_pairs 117 = .ok (.iload_n 1, 1) := dk_27 (dk_at dksX5_pairs_5 0 rfl rfl)
theorem dX5_pairs_118 : decode cX5_pairs 118 = .ok (.iaload, 1) := dk_46 (dk_at dksX5_pairs_5 1 rfl rfl)
theorem dX5_pairs_119 : decode cX5_pairs 119 = .ok (.ireturn, 1) := dk_172 (dk_at dksX5_pairs_5 2 rfl rfl)
abbrev cX5_wishOf : ByteArray := prog_30_method_92_code
def yX5_wishOf : MethodName := ⟨RX5, "wishOf", "(II)I"⟩
def dkwX5_wishOf_2 : List UInt8 := [16, 6, 46, 182, 1, 75, 172]
abbrev dktX5_wishOf_2 : List UInt8 := dkwX5_wishOf_2 ++ []
def dkwX5_wishOf_1 : List UInt8 := [42, 180, 0, 109, 4, 46, 100, 42, 180, 0, 109, 5, 46, 8, 104, 96, 167, 0, 14, 42, 42, 180, 0, 91]
abbrev dktX5_wishOf_1 : List UInt8 := dkwX5_wishOf_1 ++ dktX5_wishOf_2
def dkwX5_wishOf_0 : List UInt8 := [42, 3, 28, 27, 3, 182, 1, 71, 42, 180, 0, 91, 16, 6, 46, 156, 0, 28, 42, 180, 0, 109, 3, 46]
abbrev dktX5_wishOf_0 : List UInt8 := dkwX5_wishOf_0 ++ dktX5_wishOf_1
theorem dksX5_wishOf_0 : cX5_wishOf.data.toList.drop 0 = dktX5_wishOf_0 := by decide +kernel
theorem dksX5_wishOf_1 : cX5_wishOf.data.toList.drop 24 = dktX5_wishOf_1 := dk_seg dksX5_wishOf_0 24 rfl rfl
theorem dksX5_wishOf_2 : cX5_wishOf.data.toList.drop 48 = dktX5_wishOf_2 := dk_seg dksX5_wishOf_1 24 rfl rfl
theorem dX5_wishOf_0 : decode cX5_wishOf 0 = .ok (.aload_n 0, 1) := dk_42 (dk_at dksX5_wishOf_0 0 rfl rfl)
theorem dX5_wishOf_1 : decode cX5_wishOf 1 = .ok (.iconst 0, 1) := dk_3 (dk_at dksX5_wishOf_0 1 rfl rfl)
theorem dX5_wishOf_2 : decode cX5_wishOf 2 = .ok (.iload_n 2, 1) := dk_28 (dk_at dksX5_wishOf_0 2 rfl rfl)
theorem dX5_wishOf_3 : decode cX5_wishOf 3 = .ok (.iload_n 1, 1) := dk_27 (dk_at dksX5_wishOf_0 3 rfl rfl)
theorem dX5_wishOf_4 : decode cX5_wishOf 4 = .ok (.iconst 0, 1) := dk_3 (dk_at dksX5_wishOf_0 4 rfl rfl)
theorem dX5_wishOf_5 : decode cX5_wishOf 5 = .ok (.invokevirtual 327, 3) := dk_182 1 71 (dk_at dksX5_wishOf_0 5 rfl rfl)
theorem dX5_wishOf_8 : decode cX5_wishOf 8 = .ok (.aload_n 0, 1) := dk_42 (dk_at dksX5_wishOf_0 8 rfl rfl)
theorem dX5_wishOf_9 : decode cX5_wishOf 9 = .ok (.getfield 91, 3) := dk_180 0 91 (dk_at dksX5_wishOf_0 9 rfl rfl)
theorem dX5_wishOf_12 : decode cX5_wishOf 12 = .ok (.bipush 6, 2) := dk_16 6 (dk_at dksX5_wishOf_0 12 rfl rfl)
theorem dX5_wishOf_14 : decode cX5_wishOf 14 = .ok (.iaload, 1) := dk_46 (dk_at dksX5_wishOf_0 14 rfl rfl)
theorem dX5_wishOf_15 : decode cX5_wishOf 15 = .ok (.ifCond .ge 28, 3) := dk_156 0 28 (dk_at dksX5_wishOf_0 15 rfl rfl)
theorem dX5_wishOf_18 : decode cX5_wishOf 18 = .ok (.aload_n 0, 1) := dk_42 (dk_at dksX5_wishOf_0 18 rfl rfl)
theorem dX5_wishOf_19 : decode cX5_wishOf 19 = .ok (.getfield 109, 3) := dk_180 0 109 (dk_at dksX5_wishOf_0 19 rfl rfl)
theorem dX5_wishOf_22 : decode cX5_wishOf 22 = .ok (.iconst 0, 1) := dk_3 (dk_at dksX5_wishOf_0 22 rfl rfl)
theorem dX5_wishOf_23 : decode cX5_wishOf 23 = .ok (.iaload, 1) := dk_46 (dk_at dksX5_wishOf_0 23 rfl rfl)
theorem dX5_wishOf_24 : decode cX5_wishOf 24 = .ok (.aload_n 0, 1) := dk_42 (dk_at dksX5_wishOf_1 0 rfl rfl)
theorem dX5_wishOf_25 : decode cX5_wishOf 25 = .ok (.getfield 109, 3) := dk_180 0 109 (dk_at dksX5_wishOf_1 1 rfl rfl)
theorem dX5_wishOf_28 : decode cX5_wishOf 28 = .ok (.iconst 1, 1) := dk_4 (dk_at dksX5_wishOf_1 4 rfl rfl)
theorem dX5_wishOf_29 : decode cX5_wishOf 29 = .ok (.iaload, 1) := dk_46 (dk_at dksX5_wishOf_1 5 rfl rfl)
theorem dX5_wishOf_30 : decode cX5_wishOf 30 = .ok (.isub, 1) := dk_100 (dk_at dksX5_wishOf_1 6 rfl rfl)
theorem dX5_wishOf_31 : decode cX5_wishOf 31 = .ok (.aload_n 0, 1) := dk_42 (dk_at dksX5_wishOf_1 7 rfl rfl)
theorem dX5_wishOf_32 : decode cX5_wishOf 32 = .ok (.getfield 109, 3) := dk_180 0 109 (dk_at dksX5_wishOf_1 8 rfl rfl)
theorem dX5_wishOf_35 : decode cX5_wishOf 35 = .ok (.iconst 2, 1) := dk_5 (dk_at dksX5_wishOf_1 11 rfl rfl)
theorem dX5_wishOf_36 : decode cX5_wishOf 36 = .ok (.iaload, 1) := dk_46 (dk_at dksX5_wishOf_1 12 rfl rfl)
theorem dX5_wishOf_37 : decode cX5_wishOf 37 = .ok (.iconst 5, 1) := dk_8 (dk_at dksX5_wishOf_1 13 rfl rfl)
theorem dX5_wishOf_38 : decode cX5_wishOf 38 = .ok (.imul, 1) := dk_104 (dk_at dksX5_wishOf_1 14 rfl rfl)
theorem dX5_wishOf_39 : decode cX5_wishOf 39 = .ok (.iadd, 1) := dk_96 (dk_at dksX5_wishOf_1 15 rfl rfl)
theorem dX5_wishOf_40 : decode cX5_wishOf 40 = .ok (.goto 14, 3) := dk_167 0 14 (dk_at dksX5_wishOf_1 16 rfl rfl)
theorem dX5_wishOf_43 : decode cX5_wishOf 43 = .ok (.aload_n 0, 1) := dk_42 (dk_at dksX5_wishOf_1 19 rfl rfl)
theorem dX5_wishOf_44 : decode cX5_wishOf 44 = .ok (.aload_n 0, 1) := dk_42 (dk_at dksX5_wishOf_1 20 rfl rfl)
theorem dX5_wishOf_45 : decode cX5_wishOf 45 = .ok (.getfield 91, 3) := dk_180 0 91 (dk_at dksX5_wishOf_1 21 rfl rfl)
theorem dX5_wishOf_48 : decode cX5_wishOf 48 = .ok (.bipush 6, 2) := dk_16 6 (dk_at dksX5_wishOf_2 0 rfl rfl)
theorem dX5_wishOf_50 : decode cX5_wishOf 50 = .ok (.iaload, 1) := dk_46 (dk_at dksX5_wishOf_2 2 rfl rfl)
theorem dX5_wishOf_51 : decode cX5_wishOf 51 = .ok (.invokevirtual 331, 3) := dk_182 1 75 (dk_at dksX5_wishOf_2 3 rfl rfl)
theorem dX5_wishOf_54 : decode cX5_wishOf 54 = .ok (.ireturn, 1) := dk_172 (dk_at dksX5_wishOf_2 6 rfl rfl)
abbrev cX5_pairsFrom : ByteArray := prog_30_method_93_code
def yX5_pairsFrom : MethodName := ⟨RX5, "pairsFrom", "(II)V"⟩
def dkwX5_pairsFrom_7 : List UInt8 := [177]
abbrev dktX5_pairsFrom_7 : List UInt8 := dkwX5_pairsFrom_7 ++ []
def dkwX5_pairsFrom_6 : List UInt8 := [27, 2, 79, 42, 180, 0, 137, 29, 2, 79, 132, 3, 1, 167, 255, 169, 42, 27, 4, 96, 28, 182, 1, 185]
abbrev dktX5_pairsFrom_6 : List UInt8 := dkwX5_pairsFrom_6 ++ dktX5_pairsFrom_7
def dkwX5_pairsFrom_5 : List UInt8 := [27, 29, 79, 42, 180, 0, 137, 29, 27, 79, 42, 27, 4, 96, 28, 4, 96, 182, 1, 185, 42, 180, 0, 137]
abbrev dktX5_pairsFrom_5 : List UInt8 := dkwX5_pairsFrom_5 ++ dktX5_pairsFrom_6
def dkwX5_pairsFrom_4 : List UInt8 := [29, 96, 51, 153, 0, 55, 42, 180, 0, 134, 16, 6, 29, 104, 27, 96, 51, 153, 0, 41, 42, 180, 0, 137]
abbrev dktX5_pairsFrom_4 : List UInt8 := dkwX5_pairsFrom_4 ++ dktX5_pairsFrom_5
def dkwX5_pairsFrom_3 : List UInt8 := [182, 1, 35, 162, 0, 85, 42, 180, 0, 137, 29, 46, 2, 160, 0, 69, 42, 180, 0, 134, 16, 6, 27, 104]
abbrev dktX5_pairsFrom_3 : List UInt8 := dkwX5_pairsFrom_3 ++ dktX5_pairsFrom_4
def dkwX5_pairsFrom_2 : List UInt8 := [180, 0, 137, 27, 46, 2, 159, 0, 12, 42, 27, 4, 96, 28, 182, 1, 185, 177, 27, 4, 96, 62, 29, 42]
abbrev dktX5_pairsFrom_2 : List UInt8 := dkwX5_pairsFrom_2 ++ dktX5_pairsFrom_3
def dkwX5_pairsFrom_1 : List UInt8 := [27, 162, 0, 21, 42, 180, 0, 140, 29, 42, 180, 0, 137, 29, 46, 79, 132, 3, 1, 167, 255, 236, 177, 42]
abbrev dktX5_pairsFrom_1 : List UInt8 := dkwX5_pairsFrom_1 ++ dktX5_pairsFrom_2
def dkwX5_pairsFrom_0 : List UInt8 := [27, 42, 182, 1, 35, 160, 0, 42, 28, 42, 180, 1, 182, 164, 0, 33, 42, 28, 181, 1, 182, 3, 62, 29]
abbrev dktX5_pairsFrom_0 : List UInt8 := dkwX5_pairsFrom_0 ++ dktX5_pairsFrom_1
theorem dksX5_pairsFrom_0 : cX5_pairsFrom.data.toList.drop 0 = dktX5_pairsFrom_0 := by decide +kernel
theorem dksX5_pairsFrom_1 : cX5_pairsFrom.data.toList.drop 24 = dktX5_pairsFrom_1 := dk_seg dksX5_pairsFrom_0 24 rfl rfl
theorem dksX5_pairsFrom_2 : cX5_pairsFrom.data.toList.drop 48 = dktX5_pairsFrom_2 := dk_seg dksX5_pairsFrom_1 24 rfl rfl
theorem dksX5_pairsFrom_3 : cX5_pairsFrom.data.toList.drop 72 = dktX5_pairsFrom_3 := dk_seg dksX5_pairsFrom_2 24 rfl rfl
theorem dksX5_pairsFrom_4 : cX5_pairsFrom.data.toList.drop 96 = dktX5_pairsFrom_4 := dk_seg dksX5_pairsFrom_3 24 rfl rfl
theorem dksX5_pairsFrom_5 : cX5_pairsFrom.data.toList.drop 120 = dktX5_pairsFrom_5 := dk_seg dksX5_pairsFrom_4 24 rfl rfl
theorem dksX5_pairsFrom_6 : cX5_pairsFrom.data.toList.drop 144 = dktX5_pairsFrom_6 := dk_seg dksX5_pairsFrom_5 24 rfl rfl
theorem dksX5_pairsFrom_7 : cX5_pairsFrom.data.toList.drop 168 = dktX5_pairsFrom_7 := dk_seg dksX5_pairsFrom_6 24 rfl rfl
theorem dX5_pairsFrom_0 : decode cX5_pairsFrom 0 = .ok (.iload_n 1, 1) := dk_27 (dk_at dksX5_pairsFrom_0 0 rfl rfl)
theorem dX5_pairsFrom_1 : decode cX5_pairsFrom 1 = .ok (.aload_n 0, 1) := dk_42 (dk_at dksX5_pairsFrom_0 1 rfl rfl)
theorem dX5_pairsFrom_2 : decode cX5_pairsFrom 2 = .ok (.invokevirtual 291, 3) := dk_182 1 35 (dk_at dksX5_pairsFrom_0 2 rfl rfl)
theorem dX5_pairsFrom_5 : decode cX5_pairsFrom 5 = .ok (.if_icmp .ne 42, 3) := dk_160 0 42 (dk_at dksX5_pairsFrom_0 5 rfl rfl)
theorem dX5_pairsFrom_8 : decode cX5_pairsFrom 8 = .ok (.iload_n 2, 1) := dk_28 (dk_at dksX5_pairsFrom_0 8 rfl rfl)
theorem dX5_pairsFrom_9 : decode cX5_pairsFrom 9 = .ok (.aload_n 0, 1) := dk_42 (dk_at dksX5_pairsFrom_0 9 rfl rfl)
theorem dX5_pairsFrom_10 : decode cX5_pairsFrom 10 = .ok (.getfield 438, 3) := dk_180 1 182 (dk_at dksX5_pairsFrom_0 10 rfl rfl)
theorem dX5_pairsFrom_13 : decode cX5_pairsFrom 13 = .ok (.if_icmp .le 33, 3) := dk_164 0 33 (dk_at dksX5_pairsFrom_0 13 rfl rfl)
theorem dX5_pairsFrom_16 : decode cX5_pairsFrom 16 = .ok (.aload_n 0, 1) := dk_42 (dk_at dksX5_pairsFrom_0 16 rfl rfl)
theorem dX5_pairsFrom_17 : decode cX5_pairsFrom 17 = .ok (.iload_n 2, 1) := dk_28 (dk_at dksX5_pairsFrom_0 17 rfl rfl)
theorem dX5_pairsFrom_18 : decode cX5_pairsFrom 18 = .ok (.putfield 438, 3) := dk_181 1 182 (dk_at dksX5_pairsFrom_0 18 rfl rfl)
theorem dX5_pairsFrom_21 : decode cX5_pairsFrom 21 = .ok (.iconst 0, 1) := dk_3 (dk_at dksX5_pairsFrom_0 21 rfl rfl)
theorem dX5_pairsFrom_22 : decode cX5_pairsFrom 22 = .ok (.istore_n 3, 1) := dk_62 (dk_at dksX5_pairsFrom_0 22 rfl rfl)
theorem dX5_pairsFrom_23 : decode cX5_pairsFrom 23 = .ok (.iload_n 3, 1) := dk_29 (dk_at dksX5_pairsFrom_0 23 rfl rfl)
theorem dX5_pairsFrom_24 : decode cX5_pairsFrom 24 = .ok (.iload_n 1, 1) := dk_27 (dk_at dksX5_pairsFrom_1 0 rfl rfl)
theorem dX5_pairsFrom_25 : decode cX5_pairsFrom 25 = .ok (.if_icmp .ge 21, 3) := dk_162 0 21 (dk_at dksX5_pairsFrom_1 1 rfl rfl)
theorem dX5_pairsFrom_28 : decode cX5_pairsFrom 28 = .ok (.aload_n 0, 1) := dk_42 (dk_at dksX5_pairsFrom_1 4 rfl rfl)
theorem dX5_pairsFrom_29 : decode cX5_pairsFrom 29 = .ok (.getfield 140, 3) := dk_180 0 140 (dk_at dksX5_pairsFrom_1 5 rfl rfl)
theorem dX5_pairsFrom_32 : decode cX5_pairsFrom 32 = .ok (.iload_n 3, 1) := dk_29 (dk_at dksX5_pairsFrom_1 8 rfl rfl)
theorem dX5_pairsFrom_33 : decode cX5_pairsFrom 33 = .ok (.aload_n 0, 1) := dk_42 (dk_at dksX5_pairsFrom_1 9 rfl rfl)
theorem dX5_pairsFrom_34 : decode cX5_pairsFrom 34 = .ok (.getfield 137, 3) := dk_180 0 137 (dk_at dksX5_pairsFrom_1 10 rfl rfl)
theorem dX5_pairsFrom_37 : decode cX5_pairsFrom 37 = .ok (.iload_n 3, 1) := dk_29 (dk_at dksX5_pairsFrom_1 13 rfl rfl)
theorem dX5_pairsFrom_38 : decode cX5_pairsFrom 38 = .ok (.iaload, 1) := dk_46 (dk_at dksX5_pairsFrom_1 14 rfl rfl)
theorem dX5_pairsFrom_39 : decode cX5_pairsFrom 39 = .ok (.iastore, 1) := dk_79 (dk_at dksX5_pairsFrom_1 15 rfl rfl)
theorem dX5_pairsFrom_40 : decode cX5_pairsFrom 40 = .ok (.iinc 3 1, 3) := dk_132 3 1 (dk_at dksX5_pairsFrom_1 16 rfl rfl)
theorem dX5_pairsFrom_43 : decode cX5_pairsFrom 43 = .ok (.goto (-20), 3) := dk_167 255 236 (dk_at dksX5_pairsFrom_1 19 rfl rfl)
theorem dX5_pairsFrom_46 : decode cX5_pairsFrom 46 = .ok (.return_, 1) := dk_177 (dk_at dksX5_pairsFrom_1 22 rfl rfl)
theorem dX5_pairsFrom_47 : decode cX5_pairsFrom 47 = .ok (.aload_n 0, 1) := dk_42 (dk_at dksX5_pairsFrom_1 23 rfl rfl)
theorem dX5_pairsFrom_48 : decode cX5_pairsFrom 48 = .ok (.getfield 137, 3) := dk_180 0 137 (dk_at dksX5_pairsFrom_2 0 rfl rfl)
theorem dX5_pairsFrom_51 : decode cX5_pairsFrom 51 = .ok (.iload_n 1, 1) := dk_27 (dk_at dksX5_pairsFrom_2 3 rfl rfl)
theorem dX5_pairsFrom_52 : decode cX5_pairsFrom 52 = .ok (.iaload, 1) := dk_46 (dk_at dksX5_pairsFrom_2 4 rfl rfl)
theorem dX5_pairsFrom_53 : decode cX5_pairsFrom 53 = .ok (.iconst (-1), 1) := dk_2 (dk_at dksX5_pairsFrom_2 5 rfl rfl)
theorem dX5_pairsFrom_54 : decode cX5_pairsFrom 54 = .ok (.if_icmp .eq 12, 3) := dk_159 0 12 (dk_at dksX5_pairsFrom_2 6 rfl rfl)
theorem dX5_pairsFrom_57 : decode cX5_pairsFrom 57 = .ok (.aload_n 0, 1) := dk_42 (dk_at dksX5_pairsFrom_2 9 rfl rfl)
theorem dX5_pairsFrom_58 : decode cX5_pairsFrom 58 = .ok (.iload_n 1, 1) := dk_27 (dk_at dksX5_pairsFrom_2 10 rfl rfl)
theorem dX5_pairsFrom_59 : decode cX5_pairsFrom 59 = .ok (.iconst 1, 1) := dk_4 (dk_at dksX5_pairsFrom_2 11 rfl rfl)
theorem dX5_pairsFrom_60 : decode cX5_pairsFrom 60 = .ok (.iadd, 1) := dk_96 (dk_at dksX5_pairsFrom_2 12 rfl rfl)
theorem dX5_pairsFrom_61 : decode cX5_pairsFrom 61 = .ok (.iload_n 2, 1) := dk_28 (dk_at dksX5_pairsFrom_2 13 rfl rfl)
theorem dX5_pairsFrom_62 : decode cX5_pairsFrom 62 = .ok (.invokevirtual 441, 3) := dk_182 1 185 (dk_at dksX5_pairsFrom_2 14 rfl rfl)
theorem dX5_pairsFrom_65 : decode cX5_pairsFrom 65 = .ok (.return_, 1) := dk_177 (dk_at dksX5_pairsFrom_2 17 rfl rfl)
theorem dX5_pairsFrom_66 : decode cX5_pairsFrom 66 = .ok (.iload_n 1, 1) := dk_27 (dk_at dksX5_pairsFrom_2 18 rfl rfl)
theorem dX5_pairsFrom_67 : decode cX5_pairsFrom 67 = .ok (.iconst 1, 1) := dk_4 (dk_at dksX5_pairsFrom_2 19 rfl rfl)
theorem dX5_pairsFrom_68 : decode cX5_pairsFrom 68 = .ok (.iadd, 1) := dk_96 (dk_at dksX5_pairsFrom_2 20 rfl rfl)
theorem dX5_pairsFrom_69 : decode cX5_pairsFrom 69 = .ok (.istore_n 3, 1) := dk_62 (dk_at dksX5_pairsFrom_2 21 rfl rfl)
theorem dX5_pairsFrom_70 : decode cX5_pairsFrom 70 = .ok (.iload_n 3, 1) := dk_29 (dk_at dksX5_pairsFrom_2 22 rfl rfl)
theorem dX5_pairsFrom_71 : decode cX5_pairsFrom 71 = .ok (.aload_n 0, 1) := dk_42 (dk_at dksX5_pairsFrom_2 23 rfl rfl)
theorem dX5_pairsFrom_72 : decode cX5_pairsFrom 72 = .ok (.invokevirtual 291, 3) := dk_182 1 35 (dk_at dksX5_pairsFrom_3 0 rfl rfl)
theorem dX5_pairsFrom_75 : decode cX5_pairsFrom 75 = .ok (.if_icmp .ge 85, 3) := dk_162 0 85 (dk_at dksX5_pairsFrom_3 3 rfl rfl)
theorem dX5_pairsFrom_78 : decode cX5_pairsFrom 78 = .ok (.aload_n 0, 1) := dk_42 (dk_at dksX5_pairsFrom_3 6 rfl rfl)
theorem dX5_pairsFrom_79 : decode cX5_pairsFrom 79 = .ok (.getfield 137, 3) := dk_180 0 137 (dk_at dksX5_pairsFrom_3 7 rfl rfl)
theorem dX5_pairsFrom_82 : decode cX5_pairsFrom 82 = .ok (.iload_n 3, 1) := dk_29 (dk_at dksX5_pairsFrom_3 10 rfl rfl)
theorem dX5_pairsFrom_83 : decode cX5_pairsFrom 83 = .ok (.iaload, 1) := dk_46 (dk_at dksX5_pairsFrom_3 11 rfl rfl)
theorem dX5_pairsFrom_84 : decode cX5_pairsFrom 84 = .ok (.iconst (-1), 1) := dk_2 (dk_at dksX5_pairsFrom_3 12 rfl rfl)
theorem dX5_pairsFrom_85 : decode cX5_pairsFrom 85 = .ok (.if_icmp .ne 69, 3) := dk_160 0 69 (dk_at dksX5_pairsFrom_3 13 rfl rfl)
theorem dX5_pairsFrom_88 : decode cX5_pairsFrom 88 = .ok (.aload_n 0, 1) := dk_42 (dk_at dksX5_pairsFrom_3 16 rfl rfl)
theorem dX5_pairsFrom_89 : decode cX5_pairsFrom 89 = .ok (.getfield 134, 3) := dk_180 0 134 (dk_at dksX5_pairsFrom_3 17 rfl rfl)
theorem dX5_pairsFrom_92 : decode cX5_pairsFrom 92 = .ok (.bipush 6, 2) := dk_16 6 (dk_at dksX5_pairsFrom_3 20 rfl rfl)
theorem dX5_pairsFrom_94 : decode cX5_pairsFrom 94 = .ok (.iload_n 1, 1) := dk_27 (dk_at dksX5_pairsFrom_3 22 rfl rfl)
theorem dX5_pairsFrom_95 : decode cX5_pairsFrom 95 = .ok (.imul, 1) := dk_104 (dk_at dksX5_pairsFrom_3 23 rfl rfl)
theorem dX5_pairsFrom_96 : decode cX5_pairsFrom 96 = .ok (.iload_n 3, 1) := dk_29 (dk_at dksX5_pairsFrom_4 0 rfl rfl)
theorem dX5_pairsFrom_97 : decode cX5_pairsFrom 97 = .ok (.iadd, 1) := dk_96 (dk_at dksX5_pairsFrom_4 1 rfl rfl)
theorem dX5_pairsFrom_98 : decode cX5_pairsFrom 98 = .ok (.baload, 1) := dk_51 (dk_at dksX5_pairsFrom_4 2 rfl rfl)
theorem dX5_pairsFrom_99 : decode cX5_pairsFrom 99 = .ok (.ifCond .eq 55, 3) := dk_153 0 55 (dk_at dksX5_pairsFrom_4 3 rfl rfl)
theorem dX5_pairsFrom_102 : decode cX5_pairsFrom 102 = .ok (.aload_n 0, 1) := dk_42 (dk_at dksX5_pairsFrom_4 6 rfl rfl)
theorem dX5_pairsFrom_103 : decode cX5_pairsFrom 103 = .ok (.getfield 134, 3) := dk_180 0 134 (dk_at dksX5_pairsFrom_4 7 rfl rfl)
theorem dX5_pairsFrom_106 : decode cX5_pairsFrom 106 = .ok (.bipush 6, 2) := dk_16 6 (dk_at dksX5_pairsFrom_4 10 rfl rfl)
theorem dX5_pairsFrom_108 : decode cX5_pairsFrom 108 = .ok (.iload_n 3, 1) := dk_29 (dk_at dksX5_pairsFrom_4 12 rfl rfl)
theorem dX5_pairsFrom_109 : decode cX5_pairsFrom 109 = .ok (.imul, 1) := dk_104 (dk_at dksX5_pairsFrom_4 13 rfl rfl)
theorem dX5_pairsFrom_110 : decode cX5_pairsFrom 110 = .ok (.iload_n 1, 1) := dk_27 (dk_at dksX5_pairsFrom_4 14 rfl rfl)
theorem dX5_pairsFrom_111 : decode cX5_pairsFrom 111 = .ok (.iadd, 1) := dk_96 (dk_at dksX5_pairsFrom_4 15 rfl rfl)
theorem dX5_pairsFrom_112 : decode cX5_pairsFrom 112 = .ok (.baload, 1) := dk_51 (dk_at dksX5_pairsFrom_4 16 rfl rfl)
theorem dX5_pairsFrom_113 : decode cX5_pairsFrom 113 = .ok (.ifCond .eq 41, 3) := dk_153 0 41 (dk_at dksX5_pairsFrom_4 17 rfl rfl)
theorem dX5_pairsFrom_116 : decode cX5_pairsFrom 116 = .ok (.aload_n 0, 1) := dk_42 (dk_at dksX5_pairsFrom_4 20 rfl rfl)
theorem dX5_pairsFrom_117 : decode cX5_pairsFrom 117 = .ok (.getfield 137, 3) := dk_180 0 137 (dk_at dksX5_pairsFrom_4 21 rfl rfl)
theorem dX5_pairsFrom_120 : decode cX5_pairsFrom 120 = .ok (.iload_n 1, 1) := dk_27 (dk_at dksX5_pairsFrom_5 0 rfl rfl)
theorem dX5_pairsFrom_121 : decode cX5_pairsFrom 121 = .ok (.iload_n 3, 1) := dk_29 (dk_at dksX5_pairsFrom_5 1 rfl rfl)
theorem dX5_pairsFrom_122 : decode cX5_pairsFrom 122 = .ok (.iastore, 1) := dk_79 (dk_at dksX5_pairsFrom_5 2 rfl rfl)
theorem dX5_pairsFrom_123 : decode cX5_pairsFrom 123 = .ok (.aload_n 0, 1) := dk_42 (dk_at dksX5_pairsFrom_5 3 rfl rfl)
theorem dX5_pairsFrom_124 : decode cX5_pairsFrom 124 = .ok (.getfield 137, 3) := dk_180 0 137 (dk_at dksX5_pairsFrom_5 4 rfl rfl)
theorem dX5_pairsFrom_127 : decode cX5_pairsFrom 127 = .ok (.iload_n 3, 1) := dk_29 (dk_at dksX5_pairsFrom_5 7 rfl rfl)
theorem dX5_pairsFrom_128 : decode cX5_pairsFrom 128 = .ok (.iload_n 1, 1) := dk_27 (dk_at dksX5_pairsFrom_5 8 rfl rfl)
theorem dX5_pairsFrom_129 : decode cX5_pairsFrom 129 = .ok (.iastore, 1) := dk_79 (dk_at dksX5_pairsFrom_5 9 rfl rfl)
theorem dX5_pairsFrom_130 : decode cX5_pairsFrom 130 = .ok (.aload_n 0, 1) := dk_42 (dk_at dksX5_pairsFrom_5 10 rfl rfl)
theorem dX5_pairsFrom_131 : decode cX5_pairsFrom 131 = .ok (.iload_n 1, 1) := dk_27 (dk_at dksX5_pairsFrom_5 11 rfl rfl)
theorem dX5_pairsFrom_132 : decode cX5_pairsFrom 132 = .ok (.iconst 1, 1) := dk_4 (dk_at dksX5_pairsFrom_5 12 rfl rfl)
theorem dX5_pairsFrom_133 : decode cX5_pairsFrom 133 = .ok (.iadd, 1) := dk_96 (dk_at dksX5_pairsFrom_5 13 rfl rfl)
theorem dX5_pairsFrom_134 : decode cX5_pairsFrom 134 = .ok (.iload_n 2, 1) := dk_28 (dk_at dksX5_pairsFrom_5 14 rfl rfl)
theorem dX5_pairsFrom_135 : decode cX5_pairsFrom 135 = .ok (.iconst 1, 1) := dk_4 (dk_at dksX5_pairsFrom_5 15 rfl rfl)
theorem dX5_pairsFrom_136 : decode cX5_pairsFrom 136 = .ok (.iadd, 1) := dk_96 (dk_at dksX5_pairsFrom_5 16 rfl rfl)
theorem dX5_pairsFrom_137 : decode cX5_pairsFrom 137 = .ok (.invokevirtual 441, 3) := dk_182 1 185 (dk_at dksX5_pairsFrom_5 17 rfl rfl)
theorem dX5_pairsFrom_140 : decode cX5_pairsFrom 140 = .ok (.aload_n 0, 1) := dk_42 (dk_at dksX5_pairsFrom_5 20 rfl rfl)
theorem dX5_pairsFrom_141 : decode cX5_pairsFrom 141 = .ok (.getfield 137, 3) := dk_180 0 137 (dk_at dksX5_pairsFrom_5 21 rfl rfl)
theorem dX5_pairsFrom_144 : decode cX5_pairsFrom 144 = .ok (.iload_n 1, 1) := dk_27 (dk_at dksX5_pairsFrom_6 0 rfl rfl)
theorem dX5_pairsFrom_145 : decode cX5_pairsFrom 145 = .ok (.iconst (-1), 1) := dk_2 (dk_at dksX5_pairsFrom_6 1 rfl rfl)
theorem dX5_pairsFrom_146 : decode cX5_pairsFrom 146 = .ok (.iastore, 1) := dk_79 (dk_at dksX5_pairsFrom_6 2 rfl rfl)
theorem dX5_pairsFrom_147 : decode cX5_pairsFrom 147 = .ok (.aload_n 0, 1) := dk_42 (dk_at dksX5_pairsFrom_6 3 rfl rfl)
theorem dX5_pairsFrom_148 : decode cX5_pairsFrom 148 = .ok (.getfield 137, 3) := dk_180 0 137 (dk_at dksX5_pairsFrom_6 4 rfl rfl)
theorem dX5_pairsFrom_151 : decode cX5_pairsFrom 151 = .ok (.iload_n 3, 1) := dk_29 (dk_at dksX5_pairsFrom_6 7 rfl rfl)
theorem dX5_pairsFrom_152 : decode cX5_pairsFrom 152 = .ok (.iconst (-1), 1) := dk_2 (dk_at dksX5_pairsFrom_6 8 rfl rfl)
theorem dX5_pairsFrom_153 : decode cX5_pairsFrom 153 = .ok (.iastore, 1) := dk_79 (dk_at dksX5_pairsFrom_6 9 rfl rfl)
theorem dX5_pairsFrom_154 : decode cX5_pairsFrom 154 = .ok (.iinc 3 1, 3) := dk_132 3 1 (dk_at dksX5_pairsFrom_6 10 rfl rfl)
theorem dX5_pairsFrom_157 : decode cX5_pairsFrom 157 = .ok (.goto (-87), 3) := dk_167 255 169 (dk_at dksX5_pairsFrom_6 13 rfl rfl)
theorem dX5_pairsFrom_160 : decode cX5_pairsFrom 160 = .ok (.aload_n 0, 1) := dk_42 (dk_at dksX5_pairsFrom_6 16 rfl rfl)
theorem dX5_pairsFrom_161 : decode cX5_pairsFrom 161 = .ok (.iload_n 1, 1) := dk_27 (dk_at dksX5_pairsFrom_6 17 rfl rfl)
theorem dX5_pairsFrom_162 : decode cX5_pairsFrom 162 = .ok (.iconst 1, 1) := dk_4 (dk_at dksX5_pairsFrom_6 18 rfl rfl)
theorem dX5_pairsFrom_163 : decode cX5_pairsFrom 163 = .ok (.iadd, 1) := dk_96 (dk_at dksX5_pairsFrom_6 19 rfl rfl)
theorem dX5_pairsFrom_164 : decode cX5_pairsFrom 164 = .ok (.iload_n 2, 1) := dk_28 (dk_at dksX5_pairsFrom_6 20 rfl rfl)
theorem dX5_pairsFrom_165 : decode cX5_pairsFrom 165 = .ok (.invokevirtual 441, 3) := dk_182 1 185 (dk_at dksX5_pairsFrom_6 21 rfl rfl)
theorem dX5_pairsFrom_168 : decode cX5_pairsFrom 168 = .ok (.return_, 1) := dk_177 (dk_at dksX5_pairsFrom_7 0 rfl rfl)
abbrev cX5_tale : ByteArray := prog_30_method_95_code
def yX5_tale : MethodName := ⟨RX5, "tale", "(III)Z"⟩
def dkwX5_tale_4 : List UInt8 := [16, 46, 92, 46, 4, 96, 79, 4, 172]
abbrev dktX5_tale_4 : List UInt8 := dkwX5_tale_4 ++ []
def dkwX5_tale_3 : List UInt8 := [180, 0, 115, 21, 4, 4, 96, 28, 79, 42, 180, 0, 115, 21, 4, 5, 96, 29, 79, 42, 180, 0, 115]
abbrev dktX5_tale_3 : List UInt8 := dkwX5_tale_3 ++ dktX5_tale_4
def dkwX5_tale_2 : List UInt8 := [16, 47, 6, 42, 180, 0, 115, 16, 46, 46, 104, 96, 54, 4, 42, 180, 0, 115, 21, 4, 27, 79, 42]
abbrev dktX5_tale_2 : List UInt8 := dkwX5_tale_2 ++ dktX5_tale_3
def dkwX5_tale_1 : List UInt8 := [3, 17, 39, 15, 184, 1, 103, 153, 0, 15, 42, 180, 0, 115, 16, 46, 46, 16, 8, 160, 0, 5, 3, 172]
abbrev dktX5_tale_1 : List UInt8 := dkwX5_tale_1 ++ dktX5_tale_2
def dkwX5_tale_0 : List UInt8 := [42, 3, 181, 0, 1, 42, 27, 182, 1, 100, 153, 0, 36, 28, 4, 16, 7, 184, 1, 103, 153, 0, 26, 29]
abbrev dktX5_tale_0 : List UInt8 := dkwX5_tale_0 ++ dktX5_tale_1
theorem dksX5_tale_0 : cX5_tale.data.toList.drop 0 = dktX5_tale_0 := by decide +kernel
theorem dksX5_tale_1 : cX5_tale.data.toList.drop 24 = dktX5_tale_1 := dk_seg dksX5_tale_0 24 rfl rfl
theorem dksX5_tale_2 : cX5_tale.data.toList.drop 48 = dktX5_tale_2 := dk_seg dksX5_tale_1 24 rfl rfl
theorem dksX5_tale_3 : cX5_tale.data.toList.drop 71 = dktX5_tale_3 := dk_seg dksX5_tale_2 23 rfl rfl
theorem dksX5_tale_4 : cX5_tale.data.toList.drop 94 = dktX5_tale_4 := dk_seg dksX5_tale_3 23 rfl rfl
theorem dX5_tale_0 : decode cX5_tale 0 = .ok (.aload_n 0, 1) := dk_42 (dk_at dksX5_tale_0 0 rfl rfl)
theorem dX5_tale_1 : decode cX5_tale 1 = .ok (.iconst 0, 1) := dk_3 (dk_at dksX5_tale_0 1 rfl rfl)
theorem dX5_tale_2 : decode cX5_tale 2 = .ok (.putfield 1, 3) := dk_181 0 1 (dk_at dksX5_tale_0 2 rfl rfl)
theorem dX5_tale_5 : decode cX5_tale 5 = .ok (.aload_n 0, 1) := dk_42 (dk_at dksX5_tale_0 5 rfl rfl)
theorem dX5_tale_6 : decode cX5_tale 6 = .ok (.iload_n 1, 1) := dk_27 (dk_at dksX5_tale_0 6 rfl rfl)
theorem dX5_tale_7 : decode cX5_tale 7 = .ok (.invokevirtual 356, 3) := dk_182 1 100 (dk_at dksX5_tale_0 7 rfl rfl)
theorem dX5_tale_10 : decode cX5_tale 10 = .ok (.ifCond .eq 36, 3) := dk_153 0 36 (dk_at dksX5_tale_0 10 rfl rfl)
theorem dX5_tale_13 : decode cX5_tale 13 = .ok (.iload_n 2, 1) := dk_28 (dk_at dksX5_tale_0 13 rfl rfl)
theorem dX5_tale_14 : decode cX5_tale 14 = .ok (.iconst 1, 1) := dk_4 (dk_at dksX5_tale_0 14 rfl rfl)
theorem dX5_tale_15 : decode cX5_tale 15 = .ok (.bipush 7, 2) := dk_16 7 (dk_at dksX5_tale_0 15 rfl rfl)
theorem dX5_tale_17 : decode cX5_tale 17 = .ok (.invokestatic 359, 3) := dk_184 1 103 (dk_at dksX5_tale_0 17 rfl rfl)
theorem dX5_tale_20 : decode cX5_tale 20 = .ok (.ifCond .eq 26, 3) := dk_153 0 26 (dk_at dksX5_tale_0 20 rfl rfl)
theorem dX5_tale_23 : decode cX5_tale 23 = .ok (.iload_n 3, 1) := dk_29 (dk_at dksX5_tale_0 23 rfl rfl)
theorem dX5_tale_24 : decode cX5_tale 24 = .ok (.iconst 0, 1) := dk_3 (dk_at dksX5_tale_1 0 rfl rfl)
theorem dX5_tale_25 : decode cX5_tale 25 = .ok (.sipush 9999, 3) := dk_17 39 15 (dk_at dksX5_tale_1 1 rfl rfl)
theorem dX5_tale_28 : decode cX5_tale 28 = .ok (.invokestatic 359, 3) := dk_184 1 103 (dk_at dksX5_tale_1 4 rfl rfl)
theorem dX5_tale_31 : decode cX5_tale 31 = .ok (.ifCond .eq 15, 3) := dk_153 0 15 (dk_at dksX5_tale_1 7 rfl rfl)
theorem dX5_tale_34 : decode cX5_tale 34 = .ok (.aload_n 0, 1) := dk_42 (dk_at dksX5_tale_1 10 rfl rfl)
theorem dX5_tale_35 : decode cX5_tale 35 = .ok (.getfield 115, 3) := dk_180 0 115 (dk_at dksX5_tale_1 11 rfl rfl)
theorem dX5_tale_38 : decode cX5_tale 38 = .ok (.bipush 46, 2) := dk_16 46 (dk_at dksX5_tale_1 14 rfl rfl)
theorem dX5_tale_40 : decode cX5_tale 40 = .ok (.iaload, 1) := dk_46 (dk_at dksX5_tale_1 16 rfl rfl)
theorem dX5_tale_41 : decode cX5_tale 41 = .ok (.bipush 8, 2) := dk_16 8 (dk_at dksX5_tale_1 17 rfl rfl)
theorem dX5_tale_43 : decode cX5_tale 43 = .ok (.if_icmp .ne 5, 3) := dk_160 0 5 (dk_at dksX5_tale_1 19 rfl rfl)
theorem dX5_tale_46 : decode cX5_tale 46 = .ok (.iconst 0, 1) := dk_3 (dk_at dksX5_tale_1 22 rfl rfl)
theorem dX5_tale_47 : decode cX5_tale 47 = .ok (.ireturn, 1) := dk_172 (dk_at dksX5_tale_1 23 rfl rfl)
theorem dX5_tale_48 : decode cX5_tale 48 = .ok (.bipush 47, 2) := dk_16 47 (dk_at dksX5_tale_2 0 rfl rfl)
theorem dX5_tale_50 : decode cX5_tale 50 = .ok (.iconst 3, 1) := dk_6 (dk_at dksX5_tale_2 2 rfl rfl)
theorem dX5_tale_51 : decode cX5_tale 51 = .ok (.aload_n 0, 1) := dk_42 (dk_at dksX5_tale_2 3 rfl rfl)
theorem dX5_tale_52 : decode cX5_tale 52 = .ok (.getfield 115, 3) := dk_180 0 115 (dk_at dksX5_tale_2 4 rfl rfl)
theorem dX5_tale_55 : decode cX5_tale 55 = .ok (.bipush 46, 2) := dk_16 46 (dk_at dksX5_tale_2 7 rfl rfl)
theorem dX5_tale_57 : decode cX5_tale 57 = .ok (.iaload, 1) := dk_46 (dk_at dksX5_tale_2 9 rfl rfl)
theorem dX5_tale_58 : decode cX5_tale 58 = .ok (.imul, 1) := dk_104 (dk_at dksX5_tale_2 10 rfl rfl)
theorem dX5_tale_59 : decode cX5_tale 59 = .ok (.iadd, 1) := dk_96 (dk_at dksX5_tale_2 11 rfl rfl)
theorem dX5_tale_60 : decode cX5_tale 60 = .ok (.istore 4, 2) := dk_54 4 (dk_at dksX5_tale_2 12 rfl rfl)
theorem dX5_tale_62 : decode cX5_tale 62 = .ok (.aload_n 0, 1) := dk_42 (dk_at dksX5_tale_2 14 rfl rfl)
theorem dX5_tale_63 : decode cX5_tale 63 = .ok (.getfield 115, 3) := dk_180 0 115 (dk_at dksX5_tale_2 15 rfl rfl)
theorem dX5_tale_66 : decode cX5_tale 66 = .ok (.iload 4, 2) := dk_21 4 (dk_at dksX5_tale_2 18 rfl rfl)
theorem dX5_tale_68 : decode cX5_tale 68 = .ok (.iload_n 1, 1) := dk_27 (dk_at dksX5_tale_2 20 rfl rfl)
theorem dX5_tale_69 : decode cX5_tale 69 = .ok (.iastore, 1) := dk_79 (dk_at dksX5_tale_2 21 rfl rfl)
theorem dX5_tale_70 : decode cX5_tale 70 = .ok (.aload_n 0, 1) := dk_42 (dk_at dksX5_tale_2 22 rfl rfl)
theorem dX5_tale_71 : decode cX5_tale 71 = .ok (.getfield 115, 3) := dk_180 0 115 (dk_at dksX5_tale_3 0 rfl rfl)
theorem dX5_tale_74 : decode cX5_tale 74 = .ok (.iload 4, 2) := dk_21 4 (dk_at dksX5_tale_3 3 rfl rfl)
theorem dX5_tale_76 : decode cX5_tale 76 = .ok (.iconst 1, 1) := dk_4 (dk_at dksX5_tale_3 5 rfl rfl)
theorem dX5_tale_77 : decode cX5_tale 77 = .ok (.iadd, 1) := dk_96 (dk_at dksX5_tale_3 6 rfl rfl)
theorem dX5_tale_78 : decode cX5_tale 78 = .ok (.iload_n 2, 1) := dk_28 (dk_at dksX5_tale_3 7 rfl rfl)
theorem dX5_tale_79 : decode cX5_tale 79 = .ok (.iastore, 1) := dk_79 (dk_at dksX5_tale_3 8 rfl rfl)
theorem dX5_tale_80 : decode cX5_tale 80 = .ok (.aload_n 0, 1) := dk_42 (dk_at dksX5_tale_3 9 rfl rfl)
theorem dX5_tale_81 : decode cX5_tale 81 = .ok (.getfield 115, 3) := dk_180 0 115 (dk_at dksX5_tale_3 10 rfl rfl)
theorem dX5_tale_84 : decode cX5_tale 84 = .ok (.iload 4, 2) := dk_21 4 (dk_at dksX5_tale_3 13 rfl rfl)
theorem dX5_tale_86 : decode cX5_tale 86 = .ok (.iconst 2, 1) := dk_5 (dk_at dksX5_tale_3 15 rfl rfl)
theorem dX5_tale_87 : decode cX5_tale 87 = .ok (.iadd, 1) := dk_96 (dk_at dksX5_tale_3 16 rfl rfl)
theorem dX5_tale_88 : decode cX5_tale 88 = .ok (.iload_n 3, 1) := dk_29 (dk_at dksX5_tale_3 17 rfl rfl)
theorem dX5_tale_89 : decode cX5_tale 89 = .ok (.iastore, 1) := dk_79 (dk_at dksX5_tale_3 18 rfl rfl)
theorem dX5_tale_90 : decode cX5_tale 90 = .ok (.aload_n 0, 1) := dk_42 (dk_at dksX5_tale_3 19 rfl rfl)
theorem dX5_tale_91 : decode cX5_tale 91 = .ok (.getfield 115, 3) := dk_180 0 115 (dk_at dksX5_tale_3 20 rfl rfl)
theorem dX5_tale_94 : decode cX5_tale 94 = .ok (.bipush 46, 2) := dk_16 46 (dk_at dksX5_tale_4 0 rfl rfl)
theorem dX5_tale_96 : decode cX5_tale 96 = .ok (.dup2, 1) := dk_92 (dk_at dksX5_tale_4 2 rfl rfl)
theorem dX5_tale_97 : decode cX5_tale 97 = .ok (.iaload, 1) := dk_46 (dk_at dksX5_tale_4 3 rfl rfl)
theorem dX5_tale_98 : decode cX5_tale 98 = .ok (.iconst 1, 1) := dk_4 (dk_at dksX5_tale_4 4 rfl rfl)
theorem dX5_tale_99 : decode cX5_tale 99 = .ok (.iadd, 1) := dk_96 (dk_at dksX5_tale_4 5 rfl rfl)
theorem dX5_tale_100 : decode cX5_tale 100 = .ok (.iastore, 1) := dk_79 (dk_at dksX5_tale_4 6 rfl rfl)
theorem dX5_tale_101 : decode cX5_tale 101 = .ok (.iconst 1, 1) := dk_4 (dk_at dksX5_tale_4 7 rfl rfl)
theorem dX5_tale_102 : decode cX5_tale 102 = .ok (.ireturn, 1) := dk_172 (dk_at dksX5_tale_4 8 rfl rfl)
abbrev cX5_how : ByteArray := prog_30_method_99_code
def yX5_how : MethodName := ⟨RX5, "how", "()I"⟩
def dkwX5_how_0 : List UInt8 := [42, 3, 181, 0, 1, 42, 182, 1, 197, 42, 180, 1, 191, 172]
abbrev dktX5_how_0 : List UInt8 := dkwX5_how_0 ++ []
theorem dksX5_how_0 : cX5_how.data.toList.drop 0 = dktX5_how_0 := by decide +kernel
theorem dX5_how_0 : decode cX5_how 0 = .ok (.aload_n 0, 1) := dk_42 (dk_at dksX5_how_0 0 rfl rfl)
theorem dX5_how_1 : decode cX5_how 1 = .ok (.iconst 0, 1) := dk_3 (dk_at dksX5_how_0 1 rfl rfl)
theorem dX5_how_2 : decode cX5_how 2 = .ok (.putfield 1, 3) := dk_181 0 1 (dk_at dksX5_how_0 2 rfl rfl)
theorem dX5_how_5 : decode cX5_how 5 = .ok (.aload_n 0, 1) := dk_42 (dk_at dksX5_how_0 5 rfl rfl)
theorem dX5_how_6 : decode cX5_how 6 = .ok (.invokevirtual 453, 3) := dk_182 1 197 (dk_at dksX5_how_0 6 rfl rfl)
theorem dX5_how_9 : decode cX5_how 9 = .ok (.aload_n 0, 1) := dk_42 (dk_at dksX5_how_0 9 rfl rfl)
theorem dX5_how_10 : decode cX5_how 10 = .ok (.getfield 447, 3) := dk_180 1 191 (dk_at dksX5_how_0 10 rfl rfl)
theorem dX5_how_13 : decode cX5_how 13 = .ok (.ireturn, 1) := dk_172 (dk_at dksX5_how_0 13 rfl rfl)
abbrev cX5_findFitting : ByteArray := prog_30_method_96_code
def yX5_findFitting : MethodName := ⟨RX5, "findFitting", "()V"⟩
def dkwX5_findFitting_3 : List UInt8 := [167, 255, 194, 177]
abbrev dktX5_findFitting_3 : List UInt8 := dkwX5_findFitting_3 ++ []
def dkwX5_findFitting_2 : List UInt8 := [180, 1, 191, 42, 180, 0, 146, 27, 51, 153, 0, 7, 4, 167, 0, 4, 3, 96, 181, 1, 191, 132, 1, 1]
abbrev dktX5_findFitting_2 : List UInt8 := dkwX5_findFitting_2 ++ dktX5_findFitting_3
def dkwX5_findFitting_1 : List UInt8 := [182, 1, 53, 42, 17, 6, 48, 27, 182, 1, 131, 42, 180, 0, 146, 27, 42, 182, 1, 194, 84, 42, 89]
abbrev dktX5_findFitting_1 : List UInt8 := dkwX5_findFitting_1 ++ dktX5_findFitting_2
def dkwX5_findFitting_0 : List UInt8 := [42, 3, 181, 1, 191, 3, 60, 27, 42, 180, 1, 57, 162, 0, 60, 42, 3, 17, 6, 48, 16, 46]
abbrev dktX5_findFitting_0 : List UInt8 := dkwX5_findFitting_0 ++ dktX5_findFitting_1
theorem dksX5_findFitting_0 : cX5_findFitting.data.toList.drop 0 = dktX5_findFitting_0 := by decide +kernel
theorem dksX5_findFitting_1 : cX5_findFitting.data.toList.drop 22 = dktX5_findFitting_1 := dk_seg dksX5_findFitting_0 22 rfl rfl
theorem dksX5_findFitting_2 : cX5_findFitting.data.toList.drop 45 = dktX5_findFitting_2 := dk_seg dksX5_findFitting_1 23 rfl rfl
theorem dksX5_findFitting_3 : cX5_findFitting.data.toList.drop 69 = dktX5_findFitting_3 := dk_seg dksX5_findFitting_2 24 rfl rfl
theorem dX5_findFitting_0 : decode cX5_findFitting 0 = .ok (.aload_n 0, 1) := dk_42 (dk_at dksX5_findFitting_0 0 rfl rfl)
theorem dX5_findFitting_1 : decode cX5_findFitting 1 = .ok (.iconst 0, 1) := dk_3 (dk_at dksX5_findFitting_0 1 rfl rfl)
theorem dX5_findFitting_2 : decode cX5_findFitting 2 = .ok (.putfield 447, 3) := dk_181 1 191 (dk_at dksX5_findFitting_0 2 rfl rfl)
theorem dX5_findFitting_5 : decode cX5_findFitting 5 = .ok (.iconst 0, 1) := dk_3 (dk_at dksX5_findFitting_0 5 rfl rfl)
theorem dX5_findFitting_6 : decode cX5_findFitting 6 = .ok (.istore_n 1, 1) := dk_60 (dk_at dksX5_findFitting_0 6 rfl rfl)
theorem dX5_findFitting_7 : decode cX5_findFitting 7 = .ok (.iload_n 1, 1) := dk_27 (dk_at dksX5_findFitting_0 7 rfl rfl)
theorem dX5_findFitting_8 : decode cX5_findFitting 8 = .ok (.aload_n 0, 1) := dk_42 (dk_at dksX5_findFitting_0 8 rfl rfl)
theorem dX5_findFitting_9 : decode cX5_findFitting 9 = .ok (.getfield 313, 3) := dk_180 1 57 (dk_at dksX5_findFitting_0 9 rfl rfl)
theorem dX5_findFitting_12 : decode cX5_findFitting 12 = .ok (.if_icmp .ge 60, 3) := dk_162 0 60 (dk_at dksX5_findFitting_0 12 rfl rfl)
theorem dX5_findFitting_15 : decode cX5_findFitting 15 = .ok (.aload_n 0, 1) := dk_42 (dk_at dksX5_findFitting_0 15 rfl rfl)
theorem dX5_findFitting_16 : decode cX5_findFitting 16 = .ok (.iconst 0, 1) := dk_3 (dk_at dksX5_findFitting_0 16 rfl rfl)
theorem dX5_findFitting_17 : decode cX5_findFitting 17 = .ok (.sipush 1584, 3) := dk_17 6 48 (dk_at dksX5_findFitting_0 17 rfl rfl)
theorem dX5_findFitting_20 : decode cX5_findFitting 20 = .ok (.bipush 46, 2) := dk_16 46 (dk_at dksX5_findFitting_0 20 rfl rfl)
theorem dX5_findFitting_22 : decode cX5_findFitting 22 = .ok (.invokevirtual 309, 3) := dk_182 1 53 (dk_at dksX5_findFitting_1 0 rfl rfl)
theorem dX5_findFitting_25 : decode cX5_findFitting 25 = .ok (.aload_n 0, 1) := dk_42 (dk_at dksX5_findFitting_1 3 rfl rfl)
theorem dX5_findFitting_26 : decode cX5_findFitting 26 = .ok (.sipush 1584, 3) := dk_17 6 48 (dk_at dksX5_findFitting_1 4 rfl rfl)
theorem dX5_findFitting_29 : decode cX5_findFitting 29 = .ok (.iload_n 1, 1) := dk_27 (dk_at dksX5_findFitting_1 7 rfl rfl)
theorem dX5_findFitting_30 : decode cX5_findFitting 30 = .ok (.invokevirtual 387, 3) := dk_182 1 131 (dk_at dksX5_findFitting_1 8 rfl rfl)
theorem dX5_findFitting_33 : decode cX5_findFitting 33 = .ok (.aload_n 0, 1) := dk_42 (dk_at dksX5_findFitting_1 11 rfl rfl)
theorem dX5_findFitting_34 : decode cX5_findFitting 34 = .ok (.getfield 146, 3) := dk_180 0 146 (dk_at dksX5_findFitting_1 12 rfl rfl)
theorem dX5_findFitting_37 : decode cX5_findFitting 37 = .ok (.iload_n 1, 1) := dk_27 (dk_at dksX5_findFitting_1 15 rfl rfl)
theorem dX5_findFitting_38 : decode cX5_findFitting 38 = .ok (.aload_n 0, 1) := dk_42 (dk_at dksX5_findFitting_1 16 rfl rfl)
theorem dX5_findFitting_39 : decode cX5_findFitting 39 = .ok (.invokevirtual 450, 3) := dk_182 1 194 (dk_at dksX5_findFitting_1 17 rfl rfl)
theorem dX5_findFitting_42 : decode cX5_findFitting 42 = .ok (.bastore, 1) := dk_84 (dk_at dksX5_findFitting_1 20 rfl rfl)
theorem dX5_findFitting_43 : decode cX5_findFitting 43 = .ok (.aload_n 0, 1) := dk_42 (dk_at dksX5_findFitting_1 21 rfl rfl)
theorem dX5_findFitting_44 : decode cX5_findFitting 44 = .ok (.dup, 1) := dk_89 (dk_at dksX5_findFitting_1 22 rfl rfl)
theorem dX5_findFitting_45 : decode cX5_findFitting 45 = .ok (.getfield 447, 3) := dk_180 1 191 (dk_at dksX5_findFitting_2 0 rfl rfl)
theorem dX5_findFitting_48 : decode cX5_findFitting 48 = .ok (.aload_n 0, 1) := dk_42 (dk_at dksX5_findFitting_2 3 rfl rfl)
theorem dX5_findFitting_49 : decode cX5_findFitting 49 = .ok (.getfield 146, 3) := dk_180 0 146 (dk_at dksX5_findFitting_2 4 rfl rfl)
theorem dX5_findFitting_52 : decode cX5_findFitting 52 = .ok (.iload_n 1, 1) := dk_27 (dk_at dksX5_findFitting_2 7 rfl rfl)
theorem dX5_findFitting_53 : decode cX5_findFitting 53 = .ok (.baload, 1) := dk_51 (dk_at dksX5_findFitting_2 8 rfl rfl)
theorem dX5_findFitting_54 : decode cX5_findFitting 54 = .ok (.ifCond .eq 7, 3) := dk_153 0 7 (dk_at dksX5_findFitting_2 9 rfl rfl)
theorem dX5_findFitting_57 : decode cX5_findFitting 57 = .ok (.iconst 1, 1) := dk_4 (dk_at dksX5_findFitting_2 12 rfl rfl)
theorem dX5_findFitting_58 : decode cX5_findFitting 58 = .ok (.goto 4, 3) := dk_167 0 4 (dk_at dksX5_findFitting_2 13 rfl rfl)
theorem dX5_findFitting_61 : decode cX5_findFitting 61 = .ok (.iconst 0, 1) := dk_3 (dk_at dksX5_findFitting_2 16 rfl rfl)
theorem dX5_findFitting_62 : decode cX5_findFitting 62 = .ok (.iadd, 1) := dk_96 (dk_at dksX5_findFitting_2 17 rfl rfl)
theorem dX5_findFitting_63 : decode cX5_findFitting 63 = .ok (.putfield 447, 3) := dk_181 1 191 (dk_at dksX5_findFitting_2 18 rfl rfl)
theorem dX5_findFitting_66 : decode cX5_findFitting 66 = .ok (.iinc 1 1, 3) := dk_132 1 1 (dk_at dksX5_findFitting_2 21 rfl rfl)
theorem dX5_findFitting_69 : decode cX5_findFitting 69 = .ok (.goto (-62), 3) := dk_167 255 194 (dk_at dksX5_findFitting_3 0 rfl rfl)
theorem dX5_findFitting_72 : decode cX5_findFitting 72 = .ok (.return_, 1) := dk_177 (dk_at dksX5_findFitting_3 3 rfl rfl)
abbrev cX5_isAsTold : ByteArray := prog_30_method_97_code
def yX5_isAsTold : MethodName := ⟨RX5, "isAsTold", "()Z"⟩
def dkwX5_isAsTold_4 : List UInt8 := [132, 2, 1, 167, 255, 162, 27, 172]
abbrev dktX5_isAsTold_4 : List UInt8 := dkwX5_isAsTold_4 ++ []
def dkwX5_isAsTold_3 : List UInt8 := [180, 0, 115, 21, 4, 5, 96, 46, 160, 0, 7, 4, 167, 0, 4, 3, 60, 132, 3, 1, 167, 255, 183]
abbrev dktX5_isAsTold_3 : List UInt8 := dkwX5_isAsTold_3 ++ dktX5_isAsTold_4
def dkwX5_isAsTold_2 : List UInt8 := [4, 96, 46, 28, 160, 0, 31, 42, 180, 0, 115, 17, 6, 52, 42, 180, 0, 115, 21, 4, 46, 96, 46, 42]
abbrev dktX5_isAsTold_2 : List UInt8 := dkwX5_isAsTold_2 ++ dktX5_isAsTold_3
def dkwX5_isAsTold_1 : List UInt8 := [16, 46, 46, 162, 0, 68, 16, 47, 6, 29, 104, 96, 54, 4, 27, 153, 0, 48, 42, 180, 0, 115, 21, 4]
abbrev dktX5_isAsTold_1 : List UInt8 := dkwX5_isAsTold_1 ++ dktX5_isAsTold_2
def dkwX5_isAsTold_0 : List UInt8 := [4, 60, 4, 61, 28, 16, 7, 163, 0, 94, 42, 17, 6, 48, 182, 1, 146, 3, 62, 29, 42, 180, 0, 115]
abbrev dktX5_isAsTold_0 : List UInt8 := dkwX5_isAsTold_0 ++ dktX5_isAsTold_1
theorem dksX5_isAsTold_0 : cX5_isAsTold.data.toList.drop 0 = dktX5_isAsTold_0 := by decide +kernel
theorem dksX5_isAsTold_1 : cX5_isAsTold.data.toList.drop 24 = dktX5_isAsTold_1 := dk_seg dksX5_isAsTold_0 24 rfl rfl
theorem dksX5_isAsTold_2 : cX5_isAsTold.data.toList.drop 48 = dktX5_isAsTold_2 := dk_seg dksX5_isAsTold_1 24 rfl rfl
theorem dksX5_isAsTold_3 : cX5_isAsTold.data.toList.drop 72 = dktX5_isAsTold_3 := dk_seg dksX5_isAsTold_2 24 rfl rfl
theorem dksX5_isAsTold_4 : cX5_isAsTold.data.toList.drop 95 = dktX5_isAsTold_4 := dk_seg dksX5_isAsTold_3 23 rfl rfl
theorem dX5_isAsTold_0 : decode cX5_isAsTold 0 = .ok (.iconst 1, 1) := dk_4 (dk_at dksX5_isAsTold_0 0 rfl rfl)
theorem dX5_isAsTold_1 : decode cX5_isAsTold 1 = .ok (.istore_n 1, 1) := dk_60 (dk_at dksX5_isAsTold_0 1 rfl rfl)
theorem dX5_isAsTold_2 : decode cX5_isAsTold 2 = .ok (.iconst 1, 1) := dk_4 (dk_at dksX5_isAsTold_0 2 rfl rfl)
theorem dX5_isAsTold_3 : decode cX5_isAsTold 3 = .ok (.istore_n 2, 1) := dk_61 (dk_at dksX5_isAsTold_0 3 rfl rfl)
theorem dX5_isAsTold_4 : decode cX5_isAsTold 4 = .ok (.iload_n 2, 1) := dk_28 (dk_at dksX5_isAsTold_0 4 rfl rfl)
theorem dX5_isAsTold_5 : decode cX5_isAsTold 5 = .ok (.bipush 7, 2) := dk_16 7 (dk_at dksX5_isAsTold_0 5 rfl rfl)
theorem dX5_isAsTold_7 : decode cX5_isAsTold 7 = .ok (.if_icmp .gt 94, 3) := dk_163 0 94 (dk_at dksX5_isAsTold_0 7 rfl rfl)
theorem dX5_isAsTold_10 : decode cX5_isAsTold 10 = .ok (.aload_n 0, 1) := dk_42 (dk_at dksX5_isAsTold_0 10 rfl rfl)
theorem dX5_isAsTold_11 : decode cX5_isAsTold 11 = .ok (.sipush 1584, 3) := dk_17 6 48 (dk_at dksX5_isAsTold_0 11 rfl rfl)
theorem dX5_isAsTold_14 : decode cX5_isAsTold 14 = .ok (.invokevirtual 402, 3) := dk_182 1 146 (dk_at dksX5_isAsTold_0 14 rfl rfl)
theorem dX5_isAsTold_17 : decode cX5_isAsTold 17 = .ok (.iconst 0, 1) := dk_3 (dk_at dksX5_isAsTold_0 17 rfl rfl)
theorem dX5_isAsTold_18 : decode cX5_isAsTold 18 = .ok (.istore_n 3, 1) := dk_62 (dk_at dksX5_isAsTold_0 18 rfl rfl)
theorem dX5_isAsTold_19 : decode cX5_isAsTold 19 = .ok (.iload_n 3, 1) := dk_29 (dk_at dksX5_isAsTold_0 19 rfl rfl)
theorem dX5_isAsTold_20 : decode cX5_isAsTold 20 = .ok (.aload_n 0, 1) := dk_42 (dk_at dksX5_isAsTold_0 20 rfl rfl)
theorem dX5_isAsTold_21 : decode cX5_isAsTold 21 = .ok (.getfield 115, 3) := dk_180 0 115 (dk_at dksX5_isAsTold_0 21 rfl rfl)
theorem dX5_isAsTold_24 : decode cX5_isAsTold 24 = .ok (.bipush 46, 2) := dk_16 46 (dk_at dksX5_isAsTold_1 0 rfl rfl)
theorem dX5_isAsTold_26 : decode cX5_isAsTold 26 = .ok (.iaload, 1) := dk_46 (dk_at dksX5_isAsTold_1 2 rfl rfl)
theorem dX5_isAsTold_27 : decode cX5_isAsTold 27 = .ok (.if_icmp .ge 68, 3) := dk_162 0 68 (dk_at dksX5_isAsTold_1 3 rfl rfl)
theorem dX5_isAsTold_30 : decode cX5_isAsTold 30 = .ok (.bipush 47, 2) := dk_16 47 (dk_at dksX5_isAsTold_1 6 rfl rfl)
theorem dX5_isAsTold_32 : decode cX5_isAsTold 32 = .ok (.iconst 3, 1) := dk_6 (dk_at dksX5_isAsTold_1 8 rfl rfl)
theorem dX5_isAsTold_33 : decode cX5_isAsTold 33 = .ok (.iload_n 3, 1) := dk_29 (dk_at dksX5_isAsTold_1 9 rfl rfl)
theorem dX5_isAsTold_34 : decode cX5_isAsTold 34 = .ok (.imul, 1) := dk_104 (dk_at dksX5_isAsTold_1 10 rfl rfl)
theorem dX5_isAsTold_35 : decode cX5_isAsTold 35 = .ok (.iadd, 1) := dk_96 (dk_at dksX5_isAsTold_1 11 rfl rfl)
theorem dX5_isAsTold_36 : decode cX5_isAsTold 36 = .ok (.istore 4, 2) := dk_54 4 (dk_at dksX5_isAsTold_1 12 rfl rfl)
theorem dX5_isAsTold_38 : decode cX5_isAsTold 38 = .ok (.iload_n 1, 1) := dk_27 (dk_at dksX5_isAsTold_1 14 rfl rfl)
theorem dX5_isAsTold_39 : decode cX5_isAsTold 39 = .ok (.ifCond .eq 48, 3) := dk_153 0 48 (dk_at dksX5_isAsTold_1 15 rfl rfl)
theorem dX5_isAsTold_42 : decode cX5_isAsTold 42 = .ok (.aload_n 0, 1) := dk_42 (dk_at dksX5_isAsTold_1 18 rfl rfl)
theorem dX5_isAsTold_43 : decode cX5_isAsTold 43 = .ok (.getfield 115, 3) := dk_180 0 115 (dk_at dksX5_isAsTold_1 19 rfl rfl)
theorem dX5_isAsTold_46 : decode cX5_isAsTold 46 = .ok (.iload 4, 2) := dk_21 4 (dk_at dksX5_isAsTold_1 22 rfl rfl)
theorem dX5_isAsTold_48 : decode cX5_isAsTold 48 = .ok (.iconst 1, 1) := dk_4 (dk_at dksX5_isAsTold_2 0 rfl rfl)
theorem dX5_isAsTold_49 : decode cX5_isAsTold 49 = .ok (.iadd, 1) := dk_96 (dk_at dksX5_isAsTold_2 1 rfl rfl)
theorem dX5_isAsTold_50 : decode cX5_isAsTold 50 = .ok (.iaload, 1) := dk_46 (dk_at dksX5_isAsTold_2 2 rfl rfl)
theorem dX5_isAsTold_51 : decode cX5_isAsTold 51 = .ok (.iload_n 2, 1) := dk_28 (dk_at dksX5_isAsTold_2 3 rfl rfl)
theorem dX5_isAsTold_52 : decode cX5_isAsTold 52 = .ok (.if_icmp .ne 31, 3) := dk_160 0 31 (dk_at dksX5_isAsTold_2 4 rfl rfl)
theorem dX5_isAsTold_55 : decode cX5_isAsTold 55 = .ok (.aload_n 0, 1) := dk_42 (dk_at dksX5_isAsTold_2 7 rfl rfl)
theorem dX5_isAsTold_56 : decode cX5_isAsTold 56 = .ok (.getfield 115, 3) := dk_180 0 115 (dk_at dksX5_isAsTold_2 8 rfl rfl)
theorem dX5_isAsTold_59 : decode cX5_isAsTold 59 = .ok (.sipush 1588, 3) := dk_17 6 52 (dk_at dksX5_isAsTold_2 11 rfl rfl)
theorem dX5_isAsTold_62 : decode cX5_isAsTold 62 = .ok (.aload_n 0, 1) := dk_42 (dk_at dksX5_isAsTold_2 14 rfl rfl)
theorem dX5_isAsTold_63 : decode cX5_isAsTold 63 = .ok (.getfield 115, 3) := dk_180 0 115 (dk_at dksX5_isAsTold_2 15 rfl rfl)
theorem dX5_isAsTold_66 : decode cX5_isAsTold 66 = .ok (.iload 4, 2) := dk_21 4 (dk_at dksX5_isAsTold_2 18 rfl rfl)
theorem dX5_isAsTold_68 : decode cX5_isAsTold 68 = .ok (.iaload, 1) := dk_46 (dk_at dksX5_isAsTold_2 20 rfl rfl)
theorem dX5_isAsTold_69 : decode cX5_isAsTold 69 = .ok (.iadd, 1) := dk_96 (dk_at dksX5_isAsTold_2 21 rfl rfl)
theorem dX5_isAsTold_70 : decode cX5_isAsTold 70 = .ok (.iaload, 1) := dk_46 (dk_at dksX5_isAsTold_2 22 rfl rfl)
theorem dX5_isAsTold_71 : decode cX5_isAsTold 71 = .ok (.aload_n 0, 1) := dk_42 (dk_at dksX5_isAsTold_2 23 rfl rfl)
theorem dX5_isAsTold_72 : decode cX5_isAsTold 72 = .ok (.getfield 115, 3) := dk_180 0 115 (dk_at dksX5_isAsTold_3 0 rfl rfl)
theorem dX5_isAsTold_75 : decode cX5_isAsTold 75 = .ok (.iload 4, 2) := dk_21 4 (dk_at dksX5_isAsTold_3 3 rfl rfl)
theorem dX5_isAsTold_77 : decode cX5_isAsTold 77 = .ok (.iconst 2, 1) := dk_5 (dk_at dksX5_isAsTold_3 5 rfl rfl)
theorem dX5_isAsTold_78 : decode cX5_isAsTold 78 = .ok (.iadd, 1) := dk_96 (dk_at dksX5_isAsTold_3 6 rfl rfl)
theorem dX5_isAsTold_79 : decode cX5_isAsTold 79 = .ok (.iaload, 1) := dk_46 (dk_at dksX5_isAsTold_3 7 rfl rfl)
theorem dX5_isAsTold_80 : decode cX5_isAsTold 80 = .ok (.if_icmp .ne 7, 3) := dk_160 0 7 (dk_at dksX5_isAsTold_3 8 rfl rfl)
theorem dX5_isAsTold_83 : decode cX5_isAsTold 83 = .ok (.iconst 1, 1) := dk_4 (dk_at dksX5_isAsTold_3 11 rfl rfl)
theorem dX5_isAsTold_84 : decode cX5_isAsTold 84 = .ok (.goto 4, 3) := dk_167 0 4 (dk_at dksX5_isAsTold_3 12 rfl rfl)
theorem dX5_isAsTold_87 : decode cX5_isAsTold 87 = .ok (.iconst 0, 1) := dk_3 (dk_at dksX5_isAsTold_3 15 rfl rfl)
theorem dX5_isAsTold_88 : decode cX5_isAsTold 88 = .ok (.istore_n 1, 1) := dk_60 (dk_at dksX5_isAsTold_3 16 rfl rfl)
theorem dX5_isAsTold_89 : decode cX5_isAsTold 89 = .ok (.iinc 3 1, 3) := dk_132 3 1 (dk_at dksX5_isAsTold_3 17 rfl rfl)
theorem dX5_isAsTold_92 : decode cX5_isAsTold 92 = .ok (.goto (-73), 3) := dk_167 255 183 (dk_at dksX5_isAsTold_3 20 rfl rfl)
theorem dX5_isAsTold_95 : decode cX5_isAsTold 95 = .ok (.iinc 2 1, 3) := dk_132 2 1 (dk_at dksX5_isAsTold_4 0 rfl rfl)
theorem dX5_isAsTold_98 : decode cX5_isAsTold 98 = .ok (.goto (-94), 3) := dk_167 255 162 (dk_at dksX5_isAsTold_4 3 rfl rfl)
theorem dX5_isAsTold_101 : decode cX5_isAsTold 101 = .ok (.iload_n 1, 1) := dk_27 (dk_at dksX5_isAsTold_4 6 rfl rfl)
theorem dX5_isAsTold_102 : decode cX5_isAsTold 102 = .ok (.ireturn, 1) := dk_172 (dk_at dksX5_isAsTold_4 7 rfl rfl)
abbrev cX5_who : ByteArray := prog_30_method_100_code
def yX5_who : MethodName := ⟨RX5, "who", "(I)I"⟩
def dkwX5_who_3 : List UInt8 := [42, 21, 4, 27, 182, 1, 90, 61, 132, 4, 1, 167, 255, 201, 29, 153, 0, 7, 28, 167, 0, 4, 2, 172]
abbrev dktX5_who_3 : List UInt8 := dkwX5_who_3 ++ []
def dkwX5_who_2 : List UInt8 := [153, 0, 22, 28, 155, 0, 14, 42, 21, 4, 27, 182, 1, 90, 28, 160, 0, 7, 4, 167, 0, 4, 3, 62]
abbrev dktX5_who_2 : List UInt8 := dkwX5_who_2 ++ dktX5_who_3
def dkwX5_who_1 : List UInt8 := [54, 4, 21, 4, 42, 180, 1, 57, 162, 0, 52, 42, 180, 0, 146, 21, 4, 51, 153, 0, 36, 29]
abbrev dktX5_who_1 : List UInt8 := dkwX5_who_1 ++ dktX5_who_2
def dkwX5_who_0 : List UInt8 := [42, 3, 181, 0, 1, 42, 27, 182, 1, 100, 154, 0, 5, 2, 172, 42, 182, 1, 197, 2, 61, 4, 62, 3]
abbrev dktX5_who_0 : List UInt8 := dkwX5_who_0 ++ dktX5_who_1
theorem dksX5_who_0 : cX5_who.data.toList.drop 0 = dktX5_who_0 := by decide +kernel
theorem dksX5_who_1 : cX5_who.data.toList.drop 24 = dktX5_who_1 := dk_seg dksX5_who_0 24 rfl rfl
theorem dksX5_who_2 : cX5_who.data.toList.drop 46 = dktX5_who_2 := dk_seg dksX5_who_1 22 rfl rfl
theorem dksX5_who_3 : cX5_who.data.toList.drop 70 = dktX5_who_3 := dk_seg dksX5_who_2 24 rfl rfl
theorem dX5_who_0 : decode cX5_who 0 = .ok (.aload_n 0, 1) := dk_42 (dk_at dksX5_who_0 0 rfl rfl)
theorem dX5_who_1 : decode cX5_who 1 = .ok (.iconst 0, 1) := dk_3 (dk_at dksX5_who_0 1 rfl rfl)
theorem dX5_who_2 : decode cX5_who 2 = .ok (.putfield 1, 3) := dk_181 0 1 (dk_at dksX5_who_0 2 rfl rfl)
theorem dX5_who_5 : decode cX5_who 5 = .ok (.aload_n 0, 1) := dk_42 (dk_at dksX5_who_0 5 rfl rfl)
theorem dX5_who_6 : decode cX5_who 6 = .ok (.iload_n 1, 1) := dk_27 (dk_at dksX5_who_0 6 rfl rfl)
theorem dX5_who_7 : decode cX5_who 7 = .ok (.invokevirtual 356, 3) := dk_182 1 100 (dk_at dksX5_who_0 7 rfl rfl)
theorem dX5_who_10 : decode cX5_who 10 = .ok (.ifCond .ne 5, 3) := dk_154 0 5 (dk_at dksX5_who_0 10 rfl rfl)
theorem dX5_who_13 : decode cX5_who 13 = .ok (.iconst (-1), 1) := dk_2 (dk_at dksX5_who_0 13 rfl rfl)
theorem dX5_who_14 : decode cX5_who 14 = .ok (.ireturn, 1) := dk_172 (dk_at dksX5_who_0 14 rfl rfl)
theorem dX5_who_15 : decode cX5_who 15 = .ok (.aload_n 0, 1) := dk_42 (dk_at dksX5_who_0 15 rfl rfl)
theorem dX5_who_16 : decode cX5_who 16 = .ok (.invokevirtual 453, 3) := dk_182 1 197 (dk_at dksX5_who_0 16 rfl rfl)
theorem dX5_who_19 : decode cX5_who 19 = .ok (.iconst (-1), 1) := dk_2 (dk_at dksX5_who_0 19 rfl rfl)
theorem dX5_who_20 : decode cX5_who 20 = .ok (.istore_n 2, 1) := dk_61 (dk_at dksX5_who_0 20 rfl rfl)
theorem dX5_who_21 : decode cX5_who 21 = .ok (.iconst 1, 1) := dk_4 (dk_at dksX5_who_0 21 rfl rfl)
theorem dX5_who_22 : decode cX5_who 22 = .ok (.istore_n 3, 1) := dk_62 (dk_at dksX5_who_0 22 rfl rfl)
theorem dX5_who_23 : decode cX5_who 23 = .ok (.iconst 0, 1) := dk_3 (dk_at dksX5_who_0 23 rfl rfl)
theorem dX5_who_24 : decode cX5_who 24 = .ok (.istore 4, 2) := dk_54 4 (dk_at dksX5_who_1 0 rfl rfl)
theorem dX5_who_26 : decode cX5_who 26 = .ok (.iload 4, 2) := dk_21 4 (dk_at dksX5_who_1 2 rfl rfl)
theorem dX5_who_28 : decode cX5_who 28 = .ok (.aload_n 0, 1) := dk_42 (dk_at dksX5_who_1 4 rfl rfl)
theorem dX5_who_29 : decode cX5_who 29 = .ok (.getfield 313, 3) := dk_180 1 57 (dk_at dksX5_who_1 5 rfl rfl)
theorem dX5_who_32 : decode cX5_who 32 = .ok (.if_icmp .ge 52, 3) := dk_162 0 52 (dk_at dksX5_who_1 8 rfl rfl)
theorem dX5_who_35 : decode cX5_who 35 = .ok (.aload_n 0, 1) := dk_42 (dk_at dksX5_who_1 11 rfl rfl)
theorem dX5_who_36 : decode cX5_who 36 = .ok (.getfield 146, 3) := dk_180 0 146 (dk_at dksX5_who_1 12 rfl rfl)
theorem dX5_who_39 : decode cX5_who 39 = .ok (.iload 4, 2) := dk_21 4 (dk_at dksX5_who_1 15 rfl rfl)
theorem dX5_who_41 : decode cX5_who 41 = .ok (.baload, 1) := dk_51 (dk_at dksX5_who_1 17 rfl rfl)
theorem dX5_who_42 : decode cX5_who 42 = .ok (.ifCond .eq 36, 3) := dk_153 0 36 (dk_at dksX5_who_1 18 rfl rfl)
theorem dX5_who_45 : decode cX5_who 45 = .ok (.iload_n 3, 1) := dk_29 (dk_at dksX5_who_1 21 rfl rfl)
theorem dX5_who_46 : decode cX5_who 46 = .ok (.ifCond .eq 22, 3) := dk_153 0 22 (dk_at dksX5_who_2 0 rfl rfl)
theorem dX5_who_49 : decode cX5_who 49 = .ok (.iload_n 2, 1) := dk_28 (dk_at dksX5_who_2 3 rfl rfl)
theorem dX5_who_50 : decode cX5_who 50 = .ok (.ifCond .lt 14, 3) := dk_155 0 14 (dk_at dksX5_who_2 4 rfl rfl)
theorem dX5_who_53 : decode cX5_who 53 = .ok (.aload_n 0, 1) := dk_42 (dk_at dksX5_who_2 7 rfl rfl)
theorem dX5_who_54 : decode cX5_who 54 = .ok (.iload 4, 2) := dk_21 4 (dk_at dksX5_who_2 8 rfl rfl)
theorem dX5_who_56 : decode cX5_who 56 = .ok (.iload_n 1, 1) := dk_27 (dk_at dksX5_who_2 10 rfl rfl)
theorem dX5_who_57 : decode cX5_who 57 = .ok (.invokevirtual 346, 3) := dk_182 1 90 (dk_at dksX5_who_2 11 rfl rfl)
theorem dX5_who_60 : decode cX5_who 60 = .ok (.iload_n 2, 1) := dk_28 (dk_at dksX5_who_2 14 rfl rfl)
theorem dX5_who_61 : decode cX5_who 61 = .ok (.if_icmp .ne 7, 3) := dk_160 0 7 (dk_at dksX5_who_2 15 rfl rfl)
theorem dX5_who_64 : decode cX5_who 64 = .ok (.iconst 1, 1) := dk_4 (dk_at dksX5_who_2 18 rfl rfl)
theorem dX5_who_65 : decode cX5_who 65 = .ok (.goto 4, 3) := dk_167 0 4 (dk_at dksX5_who_2 19 rfl rfl)
theorem dX5_who_68 : decode cX5_who 68 = .ok (.iconst 0, 1) := dk_3 (dk_at dksX5_who_2 22 rfl rfl)
theorem dX5_who_69 : decode cX5_who 69 = .ok (.istore_n 3, 1) := dk_62 (dk_at dksX5_who_2 23 rfl rfl)
theorem dX5_who_70 : decode cX5_who 70 = .ok (.aload_n 0, 1) := dk_42 (dk_at dksX5_who_3 0 rfl rfl)
theorem dX5_who_71 : decode cX5_who 71 = .ok (.iload 4, 2) := dk_21 4 (dk_at dksX5_who_3 1 rfl rfl)
theorem dX5_who_73 : decode cX5_who 73 = .ok (.iload_n 1, 1) := dk_27 (dk_at dksX5_who_3 3 rfl rfl)
theorem dX5_who_74 : decode cX5_who 74 = .ok (.invokevirtual 346, 3) := dk_182 1 90 (dk_at dksX5_who_3 4 rfl rfl)
theorem dX5_who_77 : decode cX5_who 77 = .ok (.istore_n 2, 1) := dk_61 (dk_at dksX5_who_3 7 rfl rfl)
theorem dX5_who_78 : decode cX5_who 78 = .ok (.iinc 4 1, 3) := dk_132 4 1 (dk_at dksX5_who_3 8 rfl rfl)
theorem dX5_who_81 : decode cX5_who 81 = .ok (.goto (-55), 3) := dk_167 255 201 (dk_at dksX5_who_3 11 rfl rfl)
theorem dX5_who_84 : decode cX5_who 84 = .ok (.iload_n 3, 1) := dk_29 (dk_at dksX5_who_3 14 rfl rfl)
theorem dX5_who_85 : decode cX5_who 85 = .ok (.ifCond .eq 7, 3) := dk_153 0 7 (dk_at dksX5_who_3 15 rfl rfl)
theorem dX5_who_88 : decode cX5_who 88 = .ok (.iload_n 2, 1) := dk_28 (dk_at dksX5_who_3 18 rfl rfl)
theorem dX5_who_89 : decode cX5_who 89 = .ok (.goto 4, 3) := dk_167 0 4 (dk_at dksX5_who_3 19 rfl rfl)
theorem dX5_who_92 : decode cX5_who 92 = .ok (.iconst (-1), 1) := dk_2 (dk_at dksX5_who_3 22 rfl rfl)
theorem dX5_who_93 : decode cX5_who 93 = .ok (.ireturn, 1) := dk_172 (dk_at dksX5_who_3 23 rfl rfl)
abbrev cX5_ask : ByteArray := prog_30_method_102_code
def yX5_ask : MethodName := ⟨RX5, "ask", "()I"⟩
def dkwX5_ask_5 : List UInt8 := [132, 3, 1, 167, 255, 153, 27, 172]
abbrev dktX5_ask_5 : List UInt8 := dkwX5_ask_5 ++ []
def dkwX5_ask_4 : List UInt8 := [167, 0, 4, 27, 60, 21, 6, 153, 0, 8, 21, 5, 167, 0, 4, 28, 61, 132, 4, 1, 167, 255, 173]
abbrev dktX5_ask_4 : List UInt8 := dkwX5_ask_4 ++ dktX5_ask_5
def dkwX5_ask_3 : List UInt8 := [96, 27, 162, 0, 7, 4, 167, 0, 4, 3, 54, 6, 21, 6, 153, 0, 13, 16, 8, 21, 4, 104, 29, 96]
abbrev dktX5_ask_3 : List UInt8 := dkwX5_ask_3 ++ dktX5_ask_4
def dkwX5_ask_2 : List UInt8 := [54, 5, 21, 5, 28, 161, 0, 24, 21, 5, 28, 160, 0, 22, 27, 155, 0, 18, 16, 8, 21, 4, 104, 29]
abbrev dktX5_ask_2 : List UInt8 := dkwX5_ask_2 ++ dktX5_ask_3
def dkwX5_ask_1 : List UInt8 := [42, 29, 182, 1, 200, 3, 54, 4, 21, 4, 42, 182, 1, 35, 162, 0, 80, 42, 21, 4, 182, 1, 203]
abbrev dktX5_ask_1 : List UInt8 := dkwX5_ask_1 ++ dktX5_ask_2
def dkwX5_ask_0 : List UInt8 := [42, 3, 181, 0, 1, 42, 182, 1, 197, 2, 60, 42, 180, 1, 191, 61, 4, 62, 29, 16, 7, 163, 0, 103]
abbrev dktX5_ask_0 : List UInt8 := dkwX5_ask_0 ++ dktX5_ask_1
theorem dksX5_ask_0 : cX5_ask.data.toList.drop 0 = dktX5_ask_0 := by decide +kernel
theorem dksX5_ask_1 : cX5_ask.data.toList.drop 24 = dktX5_ask_1 := dk_seg dksX5_ask_0 24 rfl rfl
theorem dksX5_ask_2 : cX5_ask.data.toList.drop 47 = dktX5_ask_2 := dk_seg dksX5_ask_1 23 rfl rfl
theorem dksX5_ask_3 : cX5_ask.data.toList.drop 71 = dktX5_ask_3 := dk_seg dksX5_ask_2 24 rfl rfl
theorem dksX5_ask_4 : cX5_ask.data.toList.drop 95 = dktX5_ask_4 := dk_seg dksX5_ask_3 24 rfl rfl
theorem dksX5_ask_5 : cX5_ask.data.toList.drop 118 = dktX5_ask_5 := dk_seg dksX5_ask_4 23 rfl rfl
theorem dX5_ask_0 : decode cX5_ask 0 = .ok (.aload_n 0, 1) := dk_42 (dk_at dksX5_ask_0 0 rfl rfl)
theorem dX5_ask_1 : decode cX5_ask 1 = .ok (.iconst 0, 1) := dk_3 (dk_at dksX5_ask_0 1 rfl rfl)
theorem dX5_ask_2 : decode cX5_ask 2 = .ok (.putfield 1, 3) := dk_181 0 1 (dk_at dksX5_ask_0 2 rfl rfl)
theorem dX5_ask_5 : decode cX5_ask 5 = .ok (.aload_n 0, 1) := dk_42 (dk_at dksX5_ask_0 5 rfl rfl)
theorem dX5_ask_6 : decode cX5_ask 6 = .ok (.invokevirtual 453, 3) := dk_182 1 197 (dk_at dksX5_ask_0 6 rfl rfl)
theorem dX5_ask_9 : decode cX5_ask 9 = .ok (.iconst (-1), 1) := dk_2 (dk_at dksX5_ask_0 9 rfl rfl)
theorem dX5_ask_10 : decode cX5_ask 10 = .ok (.istore_n 1, 1) := dk_60 (dk_at dksX5_ask_0 10 rfl rfl)
theorem dX5_ask_11 : decode cX5_ask 11 = .ok (.aload_n 0, 1) := dk_42 (dk_at dksX5_ask_0 11 rfl rfl)
theorem dX5_ask_12 : decode cX5_ask 12 = .ok (.getfield 447, 3) := dk_180 1 191 (dk_at dksX5_ask_0 12 rfl rfl)
theorem dX5_ask_15 : decode cX5_ask 15 = .ok (.istore_n 2, 1) := dk_61 (dk_at dksX5_ask_0 15 rfl rfl)
theorem dX5_ask_16 : decode cX5_ask 16 = .ok (.iconst 1, 1) := dk_4 (dk_at dksX5_ask_0 16 rfl rfl)
theorem dX5_ask_17 : decode cX5_ask 17 = .ok (.istore_n 3, 1) := dk_62 (dk_at dksX5_ask_0 17 rfl rfl)
theorem dX5_ask_18 : decode cX5_ask 18 = .ok (.iload_n 3, 1) := dk_29 (dk_at dksX5_ask_0 18 rfl rfl)
theorem dX5_ask_19 : decode cX5_ask 19 = .ok (.bipush 7, 2) := dk_16 7 (dk_at dksX5_ask_0 19 rfl rfl)
theorem dX5_ask_21 : decode cX5_ask 21 = .ok (.if_icmp .gt 103, 3) := dk_163 0 103 (dk_at dksX5_ask_0 21 rfl rfl)
theorem dX5_ask_24 : decode cX5_ask 24 = .ok (.aload_n 0, 1) := dk_42 (dk_at dksX5_ask_1 0 rfl rfl)
theorem dX5_ask_25 : decode cX5_ask 25 = .ok (.iload_n 3, 1) := dk_29 (dk_at dksX5_ask_1 1 rfl rfl)
theorem dX5_ask_26 : decode cX5_ask 26 = .ok (.invokevirtual 456, 3) := dk_182 1 200 (dk_at dksX5_ask_1 2 rfl rfl)
theorem dX5_ask_29 : decode cX5_ask 29 = .ok (.iconst 0, 1) := dk_3 (dk_at dksX5_ask_1 5 rfl rfl)
theorem dX5_ask_30 : decode cX5_ask 30 = .ok (.istore 4, 2) := dk_54 4 (dk_at dksX5_ask_1 6 rfl rfl)
theorem dX5_ask_32 : decode cX5_ask 32 = .ok (.iload 4, 2) := dk_21 4 (dk_at dksX5_ask_1 8 rfl rfl)
theorem dX5_ask_34 : decode cX5_ask 34 = .ok (.aload_n 0, 1) := dk_42 (dk_at dksX5_ask_1 10 rfl rfl)
theorem dX5_ask_35 : decode cX5_ask 35 = .ok (.invokevirtual 291, 3) := dk_182 1 35 (dk_at dksX5_ask_1 11 rfl rfl)
theorem dX5_ask_38 : decode cX5_ask 38 = .ok (.if_icmp .ge 80, 3) := dk_162 0 80 (dk_at dksX5_ask_1 14 rfl rfl)
theorem dX5_ask_41 : decode cX5_ask 41 = .ok (.aload_n 0, 1) := dk_42 (dk_at dksX5_ask_1 17 rfl rfl)
theorem dX5_ask_42 : decode cX5_ask 42 = .ok (.iload 4, 2) := dk_21 4 (dk_at dksX5_ask_1 18 rfl rfl)
theorem dX5_ask_44 : decode cX5_ask 44 = .ok (.invokevirtual 459, 3) := dk_182 1 203 (dk_at dksX5_ask_1 20 rfl rfl)
theorem dX5_ask_47 : decode cX5_ask 47 = .ok (.istore 5, 2) := dk_54 5 (dk_at dksX5_ask_2 0 rfl rfl)
theorem dX5_ask_49 : decode cX5_ask 49 = .ok (.iload 5, 2) := dk_21 5 (dk_at dksX5_ask_2 2 rfl rfl)
theorem dX5_ask_51 : decode cX5_ask 51 = .ok (.iload_n 2, 1) := dk_28 (dk_at dksX5_ask_2 4 rfl rfl)
theorem dX5_ask_52 : decode cX5_ask 52 = .ok (.if_icmp .lt 24, 3) := dk_161 0 24 (dk_at dksX5_ask_2 5 rfl rfl)
theorem dX5_ask_55 : decode cX5_ask 55 = .ok (.iload 5, 2) := dk_21 5 (dk_at dksX5_ask_2 8 rfl rfl)
theorem dX5_ask_57 : decode cX5_ask 57 = .ok (.iload_n 2, 1) := dk_28 (dk_at dksX5_ask_2 10 rfl rfl)
theorem dX5_ask_58 : decode cX5_ask 58 = .ok (.if_icmp .ne 22, 3) := dk_160 0 22 (dk_at dksX5_ask_2 11 rfl rfl)
theorem dX5_ask_61 : decode cX5_ask 61 = .ok (.iload_n 1, 1) := dk_27 (dk_at dksX5_ask_2 14 rfl rfl)
theorem dX5_ask_62 : decode cX5_ask 62 = .ok (.ifCond .lt 18, 3) := dk_155 0 18 (dk_at dksX5_ask_2 15 rfl rfl)
theorem dX5_ask_65 : decode cX5_ask 65 = .ok (.bipush 8, 2) := dk_16 8 (dk_at dksX5_ask_2 18 rfl rfl)
theorem dX5_ask_67 : decode cX5_ask 67 = .ok (.iload 4, 2) := dk_21 4 (dk_at dksX5_ask_2 20 rfl rfl)
theorem dX5_ask_69 : decode cX5_ask 69 = .ok (.imul, 1) := dk_104 (dk_at dksX5_ask_2 22 rfl rfl)
theorem dX5_ask_70 : decode cX5_ask 70 = .ok (.iload_n 3, 1) := dk_29 (dk_at dksX5_ask_2 23 rfl rfl)
theorem dX5_ask_71 : decode cX5_ask 71 = .ok (.iadd, 1) := dk_96 (dk_at dksX5_ask_3 0 rfl rfl)
theorem dX5_ask_72 : decode cX5_ask 72 = .ok (.iload_n 1, 1) := dk_27 (dk_at dksX5_ask_3 1 rfl rfl)
theorem dX5_ask_73 : decode cX5_ask 73 = .ok (.if_icmp .ge 7, 3) := dk_162 0 7 (dk_at dksX5_ask_3 2 rfl rfl)
theorem dX5_ask_76 : decode cX5_ask 76 = .ok (.iconst 1, 1) := dk_4 (dk_at dksX5_ask_3 5 rfl rfl)
theorem dX5_ask_77 : decode cX5_ask 77 = .ok (.goto 4, 3) := dk_167 0 4 (dk_at dksX5_ask_3 6 rfl rfl)
theorem dX5_ask_80 : decode cX5_ask 80 = .ok (.iconst 0, 1) := dk_3 (dk_at dksX5_ask_3 9 rfl rfl)
theorem dX5_ask_81 : decode cX5_ask 81 = .ok (.istore 6, 2) := dk_54 6 (dk_at dksX5_ask_3 10 rfl rfl)
theorem dX5_ask_83 : decode cX5_ask 83 = .ok (.iload 6, 2) := dk_21 6 (dk_at dksX5_ask_3 12 rfl rfl)
theorem dX5_ask_85 : decode cX5_ask 85 = .ok (.ifCond .eq 13, 3) := dk_153 0 13 (dk_at dksX5_ask_3 14 rfl rfl)
theorem dX5_ask_88 : decode cX5_ask 88 = .ok (.bipush 8, 2) := dk_16 8 (dk_at dksX5_ask_3 17 rfl rfl)
theorem dX5_ask_90 : decode cX5_ask 90 = .ok (.iload 4, 2) := dk_21 4 (dk_at dksX5_ask_3 19 rfl rfl)
theorem dX5_ask_92 : decode cX5_ask 92 = .ok (.imul, 1) := dk_104 (dk_at dksX5_ask_3 21 rfl rfl)
theorem dX5_ask_93 : decode cX5_ask 93 = .ok (.iload_n 3, 1) := dk_29 (dk_at dksX5_ask_3 22 rfl rfl)
theorem dX5_ask_94 : decode cX5_ask 94 = .ok (.iadd, 1) := dk_96 (dk_at dksX5_ask_3 23 rfl rfl)
theorem dX5_ask_95 : decode cX5_ask 95 = .ok (.goto 4, 3) := dk_167 0 4 (dk_at dksX5_ask_4 0 rfl rfl)
theorem dX5_ask_98 : decode cX5_ask 98 = .ok (.iload_n 1, 1) := dk_27 (dk_at dksX5_ask_4 3 rfl rfl)
theorem dX5_ask_99 : decode cX5_ask 99 = .ok (.istore_n 1, 1) := dk_60 (dk_at dksX5_ask_4 4 rfl rfl)
theorem dX5_ask_100 : decode cX5_ask 100 = .ok (.iload 6, 2) := dk_21 6 (dk_at dksX5_ask_4 5 rfl rfl)
theorem dX5_ask_102 : decode cX5_ask 102 = .ok (.ifCond .eq 8, 3) := dk_153 0 8 (dk_at dksX5_ask_4 7 rfl rfl)
theorem dX5_ask_105 : decode cX5_ask 105 = .ok (.iload 5, 2) := dk_21 5 (dk_at dksX5_ask_4 10 rfl rfl)
theorem dX5_ask_107 : decode cX5_ask 107 = .ok (.goto 4, 3) := dk_167 0 4 (dk_at dksX5_ask_4 12 rfl rfl)
theorem dX5_ask_110 : decode cX5_ask 110 = .ok (.iload_n 2, 1) := dk_28 (dk_at dksX5_ask_4 15 rfl rfl)
theorem dX5_ask_111 : decode cX5_ask 111 = .ok (.istore_n 2, 1) := dk_61 (dk_at dksX5_ask_4 16 rfl rfl)
theorem dX5_ask_112 : decode cX5_ask 112 = .ok (.iinc 4 1, 3) := dk_132 4 1 (dk_at dksX5_ask_4 17 rfl rfl)
theorem dX5_ask_115 : decode cX5_ask 115 = .ok (.goto (-83), 3) := dk_167 255 173 (dk_at dksX5_ask_4 20 rfl rfl)
theorem dX5_ask_118 : decode cX5_ask 118 = .ok (.iinc 3 1, 3) := dk_132 3 1 (dk_at dksX5_ask_5 0 rfl rfl)
theorem dX5_ask_121 : decode cX5_ask 121 = .ok (.goto (-103), 3) := dk_167 255 153 (dk_at dksX5_ask_5 3 rfl rfl)
theorem dX5_ask_124 : decode cX5_ask 124 = .ok (.iload_n 1, 1) := dk_27 (dk_at dksX5_ask_5 6 rfl rfl)
theorem dX5_ask_125 : decode cX5_ask 125 = .ok (.ireturn, 1) := dk_172 (dk_at dksX5_ask_5 7 rfl rfl)
abbrev cX5_findPurses : ByteArray := prog_30_method_98_code
def yX5_findPurses : MethodName := ⟨RX5, "findPurses", "(I)V"⟩
def dkwX5_findPurses_3 : List UInt8 := [17, 6, 52, 29, 96, 46, 79, 132, 3, 1, 167, 255, 224, 132, 2, 1, 167, 255, 170, 177]
abbrev dktX5_findPurses_3 : List UInt8 := dkwX5_findPurses_3 ++ []
def dkwX5_findPurses_2 : List UInt8 := [3, 62, 29, 42, 182, 1, 35, 162, 0, 30, 42, 180, 0, 143, 16, 6, 28, 104, 29, 96, 42, 180, 0, 115]
abbrev dktX5_findPurses_2 : List UInt8 := dkwX5_findPurses_2 ++ dktX5_findPurses_3
def dkwX5_findPurses_1 : List UInt8 := [28, 182, 1, 131, 3, 62, 29, 27, 162, 0, 16, 42, 17, 6, 48, 182, 1, 146, 132, 3, 1, 167, 255, 241]
abbrev dktX5_findPurses_1 : List UInt8 := dkwX5_findPurses_1 ++ dktX5_findPurses_2
def dkwX5_findPurses_0 : List UInt8 := [3, 61, 28, 42, 180, 1, 57, 162, 0, 84, 42, 3, 17, 6, 48, 16, 46, 182, 1, 53, 42, 17, 6, 48]
abbrev dktX5_findPurses_0 : List UInt8 := dkwX5_findPurses_0 ++ dktX5_findPurses_1
theorem dksX5_findPurses_0 : cX5_findPurses.data.toList.drop 0 = dktX5_findPurses_0 := by decide +kernel
theorem dksX5_findPurses_1 : cX5_findPurses.data.toList.drop 24 = dktX5_findPurses_1 := dk_seg dksX5_findPurses_0 24 rfl rfl
theorem dksX5_findPurses_2 : cX5_findPurses.data.toList.drop 48 = dktX5_findPurses_2 := dk_seg dksX5_findPurses_1 24 rfl rfl
theorem dksX5_findPurses_3 : cX5_findPurses.data.toList.drop 72 = dktX5_findPurses_3 := dk_seg dksX5_findPurses_2 24 rfl rfl
theorem dX5_findPurses_0 : decode cX5_findPurses 0 = .ok (.iconst 0, 1) := dk_3 (dk_at dksX5_findPurses_0 0 rfl rfl)
theorem dX5_findPurses_1 : decode cX5_findPurses 1 = .ok (.istore_n 2, 1) := dk_61 (dk_at dksX5_findPurses_0 1 rfl rfl)
theorem dX5_findPurses_2 : decode cX5_findPurses 2 = .ok (.iload_n 2, 1) := dk_28 (dk_at dksX5_findPurses_0 2 rfl rfl)
theorem dX5_findPurses_3 : decode cX5_findPurses 3 = .ok (.aload_n 0, 1) := dk_42 (dk_at dksX5_findPurses_0 3 rfl rfl)
theorem dX5_findPurses_4 : decode cX5_findPurses 4 = .ok (.getfield 313, 3) := dk_180 1 57 (dk_at dksX5_findPurses_0 4 rfl rfl)
theorem dX5_findPurses_7 : decode cX5_findPurses 7 = .ok (.if_icmp .ge 84, 3) := dk_162 0 84 (dk_at dksX5_findPurses_0 7 rfl rfl)
theorem dX5_findPurses_10 : decode cX5_findPurses 10 = .ok (.aload_n 0, 1) := dk_42 (dk_at dksX5_findPurses_0 10 rfl rfl)
theorem dX5_findPurses_11 : decode cX5_findPurses 11 = .ok (.iconst 0, 1) := dk_3 (dk_at dksX5_findPurses_0 11 rfl rfl)
theorem dX5_findPurses_12 : decode cX5_findPurses 12 = .ok (.sipush 1584, 3) := dk_17 6 48 (dk_at dksX5_findPurses_0 12 rfl rfl)
theorem dX5_findPurses_15 : decode cX5_findPurses 15 = .ok (.bipush 46, 2) := dk_16 46 (dk_at dksX5_findPurses_0 15 rfl rfl)
theorem dX5_findPurses_17 : decode cX5_findPurses 17 = .ok (.invokevirtual 309, 3) := dk_182 1 53 (dk_at dksX5_findPurses_0 17 rfl rfl)
theorem dX5_findPurses_20 : decode cX5_findPurses 20 = .ok (.aload_n 0, 1) := dk_42 (dk_at dksX5_findPurses_0 20 rfl rfl)
theorem dX5_findPurses_21 : decode cX5_findPurses 21 = .ok (.sipush 1584, 3) := dk_17 6 48 (dk_at dksX5_findPurses_0 21 rfl rfl)
theorem dX5_findPurses_24 : decode cX5_findPurses 24 = .ok (.iload_n 2, 1) := dk_28 (dk_at dksX5_findPurses_1 0 rfl rfl)
theorem dX5_findPurses_25 : decode cX5_findPurses 25 = .ok (.invokevirtual 387, 3) := dk_182 1 131 (dk_at dksX5_findPurses_1 1 rfl rfl)
theorem dX5_findPurses_28 : decode cX5_findPurses 28 = .ok (.iconst 0, 1) := dk_3 (dk_at dksX5_findPurses_1 4 rfl rfl)
theorem dX5_findPurses_29 : decode cX5_findPurses 29 = .ok (.istore_n 3, 1) := dk_62 (dk_at dksX5_findPurses_1 5 rfl rfl)
theorem dX5_findPurses_30 : decode cX5_findPurses 30 = .ok (.iload_n 3, 1) := dk_29 (dk_at dksX5_findPurses_1 6 rfl rfl)
theorem dX5_findPurses_31 : decode cX5_findPurses 31 = .ok (.iload_n 1, 1) := dk_27 (dk_at dksX5_findPurses_1 7 rfl rfl)
theorem dX5_findPurses_32 : decode cX5_findPurses 32 = .ok (.if_icmp .ge 16, 3) := dk_162 0 16 (dk_at dksX5_findPurses_1 8 rfl rfl)
theorem dX5_findPurses_35 : decode cX5_findPurses 35 = .ok (.aload_n 0, 1) := dk_42 (dk_at dksX5_findPurses_1 11 rfl rfl)
theorem dX5_findPurses_36 : decode cX5_findPurses 36 = .ok (.sipush 1584, 3) := dk_17 6 48 (dk_at dksX5_findPurses_1 12 rfl rfl)
theorem dX5_findPurses_39 : decode cX5_findPurses 39 = .ok (.invokevirtual 402, 3) := dk_182 1 146 (dk_at dksX5_findPurses_1 15 rfl rfl)
theorem dX5_findPurses_42 : decode cX5_findPurses 42 = .ok (.iinc 3 1, 3) := dk_132 3 1 (dk_at dksX5_findPurses_1 18 rfl rfl)
theorem dX5_findPurses_45 : decode cX5_findPurses 45 = .ok (.goto (-15), 3) := dk_167 255 241 (dk_at dksX5_findPurses_1 21 rfl rfl)
theorem dX5_findPurses_48 : decode cX5_findPurses 48 = .ok (.iconst 0, 1) := dk_3 (dk_at dksX5_findPurses_2 0 rfl rfl)
theorem dX5_findPurses_49 : decode cX5_findPurses 49 = .ok (.istore_n 3, 1) := dk_62 (dk_at dksX5_findPurses_2 1 rfl rfl)
theorem dX5_findPurses_50 : decode cX5_findPurses 50 = .ok (.iload_n 3, 1) := dk_29 (dk_at dksX5_findPurses_2 2 rfl rfl)
theorem dX5_findPurses_51 : decode cX5_findPurses 51 = .ok (.aload_n 0, 1) := dk_42 (dk_at dksX5_findPurses_2 3 rfl rfl)
theorem dX5_findPurses_52 : decode cX5_findPurses 52 = .ok (.invokevirtual 291, 3) := dk_182 1 35 (dk_at dksX5_findPurses_2 4 rfl rfl)
theorem dX5_findPurses_55 : decode cX5_findPurses 55 = .ok (.if_icmp .ge 30, 3) := dk_162 0 30 (dk_at dksX5_findPurses_2 7 rfl rfl)
theorem dX5_findPurses_58 : decode cX5_findPurses 58 = .ok (.aload_n 0, 1) := dk_42 (dk_at dksX5_findPurses_2 10 rfl rfl)
theorem dX5_findPurses_59 : decode cX5_findPurses 59 = .ok (.getfield 143, 3) := dk_180 0 143 (dk_at dksX5_findPurses_2 11 rfl rfl)
theorem dX5_findPurses_62 : decode cX5_findPurses 62 = .ok (.bipush 6, 2) := dk_16 6 (dk_at dksX5_findPurses_2 14 rfl rfl)
theorem dX5_findPurses_64 : decode cX5_findPurses 64 = .ok (.iload_n 2, 1) := dk_28 (dk_at dksX5_findPurses_2 16 rfl rfl)
theorem dX5_findPurses_65 : decode cX5_findPurses 65 = .ok (.imul, 1) := dk_104 (dk_at dksX5_findPurses_2 17 rfl rfl)
theorem dX5_findPurses_66 : decode cX5_findPurses 66 = .ok (.iload_n 3, 1) := dk_29 (dk_at dksX5_findPurses_2 18 rfl rfl)
theorem dX5_findPurses_67 : decode cX5_findPurses 67 = .ok (.iadd, 1) := dk_96 (dk_at dksX5_findPurses_2 19 rfl rfl)
theorem dX5_findPurses_68 : decode cX5_findPurses 68 = .ok (.aload_n 0, 1) := dk_42 (dk_at dksX5_findPurses_2 20 rfl rfl)
theorem dX5_findPurses_69 : decode cX5_findPurses 69 = .ok (.getfield 115, 3) := dk_180 0 115 (dk_at dksX5_findPurses_2 21 rfl rfl)
theorem dX5_findPurses_72 : decode cX5_findPurses 72 = .ok (.sipush 1588, 3) := dk_17 6 52 (dk_at dksX5_findPurses_3 0 rfl rfl)
theorem dX5_findPurses_75 : decode cX5_findPurses 75 = .ok (.iload_n 3, 1) := dk_29 (dk_at dksX5_findPurses_3 3 rfl rfl)
theorem dX5_findPurses_76 : decode cX5_findPurses 76 = .ok (.iadd, 1) := dk_96 (dk_at dksX5_findPurses_3 4 rfl rfl)
theorem dX5_findPurses_77 : decode cX5_findPurses 77 = .ok (.iaload, 1) := dk_46 (dk_at dksX5_findPurses_3 5 rfl rfl)
theorem dX5_findPurses_78 : decode cX5_findPurses 78 = .ok (.iastore, 1) := dk_79 (dk_at dksX5_findPurses_3 6 rfl rfl)
theorem dX5_findPurses_79 : decode cX5_findPurses 79 = .ok (.iinc 3 1, 3) := dk_132 3 1 (dk_at dksX5_findPurses_3 7 rfl rfl)
theorem dX5_findPurses_82 : decode cX5_findPurses 82 = .ok (.goto (-32), 3) := dk_167 255 224 (dk_at dksX5_findPurses_3 10 rfl rfl)
theorem dX5_findPurses_85 : decode cX5_findPurses 85 = .ok (.iinc 2 1, 3) := dk_132 2 1 (dk_at dksX5_findPurses_3 13 rfl rfl)
theorem dX5_findPurses_88 : decode cX5_findPurses 88 = .ok (.goto (-86), 3) := dk_167 255 170 (dk_at dksX5_findPurses_3 16 rfl rfl)
theorem dX5_findPurses_91 : decode cX5_findPurses 91 = .ok (.return_, 1) := dk_177 (dk_at dksX5_findPurses_3 19 rfl rfl)
abbrev cX5_greatestAlike : ByteArray := prog_30_method_101_code
def yX5_greatestAlike : MethodName := ⟨RX5, "greatestAlike", "(I)I"⟩
def dkwX5_greatestAlike_4 : List UInt8 := [21, 4, 167, 0, 4, 28, 61, 132, 3, 1, 167, 255, 156, 28, 172]
abbrev dktX5_greatestAlike_4 : List UInt8 := dkwX5_greatestAlike_4 ++ []
def dkwX5_greatestAlike_3 : List UInt8 := [160, 0, 7, 4, 167, 0, 4, 3, 96, 54, 4, 132, 5, 1, 167, 255, 189, 21, 4, 28, 164, 0, 8]
abbrev dktX5_greatestAlike_3 : List UInt8 := dkwX5_greatestAlike_3 ++ dktX5_greatestAlike_4
def dkwX5_greatestAlike_2 : List UInt8 := [42, 180, 0, 143, 16, 6, 21, 5, 104, 27, 96, 46, 42, 180, 0, 143, 16, 6, 29, 104, 27, 96, 46]
abbrev dktX5_greatestAlike_2 : List UInt8 := dkwX5_greatestAlike_2 ++ dktX5_greatestAlike_3
def dkwX5_greatestAlike_1 : List UInt8 := [162, 0, 64, 42, 180, 0, 146, 29, 51, 153, 0, 55, 21, 4, 42, 180, 0, 146, 21, 5, 51, 153, 0, 33]
abbrev dktX5_greatestAlike_1 : List UInt8 := dkwX5_greatestAlike_1 ++ dktX5_greatestAlike_2
def dkwX5_greatestAlike_0 : List UInt8 := [3, 61, 3, 62, 29, 42, 180, 1, 57, 162, 0, 98, 3, 54, 4, 3, 54, 5, 21, 5, 42, 180, 1, 57]
abbrev dktX5_greatestAlike_0 : List UInt8 := dkwX5_greatestAlike_0 ++ dktX5_greatestAlike_1
theorem dksX5_greatestAlike_0 : cX5_greatestAlike.data.toList.drop 0 = dktX5_greatestAlike_0 := by decide +kernel
theorem dksX5_greatestAlike_1 : cX5_greatestAlike.data.toList.drop 24 = dktX5_greatestAlike_1 := dk_seg dksX5_greatestAlike_0 24 rfl rfl
theorem dksX5_greatestAlike_2 : cX5_greatestAlike.data.toList.drop 48 = dktX5_greatestAlike_2 := dk_seg dksX5_greatestAlike_1 24 rfl rfl
theorem dksX5_greatestAlike_3 : cX5_greatestAlike.data.toList.drop 71 = dktX5_greatestAlike_3 := dk_seg dksX5_greatestAlike_2 23 rfl rfl
theorem dksX5_greatestAlike_4 : cX5_greatestAlike.data.toList.drop 94 = dktX5_greatestAlike_4 := dk_seg dksX5_greatestAlike_3 23 rfl rfl
theorem dX5_greatestAlike_0 : decode cX5_greatestAlike 0 = .ok (.iconst 0, 1) := dk_3 (dk_at dksX5_greatestAlike_0 0 rfl rfl)
theorem dX5_greatestAlike_1 : decode cX5_greatestAlike 1 = .ok (.istore_n 2, 1) := dk_61 (dk_at dksX5_greatestAlike_0 1 rfl rfl)
theorem dX5_greatestAlike_2 : decode cX5_greatestAlike 2 = .ok (.iconst 0, 1) := dk_3 (dk_at dksX5_greatestAlike_0 2 rfl rfl)
theorem dX5_greatestAlike_3 : decode cX5_greatestAlike 3 = .ok (.istore_n 3, 1) := dk_62 (dk_at dksX5_greatestAlike_0 3 rfl rfl)
theorem dX5_greatestAlike_4 : decode cX5_greatestAlike 4 = .ok (.iload_n 3, 1) := dk_29 (dk_at dksX5_greatestAlike_0 4 rfl rfl)
theorem dX5_greatestAlike_5 : decode cX5_greatestAlike 5 = .ok (.aload_n 0, 1) := dk_42 (dk_at dksX5_greatestAlike_0 5 rfl rfl)
theorem dX5_greatestAlike_6 : decode cX5_greatestAlike 6 = .ok (.getfield 313, 3) := dk_180 1 57 (dk_at dksX5_greatestAlike_0 6 rfl rfl)
theorem dX5_greatestAlike_9 : decode cX5_greatestAlike 9 = .ok (.if_icmp .ge 98, 3) := dk_162 0 98 (dk_at dksX5_greatestAlike_0 9 rfl rfl)
theorem dX5_greatestAlike_12 : decode cX5_greatestAlike 12 = .ok (.iconst 0, 1) := dk_3 (dk_at dksX5_greatestAlike_0 12 rfl rfl)
theorem dX5_greatestAlike_13 : decode cX5_greatestAlike 13 = .ok (.istore 4, 2) := dk_54 4 (dk_at dksX5_greatestAlike_0 13 rfl rfl)
theorem dX5_greatestAlike_15 : decode cX5_greatestAlike 15 = .ok (.iconst 0, 1) := dk_3 (dk_at dksX5_greatestAlike_0 15 rfl rfl)
theorem dX5_greatestAlike_16 : decode cX5_greatestAlike 16 = .ok (.istore 5, 2) := dk_54 5 (dk_at dksX5_greatestAlike_0 16 rfl rfl)
theorem dX5_greatestAlike_18 : decode cX5_greatestAlike 18 = .ok (.iload 5, 2) := dk_21 5 (dk_at dksX5_greatestAlike_0 18 rfl rfl)
theorem dX5_greatestAlike_20 : decode cX5_greatestAlike 20 = .ok (.aload_n 0, 1) := dk_42 (dk_at dksX5_greatestAlike_0 20 rfl rfl)
theorem dX5_greatestAlike_21 : decode cX5_greatestAlike 21 = .ok (.getfield 313, 3) := dk_180 1 57 (dk_at dksX5_greatestAlike_0 21 rfl rfl)
theorem dX5_greatestAlike_24 : decode cX5_greatestAlike 24 = .ok (.if_icmp .ge 64, 3) := dk_162 0 64 (dk_at dksX5_greatestAlike_1 0 rfl rfl)
theorem dX5_greatestAlike_27 : decode cX5_greatestAlike 27 = .ok (.aload_n 0, 1) := dk_42 (dk_at dksX5_greatestAlike_1 3 rfl rfl)
theorem dX5_greatestAlike_28 : decode cX5_greatestAlike 28 = .ok (.getfield 146, 3) := dk_180 0 146 (dk_at dksX5_greatestAlike_1 4 rfl rfl)
theorem dX5_greatestAlike_31 : decode cX5_greatestAlike 31 = .ok (.iload_n 3, 1) := dk_29 (dk_at dksX5_greatestAlike_1 7 rfl rfl)
theorem dX5_greatestAlike_32 : decode cX5_greatestAlike 32 = .ok (.baload, 1) := dk_51 (dk_at dksX5_greatestAlike_1 8 rfl rfl)
theorem dX5_greatestAlike_33 : decode cX5_greatestAlike 33 = .ok (.ifCond .eq 55, 3) := dk_153 0 55 (dk_at dksX5_greatestAlike_1 9 rfl rfl)
theorem dX5_greatestAlike_36 : decode cX5_greatestAlike 36 = .ok (.iload 4, 2) := dk_21 4 (dk_at dksX5_greatestAlike_1 12 rfl rfl)
theorem dX5_greatestAlike_38 : decode cX5_greatestAlike 38 = .ok (.aload_n 0, 1) := dk_42 (dk_at dksX5_greatestAlike_1 14 rfl rfl)
theorem dX5_greatestAlike_39 : decode cX5_greatestAlike 39 = .ok (.getfield 146, 3) := dk_180 0 146 (dk_at dksX5_greatestAlike_1 15 rfl rfl)
theorem dX5_greatestAlike_42 : decode cX5_greatestAlike 42 = .ok (.iload 5, 2) := dk_21 5 (dk_at dksX5_greatestAlike_1 18 rfl rfl)
theorem dX5_greatestAlike_44 : decode cX5_greatestAlike 44 = .ok (.baload, 1) := dk_51 (dk_at dksX5_greatestAlike_1 20 rfl rfl)
theorem dX5_greatestAlike_45 : decode cX5_greatestAlike 45 = .ok (.ifCond .eq 33, 3) := dk_153 0 33 (dk_at dksX5_greatestAlike_1 21 rfl rfl)
theorem dX5_greatestAlike_48 : decode cX5_greatestAlike 48 = .ok (.aload_n 0, 1) := dk_42 (dk_at dksX5_greatestAlike_2 0 rfl rfl)
theorem dX5_greatestAlike_49 : decode cX5_greatestAlike 49 = .ok (.getfield 143, 3) := dk_180 0 143 (dk_at dksX5_greatestAlike_2 1 rfl rfl)
theorem dX5_greatestAlike_52 : decode cX5_greatestAlike 52 = .ok (.bipush 6, 2) := dk_16 6 (dk_at dksX5_greatestAlike_2 4 rfl rfl)
theorem dX5_greatestAlike_54 : decode cX5_greatestAlike 54 = .ok (.iload 5, 2) := dk_21 5 (dk_at dksX5_greatestAlike_2 6 rfl rfl)
theorem dX5_greatestAlike_56 : decode cX5_greatestAlike 56 = .ok (.imul, 1) := dk_104 (dk_at dksX5_greatestAlike_2 8 rfl rfl)
theorem dX5_greatestAlike_57 : decode cX5_greatestAlike 57 = .ok (.iload_n 1, 1) := dk_27 (dk_at dksX5_greatestAlike_2 9 rfl rfl)
theorem dX5_greatestAlike_58 : decode cX5_greatestAlike 58 = .ok (.iadd, 1) := dk_96 (dk_at dksX5_greatestAlike_2 10 rfl rfl)
theorem dX5_greatestAlike_59 : decode cX5_greatestAlike 59 = .ok (.iaload, 1) := dk_46 (dk_at dksX5_greatestAlike_2 11 rfl rfl)
theorem dX5_greatestAlike_60 : decode cX5_greatestAlike 60 = .ok (.aload_n 0, 1) := dk_42 (dk_at dksX5_greatestAlike_2 12 rfl rfl)
theorem dX5_greatestAlike_61 : decode cX5_greatestAlike 61 = .ok (.getfield 143, 3) := dk_180 0 143 (dk_at dksX5_greatestAlike_2 13 rfl rfl)
theorem dX5_greatestAlike_64 : decode cX5_greatestAlike 64 = .ok (.bipush 6, 2) := dk_16 6 (dk_at dksX5_greatestAlike_2 16 rfl rfl)
theorem dX5_greatestAlike_66 : decode cX5_greatestAlike 66 = .ok (.iload_n 3, 1) := dk_29 (dk_at dksX5_greatestAlike_2 18 rfl rfl)
theorem dX5_greatestAlike_67 : decode cX5_greatestAlike 67 = .ok (.imul, 1) := dk_104 (dk_at dksX5_greatestAlike_2 19 rfl rfl)
theorem dX5_greatestAlike_68 : decode cX5_greatestAlike 68 = .ok (.iload_n 1, 1) := dk_27 (dk_at dksX5_greatestAlike_2 20 rfl rfl)
theorem dX5_greatestAlike_69 : decode cX5_greatestAlike 69 = .ok (.iadd, 1) := dk_96 (dk_at dksX5_greatestAlike_2 21 rfl rfl)
theorem dX5_greatestAlike_70 : decode cX5_greatestAlike 70 = .ok (.iaload, 1) := dk_46 (dk_at dksX5_greatestAlike_2 22 rfl rfl)
theorem dX5_greatestAlike_71 : decode cX5_greatestAlike 71 = .ok (.if_icmp .ne 7, 3) := dk_160 0 7 (dk_at dksX5_greatestAlike_3 0 rfl rfl)
theorem dX5_greatestAlike_74 : decode cX5_greatestAlike 74 = .ok (.iconst 1, 1) := dk_4 (dk_at dksX5_greatestAlike_3 3 rfl rfl)
theorem dX5_greatestAlike_75 : decode cX5_greatestAlike 75 = .ok (.goto 4, 3) := dk_167 0 4 (dk_at dksX5_greatestAlike_3 4 rfl rfl)
theorem dX5_greatestAlike_78 : decode cX5_greatestAlike 78 = .ok (.iconst 0, 1) := dk_3 (dk_at dksX5_greatestAlike_3 7 rfl rfl)
theorem dX5_greatestAlike_79 : decode cX5_greatestAlike 79 = .ok (.iadd, 1) := dk_96 (dk_at dksX5_greatestAlike_3 8 rfl rfl)
theorem dX5_greatestAlike_80 : decode cX5_greatestAlike 80 = .ok (.istore 4, 2) := dk_54 4 (dk_at dksX5_greatestAlike_3 9 rfl rfl)
theorem dX5_greatestAlike_82 : decode cX5_greatestAlike 82 = .ok (.iinc 5 1, 3) := dk_132 5 1 (dk_at dksX5_greatestAlike_3 11 rfl rfl)
theorem dX5_greatestAlike_85 : decode cX5_greatestAlike 85 = .ok (.goto (-67), 3) := dk_167 255 189 (dk_at dksX5_greatestAlike_3 14 rfl rfl)
theorem dX5_greatestAlike_88 : decode cX5_greatestAlike 88 = .ok (.iload 4, 2) := dk_21 4 (dk_at dksX5_greatestAlike_3 17 rfl rfl)
theorem dX5_greatestAlike_90 : decode cX5_greatestAlike 90 = .ok (.iload_n 2, 1) := dk_28 (dk_at dksX5_greatestAlike_3 19 rfl rfl)
theorem dX5_greatestAlike_91 : decode cX5_greatestAlike 91 = .ok (.if_icmp .le 8, 3) := dk_164 0 8 (dk_at dksX5_greatestAlike_3 20 rfl rfl)
theorem dX5_greatestAlike_94 : decode cX5_greatestAlike 94 = .ok (.iload 4, 2) := dk_21 4 (dk_at dksX5_greatestAlike_4 0 rfl rfl)
theorem dX5_greatestAlike_96 : decode cX5_greatestAlike 96 = .ok (.goto 4, 3) := dk_167 0 4 (dk_at dksX5_greatestAlike_4 2 rfl rfl)
theorem dX5_greatestAlike_99 : decode cX5_greatestAlike 99 = .ok (.iload_n 2, 1) := dk_28 (dk_at dksX5_greatestAlike_4 5 rfl rfl)
theorem dX5_greatestAlike_100 : decode cX5_greatestAlike 100 = .ok (.istore_n 2, 1) := dk_61 (dk_at dksX5_greatestAlike_4 6 rfl rfl)
theorem dX5_greatestAlike_101 : decode cX5_greatestAlike 101 = .ok (.iinc 3 1, 3) := dk_132 3 1 (dk_at dksX5_greatestAlike_4 7 rfl rfl)
theorem dX5_greatestAlike_104 : decode cX5_greatestAlike 104 = .ok (.goto (-100), 3) := dk_167 255 156 (dk_at dksX5_greatestAlike_4 10 rfl rfl)
theorem dX5_greatestAlike_107 : decode cX5_greatestAlike 107 = .ok (.iload_n 2, 1) := dk_28 (dk_at dksX5_greatestAlike_4 13 rfl rfl)
theorem dX5_greatestAlike_108 : decode cX5_greatestAlike 108 = .ok (.ireturn, 1) := dk_172 (dk_at dksX5_greatestAlike_4 14 rfl rfl)
abbrev cX5_rests : ByteArray := prog_30_method_104_code
def yX5_rests : MethodName := ⟨RX5, "rests", "(IIII)I"⟩
def dkwX5_rests_10 : List UInt8 := [158, 0, 7, 3, 167, 0, 15, 21, 4, 156, 0, 8, 21, 6, 167, 0, 5, 21, 7, 172]
abbrev dktX5_rests_10 : List UInt8 := dkwX5_rests_10 ++ []
def dkwX5_rests_9 : List UInt8 := [21, 4, 155, 0, 8, 21, 7, 155, 0, 7, 3, 167, 0, 4, 4, 181, 0, 1, 42, 180, 0, 1]
abbrev dktX5_rests_9 : List UInt8 := dkwX5_rests_9 ++ dktX5_rests_10
def dkwX5_rests_8 : List UInt8 := [153, 0, 7, 4, 167, 0, 4, 3, 96, 54, 6, 132, 8, 1, 167, 255, 108, 42, 21, 5, 153, 0, 17]
abbrev dktX5_rests_8 : List UInt8 := dkwX5_rests_8 ++ dktX5_rests_9
def dkwX5_rests_7 : List UInt8 := [21, 4, 160, 0, 14, 16, 10, 21, 9, 104, 21, 10, 96, 167, 0, 5, 21, 7, 54, 7, 21, 6, 21, 11]
abbrev dktX5_rests_7 : List UInt8 := dkwX5_rests_7 ++ dktX5_rests_8
def dkwX5_rests_6 : List UInt8 := [163, 0, 7, 4, 167, 0, 4, 3, 54, 11, 132, 12, 1, 167, 255, 188, 21, 11, 153, 0, 21, 21, 6]
abbrev dktX5_rests_6 : List UInt8 := dkwX5_rests_6 ++ dktX5_rests_7
def dkwX5_rests_5 : List UInt8 := [163, 0, 30, 27, 28, 29, 21, 12, 21, 9, 184, 1, 206, 27, 28, 29, 21, 10, 21, 9, 184, 1, 206]
abbrev dktX5_rests_5 : List UInt8 := dkwX5_rests_5 ++ dktX5_rests_6
def dkwX5_rests_4 : List UInt8 := [153, 0, 53, 27, 28, 29, 21, 12, 21, 10, 184, 1, 206, 27, 28, 29, 21, 9, 21, 10, 184, 1, 206]
abbrev dktX5_rests_4 : List UInt8 := dkwX5_rests_4 ++ dktX5_rests_5
def dkwX5_rests_3 : List UInt8 := [21, 8, 16, 6, 112, 54, 10, 4, 54, 11, 3, 54, 12, 21, 12, 16, 6, 162, 0, 67, 21, 11]
abbrev dktX5_rests_3 : List UInt8 := dkwX5_rests_3 ++ dktX5_rests_4
def dkwX5_rests_2 : List UInt8 := [54, 7, 3, 54, 8, 21, 8, 16, 36, 162, 0, 147, 21, 5, 153, 0, 142, 21, 8, 16, 6, 108, 54, 9]
abbrev dktX5_rests_2 : List UInt8 := dkwX5_rests_2 ++ dktX5_rests_3
def dkwX5_rests_1 : List UInt8 := [184, 1, 103, 153, 0, 13, 21, 4, 2, 161, 0, 7, 4, 167, 0, 4, 3, 54, 5, 3, 54, 6, 2]
abbrev dktX5_rests_1 : List UInt8 := dkwX5_rests_1 ++ dktX5_rests_2
def dkwX5_rests_0 : List UInt8 := [27, 3, 16, 9, 184, 1, 103, 153, 0, 33, 28, 3, 16, 9, 184, 1, 103, 153, 0, 23, 29, 3, 16, 9]
abbrev dktX5_rests_0 : List UInt8 := dkwX5_rests_0 ++ dktX5_rests_1
theorem dksX5_rests_0 : cX5_rests.data.toList.drop 0 = dktX5_rests_0 := by decide +kernel
theorem dksX5_rests_1 : cX5_rests.data.toList.drop 24 = dktX5_rests_1 := dk_seg dksX5_rests_0 24 rfl rfl
theorem dksX5_rests_2 : cX5_rests.data.toList.drop 47 = dktX5_rests_2 := dk_seg dksX5_rests_1 23 rfl rfl
theorem dksX5_rests_3 : cX5_rests.data.toList.drop 71 = dktX5_rests_3 := dk_seg dksX5_rests_2 24 rfl rfl
theorem dksX5_rests_4 : cX5_rests.data.toList.drop 93 = dktX5_rests_4 := dk_seg dksX5_rests_3 22 rfl rfl
theorem dksX5_rests_5 : cX5_rests.data.toList.drop 116 = dktX5_rests_5 := dk_seg dksX5_rests_4 23 rfl rfl
theorem dksX5_rests_6 : cX5_rests.data.toList.drop 139 = dktX5_rests_6 := dk_seg dksX5_rests_5 23 rfl rfl
theorem dksX5_rests_7 : cX5_rests.data.toList.drop 162 = dktX5_rests_7 := dk_seg dksX5_rests_6 23 rfl rfl
theorem dksX5_rests_8 : cX5_rests.data.toList.drop 186 = dktX5_rests_8 := dk_seg dksX5_rests_7 24 rfl rfl
theorem dksX5_rests_9 : cX5_rests.data.toList.drop 209 = dktX5_rests_9 := dk_seg dksX5_rests_8 23 rfl rfl
theorem dksX5_rests_10 : cX5_rests.data.toList.drop 231 = dktX5_rests_10 := dk_seg dksX5_rests_9 22 rfl rfl
theorem dX5_rests_0 : decode cX5_rests 0 = .ok (.iload_n 1, 1) := dk_27 (dk_at dksX5_rests_0 0 rfl rfl)
theorem dX5_rests_1 : decode cX5_rests 1 = .ok (.iconst 0, 1) := dk_3 (dk_at dksX5_rests_0 1 rfl rfl)
theorem dX5_rests_2 : decode cX5_rests 2 = .ok (.bipush 9, 2) := dk_16 9 (dk_at dksX5_rests_0 2 rfl rfl)
theorem dX5_rests_4 : decode cX5_rests 4 = .ok (.invokestatic 359, 3) := dk_184 1 103 (dk_at dksX5_rests_0 4 rfl rfl)
theorem dX5_rests_7 : decode cX5_rests 7 = .ok (.ifCond .eq 33, 3) := dk_153 0 33 (dk_at dksX5_rests_0 7 rfl rfl)
theorem dX5_rests_10 : decode cX5_rests 10 = .ok (.iload_n 2, 1) := dk_28 (dk_at dksX5_rests_0 10 rfl rfl)
theorem dX5_rests_11 : decode cX5_rests 11 = .ok (.iconst 0, 1) := dk_3 (dk_at dksX5_rests_0 11 rfl rfl)
theorem dX5_rests_12 : decode cX5_rests 12 = .ok (.bipush 9, 2) := dk_16 9 (dk_at dksX5_rests_0 12 rfl rfl)
theorem dX5_rests_14 : decode cX5_rests 14 = .ok (.invokestatic 359, 3) := dk_184 1 103 (dk_at dksX5_rests_0 14 rfl rfl)
theorem dX5_rests_17 : decode cX5_rests 17 = .ok (.ifCond .eq 23, 3) := dk_153 0 23 (dk_at dksX5_rests_0 17 rfl rfl)
theorem dX5_rests_20 : decode cX5_rests 20 = .ok (.iload_n 3, 1) := dk_29 (dk_at dksX5_rests_0 20 rfl rfl)
theorem dX5_rests_21 : decode cX5_rests 21 = .ok (.iconst 0, 1) := dk_3 (dk_at dksX5_rests_0 21 rfl rfl)
theorem dX5_rests_22 : decode cX5_rests 22 = .ok (.bipush 9, 2) := dk_16 9 (dk_at dksX5_rests_0 22 rfl rfl)
theorem dX5_rests_24 : decode cX5_rests 24 = .ok (.invokestatic 359, 3) := dk_184 1 103 (dk_at dksX5_rests_1 0 rfl rfl)
theorem dX5_rests_27 : decode cX5_rests 27 = .ok (.ifCond .eq 13, 3) := dk_153 0 13 (dk_at dksX5_rests_1 3 rfl rfl)
theorem dX5_rests_30 : decode cX5_rests 30 = .ok (.iload 4, 2) := dk_21 4 (dk_at dksX5_rests_1 6 rfl rfl)
theorem dX5_rests_32 : decode cX5_rests 32 = .ok (.iconst (-1), 1) := dk_2 (dk_at dksX5_rests_1 8 rfl rfl)
theorem dX5_rests_33 : decode cX5_rests 33 = .ok (.if_icmp .lt 7, 3) := dk_161 0 7 (dk_at dksX5_rests_1 9 rfl rfl)
theorem dX5_rests_36 : decode cX5_rests 36 = .ok (.iconst 1, 1) := dk_4 (dk_at dksX5_rests_1 12 rfl rfl)
theorem dX5_rests_37 : decode cX5_rests 37 = .ok (.goto 4, 3) := dk_167 0 4 (dk_at dksX5_rests_1 13 rfl rfl)
theorem dX5_rests_40 : decode cX5_rests 40 = .ok (.iconst 0, 1) := dk_3 (dk_at dksX5_rests_1 16 rfl rfl)
theorem dX5_rests_41 : decode cX5_rests 41 = .ok (.istore 5, 2) := dk_54 5 (dk_at dksX5_rests_1 17 rfl rfl)
theorem dX5_rests_43 : decode cX5_rests 43 = .ok (.iconst 0, 1) := dk_3 (dk_at dksX5_rests_1 19 rfl rfl)
theorem dX5_rests_44 : decode cX5_rests 44 = .ok (.istore 6, 2) := dk_54 6 (dk_at dksX5_rests_1 20 rfl rfl)
theorem dX5_rests_46 : decode cX5_rests 46 = .ok (.iconst (-1), 1) := dk_2 (dk_at dksX5_rests_1 22 rfl rfl)
theorem dX5_rests_47 : decode cX5_rests 47 = .ok (.istore 7, 2) := dk_54 7 (dk_at dksX5_rests_2 0 rfl rfl)
theorem dX5_rests_49 : decode cX5_rests 49 = .ok (.iconst 0, 1) := dk_3 (dk_at dksX5_rests_2 2 rfl rfl)
theorem dX5_rests_50 : decode cX5_rests 50 = .ok (.istore 8, 2) := dk_54 8 (dk_at dksX5_rests_2 3 rfl rfl)
theorem dX5_rests_52 : decode cX5_rests 52 = .ok (.iload 8, 2) := dk_21 8 (dk_at dksX5_rests_2 5 rfl rfl)
theorem dX5_rests_54 : decode cX5_rests 54 = .ok (.bipush 36, 2) := dk_16 36 (dk_at dksX5_rests_2 7 rfl rfl)
theorem dX5_rests_56 : decode cX5_rests 56 = .ok (.if_icmp .ge 147, 3) := dk_162 0 147 (dk_at dksX5_rests_2 9 rfl rfl)
theorem dX5_rests_59 : decode cX5_rests 59 = .ok (.iload 5, 2) := dk_21 5 (dk_at dksX5_rests_2 12 rfl rfl)
theorem dX5_rests_61 : decode cX5_rests 61 = .ok (.ifCond .eq 142, 3) := dk_153 0 142 (dk_at dksX5_rests_2 14 rfl rfl)
theorem dX5_rests_64 : decode cX5_rests 64 = .ok (.iload 8, 2) := dk_21 8 (dk_at dksX5_rests_2 17 rfl rfl)
theorem dX5_rests_66 : decode cX5_rests 66 = .ok (.bipush 6, 2) := dk_16 6 (dk_at dksX5_rests_2 19 rfl rfl)
theorem dX5_rests_68 : decode cX5_rests 68 = .ok (.idiv, 1) := dk_108 (dk_at dksX5_rests_2 21 rfl rfl)
theorem dX5_rests_69 : decode cX5_rests 69 = .ok (.istore 9, 2) := dk_54 9 (dk_at dksX5_rests_2 22 rfl rfl)
theorem dX5_rests_71 : decode cX5_rests 71 = .ok (.iload 8, 2) := dk_21 8 (dk_at dksX5_rests_3 0 rfl rfl)
theorem dX5_rests_73 : decode cX5_rests 73 = .ok (.bipush 6, 2) := dk_16 6 (dk_at dksX5_rests_3 2 rfl rfl)
theorem dX5_rests_75 : decode cX5_rests 75 = .ok (.irem, 1) := dk_112 (dk_at dksX5_rests_3 4 rfl rfl)
theorem dX5_rests_76 : decode cX5_rests 76 = .ok (.istore 10, 2) := dk_54 10 (dk_at dksX5_rests_3 5 rfl rfl)
theorem dX5_rests_78 : decode cX5_rests 78 = .ok (.iconst 1, 1) := dk_4 (dk_at dksX5_rests_3 7 rfl rfl)
theorem dX5_rests_79 : decode cX5_rests 79 = .ok (.istore 11, 2) := dk_54 11 (dk_at dksX5_rests_3 8 rfl rfl)
theorem dX5_rests_81 : decode cX5_rests 81 = .ok (.iconst 0, 1) := dk_3 (dk_at dksX5_rests_3 10 rfl rfl)
theorem dX5_rests_82 : decode cX5_rests 82 = .ok (.istore 12, 2) := dk_54 12 (dk_at dksX5_rests_3 11 rfl rfl)
theorem dX5_rests_84 : decode cX5_rests 84 = .ok (.iload 12, 2) := dk_21 12 (dk_at dksX5_rests_3 13 rfl rfl)
theorem dX5_rests_86 : decode cX5_rests 86 = .ok (.bipush 6, 2) := dk_16 6 (dk_at dksX5_rests_3 15 rfl rfl)
theorem dX5_rests_88 : decode cX5_rests 88 = .ok (.if_icmp .ge 67, 3) := dk_162 0 67 (dk_at dksX5_rests_3 17 rfl rfl)
theorem dX5_rests_91 : decode cX5_rests 91 = .ok (.iload 11, 2) := dk_21 11 (dk_at dksX5_rests_3 20 rfl rfl)
theorem dX5_rests_93 : decode cX5_rests 93 = .ok (.ifCond .eq 53, 3) := dk_153 0 53 (dk_at dksX5_rests_4 0 rfl rfl)
theorem dX5_rests_96 : decode cX5_rests 96 = .ok (.iload_n 1, 1) := dk_27 (dk_at dksX5_rests_4 3 rfl rfl)
theorem dX5_rests_97 : decode cX5_rests 97 = .ok (.iload_n 2, 1) := dk_28 (dk_at dksX5_rests_4 4 rfl rfl)
theorem dX5_rests_98 : decode cX5_rests 98 = .ok (.iload_n 3, 1) := dk_29 (dk_at dksX5_rests_4 5 rfl rfl)
theorem dX5_rests_99 : decode cX5_rests 99 = .ok (.iload 12, 2) := dk_21 12 (dk_at dksX5_rests_4 6 rfl rfl)
theorem dX5_rests_101 : decode cX5_rests 101 = .ok (.iload 10, 2) := dk_21 10 (dk_at dksX5_rests_4 8 rfl rfl)
theorem dX5_rests_103 : decode cX5_rests 103 = .ok (.invokestatic 462, 3) := dk_184 1 206 (dk_at dksX5_rests_4 10 rfl rfl)
theorem dX5_rests_106 : decode cX5_rests 106 = .ok (.iload_n 1, 1) := dk_27 (dk_at dksX5_rests_4 13 rfl rfl)
theorem dX5_rests_107 : decode cX5_rests 107 = .ok (.iload_n 2, 1) := dk_28 (dk_at dksX5_rests_4 14 rfl rfl)
theorem dX5_rests_108 : decode cX5_rests 108 = .ok (.iload_n 3, 1) := dk_29 (dk_at dksX5_rests_4 15 rfl rfl)
theorem dX5_rests_109 : decode cX5_rests 109 = .ok (.iload 9, 2) := dk_21 9 (dk_at dksX5_rests_4 16 rfl rfl)
theorem dX5_rests_111 : decode cX5_rests 111 = .ok (.iload 10, 2) := dk_21 10 (dk_at dksX5_rests_4 18 rfl rfl)
theorem dX5_rests_113 : decode cX5_rests 113 = .ok (.invokestatic 462, 3) := dk_184 1 206 (dk_at dksX5_rests_4 20 rfl rfl)
theorem dX5_rests_116 : decode cX5_rests 116 = .ok (.if_icmp .gt 30, 3) := dk_163 0 30 (dk_at dksX5_rests_5 0 rfl rfl)
theorem dX5_rests_119 : decode cX5_rests 119 = .ok (.iload_n 1, 1) := dk_27 (dk_at dksX5_rests_5 3 rfl rfl)
theorem dX5_rests_120 : decode cX5_rests 120 = .ok (.iload_n 2, 1) := dk_28 (dk_at dksX5_rests_5 4 rfl rfl)
theorem dX5_rests_121 : decode cX5_rests 121 = .ok (.iload_n 3, 1) := dk_29 (dk_at dksX5_rests_5 5 rfl rfl)
theorem dX5_rests_122 : decode cX5_rests 122 = .ok (.iload 12, 2) := dk_21 12 (dk_at dksX5_rests_5 6 rfl rfl)
theorem dX5_rests_124 : decode cX5_rests 124 = .ok (.iload 9, 2) := dk_21 9 (dk_at dksX5_rests_5 8 rfl rfl)
theorem dX5_rests_126 : decode cX5_rests 126 = .ok (.invokestatic 462, 3) := dk_184 1 206 (dk_at dksX5_rests_5 10 rfl rfl)
theorem dX5_rests_129 : decode cX5_rests 129 = .ok (.iload_n 1, 1) := dk_27 (dk_at dksX5_rests_5 13 rfl rfl)
theorem dX5_rests_130 : decode cX5_rests 130 = .ok (.iload_n 2, 1) := dk_28 (dk_at dksX5_rests_5 14 rfl rfl)
theorem dX5_rests_131 : decode cX5_rests 131 = .ok (.iload_n 3, 1) := dk_29 (dk_at dksX5_rests_5 15 rfl rfl)
theorem dX5_rests_132 : decode cX5_rests 132 = .ok (.iload 10, 2) := dk_21 10 (dk_at dksX5_rests_5 16 rfl rfl)
theorem dX5_rests_134 : decode cX5_rests 134 = .ok (.iload 9, 2) := dk_21 9 (dk_at dksX5_rests_5 18 rfl rfl)
theorem dX5_rests_136 : decode cX5_rests 136 = .ok (.invokestatic 462, 3) := dk_184 1 206 (dk_at dksX5_rests_5 20 rfl rfl)
theorem dX5_rests_139 : decode cX5_rests 139 = .ok (.if_icmp .gt 7, 3) := dk_163 0 7 (dk_at dksX5_rests_6 0 rfl rfl)
theorem dX5_rests_142 : decode cX5_rests 142 = .ok (.iconst 1, 1) := dk_4 (dk_at dksX5_rests_6 3 rfl rfl)
theorem dX5_rests_143 : decode cX5_rests 143 = .ok (.goto 4, 3) := dk_167 0 4 (dk_at dksX5_rests_6 4 rfl rfl)
theorem dX5_rests_146 : decode cX5_rests 146 = .ok (.iconst 0, 1) := dk_3 (dk_at dksX5_rests_6 7 rfl rfl)
theorem dX5_rests_147 : decode cX5_rests 147 = .ok (.istore 11, 2) := dk_54 11 (dk_at dksX5_rests_6 8 rfl rfl)
theorem dX5_rests_149 : decode cX5_rests 149 = .ok (.iinc 12 1, 3) := dk_132 12 1 (dk_at dksX5_rests_6 10 rfl rfl)
theorem dX5_rests_152 : decode cX5_rests 152 = .ok (.goto (-68), 3) := dk_167 255 188 (dk_at dksX5_rests_6 13 rfl rfl)
theorem dX5_rests_155 : decode cX5_rests 155 = .ok (.iload 11, 2) := dk_21 11 (dk_at dksX5_rests_6 16 rfl rfl)
theorem dX5_rests_157 : decode cX5_rests 157 = .ok (.ifCond .eq 21, 3) := dk_153 0 21 (dk_at dksX5_rests_6 18 rfl rfl)
theorem dX5_rests_160 : decode cX5_rests 160 = .ok (.iload 6, 2) := dk_21 6 (dk_at dksX5_rests_6 21 rfl rfl)
theorem dX5_rests_162 : decode cX5_rests 162 = .ok (.iload 4, 2) := dk_21 4 (dk_at dksX5_rests_7 0 rfl rfl)
theorem dX5_rests_164 : decode cX5_rests 164 = .ok (.if_icmp .ne 14, 3) := dk_160 0 14 (dk_at dksX5_rests_7 2 rfl rfl)
theorem dX5_rests_167 : decode cX5_rests 167 = .ok (.bipush 10, 2) := dk_16 10 (dk_at dksX5_rests_7 5 rfl rfl)
theorem dX5_rests_169 : decode cX5_rests 169 = .ok (.iload 9, 2) := dk_21 9 (dk_at dksX5_rests_7 7 rfl rfl)
theorem dX5_rests_171 : decode cX5_rests 171 = .ok (.imul, 1) := dk_104 (dk_at dksX5_rests_7 9 rfl rfl)
theorem dX5_rests_172 : decode cX5_rests 172 = .ok (.iload 10, 2) := dk_21 10 (dk_at dksX5_rests_7 10 rfl rfl)
theorem dX5_rests_174 : decode cX5_rests 174 = .ok (.iadd, 1) := dk_96 (dk_at dksX5_rests_7 12 rfl rfl)
theorem dX5_rests_175 : decode cX5_rests 175 = .ok (.goto 5, 3) := dk_167 0 5 (dk_at dksX5_rests_7 13 rfl rfl)
theorem dX5_rests_178 : decode cX5_rests 178 = .ok (.iload 7, 2) := dk_21 7 (dk_at dksX5_rests_7 16 rfl rfl)
theorem dX5_rests_180 : decode cX5_rests 180 = .ok (.istore 7, 2) := dk_54 7 (dk_at dksX5_rests_7 18 rfl rfl)
theorem dX5_rests_182 : decode cX5_rests 182 = .ok (.iload 6, 2) := dk_21 6 (dk_at dksX5_rests_7 20 rfl rfl)
theorem dX5_rests_184 : decode cX5_rests 184 = .ok (.iload 11, 2) := dk_21 11 (dk_at dksX5_rests_7 22 rfl rfl)
theorem dX5_rests_186 : decode cX5_rests 186 = .ok (.ifCond .eq 7, 3) := dk_153 0 7 (dk_at dksX5_rests_8 0 rfl rfl)
theorem dX5_rests_189 : decode cX5_rests 189 = .ok (.iconst 1, 1) := dk_4 (dk_at dksX5_rests_8 3 rfl rfl)
theorem dX5_rests_190 : decode cX5_rests 190 = .ok (.goto 4, 3) := dk_167 0 4 (dk_at dksX5_rests_8 4 rfl rfl)
theorem dX5_rests_193 : decode cX5_rests 193 = .ok (.iconst 0, 1) := dk_3 (dk_at dksX5_rests_8 7 rfl rfl)
theorem dX5_rests_194 : decode cX5_rests 194 = .ok (.iadd, 1) := dk_96 (dk_at dksX5_rests_8 8 rfl rfl)
theorem dX5_rests_195 : decode cX5_rests 195 = .ok (.istore 6, 2) := dk_54 6 (dk_at dksX5_rests_8 9 rfl rfl)
theorem dX5_rests_197 : decode cX5_rests 197 = .ok (.iinc 8 1, 3) := dk_132 8 1 (dk_at dksX5_rests_8 11 rfl rfl)
theorem dX5_rests_200 : decode cX5_rests 200 = .ok (.goto (-148), 3) := dk_167 255 108 (dk_at dksX5_rests_8 14 rfl rfl)
theorem dX5_rests_203 : decode cX5_rests 203 = .ok (.aload_n 0, 1) := dk_42 (dk_at dksX5_rests_8 17 rfl rfl)
theorem dX5_rests_204 : decode cX5_rests 204 = .ok (.iload 5, 2) := dk_21 5 (dk_at dksX5_rests_8 18 rfl rfl)
theorem dX5_rests_206 : decode cX5_rests 206 = .ok (.ifCond .eq 17, 3) := dk_153 0 17 (dk_at dksX5_rests_8 20 rfl rfl)
theorem dX5_rests_209 : decode cX5_rests 209 = .ok (.iload 4, 2) := dk_21 4 (dk_at dksX5_rests_9 0 rfl rfl)
theorem dX5_rests_211 : decode cX5_rests 211 = .ok (.ifCond .lt 8, 3) := dk_155 0 8 (dk_at dksX5_rests_9 2 rfl rfl)
theorem dX5_rests_214 : decode cX5_rests 214 = .ok (.iload 7, 2) := dk_21 7 (dk_at dksX5_rests_9 5 rfl rfl)
theorem dX5_rests_216 : decode cX5_rests 216 = .ok (.ifCond .lt 7, 3) := dk_155 0 7 (dk_at dksX5_rests_9 7 rfl rfl)
theorem dX5_rests_219 : decode cX5_rests 219 = .ok (.iconst 0, 1) := dk_3 (dk_at dksX5_rests_9 10 rfl rfl)
theorem dX5_rests_220 : decode cX5_rests 220 = .ok (.goto 4, 3) := dk_167 0 4 (dk_at dksX5_rests_9 11 rfl rfl)
theorem dX5_rests_223 : decode cX5_rests 223 = .ok (.iconst 1, 1) := dk_4 (dk_at dksX5_rests_9 14 rfl rfl)
theorem dX5_rests_224 : decode cX5_rests 224 = .ok (.putfield 1, 3) := dk_181 0 1 (dk_at dksX5_rests_9 15 rfl rfl)
theorem dX5_rests_227 : decode cX5_rests 227 = .ok (.aload_n 0, 1) := dk_42 (dk_at dksX5_rests_9 18 rfl rfl)
theorem dX5_rests_228 : decode cX5_rests 228 = .ok (.getfield 1, 3) := dk_180 0 1 (dk_at dksX5_rests_9 19 rfl rfl)
theorem dX5_rests_231 : decode cX5_rests 231 = .ok (.ifCond .le 7, 3) := dk_158 0 7 (dk_at dksX5_rests_10 0 rfl rfl)
theorem dX5_rests_234 : decode cX5_rests 234 = .ok (.iconst 0, 1) := dk_3 (dk_at dksX5_rests_10 3 rfl rfl)
theorem dX5_rests_235 : decode cX5_rests 235 = .ok (.goto 15, 3) := dk_167 0 15 (dk_at dksX5_rests_10 4 rfl rfl)
theorem dX5_rests_238 : decode cX5_rests 238 = .ok (.iload 4, 2) := dk_21 4 (dk_at dksX5_rests_10 7 rfl rfl)
theorem dX5_rests_240 : decode cX5_rests 240 = .ok (.ifCond .ge 8, 3) := dk_156 0 8 (dk_at dksX5_rests_10 9 rfl rfl)
theorem dX5_rests_243 : decode cX5_rests 243 = .ok (.iload 6, 2) := dk_21 6 (dk_at dksX5_rests_10 12 rfl rfl)
theorem dX5_rests_245 : decode cX5_rests 245 = .ok (.goto 5, 3) := dk_167 0 5 (dk_at dksX5_rests_10 14 rfl rfl)
theorem dX5_rests_248 : decode cX5_rests 248 = .ok (.iload 7, 2) := dk_21 7 (dk_at dksX5_rests_10 17 rfl rfl)
theorem dX5_rests_250 : decode cX5_rests 250 = .ok (.ireturn, 1) := dk_172 (dk_at dksX5_rests_10 19 rfl rfl)
abbrev cX5_caresFor : ByteArray := prog_30_method_103_code
def yX5_caresFor : MethodName := ⟨RX5, "caresFor", "(IIIII)I"⟩
def dkwX5_caresFor_1 : List UInt8 := [100, 172]
abbrev dktX5_caresFor_1 : List UInt8 := dkwX5_caresFor_1 ++ []
def dkwX5_caresFor_0 : List UInt8 := [26, 21, 4, 104, 27, 29, 21, 4, 162, 0, 7, 29, 167, 0, 5, 21, 4, 104, 96, 28, 29, 104, 29, 104]
abbrev dktX5_caresFor_0 : List UInt8 := dkwX5_caresFor_0 ++ dktX5_caresFor_1
theorem dksX5_caresFor_0 : cX5_caresFor.data.toList.drop 0 = dktX5_caresFor_0 := by decide +kernel
theorem dksX5_caresFor_1 : cX5_caresFor.data.toList.drop 24 = dktX5_caresFor_1 := dk_seg dksX5_caresFor_0 24 rfl rfl
theorem dX5_caresFor_0 : decode cX5_caresFor 0 = .ok (.iload_n 0, 1) := dk_26 (dk_at dksX5_caresFor_0 0 rfl rfl)
theorem dX5_caresFor_1 : decode cX5_caresFor 1 = .ok (.iload 4, 2) := dk_21 4 (dk_at dksX5_caresFor_0 1 rfl rfl)
theorem dX5_caresFor_3 : decode cX5_caresFor 3 = .ok (.imul, 1) := dk_104 (dk_at dksX5_caresFor_0 3 rfl rfl)
theorem dX5_caresFor_4 : decode cX5_caresFor 4 = .ok (.iload_n 1, 1) := dk_27 (dk_at dksX5_caresFor_0 4 rfl rfl)
theorem dX5_caresFor_5 : decode cX5_caresFor 5 = .ok (.iload_n 3, 1) := dk_29 (dk_at dksX5_caresFor_0 5 rfl rfl)
theorem dX5_caresFor_6 : decode cX5_caresFor 6 = .ok (.iload 4, 2) := dk_21 4 (dk_at dksX5_caresFor_0 6 rfl rfl)
theorem dX5_caresFor_8 : decode cX5_caresFor 8 = .ok (.if_icmp .ge 7, 3) := dk_162 0 7 (dk_at dksX5_caresFor_0 8 rfl rfl)
theorem dX5_caresFor_11 : decode cX5_caresFor 11 = .ok (.iload_n 3, 1) := dk_29 (dk_at dksX5_caresFor_0 11 rfl rfl)
theorem dX5_caresFor_12 : decode cX5_caresFor 12 = .ok (.goto 5, 3) := dk_167 0 5 (dk_at dksX5_caresFor_0 12 rfl rfl)
theorem dX5_caresFor_15 : decode cX5_caresFor 15 = .ok (.iload 4, 2) := dk_21 4 (dk_at dksX5_caresFor_0 15 rfl rfl)
theorem dX5_caresFor_17 : decode cX5_caresFor 17 = .ok (.imul, 1) := dk_104 (dk_at dksX5_caresFor_0 17 rfl rfl)
theorem dX5_caresFor_18 : decode cX5_caresFor 18 = .ok (.iadd, 1) := dk_96 (dk_at dksX5_caresFor_0 18 rfl rfl)
theorem dX5_caresFor_19 : decode cX5_caresFor 19 = .ok (.iload_n 2, 1) := dk_28 (dk_at dksX5_caresFor_0 19 rfl rfl)
theorem dX5_caresFor_20 : decode cX5_caresFor 20 = .ok (.iload_n 3, 1) := dk_29 (dk_at dksX5_caresFor_0 20 rfl rfl)
theorem dX5_caresFor_21 : decode cX5_caresFor 21 = .ok (.imul, 1) := dk_104 (dk_at dksX5_caresFor_0 21 rfl rfl)
theorem dX5_caresFor_22 : decode cX5_caresFor 22 = .ok (.iload_n 3, 1) := dk_29 (dk_at dksX5_caresFor_0 22 rfl rfl)
theorem dX5_caresFor_23 : decode cX5_caresFor 23 = .ok (.imul, 1) := dk_104 (dk_at dksX5_caresFor_0 23 rfl rfl)
theorem dX5_caresFor_24 : decode cX5_caresFor 24 = .ok (.isub, 1) := dk_100 (dk_at dksX5_caresFor_1 0 rfl rfl)
theorem dX5_caresFor_25 : decode cX5_caresFor 25 = .ok (.ireturn, 1) := dk_172 (dk_at dksX5_caresFor_1 1 rfl rfl)
abbrev cX5_years : ByteArray := prog_30_method_107_code
def yX5_years : MethodName := ⟨RX5, "years", "(III)I"⟩
def dkwX5_years_9 : List UInt8 := [160, 0, 8, 21, 5, 167, 0, 10, 42, 17, 6, 48, 182, 1, 213, 172]
abbrev dktX5_years_9 : List UInt8 := dkwX5_years_9 ++ []
def dkwX5_years_8 : List UInt8 := [132, 7, 1, 167, 255, 232, 132, 6, 1, 167, 255, 143, 29, 154, 0, 8, 21, 4, 167, 0, 20, 29, 4]
abbrev dktX5_years_8 : List UInt8 := dkwX5_years_8 ++ dktX5_years_9
def dkwX5_years_7 : List UInt8 := [54, 7, 21, 7, 42, 182, 1, 35, 162, 0, 21, 42, 180, 0, 115, 17, 6, 70, 21, 7, 96, 3, 79]
abbrev dktX5_years_7 : List UInt8 := dkwX5_years_7 ++ dktX5_years_8
def dkwX5_years_6 : List UInt8 := [17, 6, 48, 4, 182, 1, 96, 96, 54, 5, 21, 4, 42, 17, 6, 48, 182, 1, 149, 96, 54, 4, 3]
abbrev dktX5_years_6 : List UInt8 := dkwX5_years_6 ++ dktX5_years_7
def dkwX5_years_5 : List UInt8 := [21, 7, 16, 7, 162, 0, 16, 42, 17, 6, 48, 182, 1, 146, 132, 7, 1, 167, 255, 239, 21, 5, 42]
abbrev dktX5_years_5 : List UInt8 := dkwX5_years_5 ++ dktX5_years_6
def dkwX5_years_4 : List UInt8 := [180, 1, 57, 158, 0, 66, 42, 17, 6, 48, 42, 42, 180, 1, 57, 182, 1, 128, 182, 1, 131, 3, 54, 7]
abbrev dktX5_years_4 : List UInt8 := dkwX5_years_4 ++ dktX5_years_5
def dkwX5_years_3 : List UInt8 := [181, 1, 113, 3, 54, 4, 3, 54, 5, 3, 54, 6, 21, 6, 28, 162, 0, 113, 42, 182, 1, 210, 42]
abbrev dktX5_years_3 : List UInt8 := dkwX5_years_3 ++ dktX5_years_4
def dkwX5_years_2 : List UInt8 := [42, 180, 0, 115, 17, 6, 48, 46, 4, 160, 0, 11, 42, 17, 6, 48, 182, 1, 149, 87, 42, 27, 133]
abbrev dktX5_years_2 : List UInt8 := dkwX5_years_2 ++ dktX5_years_3
def dkwX5_years_1 : List UInt8 := [153, 0, 12, 29, 3, 5, 184, 1, 103, 154, 0, 5, 2, 172, 42, 3, 17, 6, 48, 16, 46, 182, 1, 53]
abbrev dktX5_years_1 : List UInt8 := dkwX5_years_1 ++ dktX5_years_2
def dkwX5_years_0 : List UInt8 := [42, 3, 181, 0, 1, 27, 3, 17, 39, 15, 184, 1, 103, 153, 0, 22, 28, 4, 16, 20, 184, 1, 103]
abbrev dktX5_years_0 : List UInt8 := dkwX5_years_0 ++ dktX5_years_1
theorem dksX5_years_0 : cX5_years.data.toList.drop 0 = dktX5_years_0 := by decide +kernel
theorem dksX5_years_1 : cX5_years.data.toList.drop 23 = dktX5_years_1 := dk_seg dksX5_years_0 23 rfl rfl
theorem dksX5_years_2 : cX5_years.data.toList.drop 47 = dktX5_years_2 := dk_seg dksX5_years_1 24 rfl rfl
theorem dksX5_years_3 : cX5_years.data.toList.drop 70 = dktX5_years_3 := dk_seg dksX5_years_2 23 rfl rfl
theorem dksX5_years_4 : cX5_years.data.toList.drop 93 = dktX5_years_4 := dk_seg dksX5_years_3 23 rfl rfl
theorem dksX5_years_5 : cX5_years.data.toList.drop 117 = dktX5_years_5 := dk_seg dksX5_years_4 24 rfl rfl
theorem dksX5_years_6 : cX5_years.data.toList.drop 140 = dktX5_years_6 := dk_seg dksX5_years_5 23 rfl rfl
theorem dksX5_years_7 : cX5_years.data.toList.drop 163 = dktX5_years_7 := dk_seg dksX5_years_6 23 rfl rfl
theorem dksX5_years_8 : cX5_years.data.toList.drop 186 = dktX5_years_8 := dk_seg dksX5_years_7 23 rfl rfl
theorem dksX5_years_9 : cX5_years.data.toList.drop 209 = dktX5_years_9 := dk_seg dksX5_years_8 23 rfl rfl
theorem dX5_years_0 : decode cX5_years 0 = .ok (.aload_n 0, 1) := dk_42 (dk_at dksX5_years_0 0 rfl rfl)
theorem dX5_years_1 : decode cX5_years 1 = .ok (.iconst 0, 1) := dk_3 (dk_at dksX5_years_0 1 rfl rfl)
theorem dX5_years_2 : decode cX5_years 2 = .ok (.putfield 1, 3) := dk_181 0 1 (dk_at dksX5_years_0 2 rfl rfl)
theorem dX5_years_5 : decode cX5_years 5 = .ok (.iload_n 1, 1) := dk_27 (dk_at dksX5_years_0 5 rfl rfl)
theorem dX5_years_6 : decode cX5_years 6 = .ok (.iconst 0, 1) := dk_3 (dk_at dksX5_years_0 6 rfl rfl)
theorem dX5_years_7 : decode cX5_years 7 = .ok (.sipush 9999, 3) := dk_17 39 15 (dk_at dksX5_years_0 7 rfl rfl)
theorem dX5_years_10 : decode cX5_years 10 = .ok (.invokestatic 359, 3) := dk_184 1 103 (dk_at dksX5_years_0 10 rfl rfl)
theorem dX5_years_13 : decode cX5_years 13 = .ok (.ifCond .eq 22, 3) := dk_153 0 22 (dk_at dksX5_years_0 13 rfl rfl)
theorem dX5_years_16 : decode cX5_years 16 = .ok (.iload_n 2, 1) := dk_28 (dk_at dksX5_years_0 16 rfl rfl)
theorem dX5_years_17 : decode cX5_years 17 = .ok (.iconst 1, 1) := dk_4 (dk_at dksX5_years_0 17 rfl rfl)
theorem dX5_years_18 : decode cX5_years 18 = .ok (.bipush 20, 2) := dk_16 20 (dk_at dksX5_years_0 18 rfl rfl)
theorem dX5_years_20 : decode cX5_years 20 = .ok (.invokestatic 359, 3) := dk_184 1 103 (dk_at dksX5_years_0 20 rfl rfl)
theorem dX5_years_23 : decode cX5_years 23 = .ok (.ifCond .eq 12, 3) := dk_153 0 12 (dk_at dksX5_years_1 0 rfl rfl)
theorem dX5_years_26 : decode cX5_years 26 = .ok (.iload_n 3, 1) := dk_29 (dk_at dksX5_years_1 3 rfl rfl)
theorem dX5_years_27 : decode cX5_years 27 = .ok (.iconst 0, 1) := dk_3 (dk_at dksX5_years_1 4 rfl rfl)
theorem dX5_years_28 : decode cX5_years 28 = .ok (.iconst 2, 1) := dk_5 (dk_at dksX5_years_1 5 rfl rfl)
theorem dX5_years_29 : decode cX5_years 29 = .ok (.invokestatic 359, 3) := dk_184 1 103 (dk_at dksX5_years_1 6 rfl rfl)
theorem dX5_years_32 : decode cX5_years 32 = .ok (.ifCond .ne 5, 3) := dk_154 0 5 (dk_at dksX5_years_1 9 rfl rfl)
theorem dX5_years_35 : decode cX5_years 35 = .ok (.iconst (-1), 1) := dk_2 (dk_at dksX5_years_1 12 rfl rfl)
theorem dX5_years_36 : decode cX5_years 36 = .ok (.ireturn, 1) := dk_172 (dk_at dksX5_years_1 13 rfl rfl)
theorem dX5_years_37 : decode cX5_years 37 = .ok (.aload_n 0, 1) := dk_42 (dk_at dksX5_years_1 14 rfl rfl)
theorem dX5_years_38 : decode cX5_years 38 = .ok (.iconst 0, 1) := dk_3 (dk_at dksX5_years_1 15 rfl rfl)
theorem dX5_years_39 : decode cX5_years 39 = .ok (.sipush 1584, 3) := dk_17 6 48 (dk_at dksX5_years_1 16 rfl rfl)
theorem dX5_years_42 : decode cX5_years 42 = .ok (.bipush 46, 2) := dk_16 46 (dk_at dksX5_years_1 19 rfl rfl)
theorem dX5_years_44 : decode cX5_years 44 = .ok (.invokevirtual 309, 3) := dk_182 1 53 (dk_at dksX5_years_1 21 rfl rfl)
theorem dX5_years_47 : decode cX5_years 47 = .ok (.aload_n 0, 1) := dk_42 (dk_at dksX5_years_2 0 rfl rfl)
theorem dX5_years_48 : decode cX5_years 48 = .ok (.getfield 115, 3) := dk_180 0 115 (dk_at dksX5_years_2 1 rfl rfl)
theorem dX5_years_51 : decode cX5_years 51 = .ok (.sipush 1584, 3) := dk_17 6 48 (dk_at dksX5_years_2 4 rfl rfl)
theorem dX5_years_54 : decode cX5_years 54 = .ok (.iaload, 1) := dk_46 (dk_at dksX5_years_2 7 rfl rfl)
theorem dX5_years_55 : decode cX5_years 55 = .ok (.iconst 1, 1) := dk_4 (dk_at dksX5_years_2 8 rfl rfl)
theorem dX5_years_56 : decode cX5_years 56 = .ok (.if_icmp .ne 11, 3) := dk_160 0 11 (dk_at dksX5_years_2 9 rfl rfl)
theorem dX5_years_59 : decode cX5_years 59 = .ok (.aload_n 0, 1) := dk_42 (dk_at dksX5_years_2 12 rfl rfl)
theorem dX5_years_60 : decode cX5_years 60 = .ok (.sipush 1584, 3) := dk_17 6 48 (dk_at dksX5_years_2 13 rfl rfl)
theorem dX5_years_63 : decode cX5_years 63 = .ok (.invokevirtual 405, 3) := dk_182 1 149 (dk_at dksX5_years_2 16 rfl rfl)
theorem dX5_years_66 : decode cX5_years 66 = .ok (.pop, 1) := dk_87 (dk_at dksX5_years_2 19 rfl rfl)
theorem dX5_years_67 : decode cX5_years 67 = .ok (.aload_n 0, 1) := dk_42 (dk_at dksX5_years_2 20 rfl rfl)
theorem dX5_years_68 : decode cX5_years 68 = .ok (.iload_n 1, 1) := dk_27 (dk_at dksX5_years_2 21 rfl rfl)
theorem dX5_years_69 : decode cX5_years 69 = .ok (.i2l, 1) := dk_133 (dk_at dksX5_years_2 22 rfl rfl)
theorem dX5_years_70 : decode cX5_years 70 = .ok (.putfield 369, 3) := dk_181 1 113 (dk_at dksX5_years_3 0 rfl rfl)
theorem dX5_years_73 : decode cX5_years 73 = .ok (.iconst 0, 1) := dk_3 (dk_at dksX5_years_3 3 rfl rfl)
theorem dX5_years_74 : decode cX5_years 74 = .ok (.istore 4, 2) := dk_54 4 (dk_at dksX5_years_3 4 rfl rfl)
theorem dX5_years_76 : decode cX5_years 76 = .ok (.iconst 0, 1) := dk_3 (dk_at dksX5_years_3 6 rfl rfl)
theorem dX5_years_77 : decode cX5_years 77 = .ok (.istore 5, 2) := dk_54 5 (dk_at dksX5_years_3 7 rfl rfl)
theorem dX5_years_79 : decode cX5_years 79 = .ok (.iconst 0, 1) := dk_3 (dk_at dksX5_years_3 9 rfl rfl)
theorem dX5_years_80 : decode cX5_years 80 = .ok (.istore 6, 2) := dk_54 6 (dk_at dksX5_years_3 10 rfl rfl)
theorem dX5_years_82 : decode cX5_years 82 = .ok (.iload 6, 2) := dk_21 6 (dk_at dksX5_years_3 12 rfl rfl)
theorem dX5_years_84 : decode cX5_years 84 = .ok (.iload_n 2, 1) := dk_28 (dk_at dksX5_years_3 14 rfl rfl)
theorem dX5_years_85 : decode cX5_years 85 = .ok (.if_icmp .ge 113, 3) := dk_162 0 113 (dk_at dksX5_years_3 15 rfl rfl)
theorem dX5_years_88 : decode cX5_years 88 = .ok (.aload_n 0, 1) := dk_42 (dk_at dksX5_years_3 18 rfl rfl)
theorem dX5_years_89 : decode cX5_years 89 = .ok (.invokevirtual 466, 3) := dk_182 1 210 (dk_at dksX5_years_3 19 rfl rfl)
theorem dX5_years_92 : decode cX5_years 92 = .ok (.aload_n 0, 1) := dk_42 (dk_at dksX5_years_3 22 rfl rfl)
theorem dX5_years_93 : decode cX5_years 93 = .ok (.getfield 313, 3) := dk_180 1 57 (dk_at dksX5_years_4 0 rfl rfl)
theorem dX5_years_96 : decode cX5_years 96 = .ok (.ifCond .le 66, 3) := dk_158 0 66 (dk_at dksX5_years_4 3 rfl rfl)
theorem dX5_years_99 : decode cX5_years 99 = .ok (.aload_n 0, 1) := dk_42 (dk_at dksX5_years_4 6 rfl rfl)
theorem dX5_years_100 : decode cX5_years 100 = .ok (.sipush 1584, 3) := dk_17 6 48 (dk_at dksX5_years_4 7 rfl rfl)
theorem dX5_years_103 : decode cX5_years 103 = .ok (.aload_n 0, 1) := dk_42 (dk_at dksX5_years_4 10 rfl rfl)
theorem dX5_years_104 : decode cX5_years 104 = .ok (.aload_n 0, 1) := dk_42 (dk_at dksX5_years_4 11 rfl rfl)
theorem dX5_years_105 : decode cX5_years 105 = .ok (.getfield 313, 3) := dk_180 1 57 (dk_at dksX5_years_4 12 rfl rfl)
theorem dX5_years_108 : decode cX5_years 108 = .ok (.invokevirtual 384, 3) := dk_182 1 128 (dk_at dksX5_years_4 15 rfl rfl)
theorem dX5_years_111 : decode cX5_years 111 = .ok (.invokevirtual 387, 3) := dk_182 1 131 (dk_at dksX5_years_4 18 rfl rfl)
theorem dX5_years_114 : decode cX5_years 114 = .ok (.iconst 0, 1) := dk_3 (dk_at dksX5_years_4 21 rfl rfl)
theorem dX5_years_115 : decode cX5_years 115 = .ok (.istore 7, 2) := dk_54 7 (dk_at dksX5_years_4 22 rfl rfl)
theorem dX5_years_117 : decode cX5_years 117 = .ok (.iload 7, 2) := dk_21 7 (dk_at dksX5_years_5 0 rfl rfl)
theorem dX5_years_119 : decode cX5_years 119 = .ok (.bipush 7, 2) := dk_16 7 (dk_at dksX5_years_5 2 rfl rfl)
theorem dX5_years_121 : decode cX5_years 121 = .ok (.if_icmp .ge 16, 3) := dk_162 0 16 (dk_at dksX5_years_5 4 rfl rfl)
theorem dX5_years_124 : decode cX5_years 124 = .ok (.aload_n 0, 1) := dk_42 (dk_at dksX5_years_5 7 rfl rfl)
theorem dX5_years_125 : decode cX5_years 125 = .ok (.sipush 1584, 3) := dk_17 6 48 (dk_at dksX5_years_5 8 rfl rfl)
theorem dX5_years_128 : decode cX5_years 128 = .ok (.invokevirtual 402, 3) := dk_182 1 146 (dk_at dksX5_years_5 11 rfl rfl)
theorem dX5_years_131 : decode cX5_years 131 = .ok (.iinc 7 1, 3) := dk_132 7 1 (dk_at dksX5_years_5 14 rfl rfl)
theorem dX5_years_134 : decode cX5_years 134 = .ok (.goto (-17), 3) := dk_167 255 239 (dk_at dksX5_years_5 17 rfl rfl)
theorem dX5_years_137 : decode cX5_years 137 = .ok (.iload 5, 2) := dk_21 5 (dk_at dksX5_years_5 20 rfl rfl)
theorem dX5_years_139 : decode cX5_years 139 = .ok (.aload_n 0, 1) := dk_42 (dk_at dksX5_years_5 22 rfl rfl)
theorem dX5_years_140 : decode cX5_years 140 = .ok (.sipush 1584, 3) := dk_17 6 48 (dk_at dksX5_years_6 0 rfl rfl)
theorem dX5_years_143 : decode cX5_years 143 = .ok (.iconst 1, 1) := dk_4 (dk_at dksX5_years_6 3 rfl rfl)
theorem dX5_years_144 : decode cX5_years 144 = .ok (.invokevirtual 352, 3) := dk_182 1 96 (dk_at dksX5_years_6 4 rfl rfl)
theorem dX5_years_147 : decode cX5_years 147 = .ok (.iadd, 1) := dk_96 (dk_at dksX5_years_6 7 rfl rfl)
theorem dX5_years_148 : decode cX5_years 148 = .ok (.istore 5, 2) := dk_54 5 (dk_at dksX5_years_6 8 rfl rfl)
theorem dX5_years_150 : decode cX5_years 150 = .ok (.iload 4, 2) := dk_21 4 (dk_at dksX5_years_6 10 rfl rfl)
theorem dX5_years_152 : decode cX5_years 152 = .ok (.aload_n 0, 1) := dk_42 (dk_at dksX5_years_6 12 rfl rfl)
theorem dX5_years_153 : decode cX5_years 153 = .ok (.sipush 1584, 3) := dk_17 6 48 (dk_at dksX5_years_6 13 rfl rfl)
theorem dX5_years_156 : decode cX5_years 156 = .ok (.invokevirtual 405, 3) := dk_182 1 149 (dk_at dksX5_years_6 16 rfl rfl)
theorem dX5_years_159 : decode cX5_years 159 = .ok (.iadd, 1) := dk_96 (dk_at dksX5_years_6 19 rfl rfl)
theorem dX5_years_160 : decode cX5_years 160 = .ok (.istore 4, 2) := dk_54 4 (dk_at dksX5_years_6 20 rfl rfl)
theorem dX5_years_162 : decode cX5_years 162 = .ok (.iconst 0, 1) := dk_3 (dk_at dksX5_years_6 22 rfl rfl)
theorem dX5_years_163 : decode cX5_years 163 = .ok (.istore 7, 2) := dk_54 7 (dk_at dksX5_years_7 0 rfl rfl)
theorem dX5_years_165 : decode cX5_years 165 = .ok (.iload 7, 2) := dk_21 7 (dk_at dksX5_years_7 2 rfl rfl)
theorem dX5_years_167 : decode cX5_years 167 = .ok (.aload_n 0, 1) := dk_42 (dk_at dksX5_years_7 4 rfl rfl)
theorem dX5_years_168 : decode cX5_years 168 = .ok (.invokevirtual 291, 3) := dk_182 1 35 (dk_at dksX5_years_7 5 rfl rfl)
theorem dX5_years_171 : decode cX5_years 171 = .ok (.if_icmp .ge 21, 3) := dk_162 0 21 (dk_at dksX5_years_7 8 rfl rfl)
theorem dX5_years_174 : decode cX5_years 174 = .ok (.aload_n 0, 1) := dk_42 (dk_at dksX5_years_7 11 rfl rfl)
theorem dX5_years_175 : decode cX5_years 175 = .ok (.getfield 115, 3) := dk_180 0 115 (dk_at dksX5_years_7 12 rfl rfl)
theorem dX5_years_178 : decode cX5_years 178 = .ok (.sipush 1606, 3) := dk_17 6 70 (dk_at dksX5_years_7 15 rfl rfl)
theorem dX5_years_181 : decode cX5_years 181 = .ok (.iload 7, 2) := dk_21 7 (dk_at dksX5_years_7 18 rfl rfl)
theorem dX5_years_183 : decode cX5_years 183 = .ok (.iadd, 1) := dk_96 (dk_at dksX5_years_7 20 rfl rfl)
theorem dX5_years_184 : decode cX5_years 184 = .ok (.iconst 0, 1) := dk_3 (dk_at dksX5_years_7 21 rfl rfl)
theorem dX5_years_185 : decode cX5_years 185 = .ok (.iastore, 1) := dk_79 (dk_at dksX5_years_7 22 rfl rfl)
theorem dX5_years_186 : decode cX5_years 186 = .ok (.iinc 7 1, 3) := dk_132 7 1 (dk_at dksX5_years_8 0 rfl rfl)
theorem dX5_years_189 : decode cX5_years 189 = .ok (.goto (-24), 3) := dk_167 255 232 (dk_at dksX5_years_8 3 rfl rfl)
theorem dX5_years_192 : decode cX5_years 192 = .ok (.iinc 6 1, 3) := dk_132 6 1 (dk_at dksX5_years_8 6 rfl rfl)
theorem dX5_years_195 : decode cX5_years 195 = .ok (.goto (-113), 3) := dk_167 255 143 (dk_at dksX5_years_8 9 rfl rfl)
theorem dX5_years_198 : decode cX5_years 198 = .ok (.iload_n 3, 1) := dk_29 (dk_at dksX5_years_8 12 rfl rfl)
theorem dX5_years_199 : decode cX5_years 199 = .ok (.ifCond .ne 8, 3) := dk_154 0 8 (dk_at dksX5_years_8 13 rfl rfl)
theorem dX5_years_202 : decode cX5_years 202 = .ok (.iload 4, 2) := dk_21 4 (dk_at dksX5_years_8 16 rfl rfl)
theorem dX5_years_204 : decode cX5_years 204 = .ok (.goto 20, 3) := dk_167 0 20 (dk_at dksX5_years_8 18 rfl rfl)
theorem dX5_years_207 : decode cX5_years 207 = .ok (.iload_n 3, 1) := dk_29 (dk_at dksX5_years_8 21 rfl rfl)
theorem dX5_years_208 : decode cX5_years 208 = .ok (.iconst 1, 1) := dk_4 (dk_at dksX5_years_8 22 rfl rfl)
theorem dX5_years_209 : decode cX5_years 209 = .ok (.if_icmp .ne 8, 3) := dk_160 0 8 (dk_at dksX5_years_9 0 rfl rfl)
theorem dX5_years_212 : decode cX5_years 212 = .ok (.iload 5, 2) := dk_21 5 (dk_at dksX5_years_9 3 rfl rfl)
theorem dX5_years_214 : decode cX5_years 214 = .ok (.goto 10, 3) := dk_167 0 10 (dk_at dksX5_years_9 5 rfl rfl)
theorem dX5_years_217 : decode cX5_years 217 = .ok (.aload_n 0, 1) := dk_42 (dk_at dksX5_years_9 8 rfl rfl)
theorem dX5_years_218 : decode cX5_years 218 = .ok (.sipush 1584, 3) := dk_17 6 48 (dk_at dksX5_years_9 9 rfl rfl)
theorem dX5_years_221 : decode cX5_years 221 = .ok (.invokevirtual 469, 3) := dk_182 1 213 (dk_at dksX5_years_9 12 rfl rfl)
theorem dX5_years_224 : decode cX5_years 224 = .ok (.ireturn, 1) := dk_172 (dk_at dksX5_years_9 15 rfl rfl)
abbrev cX5_hidesByDraw : ByteArray := prog_30_method_106_code
def yX5_hidesByDraw : MethodName := ⟨RX5, "hidesByDraw", "()V"⟩
def dkwX5_hidesByDraw_3 : List UInt8 := [132, 1, 1, 167, 255, 187, 177]
abbrev dktX5_hidesByDraw_3 : List UInt8 := dkwX5_hidesByDraw_3 ++ []
def dkwX5_hidesByDraw_2 : List UInt8 := [27, 96, 28, 153, 0, 8, 16, 20, 167, 0, 13, 42, 180, 0, 115, 17, 6, 70, 27, 96, 46, 79]
abbrev dktX5_hidesByDraw_2 : List UInt8 := dkwX5_hidesByDraw_2 ++ dktX5_hidesByDraw_3
def dkwX5_hidesByDraw_1 : List UInt8 := [17, 6, 52, 27, 96, 46, 16, 20, 161, 0, 7, 4, 167, 0, 4, 3, 61, 42, 180, 0, 115, 17, 6, 70]
abbrev dktX5_hidesByDraw_1 : List UInt8 := dkwX5_hidesByDraw_1 ++ dktX5_hidesByDraw_2
def dkwX5_hidesByDraw_0 : List UInt8 := [3, 60, 27, 42, 182, 1, 35, 162, 0, 67, 42, 6, 182, 1, 128, 154, 0, 22, 42, 180, 0, 115]
abbrev dktX5_hidesByDraw_0 : List UInt8 := dkwX5_hidesByDraw_0 ++ dktX5_hidesByDraw_1
theorem dksX5_hidesByDraw_0 : cX5_hidesByDraw.data.toList.drop 0 = dktX5_hidesByDraw_0 := by decide +kernel
theorem dksX5_hidesByDraw_1 : cX5_hidesByDraw.data.toList.drop 22 = dktX5_hidesByDraw_1 := dk_seg dksX5_hidesByDraw_0 22 rfl rfl
theorem dksX5_hidesByDraw_2 : cX5_hidesByDraw.data.toList.drop 46 = dktX5_hidesByDraw_2 := dk_seg dksX5_hidesByDraw_1 24 rfl rfl
theorem dksX5_hidesByDraw_3 : cX5_hidesByDraw.data.toList.drop 68 = dktX5_hidesByDraw_3 := dk_seg dksX5_hidesByDraw_2 22 rfl rfl
theorem dX5_hidesByDraw_0 : decode cX5_hidesByDraw 0 = .ok (.iconst 0, 1) := dk_3 (dk_at dksX5_hidesByDraw_0 0 rfl rfl)
theorem dX5_hidesByDraw_1 : decode cX5_hidesByDraw 1 = .ok (.istore_n 1, 1) := dk_60 (dk_at dksX5_hidesByDraw_0 1 rfl rfl)
theorem dX5_hidesByDraw_2 : decode cX5_hidesByDraw 2 = .ok (.iload_n 1, 1) := dk_27 (dk_at dksX5_hidesByDraw_0 2 rfl rfl)
theorem dX5_hidesByDraw_3 : decode cX5_hidesByDraw 3 = .ok (.aload_n 0, 1) := dk_42 (dk_at dksX5_hidesByDraw_0 3 rfl rfl)
theorem dX5_hidesByDraw_4 : decode cX5_hidesByDraw 4 = .ok (.invokevirtual 291, 3) := dk_182 1 35 (dk_at dksX5_hidesByDraw_0 4 rfl rfl)
theorem dX5_hidesByDraw_7 : decode cX5_hidesByDraw 7 = .ok (.if_icmp .ge 67, 3) := dk_162 0 67 (dk_at dksX5_hidesByDraw_0 7 rfl rfl)
theorem dX5_hidesByDraw_10 : decode cX5_hidesByDraw 10 = .ok (.aload_n 0, 1) := dk_42 (dk_at dksX5_hidesByDraw_0 10 rfl rfl)
theorem dX5_hidesByDraw_11 : decode cX5_hidesByDraw 11 = .ok (.iconst 3, 1) := dk_6 (dk_at dksX5_hidesByDraw_0 11 rfl rfl)
theorem dX5_hidesByDraw_12 : decode cX5_hidesByDraw 12 = .ok (.invokevirtual 384, 3) := dk_182 1 128 (dk_at dksX5_hidesByDraw_0 12 rfl rfl)
theorem dX5_hidesByDraw_15 : decode cX5_hidesByDraw 15 = .ok (.ifCond .ne 22, 3) := dk_154 0 22 (dk_at dksX5_hidesByDraw_0 15 rfl rfl)
theorem dX5_hidesByDraw_18 : decode cX5_hidesByDraw 18 = .ok (.aload_n 0, 1) := dk_42 (dk_at dksX5_hidesByDraw_0 18 rfl rfl)
theorem dX5_hidesByDraw_19 : decode cX5_hidesByDraw 19 = .ok (.getfield 115, 3) := dk_180 0 115 (dk_at dksX5_hidesByDraw_0 19 rfl rfl)
theorem dX5_hidesByDraw_22 : decode cX5_hidesByDraw 22 = .ok (.sipush 1588, 3) := dk_17 6 52 (dk_at dksX5_hidesByDraw_1 0 rfl rfl)
theorem dX5_hidesByDraw_25 : decode cX5_hidesByDraw 25 = .ok (.iload_n 1, 1) := dk_27 (dk_at dksX5_hidesByDraw_1 3 rfl rfl)
theorem dX5_hidesByDraw_26 : decode cX5_hidesByDraw 26 = .ok (.iadd, 1) := dk_96 (dk_at dksX5_hidesByDraw_1 4 rfl rfl)
theorem dX5_hidesByDraw_27 : decode cX5_hidesByDraw 27 = .ok (.iaload, 1) := dk_46 (dk_at dksX5_hidesByDraw_1 5 rfl rfl)
theorem dX5_hidesByDraw_28 : decode cX5_hidesByDraw 28 = .ok (.bipush 20, 2) := dk_16 20 (dk_at dksX5_hidesByDraw_1 6 rfl rfl)
theorem dX5_hidesByDraw_30 : decode cX5_hidesByDraw 30 = .ok (.if_icmp .lt 7, 3) := dk_161 0 7 (dk_at dksX5_hidesByDraw_1 8 rfl rfl)
theorem dX5_hidesByDraw_33 : decode cX5_hidesByDraw 33 = .ok (.iconst 1, 1) := dk_4 (dk_at dksX5_hidesByDraw_1 11 rfl rfl)
theorem dX5_hidesByDraw_34 : decode cX5_hidesByDraw 34 = .ok (.goto 4, 3) := dk_167 0 4 (dk_at dksX5_hidesByDraw_1 12 rfl rfl)
theorem dX5_hidesByDraw_37 : decode cX5_hidesByDraw 37 = .ok (.iconst 0, 1) := dk_3 (dk_at dksX5_hidesByDraw_1 15 rfl rfl)
theorem dX5_hidesByDraw_38 : decode cX5_hidesByDraw 38 = .ok (.istore_n 2, 1) := dk_61 (dk_at dksX5_hidesByDraw_1 16 rfl rfl)
theorem dX5_hidesByDraw_39 : decode cX5_hidesByDraw 39 = .ok (.aload_n 0, 1) := dk_42 (dk_at dksX5_hidesByDraw_1 17 rfl rfl)
theorem dX5_hidesByDraw_40 : decode cX5_hidesByDraw 40 = .ok (.getfield 115, 3) := dk_180 0 115 (dk_at dksX5_hidesByDraw_1 18 rfl rfl)
theorem dX5_hidesByDraw_43 : decode cX5_hidesByDraw 43 = .ok (.sipush 1606, 3) := dk_17 6 70 (dk_at dksX5_hidesByDraw_1 21 rfl rfl)
theorem dX5_hidesByDraw_46 : decode cX5_hidesByDraw 46 = .ok (.iload_n 1, 1) := dk_27 (dk_at dksX5_hidesByDraw_2 0 rfl rfl)
theorem dX5_hidesByDraw_47 : decode cX5_hidesByDraw 47 = .ok (.iadd, 1) := dk_96 (dk_at dksX5_hidesByDraw_2 1 rfl rfl)
theorem dX5_hidesByDraw_48 : decode cX5_hidesByDraw 48 = .ok (.iload_n 2, 1) := dk_28 (dk_at dksX5_hidesByDraw_2 2 rfl rfl)
theorem dX5_hidesByDraw_49 : decode cX5_hidesByDraw 49 = .ok (.ifCond .eq 8, 3) := dk_153 0 8 (dk_at dksX5_hidesByDraw_2 3 rfl rfl)
theorem dX5_hidesByDraw_52 : decode cX5_hidesByDraw 52 = .ok (.bipush 20, 2) := dk_16 20 (dk_at dksX5_hidesByDraw_2 6 rfl rfl)
theorem dX5_hidesByDraw_54 : decode cX5_hidesByDraw 54 = .ok (.goto 13, 3) := dk_167 0 13 (dk_at dksX5_hidesByDraw_2 8 rfl rfl)
theorem dX5_hidesByDraw_57 : decode cX5_hidesByDraw 57 = .ok (.aload_n 0, 1) := dk_42 (dk_at dksX5_hidesByDraw_2 11 rfl rfl)
theorem dX5_hidesByDraw_58 : decode cX5_hidesByDraw 58 = .ok (.getfield 115, 3) := dk_180 0 115 (dk_at dksX5_hidesByDraw_2 12 rfl rfl)
theorem dX5_hidesByDraw_61 : decode cX5_hidesByDraw 61 = .ok (.sipush 1606, 3) := dk_17 6 70 (dk_at dksX5_hidesByDraw_2 15 rfl rfl)
theorem dX5_hidesByDraw_64 : decode cX5_hidesByDraw 64 = .ok (.iload_n 1, 1) := dk_27 (dk_at dksX5_hidesByDraw_2 18 rfl rfl)
theorem dX5_hidesByDraw_65 : decode cX5_hidesByDraw 65 = .ok (.iadd, 1) := dk_96 (dk_at dksX5_hidesByDraw_2 19 rfl rfl)
theorem dX5_hidesByDraw_66 : decode cX5_hidesByDraw 66 = .ok (.iaload, 1) := dk_46 (dk_at dksX5_hidesByDraw_2 20 rfl rfl)
theorem dX5_hidesByDraw_67 : decode cX5_hidesByDraw 67 = .ok (.iastore, 1) := dk_79 (dk_at dksX5_hidesByDraw_2 21 rfl rfl)
theorem dX5_hidesByDraw_68 : decode cX5_hidesByDraw 68 = .ok (.iinc 1 1, 3) := dk_132 1 1 (dk_at dksX5_hidesByDraw_3 0 rfl rfl)
theorem dX5_hidesByDraw_71 : decode cX5_hidesByDraw 71 = .ok (.goto (-69), 3) := dk_167 255 187 (dk_at dksX5_hidesByDraw_3 3 rfl rfl)
theorem dX5_hidesByDraw_74 : decode cX5_hidesByDraw 74 = .ok (.return_, 1) := dk_177 (dk_at dksX5_hidesByDraw_3 6 rfl rfl)
abbrev cX5_pursesOf : ByteArray := prog_30_method_105_code
def yX5_pursesOf : MethodName := ⟨RX5, "pursesOf", "(I)I"⟩
def dkwX5_pursesOf_1 : List UInt8 := [61, 132, 3, 1, 167, 255, 232, 28, 172]
abbrev dktX5_pursesOf_1 : List UInt8 := dkwX5_pursesOf_1 ++ []
def dkwX5_pursesOf_0 : List UInt8 := [3, 61, 3, 62, 29, 42, 182, 1, 35, 162, 0, 22, 28, 42, 180, 0, 115, 27, 7, 96, 29, 96, 46, 96]
abbrev dktX5_pursesOf_0 : List UInt8 := dkwX5_pursesOf_0 ++ dktX5_pursesOf_1
theorem dksX5_pursesOf_0 : cX5_pursesOf.data.toList.drop 0 = dktX5_pursesOf_0 := by decide +kernel
theorem dksX5_pursesOf_1 : cX5_pursesOf.data.toList.drop 24 = dktX5_pursesOf_1 := dk_seg dksX5_pursesOf_0 24 rfl rfl
theorem dX5_pursesOf_0 : decode cX5_pursesOf 0 = .ok (.iconst 0, 1) := dk_3 (dk_at dksX5_pursesOf_0 0 rfl rfl)
theorem dX5_pursesOf_1 : decode cX5_pursesOf 1 = .ok (.istore_n 2, 1) := dk_61 (dk_at dksX5_pursesOf_0 1 rfl rfl)
theorem dX5_pursesOf_2 : decode cX5_pursesOf 2 = .ok (.iconst 0, 1) := dk_3 (dk_at dksX5_pursesOf_0 2 rfl rfl)
theorem dX5_pursesOf_3 : decode cX5_pursesOf 3 = .ok (.istore_n 3, 1) := dk_62 (dk_at dksX5_pursesOf_0 3 rfl rfl)
theorem dX5_pursesOf_4 : decode cX5_pursesOf 4 = .ok (.iload_n 3, 1) := dk_29 (dk_at dksX5_pursesOf_0 4 rfl rfl)
theorem dX5_pursesOf_5 : decode cX5_pursesOf 5 = .ok (.aload_n 0, 1) := dk_42 (dk_at dksX5_pursesOf_0 5 rfl rfl)
theorem dX5_pursesOf_6 : decode cX5_pursesOf 6 = .ok (.invokevirtual 291, 3) := dk_182 1 35 (dk_at dksX5_pursesOf_0 6 rfl rfl)
theorem dX5_pursesOf_9 : decode cX5_pursesOf 9 = .ok (.if_icmp .ge 22, 3) := dk_162 0 22 (dk_at dksX5_pursesOf_0 9 rfl rfl)
theorem dX5_pursesOf_12 : decode cX5_pursesOf 12 = .ok (.iload_n 2, 1) := dk_28 (dk_at dksX5_pursesOf_0 12 rfl rfl)
theorem dX5_pursesOf_13 : decode cX5_pursesOf 13 = .ok (.aload_n 0, 1) := dk_42 (dk_at dksX5_pursesOf_0 13 rfl rfl)
theorem dX5_pursesOf_14 : decode cX5_pursesOf 14 = .ok (.getfield 115, 3) := dk_180 0 115 (dk_at dksX5_pursesOf_0 14 rfl rfl)
theorem dX5_pursesOf_17 : decode cX5_pursesOf 17 = .ok (.iload_n 1, 1) := dk_27 (dk_at dksX5_pursesOf_0 17 rfl rfl)
theorem dX5_pursesOf_18 : decode cX5_pursesOf 18 = .ok (.iconst 4, 1) := dk_7 (dk_at dksX5_pursesOf_0 18 rfl rfl)
theorem dX5_pursesOf_19 : decode cX5_pursesOf 19 = .ok (.iadd, 1) := dk_96 (dk_at dksX5_pursesOf_0 19 rfl rfl)
theorem dX5_pursesOf_20 : decode cX5_pursesOf 20 = .ok (.iload_n 3, 1) := dk_29 (dk_at dksX5_pursesOf_0 20 rfl rfl)
theorem dX5_pursesOf_21 : decode cX5_pursesOf 21 = .ok (.iadd, 1) := dk_96 (dk_at dksX5_pursesOf_0 21 rfl rfl)
theorem dX5_pursesOf_22 : decode cX5_pursesOf 22 = .ok (.iaload, 1) := dk_46 (dk_at dksX5_pursesOf_0 22 rfl rfl)
theorem dX5_pursesOf_23 : decode cX5_pursesOf 23 = .ok (.iadd, 1) := dk_96 (dk_at dksX5_pursesOf_0 23 rfl rfl)
theorem dX5_pursesOf_24 : decode cX5_pursesOf 24 = .ok (.istore_n 2, 1) := dk_61 (dk_at dksX5_pursesOf_1 0 rfl rfl)
theorem dX5_pursesOf_25 : decode cX5_pursesOf 25 = .ok (.iinc 3 1, 3) := dk_132 3 1 (dk_at dksX5_pursesOf_1 1 rfl rfl)
theorem dX5_pursesOf_28 : decode cX5_pursesOf 28 = .ok (.goto (-24), 3) := dk_167 255 232 (dk_at dksX5_pursesOf_1 4 rfl rfl)
theorem dX5_pursesOf_31 : decode cX5_pursesOf 31 = .ok (.iload_n 2, 1) := dk_28 (dk_at dksX5_pursesOf_1 7 rfl rfl)
theorem dX5_pursesOf_32 : decode cX5_pursesOf 32 = .ok (.ireturn, 1) := dk_172 (dk_at dksX5_pursesOf_1 8 rfl rfl)
abbrev cX5_mark : ByteArray := prog_30_method_108_code
def yX5_mark : MethodName := ⟨RX5, "mark", "(IZ)Z"⟩
def dkwX5_mark_3 : List UInt8 := [28, 153, 0, 7, 3, 167, 0, 7, 42, 180, 1, 47, 181, 1, 47, 4, 172]
abbrev dktX5_mark_3 : List UInt8 := dkwX5_mark_3 ++ []
def dkwX5_mark_2 : List UInt8 := [167, 0, 4, 3, 28, 153, 0, 7, 3, 167, 0, 9, 16, 72, 4, 27, 96, 104, 16, 72, 182, 1, 53, 42]
abbrev dktX5_mark_2 : List UInt8 := dkwX5_mark_2 ++ dktX5_mark_3
def dkwX5_mark_1 : List UInt8 := [154, 0, 5, 3, 172, 42, 180, 0, 118, 27, 4, 84, 42, 28, 153, 0, 12, 16, 72, 4, 27, 96, 104]
abbrev dktX5_mark_1 : List UInt8 := dkwX5_mark_1 ++ dktX5_mark_2
def dkwX5_mark_0 : List UInt8 := [42, 3, 181, 0, 1, 27, 3, 6, 184, 1, 103, 153, 0, 16, 28, 153, 0, 14, 42, 180, 0, 118, 27, 51]
abbrev dktX5_mark_0 : List UInt8 := dkwX5_mark_0 ++ dktX5_mark_1
theorem dksX5_mark_0 : cX5_mark.data.toList.drop 0 = dktX5_mark_0 := by decide +kernel
theorem dksX5_mark_1 : cX5_mark.data.toList.drop 24 = dktX5_mark_1 := dk_seg dksX5_mark_0 24 rfl rfl
theorem dksX5_mark_2 : cX5_mark.data.toList.drop 47 = dktX5_mark_2 := dk_seg dksX5_mark_1 23 rfl rfl
theorem dksX5_mark_3 : cX5_mark.data.toList.drop 71 = dktX5_mark_3 := dk_seg dksX5_mark_2 24 rfl rfl
theorem dX5_mark_0 : decode cX5_mark 0 = .ok (.aload_n 0, 1) := dk_42 (dk_at dksX5_mark_0 0 rfl rfl)
theorem dX5_mark_1 : decode cX5_mark 1 = .ok (.iconst 0, 1) := dk_3 (dk_at dksX5_mark_0 1 rfl rfl)
theorem dX5_mark_2 : decode cX5_mark 2 = .ok (.putfield 1, 3) := dk_181 0 1 (dk_at dksX5_mark_0 2 rfl rfl)
theorem dX5_mark_5 : decode cX5_mark 5 = .ok (.iload_n 1, 1) := dk_27 (dk_at dksX5_mark_0 5 rfl rfl)
theorem dX5_mark_6 : decode cX5_mark 6 = .ok (.iconst 0, 1) := dk_3 (dk_at dksX5_mark_0 6 rfl rfl)
theorem dX5_mark_7 : decode cX5_mark 7 = .ok (.iconst 3, 1) := dk_6 (dk_at dksX5_mark_0 7 rfl rfl)
theorem dX5_mark_8 : decode cX5_mark 8 = .ok (.invokestatic 359, 3) := dk_184 1 103 (dk_at dksX5_mark_0 8 rfl rfl)
theorem dX5_mark_11 : decode cX5_mark 11 = .ok (.ifCond .eq 16, 3) := dk_153 0 16 (dk_at dksX5_mark_0 11 rfl rfl)
theorem dX5_mark_14 : decode cX5_mark 14 = .ok (.iload_n 2, 1) := dk_28 (dk_at dksX5_mark_0 14 rfl rfl)
theorem dX5_mark_15 : decode cX5_mark 15 = .ok (.ifCond .eq 14, 3) := dk_153 0 14 (dk_at dksX5_mark_0 15 rfl rfl)
theorem dX5_mark_18 : decode cX5_mark 18 = .ok (.aload_n 0, 1) := dk_42 (dk_at dksX5_mark_0 18 rfl rfl)
theorem dX5_mark_19 : decode cX5_mark 19 = .ok (.getfield 118, 3) := dk_180 0 118 (dk_at dksX5_mark_0 19 rfl rfl)
theorem dX5_mark_22 : decode cX5_mark 22 = .ok (.iload_n 1, 1) := dk_27 (dk_at dksX5_mark_0 22 rfl rfl)
theorem dX5_mark_23 : decode cX5_mark 23 = .ok (.baload, 1) := dk_51 (dk_at dksX5_mark_0 23 rfl rfl)
theorem dX5_mark_24 : decode cX5_mark 24 = .ok (.ifCond .ne 5, 3) := dk_154 0 5 (dk_at dksX5_mark_1 0 rfl rfl)
theorem dX5_mark_27 : decode cX5_mark 27 = .ok (.iconst 0, 1) := dk_3 (dk_at dksX5_mark_1 3 rfl rfl)
theorem dX5_mark_28 : decode cX5_mark 28 = .ok (.ireturn, 1) := dk_172 (dk_at dksX5_mark_1 4 rfl rfl)
theorem dX5_mark_29 : decode cX5_mark 29 = .ok (.aload_n 0, 1) := dk_42 (dk_at dksX5_mark_1 5 rfl rfl)
theorem dX5_mark_30 : decode cX5_mark 30 = .ok (.getfield 118, 3) := dk_180 0 118 (dk_at dksX5_mark_1 6 rfl rfl)
theorem dX5_mark_33 : decode cX5_mark 33 = .ok (.iload_n 1, 1) := dk_27 (dk_at dksX5_mark_1 9 rfl rfl)
theorem dX5_mark_34 : decode cX5_mark 34 = .ok (.iconst 1, 1) := dk_4 (dk_at dksX5_mark_1 10 rfl rfl)
theorem dX5_mark_35 : decode cX5_mark 35 = .ok (.bastore, 1) := dk_84 (dk_at dksX5_mark_1 11 rfl rfl)
theorem dX5_mark_36 : decode cX5_mark 36 = .ok (.aload_n 0, 1) := dk_42 (dk_at dksX5_mark_1 12 rfl rfl)
theorem dX5_mark_37 : decode cX5_mark 37 = .ok (.iload_n 2, 1) := dk_28 (dk_at dksX5_mark_1 13 rfl rfl)
theorem dX5_mark_38 : decode cX5_mark 38 = .ok (.ifCond .eq 12, 3) := dk_153 0 12 (dk_at dksX5_mark_1 14 rfl rfl)
theorem dX5_mark_41 : decode cX5_mark 41 = .ok (.bipush 72, 2) := dk_16 72 (dk_at dksX5_mark_1 17 rfl rfl)
theorem dX5_mark_43 : decode cX5_mark 43 = .ok (.iconst 1, 1) := dk_4 (dk_at dksX5_mark_1 19 rfl rfl)
theorem dX5_mark_44 : decode cX5_mark 44 = .ok (.iload_n 1, 1) := dk_27 (dk_at dksX5_mark_1 20 rfl rfl)
theorem dX5_mark_45 : decode cX5_mark 45 = .ok (.iadd, 1) := dk_96 (dk_at dksX5_mark_1 21 rfl rfl)
theorem dX5_mark_46 : decode cX5_mark 46 = .ok (.imul, 1) := dk_104 (dk_at dksX5_mark_1 22 rfl rfl)
theorem dX5_mark_47 : decode cX5_mark 47 = .ok (.goto 4, 3) := dk_167 0 4 (dk_at dksX5_mark_2 0 rfl rfl)
theorem dX5_mark_50 : decode cX5_mark 50 = .ok (.iconst 0, 1) := dk_3 (dk_at dksX5_mark_2 3 rfl rfl)
theorem dX5_mark_51 : decode cX5_mark 51 = .ok (.iload_n 2, 1) := dk_28 (dk_at dksX5_mark_2 4 rfl rfl)
theorem dX5_mark_52 : decode cX5_mark 52 = .ok (.ifCond .eq 7, 3) := dk_153 0 7 (dk_at dksX5_mark_2 5 rfl rfl)
theorem dX5_mark_55 : decode cX5_mark 55 = .ok (.iconst 0, 1) := dk_3 (dk_at dksX5_mark_2 8 rfl rfl)
theorem dX5_mark_56 : decode cX5_mark 56 = .ok (.goto 9, 3) := dk_167 0 9 (dk_at dksX5_mark_2 9 rfl rfl)
theorem dX5_mark_59 : decode cX5_mark 59 = .ok (.bipush 72, 2) := dk_16 72 (dk_at dksX5_mark_2 12 rfl rfl)
theorem dX5_mark_61 : decode cX5_mark 61 = .ok (.iconst 1, 1) := dk_4 (dk_at dksX5_mark_2 14 rfl rfl)
theorem dX5_mark_62 : decode cX5_mark 62 = .ok (.iload_n 1, 1) := dk_27 (dk_at dksX5_mark_2 15 rfl rfl)
theorem dX5_mark_63 : decode cX5_mark 63 = .ok (.iadd, 1) := dk_96 (dk_at dksX5_mark_2 16 rfl rfl)
theorem dX5_mark_64 : decode cX5_mark 64 = .ok (.imul, 1) := dk_104 (dk_at dksX5_mark_2 17 rfl rfl)
theorem dX5_mark_65 : decode cX5_mark 65 = .ok (.bipush 72, 2) := dk_16 72 (dk_at dksX5_mark_2 18 rfl rfl)
theorem dX5_mark_67 : decode cX5_mark 67 = .ok (.invokevirtual 309, 3) := dk_182 1 53 (dk_at dksX5_mark_2 20 rfl rfl)
theorem dX5_mark_70 : decode cX5_mark 70 = .ok (.aload_n 0, 1) := dk_42 (dk_at dksX5_mark_2 23 rfl rfl)
theorem dX5_mark_71 : decode cX5_mark 71 = .ok (.iload_n 2, 1) := dk_28 (dk_at dksX5_mark_3 0 rfl rfl)
theorem dX5_mark_72 : decode cX5_mark 72 = .ok (.ifCond .eq 7, 3) := dk_153 0 7 (dk_at dksX5_mark_3 1 rfl rfl)
theorem dX5_mark_75 : decode cX5_mark 75 = .ok (.iconst 0, 1) := dk_3 (dk_at dksX5_mark_3 4 rfl rfl)
theorem dX5_mark_76 : decode cX5_mark 76 = .ok (.goto 7, 3) := dk_167 0 7 (dk_at dksX5_mark_3 5 rfl rfl)
theorem dX5_mark_79 : decode cX5_mark 79 = .ok (.aload_n 0, 1) := dk_42 (dk_at dksX5_mark_3 8 rfl rfl)
theorem dX5_mark_80 : decode cX5_mark 80 = .ok (.getfield 303, 3) := dk_180 1 47 (dk_at dksX5_mark_3 9 rfl rfl)
theorem dX5_mark_83 : decode cX5_mark 83 = .ok (.putfield 303, 3) := dk_181 1 47 (dk_at dksX5_mark_3 12 rfl rfl)
theorem dX5_mark_86 : decode cX5_mark 86 = .ok (.iconst 1, 1) := dk_4 (dk_at dksX5_mark_3 15 rfl rfl)
theorem dX5_mark_87 : decode cX5_mark 87 = .ok (.ireturn, 1) := dk_172 (dk_at dksX5_mark_3 16 rfl rfl)
abbrev cX5_count : ByteArray := prog_30_method_110_code
def yX5_count : MethodName := ⟨RX5, "count", "(I)I"⟩
def dkwX5_count_5 : List UInt8 := [172, 2, 172]
abbrev dktX5_count_5 : List UInt8 := dkwX5_count_5 ++ []
def dkwX5_count_4 : List UInt8 := [42, 180, 0, 106, 3, 46, 172, 42, 180, 0, 115, 16, 46, 46, 172, 42, 180, 1, 47, 172, 42, 180, 0, 11]
abbrev dktX5_count_4 : List UInt8 := dkwX5_count_4 ++ dktX5_count_5
def dkwX5_count_3 : List UInt8 := [180, 0, 115, 5, 46, 172, 42, 180, 0, 115, 6, 46, 172, 42, 3, 182, 1, 213, 172, 42, 182, 1, 216, 172]
abbrev dktX5_count_3 : List UInt8 := dkwX5_count_3 ++ dktX5_count_4
def dkwX5_count_2 : List UInt8 := [42, 180, 0, 91, 27, 46, 172, 42, 180, 0, 115, 3, 46, 172, 42, 180, 0, 115, 4, 46, 172, 42]
abbrev dktX5_count_2 : List UInt8 := dkwX5_count_2 ++ dktX5_count_3
def dkwX5_count_1 : List UInt8 := [170, 0, 0, 0, 0, 137, 0, 0, 0, 0, 0, 0, 0, 12, 0, 0, 0, 66, 0, 0, 0, 66, 0, 0, 0, 66, 0, 0, 0, 73, 0, 0, 0, 80, 0, 0, 0, 87, 0, 0, 0, 94, 0, 0, 0, 101, 0, 0, 0, 107, 0, 0, 0, 112, 0, 0, 0, 119, 0, 0, 0, 127, 0, 0, 0, 132]
abbrev dktX5_count_1 : List UInt8 := dkwX5_count_1 ++ dktX5_count_2
def dkwX5_count_0 : List UInt8 := [42, 3, 181, 0, 1, 27]
abbrev dktX5_count_0 : List UInt8 := dkwX5_count_0 ++ dktX5_count_1
theorem dksX5_count_0 : cX5_count.data.toList.drop 0 = dktX5_count_0 := by decide +kernel
theorem dksX5_count_1 : cX5_count.data.toList.drop 6 = dktX5_count_1 := dk_seg dksX5_count_0 6 rfl rfl
theorem dksX5_count_2 : cX5_count.data.toList.drop 72 = dktX5_count_2 := dk_seg dksX5_count_1 66 rfl rfl
theorem dksX5_count_3 : cX5_count.data.toList.drop 94 = dktX5_count_3 := dk_seg dksX5_count_2 22 rfl rfl
theorem dksX5_count_4 : cX5_count.data.toList.drop 118 = dktX5_count_4 := dk_seg dksX5_count_3 24 rfl rfl
theorem dksX5_count_5 : cX5_count.data.toList.drop 142 = dktX5_count_5 := dk_seg dksX5_count_4 24 rfl rfl
theorem dX5_count_0 : decode cX5_count 0 = .ok (.aload_n 0, 1) := dk_42 (dk_at dksX5_count_0 0 rfl rfl)
theorem dX5_count_1 : decode cX5_count 1 = .ok (.iconst 0, 1) := dk_3 (dk_at dksX5_count_0 1 rfl rfl)
theorem dX5_count_2 : decode cX5_count 2 = .ok (.putfield 1, 3) := dk_181 0 1 (dk_at dksX5_count_0 2 rfl rfl)
theorem dX5_count_5 : decode cX5_count 5 = .ok (.iload_n 1, 1) := dk_27 (dk_at dksX5_count_0 5 rfl rfl)
theorem dX5_count_6 : decode cX5_count 6 = .ok (.tableswitch 137 0 12 #[66, 66, 66, 73, 80, 87, 94, 101, 107, 112, 119, 127, 132], 66) := by decide +kernel
theorem dX5_count_72 : decode cX5_count 72 = .ok (.aload_n 0, 1) := dk_42 (dk_at dksX5_count_2 0 rfl rfl)
theorem dX5_count_73 : decode cX5_count 73 = .ok (.getfield 91, 3) := dk_180 0 91 (dk_at dksX5_count_2 1 rfl rfl)
theorem dX5_count_76 : decode cX5_count 76 = .ok (.iload_n 1, 1) := dk_27 (dk_at dksX5_count_2 4 rfl rfl)
theorem dX5_count_77 : decode cX5_count 77 = .ok (.iaload, 1) := dk_46 (dk_at dksX5_count_2 5 rfl rfl)
theorem dX5_count_78 : decode cX5_count 78 = .ok (.ireturn, 1) := dk_172 (dk_at dksX5_count_2 6 rfl rfl)
theorem dX5_count_79 : decode cX5_count 79 = .ok (.aload_n 0, 1) := dk_42 (dk_at dksX5_count_2 7 rfl rfl)
theorem dX5_count_80 : decode cX5_count 80 = .ok (.getfield 115, 3) := dk_180 0 115 (dk_at dksX5_count_2 8 rfl rfl)
theorem dX5_count_83 : decode cX5_count 83 = .ok (.iconst 0, 1) := dk_3 (dk_at dksX5_count_2 11 rfl rfl)
theorem dX5_count_84 : decode cX5_count 84 = .ok (.iaload, 1) := dk_46 (dk_at dksX5_count_2 12 rfl rfl)
theorem dX5_count_85 : decode cX5_count 85 = .ok (.ireturn, 1) := dk_172 (dk_at dksX5_count_2 13 rfl rfl)
theorem dX5_count_86 : decode cX5_count 86 = .ok (.aload_n 0, 1) := dk_42 (dk_at dksX5_count_2 14 rfl rfl)
theorem dX5_count_87 : decode cX5_count 87 = .ok (.getfield 115, 3) := dk_180 0 115 (dk_at dksX5_count_2 15 rfl rfl)
theorem dX5_count_90 : decode cX5_count 90 = .ok (.iconst 1, 1) := dk_4 (dk_at dksX5_count_2 18 rfl rfl)
theorem dX5_count_91 : decode cX5_count 91 = .ok (.iaload, 1) := dk_46 (dk_at dksX5_count_2 19 rfl rfl)
theorem dX5_count_92 : decode cX5_count 92 = .ok (.ireturn, 1) := dk_172 (dk_at dksX5_count_2 20 rfl rfl)
theorem dX5_count_93 : decode cX5_count 93 = .ok (.aload_n 0, 1) := dk_42 (dk_at dksX5_count_2 21 rfl rfl)
theorem dX5_count_94 : decode cX5_count 94 = .ok (.getfield 115, 3) := dk_180 0 115 (dk_at dksX5_count_3 0 rfl rfl)
theorem dX5_count_97 : decode cX5_count 97 = .ok (.iconst 2, 1) := dk_5 (dk_at dksX5_count_3 3 rfl rfl)
theorem dX5_count_98 : decode cX5_count 98 = .ok (.iaload, 1) := dk_46 (dk_at dksX5_count_3 4 rfl rfl)
theorem dX5_count_99 : decode cX5_count 99 = .ok (.ireturn, 1) := dk_172 (dk_at dksX5_count_3 5 rfl rfl)
theorem dX5_count_100 : decode cX5_count 100 = .ok (.aload_n 0, 1) := dk_42 (dk_at dksX5_count_3 6 rfl rfl)
theorem dX5_count_101 : decode cX5_count 101 = .ok (.getfield 115, 3) := dk_180 0 115 (dk_at dksX5_count_3 7 rfl rfl)
theorem dX5_count_104 : decode cX5_count 104 = .ok (.iconst 3, 1) := dk_6 (dk_at dksX5_count_3 10 rfl rfl)
theorem dX5_count_105 : decode cX5_count 105 = .ok (.iaload, 1) := dk_46 (dk_at dksX5_count_3 11 rfl rfl)
theorem dX5_count_106 : decode cX5_count 106 = .ok (.ireturn, 1) := dk_172 (dk_at dksX5_count_3 12 rfl rfl)
theorem dX5_count_107 : decode cX5_count 107 = .ok (.aload_n 0, 1) := dk_42 (dk_at dksX5_count_3 13 rfl rfl)
theorem dX5_count_108 : decode cX5_count 108 = .ok (.iconst 0, 1) := dk_3 (dk_at dksX5_count_3 14 rfl rfl)
theorem dX5_count_109 : decode cX5_count 109 = .ok (.invokevirtual 469, 3) := dk_182 1 213 (dk_at dksX5_count_3 15 rfl rfl)
theorem dX5_count_112 : decode cX5_count 112 = .ok (.ireturn, 1) := dk_172 (dk_at dksX5_count_3 18 rfl rfl)
theorem dX5_count_113 : decode cX5_count 113 = .ok (.aload_n 0, 1) := dk_42 (dk_at dksX5_count_3 19 rfl rfl)
theorem dX5_count_114 : decode cX5_count 114 = .ok (.invokevirtual 472, 3) := dk_182 1 216 (dk_at dksX5_count_3 20 rfl rfl)
theorem dX5_count_117 : decode cX5_count 117 = .ok (.ireturn, 1) := dk_172 (dk_at dksX5_count_3 23 rfl rfl)
theorem dX5_count_118 : decode cX5_count 118 = .ok (.aload_n 0, 1) := dk_42 (dk_at dksX5_count_4 0 rfl rfl)
theorem dX5_count_119 : decode cX5_count 119 = .ok (.getfield 106, 3) := dk_180 0 106 (dk_at dksX5_count_4 1 rfl rfl)
theorem dX5_count_122 : decode cX5_count 122 = .ok (.iconst 0, 1) := dk_3 (dk_at dksX5_count_4 4 rfl rfl)
theorem dX5_count_123 : decode cX5_count 123 = .ok (.iaload, 1) := dk_46 (dk_at dksX5_count_4 5 rfl rfl)
theorem dX5_count_124 : decode cX5_count 124 = .ok (.ireturn, 1) := dk_172 (dk_at dksX5_count_4 6 rfl rfl)
theorem dX5_count_125 : decode cX5_count 125 = .ok (.aload_n 0, 1) := dk_42 (dk_at dksX5_count_4 7 rfl rfl)
theorem dX5_count_126 : decode cX5_count 126 = .ok (.getfield 115, 3) := dk_180 0 115 (dk_at dksX5_count_4 8 rfl rfl)
theorem dX5_count_129 : decode cX5_count 129 = .ok (.bipush 46, 2) := dk_16 46 (dk_at dksX5_count_4 11 rfl rfl)
theorem dX5_count_131 : decode cX5_count 131 = .ok (.iaload, 1) := dk_46 (dk_at dksX5_count_4 13 rfl rfl)
theorem dX5_count_132 : decode cX5_count 132 = .ok (.ireturn, 1) := dk_172 (dk_at dksX5_count_4 14 rfl rfl)
theorem dX5_count_133 : decode cX5_count 133 = .ok (.aload_n 0, 1) := dk_42 (dk_at dksX5_count_4 15 rfl rfl)
theorem dX5_count_134 : decode cX5_count 134 = .ok (.getfield 303, 3) := dk_180 1 47 (dk_at dksX5_count_4 16 rfl rfl)
theorem dX5_count_137 : decode cX5_count 137 = .ok (.ireturn, 1) := dk_172 (dk_at dksX5_count_4 19 rfl rfl)
theorem dX5_count_138 : decode cX5_count 138 = .ok (.aload_n 0, 1) := dk_42 (dk_at dksX5_count_4 20 rfl rfl)
theorem dX5_count_139 : decode cX5_count 139 = .ok (.getfield 11, 3) := dk_180 0 11 (dk_at dksX5_count_4 21 rfl rfl)
theorem dX5_count_142 : decode cX5_count 142 = .ok (.ireturn, 1) := dk_172 (dk_at dksX5_count_5 0 rfl rfl)
theorem dX5_count_143 : decode cX5_count 143 = .ok (.iconst (-1), 1) := dk_2 (dk_at dksX5_count_5 1 rfl rfl)
theorem dX5_count_144 : decode cX5_count 144 = .ok (.ireturn, 1) := dk_172 (dk_at dksX5_count_5 2 rfl rfl)
abbrev cX5_debtsOf : ByteArray := prog_30_method_109_code
def yX5_debtsOf : MethodName := ⟨RX5, "debtsOf", "()I"⟩
def dkwX5_debtsOf_1 : List UInt8 := [132, 2, 1, 167, 255, 233, 27, 172]
abbrev dktX5_debtsOf_1 : List UInt8 := dkwX5_debtsOf_1 ++ []
def dkwX5_debtsOf_0 : List UInt8 := [3, 60, 3, 61, 28, 42, 182, 1, 35, 162, 0, 21, 27, 42, 180, 0, 115, 16, 10, 28, 96, 46, 96, 60]
abbrev dktX5_debtsOf_0 : List UInt8 := dkwX5_debtsOf_0 ++ dktX5_debtsOf_1
theorem dksX5_debtsOf_0 : cX5_debtsOf.data.toList.drop 0 = dktX5_debtsOf_0 := by decide +kernel
theorem dksX5_debtsOf_1 : cX5_debtsOf.data.toList.drop 24 = dktX5_debtsOf_1 := dk_seg dksX5_debtsOf_0 24 rfl rfl
theorem dX5_debtsOf_0 : decode cX5_debtsOf 0 = .ok (.iconst 0, 1) := dk_3 (dk_at dksX5_debtsOf_0 0 rfl rfl)
theorem dX5_debtsOf_1 : decode cX5_debtsOf 1 = .ok (.istore_n 1, 1) := dk_60 (dk_at dksX5_debtsOf_0 1 rfl rfl)
theorem dX5_debtsOf_2 : decode cX5_debtsOf 2 = .ok (.iconst 0, 1) := dk_3 (dk_at dksX5_debtsOf_0 2 rfl rfl)
theorem dX5_debtsOf_3 : decode cX5_debtsOf 3 = .ok (.istore_n 2, 1) := dk_61 (dk_at dksX5_debtsOf_0 3 rfl rfl)
theorem dX5_debtsOf_4 : decode cX5_debtsOf 4 = .ok (.iload_n 2, 1) := dk_28 (dk_at dksX5_debtsOf_0 4 rfl rfl)
theorem dX5_debtsOf_5 : decode cX5_debtsOf 5 = .ok (.aload_n 0, 1) := dk_42 (dk_at dksX5_debtsOf_0 5 rfl rfl)
theorem dX5_debtsOf_6 : decode cX5_debtsOf 6 = .ok (.invokevirtual 291, 3) := dk_182 1 35 (dk_at dksX5_debtsOf_0 6 rfl rfl)
theorem dX5_debtsOf_9 : decode cX5_debtsOf 9 = .ok (.if_icmp .ge 21, 3) := dk_162 0 21 (dk_at dksX5_debtsOf_0 9 rfl rfl)
theorem dX5_debtsOf_12 : decode cX5_debtsOf 12 = .ok (.iload_n 1, 1) := dk_27 (dk_at dksX5_debtsOf_0 12 rfl rfl)
theorem dX5_debtsOf_13 : decode cX5_debtsOf 13 = .ok (.aload_n 0, 1) := dk_42 (dk_at dksX5_debtsOf_0 13 rfl rfl)
theorem dX5_debtsOf_14 : decode cX5_debtsOf 14 = .ok (.getfield 115, 3) := dk_180 0 115 (dk_at dksX5_debtsOf_0 14 rfl rfl)
theorem dX5_debtsOf_17 : decode cX5_debtsOf 17 = .ok (.bipush 10, 2) := dk_16 10 (dk_at dksX5_debtsOf_0 17 rfl rfl)
theorem dX5_debtsOf_19 : decode cX5_debtsOf 19 = .ok (.iload_n 2, 1) := dk_28 (dk_at dksX5_debtsOf_0 19 rfl rfl)
theorem dX5_debtsOf_20 : decode cX5_debtsOf 20 = .ok (.iadd, 1) := dk_96 (dk_at dksX5_debtsOf_0 20 rfl rfl)
theorem dX5_debtsOf_21 : decode cX5_debtsOf 21 = .ok (.iaload, 1) := dk_46 (dk_at dksX5_debtsOf_0 21 rfl rfl)
theorem dX5_debtsOf_22 : decode cX5_debtsOf 22 = .ok (.iadd, 1) := dk_96 (dk_at dksX5_debtsOf_0 22 rfl rfl)
theorem dX5_debtsOf_23 : decode cX5_debtsOf 23 = .ok (.istore_n 1, 1) := dk_60 (dk_at dksX5_debtsOf_0 23 rfl rfl)
theorem dX5_debtsOf_24 : decode cX5_debtsOf 24 = .ok (.iinc 2 1, 3) := dk_132 2 1 (dk_at dksX5_debtsOf_1 0 rfl rfl)
theorem dX5_debtsOf_27 : decode cX5_debtsOf 27 = .ok (.goto (-23), 3) := dk_167 255 233 (dk_at dksX5_debtsOf_1 3 rfl rfl)
theorem dX5_debtsOf_30 : decode cX5_debtsOf 30 = .ok (.iload_n 1, 1) := dk_27 (dk_at dksX5_debtsOf_1 6 rfl rfl)
theorem dX5_debtsOf_31 : decode cX5_debtsOf 31 = .ok (.ireturn, 1) := dk_172 (dk_at dksX5_debtsOf_1 7 rfl rfl)
theorem q134 : (Jvm.Cond.initialized "BorrowedLivesModel") ∈ lw_all := lw_g (lw_at lw_m1 10 rfl) rfl
theorem q1007 : (Jvm.Cond.selects "BorrowedLivesModel" ({ cls := "java/lang/Object", name := "getClass", desc := "()Ljava/lang/Class;" } : Jvm.MethodName) ({ cls := "java/lang/Object", name := "getClass", desc := "()Ljava/lang/Class;" } : Jvm.MethodName)) ∈ lw_all := lw_g (lw_at lw_m4 163 rfl) rfl
theorem q1795 : (Jvm.Cond.instanceMethod ({ cls := "BorrowedLivesModel", name := "thrown", desc := "()I" } : Jvm.MethodName)) ∈ lw_all := lw_g (lw_at lw_m7 231 rfl) rfl
theorem q1796 : (Jvm.Cond.selects "BorrowedLivesModel" ({ cls := "BorrowedLivesModel", name := "thrown", desc := "()I" } : Jvm.MethodName) ({ cls := "BorrowedLivesModel", name := "thrown", desc := "()I" } : Jvm.MethodName)) ∈ lw_all := lw_g (lw_at lw_m7 232 rfl) rfl
theorem q1797 : (Jvm.Cond.code ({ cls := "BorrowedLivesModel", name := "thrown", desc := "()I" } : Jvm.MethodName) prog_30_method_1_code (1 : Nat) (Option.some Jvm.ClassFile.FieldType.int)) ∈ lw_all := lw_g (lw_at lw_m7 233 rfl) rfl
theorem q1799 : (Jvm.Cond.instanceMethod ({ cls := "BorrowedLivesModel", name := "feed", desc := "(JJJ)I" } : Jvm.MethodName)) ∈ lw_all := lw_g (lw_at lw_m7 235 rfl) rfl
theorem q1800 : (Jvm.Cond.selects "BorrowedLivesModel" ({ cls := "BorrowedLivesModel", name := "feed", desc := "(JJJ)I" } : Jvm.MethodName) ({ cls := "BorrowedLivesModel", name := "feed", desc := "(JJJ)I" } : Jvm.MethodName)) ∈ lw_all := lw_g (lw_at lw_m7 236 rfl) rfl
theorem q1801 : (Jvm.Cond.code ({ cls := "BorrowedLivesModel", name := "feed", desc := "(JJJ)I" } : Jvm.MethodName) prog_30_method_2_code (7 : Nat) (Option.some Jvm.ClassFile.FieldType.int)) ∈ lw_all := lw_g (lw_at lw_m7 237 rfl) rfl
theorem q1802 : (Jvm.Cond.methodLink "BorrowedLivesModel" (7 : Nat) ({ cls := "BorrowedLivesModel", name := "lay", desc := "(J)V" } : Jvm.MethodName)) ∈ lw_all := lw_g (lw_at lw_m7 238 rfl) rfl
theorem q1803 : (Jvm.Cond.privateMethod ({ cls := "BorrowedLivesModel", name := "lay", desc := "(J)V" } : Jvm.MethodName)) ∈ lw_tbl := lw_at lw_m7 239 rfl
theorem q1804 : (Jvm.Cond.instanceMethod ({ cls := "BorrowedLivesModel", name := "lay", desc := "(J)V" } : Jvm.MethodName)) ∈ lw_all := lw_g (lw_at lw_m8 0 rfl) rfl
theorem q1805 : (Jvm.Cond.instantiable "BorrowedLivesModel" (43 : Nat)) ∈ lw_all := lw_g (lw_at lw_m8 1 rfl) rfl
theorem q1806 : (Jvm.Cond.code ({ cls := "BorrowedLivesModel", name := "lay", desc := "(J)V" } : Jvm.MethodName) prog_30_method_3_code (5 : Nat) (Option.none : Option Jvm.ClassFile.FieldType)) ∈ lw_all := lw_g (lw_at lw_m8 2 rfl) rfl
theorem q1809 : (Jvm.Cond.instanceMethod ({ cls := "BorrowedLivesModel", name := "<init>", desc := "()V" } : Jvm.MethodName)) ∈ lw_all := lw_g (lw_at lw_m8 5 rfl) rfl
theorem q1810 : (Jvm.Cond.code ({ cls := "BorrowedLivesModel", name := "<init>", desc := "()V" } : Jvm.MethodName) prog_30_method_4_code (1 : Nat) (Option.none : Option Jvm.ClassFile.FieldType)) ∈ lw_all := lw_g (lw_at lw_m8 6 rfl) rfl
theorem q1811 : (Jvm.Cond.methodLink "BorrowedLivesModel" (18 : Nat) ({ cls := "java/lang/Object", name := "<init>", desc := "()V" } : Jvm.MethodName)) ∈ lw_all := lw_g (lw_at lw_m8 7 rfl) rfl
theorem q1812 : (Jvm.Cond.constantLong "BorrowedLivesModel" (34 : Nat) (1119812451 : Int64)) ∈ lw_all := lw_g (lw_at lw_m8 8 rfl) rfl
theorem q1813 : (Jvm.Cond.constantLong "BorrowedLivesModel" (36 : Nat) (36179019 : Int64)) ∈ lw_all := lw_g (lw_at lw_m8 9 rfl) rfl
theorem q1814 : (Jvm.Cond.constantLong "BorrowedLivesModel" (38 : Nat) (31075639 : Int64)) ∈ lw_all := lw_g (lw_at lw_m8 10 rfl) rfl
theorem q1815 : (Jvm.Cond.constantLong "BorrowedLivesModel" (40 : Nat) (209551 : Int64)) ∈ lw_all := lw_g (lw_at lw_m8 11 rfl) rfl
theorem q1816 : (Jvm.Cond.constantLong "BorrowedLivesModel" (42 : Nat) (426245 : Int64)) ∈ lw_all := lw_g (lw_at lw_m8 12 rfl) rfl
theorem q1817 : (Jvm.Cond.constantLong "BorrowedLivesModel" (44 : Nat) (2793 : Int64)) ∈ lw_all := lw_g (lw_at lw_m8 13 rfl) rfl
theorem q1818 : (Jvm.Cond.constantLong "BorrowedLivesModel" (46 : Nat) (975001 : Int64)) ∈ lw_all := lw_g (lw_at lw_m8 14 rfl) rfl
theorem q1819 : (Jvm.Cond.constantLong "BorrowedLivesModel" (48 : Nat) (1347794357 : Int64)) ∈ lw_all := lw_g (lw_at lw_m8 15 rfl) rfl
theorem q1820 : (Jvm.Cond.constantLong "BorrowedLivesModel" (50 : Nat) (24636691 : Int64)) ∈ lw_all := lw_g (lw_at lw_m8 16 rfl) rfl
theorem q1821 : (Jvm.Cond.constantLong "BorrowedLivesModel" (52 : Nat) (375665 : Int64)) ∈ lw_all := lw_g (lw_at lw_m8 17 rfl) rfl
theorem q1822 : (Jvm.Cond.constantLong "BorrowedLivesModel" (54 : Nat) (1178051 : Int64)) ∈ lw_all := lw_g (lw_at lw_m8 18 rfl) rfl
theorem q1823 : (Jvm.Cond.constantLong "BorrowedLivesModel" (56 : Nat) (417698 : Int64)) ∈ lw_all := lw_g (lw_at lw_m8 19 rfl) rfl
theorem q1824 : (Jvm.Cond.constantLong "BorrowedLivesModel" (58 : Nat) (17003 : Int64)) ∈ lw_all := lw_g (lw_at lw_m8 20 rfl) rfl
theorem q1825 : (Jvm.Cond.constantLong "BorrowedLivesModel" (60 : Nat) (993947 : Int64)) ∈ lw_all := lw_g (lw_at lw_m8 21 rfl) rfl
theorem q1826 : (Jvm.Cond.constantLong "BorrowedLivesModel" (62 : Nat) (5538 : Int64)) ∈ lw_all := lw_g (lw_at lw_m8 22 rfl) rfl
theorem q1827 : (Jvm.Cond.constantLong "BorrowedLivesModel" (64 : Nat) (30596128 : Int64)) ∈ lw_all := lw_g (lw_at lw_m8 23 rfl) rfl
theorem q1828 : (Jvm.Cond.constantLong "BorrowedLivesModel" (66 : Nat) (24846184 : Int64)) ∈ lw_all := lw_g (lw_at lw_m8 24 rfl) rfl
theorem q1829 : (Jvm.Cond.constantLong "BorrowedLivesModel" (68 : Nat) (37900956 : Int64)) ∈ lw_all := lw_g (lw_at lw_m8 25 rfl) rfl
theorem q1830 : (Jvm.Cond.constantLong "BorrowedLivesModel" (70 : Nat) (24449544 : Int64)) ∈ lw_all := lw_g (lw_at lw_m8 26 rfl) rfl
theorem q1831 : (Jvm.Cond.constantLong "BorrowedLivesModel" (72 : Nat) (19741 : Int64)) ∈ lw_all := lw_g (lw_at lw_m8 27 rfl) rfl
theorem q1832 : (Jvm.Cond.constantLong "BorrowedLivesModel" (74 : Nat) (1891 : Int64)) ∈ lw_all := lw_g (lw_at lw_m8 28 rfl) rfl
theorem q1833 : (Jvm.Cond.constantLong "BorrowedLivesModel" (76 : Nat) (573 : Int64)) ∈ lw_all := lw_g (lw_at lw_m8 29 rfl) rfl
theorem q1834 : (Jvm.Cond.constantLong "BorrowedLivesModel" (78 : Nat) (25143264 : Int64)) ∈ lw_all := lw_g (lw_at lw_m8 30 rfl) rfl
theorem q1835 : (Jvm.Cond.constantLong "BorrowedLivesModel" (80 : Nat) (791471 : Int64)) ∈ lw_all := lw_g (lw_at lw_m8 31 rfl) rfl
theorem q1836 : (Jvm.Cond.constantLong "BorrowedLivesModel" (82 : Nat) (716044 : Int64)) ∈ lw_all := lw_g (lw_at lw_m8 32 rfl) rfl
theorem q1837 : (Jvm.Cond.constantLong "BorrowedLivesModel" (84 : Nat) (53840 : Int64)) ∈ lw_all := lw_g (lw_at lw_m8 33 rfl) rfl
theorem q1838 : (Jvm.Cond.constantLong "BorrowedLivesModel" (86 : Nat) (38396496 : Int64)) ∈ lw_all := lw_g (lw_at lw_m8 34 rfl) rfl
theorem q1839 : (Jvm.Cond.methodLink "BorrowedLivesModel" (149 : Nat) ({ cls := "BorrowedLivesModel", name := "standsAsAlways", desc := "(I)V" } : Jvm.MethodName)) ∈ lw_all := lw_g (lw_at lw_m8 35 rfl) rfl
theorem q1840 : (Jvm.Cond.privateMethod ({ cls := "BorrowedLivesModel", name := "standsAsAlways", desc := "(I)V" } : Jvm.MethodName)) ∈ lw_tbl := lw_at lw_m8 36 rfl
theorem q1841 : (Jvm.Cond.instanceMethod ({ cls := "BorrowedLivesModel", name := "standsAsAlways", desc := "(I)V" } : Jvm.MethodName)) ∈ lw_all := lw_g (lw_at lw_m8 37 rfl) rfl
theorem q1842 : (Jvm.Cond.code ({ cls := "BorrowedLivesModel", name := "standsAsAlways", desc := "(I)V" } : Jvm.MethodName) prog_30_method_18_code (3 : Nat) (Option.none : Option Jvm.ClassFile.FieldType)) ∈ lw_all := lw_g (lw_at lw_m8 38 rfl) rfl
theorem q1843 : (Jvm.Cond.methodLink "BorrowedLivesModel" (153 : Nat) ({ cls := "BorrowedLivesModel", name := "begins", desc := "()V" } : Jvm.MethodName)) ∈ lw_all := lw_g (lw_at lw_m8 39 rfl) rfl
theorem q1844 : (Jvm.Cond.privateMethod ({ cls := "BorrowedLivesModel", name := "begins", desc := "()V" } : Jvm.MethodName)) ∈ lw_tbl := lw_at lw_m8 40 rfl
theorem q1845 : (Jvm.Cond.instanceMethod ({ cls := "BorrowedLivesModel", name := "begins", desc := "()V" } : Jvm.MethodName)) ∈ lw_all := lw_g (lw_at lw_m8 41 rfl) rfl
theorem q1846 : (Jvm.Cond.code ({ cls := "BorrowedLivesModel", name := "begins", desc := "()V" } : Jvm.MethodName) prog_30_method_44_code (2 : Nat) (Option.none : Option Jvm.ClassFile.FieldType)) ∈ lw_all := lw_g (lw_at lw_m8 42 rfl) rfl
theorem q1847 : (Jvm.Cond.methodLink "BorrowedLivesModel" (300 : Nat) ({ cls := "BorrowedLivesModel", name := "starts", desc := "(I)V" } : Jvm.MethodName)) ∈ lw_all := lw_g (lw_at lw_m8 43 rfl) rfl
theorem q1848 : (Jvm.Cond.privateMethod ({ cls := "BorrowedLivesModel", name := "starts", desc := "(I)V" } : Jvm.MethodName)) ∈ lw_tbl := lw_at lw_m8 44 rfl
theorem q1849 : (Jvm.Cond.instanceMethod ({ cls := "BorrowedLivesModel", name := "starts", desc := "(I)V" } : Jvm.MethodName)) ∈ lw_all := lw_g (lw_at lw_m8 45 rfl) rfl
theorem q1850 : (Jvm.Cond.code ({ cls := "BorrowedLivesModel", name := "starts", desc := "(I)V" } : Jvm.MethodName) prog_30_method_43_code (3 : Nat) (Option.none : Option Jvm.ClassFile.FieldType)) ∈ lw_all := lw_g (lw_at lw_m8 46 rfl) rfl
theorem q1851 : (Jvm.Cond.methodLink "BorrowedLivesModel" (291 : Nat) ({ cls := "BorrowedLivesModel", name := "people", desc := "()I" } : Jvm.MethodName)) ∈ lw_all := lw_g (lw_at lw_m8 47 rfl) rfl
theorem q1852 : (Jvm.Cond.privateMethod ({ cls := "BorrowedLivesModel", name := "people", desc := "()I" } : Jvm.MethodName)) ∈ lw_tbl := lw_at lw_m8 48 rfl
theorem q1853 : (Jvm.Cond.instanceMethod ({ cls := "BorrowedLivesModel", name := "people", desc := "()I" } : Jvm.MethodName)) ∈ lw_all := lw_g (lw_at lw_m8 49 rfl) rfl
theorem q1854 : (Jvm.Cond.code ({ cls := "BorrowedLivesModel", name := "people", desc := "()I" } : Jvm.MethodName) prog_30_method_46_code (1 : Nat) (Option.some Jvm.ClassFile.FieldType.int)) ∈ lw_all := lw_g (lw_at lw_m8 50 rfl) rfl
theorem q1855 : (Jvm.Cond.methodLink "BorrowedLivesModel" (294 : Nat) ({ cls := "BorrowedLivesModel", name := "personOf", desc := "(II)I" } : Jvm.MethodName)) ∈ lw_all := lw_g (lw_at lw_m8 51 rfl) rfl
theorem q1856 : (Jvm.Cond.privateMethod ({ cls := "BorrowedLivesModel", name := "personOf", desc := "(II)I" } : Jvm.MethodName)) ∈ lw_tbl := lw_at lw_m8 52 rfl
theorem q1857 : (Jvm.Cond.instanceMethod ({ cls := "BorrowedLivesModel", name := "personOf", desc := "(II)I" } : Jvm.MethodName)) ∈ lw_all := lw_g (lw_at lw_m8 53 rfl) rfl
theorem q1858 : (Jvm.Cond.code ({ cls := "BorrowedLivesModel", name := "personOf", desc := "(II)I" } : Jvm.MethodName) prog_30_method_47_code (3 : Nat) (Option.some Jvm.ClassFile.FieldType.int)) ∈ lw_all := lw_g (lw_at lw_m8 54 rfl) rfl
theorem q1859 : (Jvm.Cond.methodLink "BorrowedLivesModel" (306 : Nat) ({ cls := "BorrowedLivesModel", name := "findLots", desc := "()V" } : Jvm.MethodName)) ∈ lw_all := lw_g (lw_at lw_m8 55 rfl) rfl
theorem q1860 : (Jvm.Cond.privateMethod ({ cls := "BorrowedLivesModel", name := "findLots", desc := "()V" } : Jvm.MethodName)) ∈ lw_tbl := lw_at lw_m8 56 rfl
theorem q1861 : (Jvm.Cond.instanceMethod ({ cls := "BorrowedLivesModel", name := "findLots", desc := "()V" } : Jvm.MethodName)) ∈ lw_all := lw_g (lw_at lw_m8 57 rfl) rfl
theorem q1862 : (Jvm.Cond.code ({ cls := "BorrowedLivesModel", name := "findLots", desc := "()V" } : Jvm.MethodName) prog_30_method_50_code (1 : Nat) (Option.none : Option Jvm.ClassFile.FieldType)) ∈ lw_all := lw_g (lw_at lw_m8 58 rfl) rfl
theorem q1863 : (Jvm.Cond.methodLink "BorrowedLivesModel" (316 : Nat) ({ cls := "BorrowedLivesModel", name := "lotsFrom", desc := "(II)V" } : Jvm.MethodName)) ∈ lw_all := lw_g (lw_at lw_m8 59 rfl) rfl
theorem q1864 : (Jvm.Cond.privateMethod ({ cls := "BorrowedLivesModel", name := "lotsFrom", desc := "(II)V" } : Jvm.MethodName)) ∈ lw_tbl := lw_at lw_m8 60 rfl
theorem q1865 : (Jvm.Cond.instanceMethod ({ cls := "BorrowedLivesModel", name := "lotsFrom", desc := "(II)V" } : Jvm.MethodName)) ∈ lw_all := lw_g (lw_at lw_m8 61 rfl) rfl
theorem q1866 : (Jvm.Cond.code ({ cls := "BorrowedLivesModel", name := "lotsFrom", desc := "(II)V" } : Jvm.MethodName) prog_30_method_52_code (4 : Nat) (Option.none : Option Jvm.ClassFile.FieldType)) ∈ lw_all := lw_g (lw_at lw_m8 62 rfl) rfl
theorem q1867 : (Jvm.Cond.methodLink "BorrowedLivesModel" (319 : Nat) ({ cls := "BorrowedLivesModel", name := "mayBe", desc := "(II)Z" } : Jvm.MethodName)) ∈ lw_all := lw_g (lw_at lw_m8 63 rfl) rfl
theorem q1868 : (Jvm.Cond.privateMethod ({ cls := "BorrowedLivesModel", name := "mayBe", desc := "(II)Z" } : Jvm.MethodName)) ∈ lw_tbl := lw_at lw_m8 64 rfl
theorem q1869 : (Jvm.Cond.instanceMethod ({ cls := "BorrowedLivesModel", name := "mayBe", desc := "(II)Z" } : Jvm.MethodName)) ∈ lw_all := lw_g (lw_at lw_m8 65 rfl) rfl
theorem q1870 : (Jvm.Cond.code ({ cls := "BorrowedLivesModel", name := "mayBe", desc := "(II)Z" } : Jvm.MethodName) prog_30_method_49_code (3 : Nat) (Option.some Jvm.ClassFile.FieldType.boolean)) ∈ lw_all := lw_g (lw_at lw_m8 66 rfl) rfl
theorem q1871 : (Jvm.Cond.fieldLink "BorrowedLivesModel" (1 : Nat) "BorrowedLivesModel" "thrown" "I") ∈ lw_all := lw_g (lw_at lw_m8 67 rfl) rfl
theorem q1872 : (Jvm.Cond.fieldLink "BorrowedLivesModel" (14 : Nat) "BorrowedLivesModel" "tape" "[I") ∈ lw_all := lw_g (lw_at lw_m8 68 rfl) rfl
theorem q1873 : (Jvm.Cond.fieldLink "BorrowedLivesModel" (11 : Nat) "BorrowedLivesModel" "taped" "I") ∈ lw_all := lw_g (lw_at lw_m8 69 rfl) rfl
theorem q1874 : (Jvm.Cond.fieldLink "BorrowedLivesModel" (160 : Nat) "BorrowedLivesModel" "size" "I") ∈ lw_all := lw_g (lw_at lw_m8 70 rfl) rfl
theorem q1875 : (Jvm.Cond.fieldLink "BorrowedLivesModel" (24 : Nat) "BorrowedLivesModel" "sort" "[I") ∈ lw_all := lw_g (lw_at lw_m8 71 rfl) rfl
theorem q1876 : (Jvm.Cond.fieldLink "BorrowedLivesModel" (27 : Nat) "BorrowedLivesModel" "place" "[I") ∈ lw_all := lw_g (lw_at lw_m8 72 rfl) rfl
theorem q1877 : (Jvm.Cond.fieldLink "BorrowedLivesModel" (30 : Nat) "BorrowedLivesModel" "value" "[J") ∈ lw_all := lw_g (lw_at lw_m8 73 rfl) rfl
theorem q1878 : (Jvm.Cond.fieldLink "BorrowedLivesModel" (179 : Nat) "BorrowedLivesModel" "at" "I") ∈ lw_all := lw_g (lw_at lw_m8 74 rfl) rfl
theorem q1879 : (Jvm.Cond.fieldLink "BorrowedLivesModel" (182 : Nat) "BorrowedLivesModel" "fault" "I") ∈ lw_all := lw_g (lw_at lw_m8 75 rfl) rfl
theorem q1880 : (Jvm.Cond.fieldLink "BorrowedLivesModel" (88 : Nat) "BorrowedLivesModel" "words" "[J") ∈ lw_all := lw_g (lw_at lw_m8 76 rfl) rfl
theorem q1881 : (Jvm.Cond.fieldLink "BorrowedLivesModel" (91 : Nat) "BorrowedLivesModel" "towns" "[I") ∈ lw_all := lw_g (lw_at lw_m8 77 rfl) rfl
theorem q1882 : (Jvm.Cond.fieldLink "BorrowedLivesModel" (94 : Nat) "BorrowedLivesModel" "op" "[I") ∈ lw_all := lw_g (lw_at lw_m8 78 rfl) rfl
theorem q1883 : (Jvm.Cond.fieldLink "BorrowedLivesModel" (97 : Nat) "BorrowedLivesModel" "arg" "[I") ∈ lw_all := lw_g (lw_at lw_m8 79 rfl) rfl
theorem q1884 : (Jvm.Cond.fieldLink "BorrowedLivesModel" (227 : Nat) "BorrowedLivesModel" "codes" "I") ∈ lw_all := lw_g (lw_at lw_m8 80 rfl) rfl
theorem q1885 : (Jvm.Cond.fieldLink "BorrowedLivesModel" (100 : Nat) "BorrowedLivesModel" "names" "[J") ∈ lw_all := lw_g (lw_at lw_m8 81 rfl) rfl
theorem q1886 : (Jvm.Cond.fieldLink "BorrowedLivesModel" (103 : Nat) "BorrowedLivesModel" "readNames" "[J") ∈ lw_all := lw_g (lw_at lw_m8 82 rfl) rfl
theorem q1887 : (Jvm.Cond.fieldLink "BorrowedLivesModel" (210 : Nat) "BorrowedLivesModel" "namesMany" "I") ∈ lw_all := lw_g (lw_at lw_m8 83 rfl) rfl
theorem q1888 : (Jvm.Cond.fieldLink "BorrowedLivesModel" (207 : Nat) "BorrowedLivesModel" "readMany" "I") ∈ lw_all := lw_g (lw_at lw_m8 84 rfl) rfl
theorem q1889 : (Jvm.Cond.fieldLink "BorrowedLivesModel" (230 : Nat) "BorrowedLivesModel" "hasSigned" "Z") ∈ lw_all := lw_g (lw_at lw_m8 85 rfl) rfl
theorem q1890 : (Jvm.Cond.fieldLink "BorrowedLivesModel" (256 : Nat) "BorrowedLivesModel" "factsHere" "I") ∈ lw_all := lw_g (lw_at lw_m8 86 rfl) rfl
theorem q1891 : (Jvm.Cond.fieldLink "BorrowedLivesModel" (106 : Nat) "BorrowedLivesModel" "lines" "[I") ∈ lw_all := lw_g (lw_at lw_m8 87 rfl) rfl
theorem q1892 : (Jvm.Cond.fieldLink "BorrowedLivesModel" (109 : Nat) "BorrowedLivesModel" "facts" "[I") ∈ lw_all := lw_g (lw_at lw_m8 88 rfl) rfl
theorem q1893 : (Jvm.Cond.fieldLink "BorrowedLivesModel" (112 : Nat) "BorrowedLivesModel" "pile" "[I") ∈ lw_all := lw_g (lw_at lw_m8 89 rfl) rfl
theorem q1894 : (Jvm.Cond.fieldLink "BorrowedLivesModel" (115 : Nat) "BorrowedLivesModel" "state" "[I") ∈ lw_all := lw_g (lw_at lw_m8 90 rfl) rfl
theorem q1895 : (Jvm.Cond.fieldLink "BorrowedLivesModel" (303 : Nat) "BorrowedLivesModel" "undos" "I") ∈ lw_all := lw_g (lw_at lw_m8 91 rfl) rfl
theorem q1896 : (Jvm.Cond.fieldLink "BorrowedLivesModel" (118 : Nat) "BorrowedLivesModel" "isMarked" "[Z") ∈ lw_all := lw_g (lw_at lw_m8 92 rfl) rfl
theorem q1897 : (Jvm.Cond.fieldLink "BorrowedLivesModel" (297 : Nat) "BorrowedLivesModel" "signed" "I") ∈ lw_all := lw_g (lw_at lw_m8 93 rfl) rfl
theorem q1898 : (Jvm.Cond.fieldLink "BorrowedLivesModel" (122 : Nat) "BorrowedLivesModel" "lotRows" "[I") ∈ lw_all := lw_g (lw_at lw_m8 94 rfl) rfl
theorem q1899 : (Jvm.Cond.fieldLink "BorrowedLivesModel" (125 : Nat) "BorrowedLivesModel" "lotRow" "[I") ∈ lw_all := lw_g (lw_at lw_m8 95 rfl) rfl
theorem q1900 : (Jvm.Cond.fieldLink "BorrowedLivesModel" (313 : Nat) "BorrowedLivesModel" "lotsMany" "I") ∈ lw_all := lw_g (lw_at lw_m8 96 rfl) rfl
theorem q1901 : (Jvm.Cond.fieldLink "BorrowedLivesModel" (369 : Nat) "BorrowedLivesModel" "g" "J") ∈ lw_all := lw_g (lw_at lw_m8 97 rfl) rfl
theorem q1902 : (Jvm.Cond.fieldLink "BorrowedLivesModel" (128 : Nat) "BorrowedLivesModel" "deed" "[I") ∈ lw_all := lw_g (lw_at lw_m8 98 rfl) rfl
theorem q1903 : (Jvm.Cond.fieldLink "BorrowedLivesModel" (131 : Nat) "BorrowedLivesModel" "bestDeeds" "[I") ∈ lw_all := lw_g (lw_at lw_m8 99 rfl) rfl
theorem q1904 : (Jvm.Cond.fieldLink "BorrowedLivesModel" (431 : Nat) "BorrowedLivesModel" "mostGood" "I") ∈ lw_all := lw_g (lw_at lw_m8 100 rfl) rfl
theorem q1905 : (Jvm.Cond.fieldLink "BorrowedLivesModel" (428 : Nat) "BorrowedLivesModel" "isFound" "Z") ∈ lw_all := lw_g (lw_at lw_m8 101 rfl) rfl
theorem q1906 : (Jvm.Cond.fieldLink "BorrowedLivesModel" (422 : Nat) "BorrowedLivesModel" "deedsMany" "I") ∈ lw_all := lw_g (lw_at lw_m8 102 rfl) rfl
theorem q1907 : (Jvm.Cond.fieldLink "BorrowedLivesModel" (134 : Nat) "BorrowedLivesModel" "would" "[Z") ∈ lw_all := lw_g (lw_at lw_m8 103 rfl) rfl
theorem q1908 : (Jvm.Cond.fieldLink "BorrowedLivesModel" (137 : Nat) "BorrowedLivesModel" "pairRow" "[I") ∈ lw_all := lw_g (lw_at lw_m8 104 rfl) rfl
theorem q1909 : (Jvm.Cond.fieldLink "BorrowedLivesModel" (140 : Nat) "BorrowedLivesModel" "bestPairs" "[I") ∈ lw_all := lw_g (lw_at lw_m8 105 rfl) rfl
theorem q1910 : (Jvm.Cond.fieldLink "BorrowedLivesModel" (438 : Nat) "BorrowedLivesModel" "mostPairs" "I") ∈ lw_all := lw_g (lw_at lw_m8 106 rfl) rfl
theorem q1911 : (Jvm.Cond.fieldLink "BorrowedLivesModel" (143 : Nat) "BorrowedLivesModel" "purses" "[I") ∈ lw_all := lw_g (lw_at lw_m8 107 rfl) rfl
theorem q1912 : (Jvm.Cond.fieldLink "BorrowedLivesModel" (146 : Nat) "BorrowedLivesModel" "fits" "[Z") ∈ lw_all := lw_g (lw_at lw_m8 108 rfl) rfl
theorem q1913 : (Jvm.Cond.fieldLink "BorrowedLivesModel" (447 : Nat) "BorrowedLivesModel" "fitting" "I") ∈ lw_all := lw_g (lw_at lw_m8 109 rfl) rfl
theorem q1914 : (Jvm.Cond.lays "BorrowedLivesModel" "BorrowedLivesModel" "thrown" "I") ∈ lw_all := lw_g (lw_at lw_m8 110 rfl) rfl
theorem q1915 : (Jvm.Cond.soleField "BorrowedLivesModel" "thrown") ∈ lw_all := lw_g (lw_at lw_m8 111 rfl) rfl
theorem q1916 : (Jvm.Cond.laysFinal "BorrowedLivesModel" "BorrowedLivesModel" "tape" "[I") ∈ lw_all := lw_g (lw_at lw_m8 112 rfl) rfl
theorem q1917 : (Jvm.Cond.soleField "BorrowedLivesModel" "tape") ∈ lw_all := lw_g (lw_at lw_m8 113 rfl) rfl
theorem q1918 : (Jvm.Cond.lays "BorrowedLivesModel" "BorrowedLivesModel" "taped" "I") ∈ lw_all := lw_g (lw_at lw_m8 114 rfl) rfl
theorem q1919 : (Jvm.Cond.soleField "BorrowedLivesModel" "taped") ∈ lw_all := lw_g (lw_at lw_m8 115 rfl) rfl
theorem q1920 : (Jvm.Cond.lays "BorrowedLivesModel" "BorrowedLivesModel" "size" "I") ∈ lw_all := lw_g (lw_at lw_m8 116 rfl) rfl
theorem q1921 : (Jvm.Cond.soleField "BorrowedLivesModel" "size") ∈ lw_all := lw_g (lw_at lw_m8 117 rfl) rfl
theorem q1922 : (Jvm.Cond.laysFinal "BorrowedLivesModel" "BorrowedLivesModel" "sort" "[I") ∈ lw_all := lw_g (lw_at lw_m8 118 rfl) rfl
theorem q1923 : (Jvm.Cond.soleField "BorrowedLivesModel" "sort") ∈ lw_all := lw_g (lw_at lw_m8 119 rfl) rfl
theorem q1924 : (Jvm.Cond.laysFinal "BorrowedLivesModel" "BorrowedLivesModel" "place" "[I") ∈ lw_all := lw_g (lw_at lw_m8 120 rfl) rfl
theorem q1925 : (Jvm.Cond.soleField "BorrowedLivesModel" "place") ∈ lw_all := lw_g (lw_at lw_m8 121 rfl) rfl
theorem q1926 : (Jvm.Cond.laysFinal "BorrowedLivesModel" "BorrowedLivesModel" "value" "[J") ∈ lw_all := lw_g (lw_at lw_m8 122 rfl) rfl
theorem q1927 : (Jvm.Cond.soleField "BorrowedLivesModel" "value") ∈ lw_all := lw_g (lw_at lw_m8 123 rfl) rfl
theorem q1928 : (Jvm.Cond.lays "BorrowedLivesModel" "BorrowedLivesModel" "at" "I") ∈ lw_all := lw_g (lw_at lw_m8 124 rfl) rfl
theorem q1929 : (Jvm.Cond.soleField "BorrowedLivesModel" "at") ∈ lw_all := lw_g (lw_at lw_m8 125 rfl) rfl
theorem q1930 : (Jvm.Cond.lays "BorrowedLivesModel" "BorrowedLivesModel" "fault" "I") ∈ lw_all := lw_g (lw_at lw_m8 126 rfl) rfl
theorem q1931 : (Jvm.Cond.soleField "BorrowedLivesModel" "fault") ∈ lw_all := lw_g (lw_at lw_m8 127 rfl) rfl
theorem q1932 : (Jvm.Cond.laysFinal "BorrowedLivesModel" "BorrowedLivesModel" "words" "[J") ∈ lw_all := lw_g (lw_at lw_m8 128 rfl) rfl
theorem q1933 : (Jvm.Cond.soleField "BorrowedLivesModel" "words") ∈ lw_all := lw_g (lw_at lw_m8 129 rfl) rfl
theorem q1934 : (Jvm.Cond.laysFinal "BorrowedLivesModel" "BorrowedLivesModel" "towns" "[I") ∈ lw_all := lw_g (lw_at lw_m8 130 rfl) rfl
theorem q1935 : (Jvm.Cond.soleField "BorrowedLivesModel" "towns") ∈ lw_all := lw_g (lw_at lw_m8 131 rfl) rfl
theorem q1936 : (Jvm.Cond.laysFinal "BorrowedLivesModel" "BorrowedLivesModel" "op" "[I") ∈ lw_all := lw_g (lw_at lw_m8 132 rfl) rfl
theorem q1937 : (Jvm.Cond.soleField "BorrowedLivesModel" "op") ∈ lw_all := lw_g (lw_at lw_m8 133 rfl) rfl
theorem q1938 : (Jvm.Cond.laysFinal "BorrowedLivesModel" "BorrowedLivesModel" "arg" "[I") ∈ lw_all := lw_g (lw_at lw_m8 134 rfl) rfl
theorem q1939 : (Jvm.Cond.soleField "BorrowedLivesModel" "arg") ∈ lw_all := lw_g (lw_at lw_m8 135 rfl) rfl
theorem q1940 : (Jvm.Cond.lays "BorrowedLivesModel" "BorrowedLivesModel" "codes" "I") ∈ lw_all := lw_g (lw_at lw_m8 136 rfl) rfl
theorem q1941 : (Jvm.Cond.soleField "BorrowedLivesModel" "codes") ∈ lw_all := lw_g (lw_at lw_m8 137 rfl) rfl
theorem q1942 : (Jvm.Cond.laysFinal "BorrowedLivesModel" "BorrowedLivesModel" "names" "[J") ∈ lw_all := lw_g (lw_at lw_m8 138 rfl) rfl
theorem q1943 : (Jvm.Cond.soleField "BorrowedLivesModel" "names") ∈ lw_all := lw_g (lw_at lw_m8 139 rfl) rfl
theorem q1944 : (Jvm.Cond.laysFinal "BorrowedLivesModel" "BorrowedLivesModel" "readNames" "[J") ∈ lw_all := lw_g (lw_at lw_m8 140 rfl) rfl
theorem q1945 : (Jvm.Cond.soleField "BorrowedLivesModel" "readNames") ∈ lw_all := lw_g (lw_at lw_m8 141 rfl) rfl
theorem q1946 : (Jvm.Cond.lays "BorrowedLivesModel" "BorrowedLivesModel" "namesMany" "I") ∈ lw_all := lw_g (lw_at lw_m8 142 rfl) rfl
theorem q1947 : (Jvm.Cond.soleField "BorrowedLivesModel" "namesMany") ∈ lw_all := lw_g (lw_at lw_m8 143 rfl) rfl
theorem q1948 : (Jvm.Cond.lays "BorrowedLivesModel" "BorrowedLivesModel" "readMany" "I") ∈ lw_all := lw_g (lw_at lw_m8 144 rfl) rfl
theorem q1949 : (Jvm.Cond.soleField "BorrowedLivesModel" "readMany") ∈ lw_all := lw_g (lw_at lw_m8 145 rfl) rfl
theorem q1950 : (Jvm.Cond.lays "BorrowedLivesModel" "BorrowedLivesModel" "hasSigned" "Z") ∈ lw_all := lw_g (lw_at lw_m8 146 rfl) rfl
theorem q1951 : (Jvm.Cond.soleField "BorrowedLivesModel" "hasSigned") ∈ lw_all := lw_g (lw_at lw_m8 147 rfl) rfl
theorem q1952 : (Jvm.Cond.lays "BorrowedLivesModel" "BorrowedLivesModel" "factsHere" "I") ∈ lw_all := lw_g (lw_at lw_m8 148 rfl) rfl
theorem q1953 : (Jvm.Cond.soleField "BorrowedLivesModel" "factsHere") ∈ lw_all := lw_g (lw_at lw_m8 149 rfl) rfl
theorem q1954 : (Jvm.Cond.laysFinal "BorrowedLivesModel" "BorrowedLivesModel" "lines" "[I") ∈ lw_all := lw_g (lw_at lw_m8 150 rfl) rfl
theorem q1955 : (Jvm.Cond.soleField "BorrowedLivesModel" "lines") ∈ lw_all := lw_g (lw_at lw_m8 151 rfl) rfl
theorem q1956 : (Jvm.Cond.laysFinal "BorrowedLivesModel" "BorrowedLivesModel" "facts" "[I") ∈ lw_all := lw_g (lw_at lw_m8 152 rfl) rfl
theorem q1957 : (Jvm.Cond.soleField "BorrowedLivesModel" "facts") ∈ lw_all := lw_g (lw_at lw_m8 153 rfl) rfl
theorem q1958 : (Jvm.Cond.laysFinal "BorrowedLivesModel" "BorrowedLivesModel" "pile" "[I") ∈ lw_all := lw_g (lw_at lw_m8 154 rfl) rfl
theorem q1959 : (Jvm.Cond.soleField "BorrowedLivesModel" "pile") ∈ lw_all := lw_g (lw_at lw_m8 155 rfl) rfl
theorem q1960 : (Jvm.Cond.laysFinal "BorrowedLivesModel" "BorrowedLivesModel" "state" "[I") ∈ lw_all := lw_g (lw_at lw_m8 156 rfl) rfl
theorem q1961 : (Jvm.Cond.soleField "BorrowedLivesModel" "state") ∈ lw_all := lw_g (lw_at lw_m8 157 rfl) rfl
theorem q1962 : (Jvm.Cond.lays "BorrowedLivesModel" "BorrowedLivesModel" "undos" "I") ∈ lw_all := lw_g (lw_at lw_m8 158 rfl) rfl
theorem q1963 : (Jvm.Cond.soleField "BorrowedLivesModel" "undos") ∈ lw_all := lw_g (lw_at lw_m8 159 rfl) rfl
theorem q1964 : (Jvm.Cond.laysFinal "BorrowedLivesModel" "BorrowedLivesModel" "isMarked" "[Z") ∈ lw_all := lw_g (lw_at lw_m8 160 rfl) rfl
theorem q1965 : (Jvm.Cond.soleField "BorrowedLivesModel" "isMarked") ∈ lw_all := lw_g (lw_at lw_m8 161 rfl) rfl
theorem q1966 : (Jvm.Cond.lays "BorrowedLivesModel" "BorrowedLivesModel" "signed" "I") ∈ lw_all := lw_g (lw_at lw_m8 162 rfl) rfl
theorem q1967 : (Jvm.Cond.soleField "BorrowedLivesModel" "signed") ∈ lw_all := lw_g (lw_at lw_m8 163 rfl) rfl
theorem q1968 : (Jvm.Cond.laysFinal "BorrowedLivesModel" "BorrowedLivesModel" "lotRows" "[I") ∈ lw_all := lw_g (lw_at lw_m8 164 rfl) rfl
theorem q1969 : (Jvm.Cond.soleField "BorrowedLivesModel" "lotRows") ∈ lw_all := lw_g (lw_at lw_m8 165 rfl) rfl
theorem q1970 : (Jvm.Cond.laysFinal "BorrowedLivesModel" "BorrowedLivesModel" "lotRow" "[I") ∈ lw_all := lw_g (lw_at lw_m8 166 rfl) rfl
theorem q1971 : (Jvm.Cond.soleField "BorrowedLivesModel" "lotRow") ∈ lw_all := lw_g (lw_at lw_m8 167 rfl) rfl
theorem q1972 : (Jvm.Cond.lays "BorrowedLivesModel" "BorrowedLivesModel" "lotsMany" "I") ∈ lw_all := lw_g (lw_at lw_m8 168 rfl) rfl
theorem q1973 : (Jvm.Cond.soleField "BorrowedLivesModel" "lotsMany") ∈ lw_all := lw_g (lw_at lw_m8 169 rfl) rfl
theorem q1974 : (Jvm.Cond.lays "BorrowedLivesModel" "BorrowedLivesModel" "g" "J") ∈ lw_all := lw_g (lw_at lw_m8 170 rfl) rfl
theorem q1975 : (Jvm.Cond.soleField "BorrowedLivesModel" "g") ∈ lw_all := lw_g (lw_at lw_m8 171 rfl) rfl
theorem q1976 : (Jvm.Cond.laysFinal "BorrowedLivesModel" "BorrowedLivesModel" "deed" "[I") ∈ lw_all := lw_g (lw_at lw_m8 172 rfl) rfl
theorem q1977 : (Jvm.Cond.soleField "BorrowedLivesModel" "deed") ∈ lw_all := lw_g (lw_at lw_m8 173 rfl) rfl
theorem q1978 : (Jvm.Cond.laysFinal "BorrowedLivesModel" "BorrowedLivesModel" "bestDeeds" "[I") ∈ lw_all := lw_g (lw_at lw_m8 174 rfl) rfl
theorem q1979 : (Jvm.Cond.soleField "BorrowedLivesModel" "bestDeeds") ∈ lw_all := lw_g (lw_at lw_m8 175 rfl) rfl
theorem q1980 : (Jvm.Cond.lays "BorrowedLivesModel" "BorrowedLivesModel" "mostGood" "I") ∈ lw_all := lw_g (lw_at lw_m8 176 rfl) rfl
theorem q1981 : (Jvm.Cond.soleField "BorrowedLivesModel" "mostGood") ∈ lw_all := lw_g (lw_at lw_m8 177 rfl) rfl
theorem q1982 : (Jvm.Cond.lays "BorrowedLivesModel" "BorrowedLivesModel" "isFound" "Z") ∈ lw_all := lw_g (lw_at lw_m8 178 rfl) rfl
theorem q1983 : (Jvm.Cond.soleField "BorrowedLivesModel" "isFound") ∈ lw_all := lw_g (lw_at lw_m8 179 rfl) rfl
theorem q1984 : (Jvm.Cond.lays "BorrowedLivesModel" "BorrowedLivesModel" "deedsMany" "I") ∈ lw_all := lw_g (lw_at lw_m8 180 rfl) rfl
theorem q1985 : (Jvm.Cond.soleField "BorrowedLivesModel" "deedsMany") ∈ lw_all := lw_g (lw_at lw_m8 181 rfl) rfl
theorem q1986 : (Jvm.Cond.laysFinal "BorrowedLivesModel" "BorrowedLivesModel" "would" "[Z") ∈ lw_all := lw_g (lw_at lw_m8 182 rfl) rfl
theorem q1987 : (Jvm.Cond.soleField "BorrowedLivesModel" "would") ∈ lw_all := lw_g (lw_at lw_m8 183 rfl) rfl
theorem q1988 : (Jvm.Cond.laysFinal "BorrowedLivesModel" "BorrowedLivesModel" "pairRow" "[I") ∈ lw_all := lw_g (lw_at lw_m8 184 rfl) rfl
theorem q1989 : (Jvm.Cond.soleField "BorrowedLivesModel" "pairRow") ∈ lw_all := lw_g (lw_at lw_m8 185 rfl) rfl
theorem q1990 : (Jvm.Cond.laysFinal "BorrowedLivesModel" "BorrowedLivesModel" "bestPairs" "[I") ∈ lw_all := lw_g (lw_at lw_m8 186 rfl) rfl
theorem q1991 : (Jvm.Cond.soleField "BorrowedLivesModel" "bestPairs") ∈ lw_all := lw_g (lw_at lw_m8 187 rfl) rfl
theorem q1992 : (Jvm.Cond.lays "BorrowedLivesModel" "BorrowedLivesModel" "mostPairs" "I") ∈ lw_all := lw_g (lw_at lw_m8 188 rfl) rfl
theorem q1993 : (Jvm.Cond.soleField "BorrowedLivesModel" "mostPairs") ∈ lw_all := lw_g (lw_at lw_m8 189 rfl) rfl
theorem q1994 : (Jvm.Cond.laysFinal "BorrowedLivesModel" "BorrowedLivesModel" "purses" "[I") ∈ lw_all := lw_g (lw_at lw_m8 190 rfl) rfl
theorem q1995 : (Jvm.Cond.soleField "BorrowedLivesModel" "purses") ∈ lw_all := lw_g (lw_at lw_m8 191 rfl) rfl
theorem q1996 : (Jvm.Cond.laysFinal "BorrowedLivesModel" "BorrowedLivesModel" "fits" "[Z") ∈ lw_all := lw_g (lw_at lw_m8 192 rfl) rfl
theorem q1997 : (Jvm.Cond.soleField "BorrowedLivesModel" "fits") ∈ lw_all := lw_g (lw_at lw_m8 193 rfl) rfl
theorem q1998 : (Jvm.Cond.lays "BorrowedLivesModel" "BorrowedLivesModel" "fitting" "I") ∈ lw_all := lw_g (lw_at lw_m8 194 rfl) rfl
theorem q1999 : (Jvm.Cond.soleField "BorrowedLivesModel" "fitting") ∈ lw_all := lw_g (lw_at lw_m8 195 rfl) rfl
theorem q2000 : (Jvm.Cond.superclass "BorrowedLivesModel" "java/lang/Object") ∈ lw_all := lw_g (lw_at lw_m8 196 rfl) rfl
theorem q2004 : (Jvm.Cond.instanceMethod ({ cls := "BorrowedLivesModel", name := "town", desc := "()I" } : Jvm.MethodName)) ∈ lw_all := lw_g (lw_at lw_m8 200 rfl) rfl
theorem q2005 : (Jvm.Cond.selects "BorrowedLivesModel" ({ cls := "BorrowedLivesModel", name := "town", desc := "()I" } : Jvm.MethodName) ({ cls := "BorrowedLivesModel", name := "town", desc := "()I" } : Jvm.MethodName)) ∈ lw_all := lw_g (lw_at lw_m8 201 rfl) rfl
theorem q2006 : (Jvm.Cond.code ({ cls := "BorrowedLivesModel", name := "town", desc := "()I" } : Jvm.MethodName) prog_30_method_27_code (2 : Nat) (Option.some Jvm.ClassFile.FieldType.int)) ∈ lw_all := lw_g (lw_at lw_m8 202 rfl) rfl
theorem q2007 : (Jvm.Cond.methodLink "BorrowedLivesModel" (224 : Nat) ({ cls := "BorrowedLivesModel", name := "cutAll", desc := "()V" } : Jvm.MethodName)) ∈ lw_all := lw_g (lw_at lw_m8 203 rfl) rfl
theorem q2008 : (Jvm.Cond.privateMethod ({ cls := "BorrowedLivesModel", name := "cutAll", desc := "()V" } : Jvm.MethodName)) ∈ lw_tbl := lw_at lw_m8 204 rfl
theorem q2009 : (Jvm.Cond.instanceMethod ({ cls := "BorrowedLivesModel", name := "cutAll", desc := "()V" } : Jvm.MethodName)) ∈ lw_all := lw_g (lw_at lw_m8 205 rfl) rfl
theorem q2010 : (Jvm.Cond.code ({ cls := "BorrowedLivesModel", name := "cutAll", desc := "()V" } : Jvm.MethodName) prog_30_method_9_code (7 : Nat) (Option.none : Option Jvm.ClassFile.FieldType)) ∈ lw_all := lw_g (lw_at lw_m8 206 rfl) rfl
theorem q2011 : (Jvm.Cond.methodLink "BorrowedLivesModel" (156 : Nat) ({ cls := "BorrowedLivesModel", name := "isLetter", desc := "(I)Z" } : Jvm.MethodName)) ∈ lw_all := lw_g (lw_at lw_m8 207 rfl) rfl
theorem q2012 : (Jvm.Cond.static ({ cls := "BorrowedLivesModel", name := "isLetter", desc := "(I)Z" } : Jvm.MethodName)) ∈ lw_all := lw_g (lw_at lw_m8 208 rfl) rfl
theorem q2013 : (Jvm.Cond.code ({ cls := "BorrowedLivesModel", name := "isLetter", desc := "(I)Z" } : Jvm.MethodName) prog_30_method_5_code (1 : Nat) (Option.some Jvm.ClassFile.FieldType.boolean)) ∈ lw_all := lw_g (lw_at lw_m8 209 rfl) rfl
theorem q2014 : (Jvm.Cond.constantLong "BorrowedLivesModel" (163 : Nat) (37 : Int64)) ∈ lw_all := lw_g (lw_at lw_m8 210 rfl) rfl
theorem q2015 : (Jvm.Cond.methodLink "BorrowedLivesModel" (165 : Nat) ({ cls := "BorrowedLivesModel", name := "rank", desc := "(I)I" } : Jvm.MethodName)) ∈ lw_all := lw_g (lw_at lw_m8 211 rfl) rfl
theorem q2016 : (Jvm.Cond.static ({ cls := "BorrowedLivesModel", name := "rank", desc := "(I)I" } : Jvm.MethodName)) ∈ lw_all := lw_g (lw_at lw_m8 212 rfl) rfl
theorem q2017 : (Jvm.Cond.code ({ cls := "BorrowedLivesModel", name := "rank", desc := "(I)I" } : Jvm.MethodName) prog_30_method_7_code (1 : Nat) (Option.some Jvm.ClassFile.FieldType.int)) ∈ lw_all := lw_g (lw_at lw_m8 213 rfl) rfl
theorem q2018 : (Jvm.Cond.methodLink "BorrowedLivesModel" (169 : Nat) ({ cls := "BorrowedLivesModel", name := "isDigit", desc := "(I)Z" } : Jvm.MethodName)) ∈ lw_all := lw_g (lw_at lw_m8 214 rfl) rfl
theorem q2019 : (Jvm.Cond.static ({ cls := "BorrowedLivesModel", name := "isDigit", desc := "(I)Z" } : Jvm.MethodName)) ∈ lw_all := lw_g (lw_at lw_m8 215 rfl) rfl
theorem q2020 : (Jvm.Cond.code ({ cls := "BorrowedLivesModel", name := "isDigit", desc := "(I)Z" } : Jvm.MethodName) prog_30_method_6_code (1 : Nat) (Option.some Jvm.ClassFile.FieldType.boolean)) ∈ lw_all := lw_g (lw_at lw_m8 216 rfl) rfl
theorem q2021 : (Jvm.Cond.constantLong "BorrowedLivesModel" (172 : Nat) (10 : Int64)) ∈ lw_all := lw_g (lw_at lw_m8 217 rfl) rfl
theorem q2022 : (Jvm.Cond.constantLong "BorrowedLivesModel" (174 : Nat) (48 : Int64)) ∈ lw_all := lw_g (lw_at lw_m8 218 rfl) rfl
theorem q2023 : (Jvm.Cond.methodLink "BorrowedLivesModel" (176 : Nat) ({ cls := "BorrowedLivesModel", name := "isSignOf", desc := "(I)Z" } : Jvm.MethodName)) ∈ lw_all := lw_g (lw_at lw_m8 219 rfl) rfl
theorem q2024 : (Jvm.Cond.static ({ cls := "BorrowedLivesModel", name := "isSignOf", desc := "(I)Z" } : Jvm.MethodName)) ∈ lw_all := lw_g (lw_at lw_m8 220 rfl) rfl
theorem q2025 : (Jvm.Cond.code ({ cls := "BorrowedLivesModel", name := "isSignOf", desc := "(I)Z" } : Jvm.MethodName) prog_30_method_8_code (1 : Nat) (Option.some Jvm.ClassFile.FieldType.boolean)) ∈ lw_all := lw_g (lw_at lw_m8 221 rfl) rfl
theorem q2026 : (Jvm.Cond.methodLink "BorrowedLivesModel" (191 : Nat) ({ cls := "BorrowedLivesModel", name := "isWord", desc := "(I)Z" } : Jvm.MethodName)) ∈ lw_all := lw_g (lw_at lw_m8 222 rfl) rfl
theorem q2027 : (Jvm.Cond.privateMethod ({ cls := "BorrowedLivesModel", name := "isWord", desc := "(I)Z" } : Jvm.MethodName)) ∈ lw_tbl := lw_at lw_m8 223 rfl
theorem q2028 : (Jvm.Cond.instanceMethod ({ cls := "BorrowedLivesModel", name := "isWord", desc := "(I)Z" } : Jvm.MethodName)) ∈ lw_all := lw_g (lw_at lw_m8 224 rfl) rfl
theorem q2029 : (Jvm.Cond.code ({ cls := "BorrowedLivesModel", name := "isWord", desc := "(I)Z" } : Jvm.MethodName) prog_30_method_12_code (2 : Nat) (Option.some Jvm.ClassFile.FieldType.boolean)) ∈ lw_all := lw_g (lw_at lw_m8 225 rfl) rfl
theorem q2030 : (Jvm.Cond.methodLink "BorrowedLivesModel" (234 : Nat) ({ cls := "BorrowedLivesModel", name := "readPerson", desc := "()V" } : Jvm.MethodName)) ∈ lw_all := lw_g (lw_at lw_m8 226 rfl) rfl
theorem q2031 : (Jvm.Cond.privateMethod ({ cls := "BorrowedLivesModel", name := "readPerson", desc := "()V" } : Jvm.MethodName)) ∈ lw_tbl := lw_at lw_m8 227 rfl
theorem q2032 : (Jvm.Cond.instanceMethod ({ cls := "BorrowedLivesModel", name := "readPerson", desc := "()V" } : Jvm.MethodName)) ∈ lw_all := lw_g (lw_at lw_m8 228 rfl) rfl
theorem q2033 : (Jvm.Cond.code ({ cls := "BorrowedLivesModel", name := "readPerson", desc := "()V" } : Jvm.MethodName) prog_30_method_28_code (3 : Nat) (Option.none : Option Jvm.ClassFile.FieldType)) ∈ lw_all := lw_g (lw_at lw_m8 229 rfl) rfl
theorem q2034 : (Jvm.Cond.methodLink "BorrowedLivesModel" (188 : Nat) ({ cls := "BorrowedLivesModel", name := "wrong", desc := "(I)V" } : Jvm.MethodName)) ∈ lw_all := lw_g (lw_at lw_m8 230 rfl) rfl
theorem q2035 : (Jvm.Cond.privateMethod ({ cls := "BorrowedLivesModel", name := "wrong", desc := "(I)V" } : Jvm.MethodName)) ∈ lw_tbl := lw_at lw_m8 231 rfl
theorem q2036 : (Jvm.Cond.instanceMethod ({ cls := "BorrowedLivesModel", name := "wrong", desc := "(I)V" } : Jvm.MethodName)) ∈ lw_all := lw_g (lw_at lw_m8 232 rfl) rfl
theorem q2037 : (Jvm.Cond.code ({ cls := "BorrowedLivesModel", name := "wrong", desc := "(I)V" } : Jvm.MethodName) prog_30_method_10_code (2 : Nat) (Option.none : Option Jvm.ClassFile.FieldType)) ∈ lw_all := lw_g (lw_at lw_m8 233 rfl) rfl
theorem q2038 : (Jvm.Cond.methodLink "BorrowedLivesModel" (213 : Nat) ({ cls := "BorrowedLivesModel", name := "isName", desc := "()Z" } : Jvm.MethodName)) ∈ lw_all := lw_g (lw_at lw_m8 234 rfl) rfl
theorem q2039 : (Jvm.Cond.privateMethod ({ cls := "BorrowedLivesModel", name := "isName", desc := "()Z" } : Jvm.MethodName)) ∈ lw_tbl := lw_at lw_m8 235 rfl
theorem q2040 : (Jvm.Cond.instanceMethod ({ cls := "BorrowedLivesModel", name := "isName", desc := "()Z" } : Jvm.MethodName)) ∈ lw_all := lw_g (lw_at lw_m8 236 rfl) rfl
theorem q2041 : (Jvm.Cond.code ({ cls := "BorrowedLivesModel", name := "isName", desc := "()Z" } : Jvm.MethodName) prog_30_method_23_code (1 : Nat) (Option.some Jvm.ClassFile.FieldType.boolean)) ∈ lw_all := lw_g (lw_at lw_m8 237 rfl) rfl
theorem q2042 : (Jvm.Cond.methodLink "BorrowedLivesModel" (204 : Nat) ({ cls := "BorrowedLivesModel", name := "wordHere", desc := "(II)I" } : Jvm.MethodName)) ∈ lw_all := lw_g (lw_at lw_m8 238 rfl) rfl
theorem q2043 : (Jvm.Cond.privateMethod ({ cls := "BorrowedLivesModel", name := "wordHere", desc := "(II)I" } : Jvm.MethodName)) ∈ lw_tbl := lw_at lw_m8 239 rfl
theorem q2044 : (Jvm.Cond.instanceMethod ({ cls := "BorrowedLivesModel", name := "wordHere", desc := "(II)I" } : Jvm.MethodName)) ∈ lw_all := lw_g (lw_at lw_m9 0 rfl) rfl
theorem q2045 : (Jvm.Cond.code ({ cls := "BorrowedLivesModel", name := "wordHere", desc := "(II)I" } : Jvm.MethodName) prog_30_method_21_code (5 : Nat) (Option.some Jvm.ClassFile.FieldType.int)) ∈ lw_all := lw_g (lw_at lw_m9 1 rfl) rfl
theorem q2046 : (Jvm.Cond.methodLink "BorrowedLivesModel" (217 : Nat) ({ cls := "BorrowedLivesModel", name := "find", desc := "(Z)I" } : Jvm.MethodName)) ∈ lw_all := lw_g (lw_at lw_m9 2 rfl) rfl
theorem q2047 : (Jvm.Cond.privateMethod ({ cls := "BorrowedLivesModel", name := "find", desc := "(Z)I" } : Jvm.MethodName)) ∈ lw_tbl := lw_at lw_m9 3 rfl
theorem q2048 : (Jvm.Cond.instanceMethod ({ cls := "BorrowedLivesModel", name := "find", desc := "(Z)I" } : Jvm.MethodName)) ∈ lw_all := lw_g (lw_at lw_m9 4 rfl) rfl
theorem q2049 : (Jvm.Cond.code ({ cls := "BorrowedLivesModel", name := "find", desc := "(Z)I" } : Jvm.MethodName) prog_30_method_24_code (4 : Nat) (Option.some Jvm.ClassFile.FieldType.int)) ∈ lw_all := lw_g (lw_at lw_m9 5 rfl) rfl
theorem q2050 : (Jvm.Cond.methodLink "BorrowedLivesModel" (246 : Nat) ({ cls := "BorrowedLivesModel", name := "takeOne", desc := "(II)I" } : Jvm.MethodName)) ∈ lw_all := lw_g (lw_at lw_m9 6 rfl) rfl
theorem q2051 : (Jvm.Cond.privateMethod ({ cls := "BorrowedLivesModel", name := "takeOne", desc := "(II)I" } : Jvm.MethodName)) ∈ lw_tbl := lw_at lw_m9 7 rfl
theorem q2052 : (Jvm.Cond.instanceMethod ({ cls := "BorrowedLivesModel", name := "takeOne", desc := "(II)I" } : Jvm.MethodName)) ∈ lw_all := lw_g (lw_at lw_m9 8 rfl) rfl
theorem q2053 : (Jvm.Cond.code ({ cls := "BorrowedLivesModel", name := "takeOne", desc := "(II)I" } : Jvm.MethodName) prog_30_method_22_code (4 : Nat) (Option.some Jvm.ClassFile.FieldType.int)) ∈ lw_all := lw_g (lw_at lw_m9 9 rfl) rfl
theorem q2054 : (Jvm.Cond.methodLink "BorrowedLivesModel" (249 : Nat) ({ cls := "BorrowedLivesModel", name := "takeAfter", desc := "(III)I" } : Jvm.MethodName)) ∈ lw_all := lw_g (lw_at lw_m9 10 rfl) rfl
theorem q2055 : (Jvm.Cond.privateMethod ({ cls := "BorrowedLivesModel", name := "takeAfter", desc := "(III)I" } : Jvm.MethodName)) ∈ lw_tbl := lw_at lw_m9 11 rfl
theorem q2056 : (Jvm.Cond.instanceMethod ({ cls := "BorrowedLivesModel", name := "takeAfter", desc := "(III)I" } : Jvm.MethodName)) ∈ lw_all := lw_g (lw_at lw_m9 12 rfl) rfl
theorem q2057 : (Jvm.Cond.code ({ cls := "BorrowedLivesModel", name := "takeAfter", desc := "(III)I" } : Jvm.MethodName) prog_30_method_20_code (4 : Nat) (Option.some Jvm.ClassFile.FieldType.int)) ∈ lw_all := lw_g (lw_at lw_m9 13 rfl) rfl
theorem q2058 : (Jvm.Cond.methodLink "BorrowedLivesModel" (197 : Nat) ({ cls := "BorrowedLivesModel", name := "takeWord", desc := "(I)V" } : Jvm.MethodName)) ∈ lw_all := lw_g (lw_at lw_m9 14 rfl) rfl
theorem q2059 : (Jvm.Cond.privateMethod ({ cls := "BorrowedLivesModel", name := "takeWord", desc := "(I)V" } : Jvm.MethodName)) ∈ lw_tbl := lw_at lw_m9 15 rfl
theorem q2060 : (Jvm.Cond.instanceMethod ({ cls := "BorrowedLivesModel", name := "takeWord", desc := "(I)V" } : Jvm.MethodName)) ∈ lw_all := lw_g (lw_at lw_m9 16 rfl) rfl
theorem q2061 : (Jvm.Cond.code ({ cls := "BorrowedLivesModel", name := "takeWord", desc := "(I)V" } : Jvm.MethodName) prog_30_method_16_code (2 : Nat) (Option.none : Option Jvm.ClassFile.FieldType)) ∈ lw_all := lw_g (lw_at lw_m9 17 rfl) rfl
theorem q2062 : (Jvm.Cond.methodLink "BorrowedLivesModel" (194 : Nat) ({ cls := "BorrowedLivesModel", name := "hasWord", desc := "(I)Z" } : Jvm.MethodName)) ∈ lw_all := lw_g (lw_at lw_m9 18 rfl) rfl
theorem q2063 : (Jvm.Cond.privateMethod ({ cls := "BorrowedLivesModel", name := "hasWord", desc := "(I)Z" } : Jvm.MethodName)) ∈ lw_tbl := lw_at lw_m9 19 rfl
theorem q2064 : (Jvm.Cond.instanceMethod ({ cls := "BorrowedLivesModel", name := "hasWord", desc := "(I)Z" } : Jvm.MethodName)) ∈ lw_all := lw_g (lw_at lw_m9 20 rfl) rfl
theorem q2065 : (Jvm.Cond.code ({ cls := "BorrowedLivesModel", name := "hasWord", desc := "(I)Z" } : Jvm.MethodName) prog_30_method_15_code (3 : Nat) (Option.some Jvm.ClassFile.FieldType.boolean)) ∈ lw_all := lw_g (lw_at lw_m9 21 rfl) rfl
theorem q2066 : (Jvm.Cond.methodLink "BorrowedLivesModel" (200 : Nat) ({ cls := "BorrowedLivesModel", name := "takeNumber", desc := "(II)I" } : Jvm.MethodName)) ∈ lw_all := lw_g (lw_at lw_m9 22 rfl) rfl
theorem q2067 : (Jvm.Cond.privateMethod ({ cls := "BorrowedLivesModel", name := "takeNumber", desc := "(II)I" } : Jvm.MethodName)) ∈ lw_tbl := lw_at lw_m9 23 rfl
theorem q2068 : (Jvm.Cond.instanceMethod ({ cls := "BorrowedLivesModel", name := "takeNumber", desc := "(II)I" } : Jvm.MethodName)) ∈ lw_all := lw_g (lw_at lw_m9 24 rfl) rfl
theorem q2069 : (Jvm.Cond.code ({ cls := "BorrowedLivesModel", name := "takeNumber", desc := "(II)I" } : Jvm.MethodName) prog_30_method_19_code (3 : Nat) (Option.some Jvm.ClassFile.FieldType.int)) ∈ lw_all := lw_g (lw_at lw_m9 25 rfl) rfl
theorem q2070 : (Jvm.Cond.methodLink "BorrowedLivesModel" (237 : Nat) ({ cls := "BorrowedLivesModel", name := "readBar", desc := "()V" } : Jvm.MethodName)) ∈ lw_all := lw_g (lw_at lw_m9 26 rfl) rfl
theorem q2071 : (Jvm.Cond.privateMethod ({ cls := "BorrowedLivesModel", name := "readBar", desc := "()V" } : Jvm.MethodName)) ∈ lw_tbl := lw_at lw_m9 27 rfl
theorem q2072 : (Jvm.Cond.instanceMethod ({ cls := "BorrowedLivesModel", name := "readBar", desc := "()V" } : Jvm.MethodName)) ∈ lw_all := lw_g (lw_at lw_m9 28 rfl) rfl
theorem q2073 : (Jvm.Cond.code ({ cls := "BorrowedLivesModel", name := "readBar", desc := "()V" } : Jvm.MethodName) prog_30_method_29_code (3 : Nat) (Option.none : Option Jvm.ClassFile.FieldType)) ∈ lw_all := lw_g (lw_at lw_m9 29 rfl) rfl
theorem q2074 : (Jvm.Cond.methodLink "BorrowedLivesModel" (253 : Nat) ({ cls := "BorrowedLivesModel", name := "takeTold", desc := "(Z)I" } : Jvm.MethodName)) ∈ lw_all := lw_g (lw_at lw_m9 30 rfl) rfl
theorem q2075 : (Jvm.Cond.privateMethod ({ cls := "BorrowedLivesModel", name := "takeTold", desc := "(Z)I" } : Jvm.MethodName)) ∈ lw_tbl := lw_at lw_m9 31 rfl
theorem q2076 : (Jvm.Cond.instanceMethod ({ cls := "BorrowedLivesModel", name := "takeTold", desc := "(Z)I" } : Jvm.MethodName)) ∈ lw_all := lw_g (lw_at lw_m9 32 rfl) rfl
theorem q2077 : (Jvm.Cond.code ({ cls := "BorrowedLivesModel", name := "takeTold", desc := "(Z)I" } : Jvm.MethodName) prog_30_method_26_code (3 : Nat) (Option.some Jvm.ClassFile.FieldType.int)) ∈ lw_all := lw_g (lw_at lw_m9 33 rfl) rfl
theorem q2078 : (Jvm.Cond.methodLink "BorrowedLivesModel" (221 : Nat) ({ cls := "BorrowedLivesModel", name := "toldHere", desc := "(Z)I" } : Jvm.MethodName)) ∈ lw_all := lw_g (lw_at lw_m9 34 rfl) rfl
theorem q2079 : (Jvm.Cond.privateMethod ({ cls := "BorrowedLivesModel", name := "toldHere", desc := "(Z)I" } : Jvm.MethodName)) ∈ lw_tbl := lw_at lw_m9 35 rfl
theorem q2080 : (Jvm.Cond.instanceMethod ({ cls := "BorrowedLivesModel", name := "toldHere", desc := "(Z)I" } : Jvm.MethodName)) ∈ lw_all := lw_g (lw_at lw_m9 36 rfl) rfl
theorem q2081 : (Jvm.Cond.code ({ cls := "BorrowedLivesModel", name := "toldHere", desc := "(Z)I" } : Jvm.MethodName) prog_30_method_25_code (3 : Nat) (Option.some Jvm.ClassFile.FieldType.int)) ∈ lw_all := lw_g (lw_at lw_m9 37 rfl) rfl
theorem q2082 : (Jvm.Cond.methodLink "BorrowedLivesModel" (240 : Nat) ({ cls := "BorrowedLivesModel", name := "readOnce", desc := "()V" } : Jvm.MethodName)) ∈ lw_all := lw_g (lw_at lw_m9 38 rfl) rfl
theorem q2083 : (Jvm.Cond.privateMethod ({ cls := "BorrowedLivesModel", name := "readOnce", desc := "()V" } : Jvm.MethodName)) ∈ lw_tbl := lw_at lw_m9 39 rfl
theorem q2084 : (Jvm.Cond.instanceMethod ({ cls := "BorrowedLivesModel", name := "readOnce", desc := "()V" } : Jvm.MethodName)) ∈ lw_all := lw_g (lw_at lw_m9 40 rfl) rfl
theorem q2085 : (Jvm.Cond.code ({ cls := "BorrowedLivesModel", name := "readOnce", desc := "()V" } : Jvm.MethodName) prog_30_method_30_code (2 : Nat) (Option.none : Option Jvm.ClassFile.FieldType)) ∈ lw_all := lw_g (lw_at lw_m9 41 rfl) rfl
theorem q2086 : (Jvm.Cond.methodLink "BorrowedLivesModel" (259 : Nat) ({ cls := "BorrowedLivesModel", name := "all", desc := "(I)V" } : Jvm.MethodName)) ∈ lw_all := lw_g (lw_at lw_m9 42 rfl) rfl
theorem q2087 : (Jvm.Cond.privateMethod ({ cls := "BorrowedLivesModel", name := "all", desc := "(I)V" } : Jvm.MethodName)) ∈ lw_tbl := lw_at lw_m9 43 rfl
theorem q2088 : (Jvm.Cond.instanceMethod ({ cls := "BorrowedLivesModel", name := "all", desc := "(I)V" } : Jvm.MethodName)) ∈ lw_all := lw_g (lw_at lw_m9 44 rfl) rfl
theorem q2089 : (Jvm.Cond.code ({ cls := "BorrowedLivesModel", name := "all", desc := "(I)V" } : Jvm.MethodName) prog_30_method_35_code (3 : Nat) (Option.none : Option Jvm.ClassFile.FieldType)) ∈ lw_all := lw_g (lw_at lw_m9 45 rfl) rfl
theorem q2090 : (Jvm.Cond.methodLink "BorrowedLivesModel" (273 : Nat) ({ cls := "BorrowedLivesModel", name := "test", desc := "(I)V" } : Jvm.MethodName)) ∈ lw_all := lw_g (lw_at lw_m9 46 rfl) rfl
theorem q2091 : (Jvm.Cond.privateMethod ({ cls := "BorrowedLivesModel", name := "test", desc := "(I)V" } : Jvm.MethodName)) ∈ lw_tbl := lw_at lw_m9 47 rfl
theorem q2092 : (Jvm.Cond.instanceMethod ({ cls := "BorrowedLivesModel", name := "test", desc := "(I)V" } : Jvm.MethodName)) ∈ lw_all := lw_g (lw_at lw_m9 48 rfl) rfl
theorem q2093 : (Jvm.Cond.code ({ cls := "BorrowedLivesModel", name := "test", desc := "(I)V" } : Jvm.MethodName) prog_30_method_36_code (3 : Nat) (Option.none : Option Jvm.ClassFile.FieldType)) ∈ lw_all := lw_g (lw_at lw_m9 49 rfl) rfl
theorem q2094 : (Jvm.Cond.methodLink "BorrowedLivesModel" (276 : Nat) ({ cls := "BorrowedLivesModel", name := "sums", desc := "(I)V" } : Jvm.MethodName)) ∈ lw_all := lw_g (lw_at lw_m9 50 rfl) rfl
theorem q2095 : (Jvm.Cond.privateMethod ({ cls := "BorrowedLivesModel", name := "sums", desc := "(I)V" } : Jvm.MethodName)) ∈ lw_tbl := lw_at lw_m9 51 rfl
theorem q2096 : (Jvm.Cond.instanceMethod ({ cls := "BorrowedLivesModel", name := "sums", desc := "(I)V" } : Jvm.MethodName)) ∈ lw_all := lw_g (lw_at lw_m9 52 rfl) rfl
theorem q2097 : (Jvm.Cond.code ({ cls := "BorrowedLivesModel", name := "sums", desc := "(I)V" } : Jvm.MethodName) prog_30_method_37_code (3 : Nat) (Option.none : Option Jvm.ClassFile.FieldType)) ∈ lw_all := lw_g (lw_at lw_m9 53 rfl) rfl
theorem q2098 : (Jvm.Cond.methodLink "BorrowedLivesModel" (282 : Nat) ({ cls := "BorrowedLivesModel", name := "products", desc := "(I)V" } : Jvm.MethodName)) ∈ lw_all := lw_g (lw_at lw_m9 54 rfl) rfl
theorem q2099 : (Jvm.Cond.privateMethod ({ cls := "BorrowedLivesModel", name := "products", desc := "(I)V" } : Jvm.MethodName)) ∈ lw_tbl := lw_at lw_m9 55 rfl
theorem q2100 : (Jvm.Cond.instanceMethod ({ cls := "BorrowedLivesModel", name := "products", desc := "(I)V" } : Jvm.MethodName)) ∈ lw_all := lw_g (lw_at lw_m9 56 rfl) rfl
theorem q2101 : (Jvm.Cond.code ({ cls := "BorrowedLivesModel", name := "products", desc := "(I)V" } : Jvm.MethodName) prog_30_method_38_code (2 : Nat) (Option.none : Option Jvm.ClassFile.FieldType)) ∈ lw_all := lw_g (lw_at lw_m9 57 rfl) rfl
theorem q2102 : (Jvm.Cond.methodLink "BorrowedLivesModel" (285 : Nat) ({ cls := "BorrowedLivesModel", name := "takePart", desc := "(I)V" } : Jvm.MethodName)) ∈ lw_all := lw_g (lw_at lw_m9 58 rfl) rfl
theorem q2103 : (Jvm.Cond.privateMethod ({ cls := "BorrowedLivesModel", name := "takePart", desc := "(I)V" } : Jvm.MethodName)) ∈ lw_tbl := lw_at lw_m9 59 rfl
theorem q2104 : (Jvm.Cond.instanceMethod ({ cls := "BorrowedLivesModel", name := "takePart", desc := "(I)V" } : Jvm.MethodName)) ∈ lw_all := lw_g (lw_at lw_m9 60 rfl) rfl
theorem q2105 : (Jvm.Cond.code ({ cls := "BorrowedLivesModel", name := "takePart", desc := "(I)V" } : Jvm.MethodName) prog_30_method_39_code (4 : Nat) (Option.none : Option Jvm.ClassFile.FieldType)) ∈ lw_all := lw_g (lw_at lw_m9 61 rfl) rfl
theorem q2106 : (Jvm.Cond.methodLink "BorrowedLivesModel" (185 : Nat) ({ cls := "BorrowedLivesModel", name := "isSign", desc := "(I)Z" } : Jvm.MethodName)) ∈ lw_all := lw_g (lw_at lw_m9 62 rfl) rfl
theorem q2107 : (Jvm.Cond.privateMethod ({ cls := "BorrowedLivesModel", name := "isSign", desc := "(I)Z" } : Jvm.MethodName)) ∈ lw_tbl := lw_at lw_m9 63 rfl
theorem q2108 : (Jvm.Cond.instanceMethod ({ cls := "BorrowedLivesModel", name := "isSign", desc := "(I)Z" } : Jvm.MethodName)) ∈ lw_all := lw_g (lw_at lw_m9 64 rfl) rfl
theorem q2109 : (Jvm.Cond.code ({ cls := "BorrowedLivesModel", name := "isSign", desc := "(I)Z" } : Jvm.MethodName) prog_30_method_11_code (2 : Nat) (Option.some Jvm.ClassFile.FieldType.boolean)) ∈ lw_all := lw_g (lw_at lw_m9 65 rfl) rfl
theorem q2110 : (Jvm.Cond.methodLink "BorrowedLivesModel" (262 : Nat) ({ cls := "BorrowedLivesModel", name := "emit", desc := "(II)V" } : Jvm.MethodName)) ∈ lw_all := lw_g (lw_at lw_m9 66 rfl) rfl
theorem q2111 : (Jvm.Cond.privateMethod ({ cls := "BorrowedLivesModel", name := "emit", desc := "(II)V" } : Jvm.MethodName)) ∈ lw_tbl := lw_at lw_m9 67 rfl
theorem q2112 : (Jvm.Cond.instanceMethod ({ cls := "BorrowedLivesModel", name := "emit", desc := "(II)V" } : Jvm.MethodName)) ∈ lw_all := lw_g (lw_at lw_m9 68 rfl) rfl
theorem q2113 : (Jvm.Cond.code ({ cls := "BorrowedLivesModel", name := "emit", desc := "(II)V" } : Jvm.MethodName) prog_30_method_34_code (3 : Nat) (Option.none : Option Jvm.ClassFile.FieldType)) ∈ lw_all := lw_g (lw_at lw_m9 69 rfl) rfl
theorem q2114 : (Jvm.Cond.methodLink "BorrowedLivesModel" (279 : Nat) ({ cls := "BorrowedLivesModel", name := "hasSign", desc := "(I)Z" } : Jvm.MethodName)) ∈ lw_all := lw_g (lw_at lw_m9 70 rfl) rfl
theorem q2115 : (Jvm.Cond.privateMethod ({ cls := "BorrowedLivesModel", name := "hasSign", desc := "(I)Z" } : Jvm.MethodName)) ∈ lw_tbl := lw_at lw_m9 71 rfl
theorem q2116 : (Jvm.Cond.instanceMethod ({ cls := "BorrowedLivesModel", name := "hasSign", desc := "(I)Z" } : Jvm.MethodName)) ∈ lw_all := lw_g (lw_at lw_m9 72 rfl) rfl
theorem q2117 : (Jvm.Cond.code ({ cls := "BorrowedLivesModel", name := "hasSign", desc := "(I)Z" } : Jvm.MethodName) prog_30_method_14_code (3 : Nat) (Option.some Jvm.ClassFile.FieldType.boolean)) ∈ lw_all := lw_g (lw_at lw_m9 73 rfl) rfl
theorem q2118 : (Jvm.Cond.methodLink "BorrowedLivesModel" (243 : Nat) ({ cls := "BorrowedLivesModel", name := "takeSign", desc := "(I)V" } : Jvm.MethodName)) ∈ lw_all := lw_g (lw_at lw_m9 74 rfl) rfl
theorem q2119 : (Jvm.Cond.privateMethod ({ cls := "BorrowedLivesModel", name := "takeSign", desc := "(I)V" } : Jvm.MethodName)) ∈ lw_tbl := lw_at lw_m9 75 rfl
theorem q2120 : (Jvm.Cond.instanceMethod ({ cls := "BorrowedLivesModel", name := "takeSign", desc := "(I)V" } : Jvm.MethodName)) ∈ lw_all := lw_g (lw_at lw_m9 76 rfl) rfl
theorem q2121 : (Jvm.Cond.code ({ cls := "BorrowedLivesModel", name := "takeSign", desc := "(I)V" } : Jvm.MethodName) prog_30_method_13_code (2 : Nat) (Option.none : Option Jvm.ClassFile.FieldType)) ∈ lw_all := lw_g (lw_at lw_m9 77 rfl) rfl
theorem q2123 : (Jvm.Cond.instanceMethod ({ cls := "BorrowedLivesModel", name := "year", desc := "()I" } : Jvm.MethodName)) ∈ lw_all := lw_g (lw_at lw_m9 79 rfl) rfl
theorem q2124 : (Jvm.Cond.selects "BorrowedLivesModel" ({ cls := "BorrowedLivesModel", name := "year", desc := "()I" } : Jvm.MethodName) ({ cls := "BorrowedLivesModel", name := "year", desc := "()I" } : Jvm.MethodName)) ∈ lw_all := lw_g (lw_at lw_m9 80 rfl) rfl
theorem q2125 : (Jvm.Cond.code ({ cls := "BorrowedLivesModel", name := "year", desc := "()I" } : Jvm.MethodName) prog_30_method_32_code (3 : Nat) (Option.some Jvm.ClassFile.FieldType.int)) ∈ lw_all := lw_g (lw_at lw_m9 81 rfl) rfl
theorem q2126 : (Jvm.Cond.methodLink "BorrowedLivesModel" (266 : Nat) ({ cls := "BorrowedLivesModel", name := "yearWord", desc := "()I" } : Jvm.MethodName)) ∈ lw_all := lw_g (lw_at lw_m9 82 rfl) rfl
theorem q2127 : (Jvm.Cond.privateMethod ({ cls := "BorrowedLivesModel", name := "yearWord", desc := "()I" } : Jvm.MethodName)) ∈ lw_tbl := lw_at lw_m9 83 rfl
theorem q2128 : (Jvm.Cond.instanceMethod ({ cls := "BorrowedLivesModel", name := "yearWord", desc := "()I" } : Jvm.MethodName)) ∈ lw_all := lw_g (lw_at lw_m9 84 rfl) rfl
theorem q2129 : (Jvm.Cond.code ({ cls := "BorrowedLivesModel", name := "yearWord", desc := "()I" } : Jvm.MethodName) prog_30_method_31_code (1 : Nat) (Option.some Jvm.ClassFile.FieldType.int)) ∈ lw_all := lw_g (lw_at lw_m9 85 rfl) rfl
theorem q2130 : (Jvm.Cond.methodLink "BorrowedLivesModel" (270 : Nat) ({ cls := "BorrowedLivesModel", name := "readYear", desc := "(II)V" } : Jvm.MethodName)) ∈ lw_all := lw_g (lw_at lw_m9 86 rfl) rfl
theorem q2131 : (Jvm.Cond.privateMethod ({ cls := "BorrowedLivesModel", name := "readYear", desc := "(II)V" } : Jvm.MethodName)) ∈ lw_tbl := lw_at lw_m9 87 rfl
theorem q2132 : (Jvm.Cond.instanceMethod ({ cls := "BorrowedLivesModel", name := "readYear", desc := "(II)V" } : Jvm.MethodName)) ∈ lw_all := lw_g (lw_at lw_m9 88 rfl) rfl
theorem q2133 : (Jvm.Cond.code ({ cls := "BorrowedLivesModel", name := "readYear", desc := "(II)V" } : Jvm.MethodName) prog_30_method_33_code (3 : Nat) (Option.none : Option Jvm.ClassFile.FieldType)) ∈ lw_all := lw_g (lw_at lw_m9 89 rfl) rfl
theorem q2135 : (Jvm.Cond.instanceMethod ({ cls := "BorrowedLivesModel", name := "person", desc := "(II)I" } : Jvm.MethodName)) ∈ lw_all := lw_g (lw_at lw_m9 91 rfl) rfl
theorem q2136 : (Jvm.Cond.selects "BorrowedLivesModel" ({ cls := "BorrowedLivesModel", name := "person", desc := "(II)I" } : Jvm.MethodName) ({ cls := "BorrowedLivesModel", name := "person", desc := "(II)I" } : Jvm.MethodName)) ∈ lw_all := lw_g (lw_at lw_m9 92 rfl) rfl
theorem q2137 : (Jvm.Cond.code ({ cls := "BorrowedLivesModel", name := "person", desc := "(II)I" } : Jvm.MethodName) prog_30_method_64_code (5 : Nat) (Option.some Jvm.ClassFile.FieldType.int)) ∈ lw_all := lw_g (lw_at lw_m9 93 rfl) rfl
theorem q2138 : (Jvm.Cond.methodLink "BorrowedLivesModel" (356 : Nat) ({ cls := "BorrowedLivesModel", name := "isPerson", desc := "(I)Z" } : Jvm.MethodName)) ∈ lw_all := lw_g (lw_at lw_m9 94 rfl) rfl
theorem q2139 : (Jvm.Cond.privateMethod ({ cls := "BorrowedLivesModel", name := "isPerson", desc := "(I)Z" } : Jvm.MethodName)) ∈ lw_tbl := lw_at lw_m9 95 rfl
theorem q2140 : (Jvm.Cond.instanceMethod ({ cls := "BorrowedLivesModel", name := "isPerson", desc := "(I)Z" } : Jvm.MethodName)) ∈ lw_all := lw_g (lw_at lw_m9 96 rfl) rfl
theorem q2141 : (Jvm.Cond.code ({ cls := "BorrowedLivesModel", name := "isPerson", desc := "(I)Z" } : Jvm.MethodName) prog_30_method_48_code (2 : Nat) (Option.some Jvm.ClassFile.FieldType.boolean)) ∈ lw_all := lw_g (lw_at lw_m9 97 rfl) rfl
theorem q2142 : (Jvm.Cond.methodLink "BorrowedLivesModel" (359 : Nat) ({ cls := "BorrowedLivesModel", name := "within", desc := "(III)Z" } : Jvm.MethodName)) ∈ lw_all := lw_g (lw_at lw_m9 98 rfl) rfl
theorem q2143 : (Jvm.Cond.static ({ cls := "BorrowedLivesModel", name := "within", desc := "(III)Z" } : Jvm.MethodName)) ∈ lw_all := lw_g (lw_at lw_m9 99 rfl) rfl
theorem q2144 : (Jvm.Cond.code ({ cls := "BorrowedLivesModel", name := "within", desc := "(III)Z" } : Jvm.MethodName) prog_30_method_17_code (3 : Nat) (Option.some Jvm.ClassFile.FieldType.boolean)) ∈ lw_all := lw_g (lw_at lw_m9 100 rfl) rfl
theorem q2146 : (Jvm.Cond.instanceMethod ({ cls := "BorrowedLivesModel", name := "life", desc := "(II)I" } : Jvm.MethodName)) ∈ lw_all := lw_g (lw_at lw_m9 102 rfl) rfl
theorem q2147 : (Jvm.Cond.selects "BorrowedLivesModel" ({ cls := "BorrowedLivesModel", name := "life", desc := "(II)I" } : Jvm.MethodName) ({ cls := "BorrowedLivesModel", name := "life", desc := "(II)I" } : Jvm.MethodName)) ∈ lw_all := lw_g (lw_at lw_m9 103 rfl) rfl
theorem q2148 : (Jvm.Cond.code ({ cls := "BorrowedLivesModel", name := "life", desc := "(II)I" } : Jvm.MethodName) prog_30_method_65_code (3 : Nat) (Option.some Jvm.ClassFile.FieldType.int)) ∈ lw_all := lw_g (lw_at lw_m9 104 rfl) rfl
theorem q2149 : (Jvm.Cond.methodLink "BorrowedLivesModel" (349 : Nat) ({ cls := "BorrowedLivesModel", name := "harmOf", desc := "(IIZ)I" } : Jvm.MethodName)) ∈ lw_all := lw_g (lw_at lw_m9 105 rfl) rfl
theorem q2150 : (Jvm.Cond.privateMethod ({ cls := "BorrowedLivesModel", name := "harmOf", desc := "(IIZ)I" } : Jvm.MethodName)) ∈ lw_tbl := lw_at lw_m9 106 rfl
theorem q2151 : (Jvm.Cond.instanceMethod ({ cls := "BorrowedLivesModel", name := "harmOf", desc := "(IIZ)I" } : Jvm.MethodName)) ∈ lw_all := lw_g (lw_at lw_m9 107 rfl) rfl
theorem q2152 : (Jvm.Cond.code ({ cls := "BorrowedLivesModel", name := "harmOf", desc := "(IIZ)I" } : Jvm.MethodName) prog_30_method_61_code (6 : Nat) (Option.some Jvm.ClassFile.FieldType.int)) ∈ lw_all := lw_g (lw_at lw_m9 108 rfl) rfl
theorem q2154 : (Jvm.Cond.instanceMethod ({ cls := "BorrowedLivesModel", name := "may", desc := "(II)Z" } : Jvm.MethodName)) ∈ lw_all := lw_g (lw_at lw_m9 110 rfl) rfl
theorem q2155 : (Jvm.Cond.selects "BorrowedLivesModel" ({ cls := "BorrowedLivesModel", name := "may", desc := "(II)Z" } : Jvm.MethodName) ({ cls := "BorrowedLivesModel", name := "may", desc := "(II)Z" } : Jvm.MethodName)) ∈ lw_all := lw_g (lw_at lw_m9 111 rfl) rfl
theorem q2156 : (Jvm.Cond.code ({ cls := "BorrowedLivesModel", name := "may", desc := "(II)Z" } : Jvm.MethodName) prog_30_method_66_code (3 : Nat) (Option.some Jvm.ClassFile.FieldType.boolean)) ∈ lw_all := lw_g (lw_at lw_m9 112 rfl) rfl
theorem q2158 : (Jvm.Cond.instanceMethod ({ cls := "BorrowedLivesModel", name := "hide", desc := "(II)Z" } : Jvm.MethodName)) ∈ lw_all := lw_g (lw_at lw_m9 114 rfl) rfl
theorem q2159 : (Jvm.Cond.selects "BorrowedLivesModel" ({ cls := "BorrowedLivesModel", name := "hide", desc := "(II)Z" } : Jvm.MethodName) ({ cls := "BorrowedLivesModel", name := "hide", desc := "(II)Z" } : Jvm.MethodName)) ∈ lw_all := lw_g (lw_at lw_m9 115 rfl) rfl
theorem q2160 : (Jvm.Cond.code ({ cls := "BorrowedLivesModel", name := "hide", desc := "(II)Z" } : Jvm.MethodName) prog_30_method_68_code (3 : Nat) (Option.some Jvm.ClassFile.FieldType.boolean)) ∈ lw_all := lw_g (lw_at lw_m9 116 rfl) rfl
theorem q2161 : (Jvm.Cond.methodLink "BorrowedLivesModel" (363 : Nat) ({ cls := "BorrowedLivesModel", name := "mayHide", desc := "(III)Z" } : Jvm.MethodName)) ∈ lw_all := lw_g (lw_at lw_m9 117 rfl) rfl
theorem q2162 : (Jvm.Cond.privateMethod ({ cls := "BorrowedLivesModel", name := "mayHide", desc := "(III)Z" } : Jvm.MethodName)) ∈ lw_tbl := lw_at lw_m9 118 rfl
theorem q2163 : (Jvm.Cond.instanceMethod ({ cls := "BorrowedLivesModel", name := "mayHide", desc := "(III)Z" } : Jvm.MethodName)) ∈ lw_all := lw_g (lw_at lw_m9 119 rfl) rfl
theorem q2164 : (Jvm.Cond.code ({ cls := "BorrowedLivesModel", name := "mayHide", desc := "(III)Z" } : Jvm.MethodName) prog_30_method_67_code (4 : Nat) (Option.some Jvm.ClassFile.FieldType.boolean)) ∈ lw_all := lw_g (lw_at lw_m9 120 rfl) rfl
theorem q2165 : (Jvm.Cond.methodLink "BorrowedLivesModel" (366 : Nat) ({ cls := "BorrowedLivesModel", name := "keeps", desc := "()V" } : Jvm.MethodName)) ∈ lw_all := lw_g (lw_at lw_m9 121 rfl) rfl
theorem q2166 : (Jvm.Cond.privateMethod ({ cls := "BorrowedLivesModel", name := "keeps", desc := "()V" } : Jvm.MethodName)) ∈ lw_tbl := lw_at lw_m9 122 rfl
theorem q2167 : (Jvm.Cond.instanceMethod ({ cls := "BorrowedLivesModel", name := "keeps", desc := "()V" } : Jvm.MethodName)) ∈ lw_all := lw_g (lw_at lw_m9 123 rfl) rfl
theorem q2168 : (Jvm.Cond.code ({ cls := "BorrowedLivesModel", name := "keeps", desc := "()V" } : Jvm.MethodName) prog_30_method_45_code (2 : Nat) (Option.none : Option Jvm.ClassFile.FieldType)) ∈ lw_all := lw_g (lw_at lw_m9 124 rfl) rfl
theorem q2169 : (Jvm.Cond.methodLink "BorrowedLivesModel" (309 : Nat) ({ cls := "BorrowedLivesModel", name := "copies", desc := "(III)V" } : Jvm.MethodName)) ∈ lw_all := lw_g (lw_at lw_m9 125 rfl) rfl
theorem q2170 : (Jvm.Cond.privateMethod ({ cls := "BorrowedLivesModel", name := "copies", desc := "(III)V" } : Jvm.MethodName)) ∈ lw_tbl := lw_at lw_m9 126 rfl
theorem q2171 : (Jvm.Cond.instanceMethod ({ cls := "BorrowedLivesModel", name := "copies", desc := "(III)V" } : Jvm.MethodName)) ∈ lw_all := lw_g (lw_at lw_m9 127 rfl) rfl
theorem q2172 : (Jvm.Cond.code ({ cls := "BorrowedLivesModel", name := "copies", desc := "(III)V" } : Jvm.MethodName) prog_30_method_42_code (5 : Nat) (Option.none : Option Jvm.ClassFile.FieldType)) ∈ lw_all := lw_g (lw_at lw_m9 128 rfl) rfl
theorem q2174 : (Jvm.Cond.instanceMethod ({ cls := "BorrowedLivesModel", name := "lot", desc := "(I)I" } : Jvm.MethodName)) ∈ lw_all := lw_g (lw_at lw_m9 130 rfl) rfl
theorem q2175 : (Jvm.Cond.selects "BorrowedLivesModel" ({ cls := "BorrowedLivesModel", name := "lot", desc := "(I)I" } : Jvm.MethodName) ({ cls := "BorrowedLivesModel", name := "lot", desc := "(I)I" } : Jvm.MethodName)) ∈ lw_all := lw_g (lw_at lw_m9 131 rfl) rfl
theorem q2176 : (Jvm.Cond.code ({ cls := "BorrowedLivesModel", name := "lot", desc := "(I)I" } : Jvm.MethodName) prog_30_method_71_code (3 : Nat) (Option.some Jvm.ClassFile.FieldType.int)) ∈ lw_all := lw_g (lw_at lw_m9 132 rfl) rfl
theorem q2177 : (Jvm.Cond.methodLink "BorrowedLivesModel" (381 : Nat) ({ cls := "BorrowedLivesModel", name := "mayLeave", desc := "(I)Z" } : Jvm.MethodName)) ∈ lw_all := lw_g (lw_at lw_m9 133 rfl) rfl
theorem q2178 : (Jvm.Cond.privateMethod ({ cls := "BorrowedLivesModel", name := "mayLeave", desc := "(I)Z" } : Jvm.MethodName)) ∈ lw_tbl := lw_at lw_m9 134 rfl
theorem q2179 : (Jvm.Cond.instanceMethod ({ cls := "BorrowedLivesModel", name := "mayLeave", desc := "(I)Z" } : Jvm.MethodName)) ∈ lw_all := lw_g (lw_at lw_m9 135 rfl) rfl
theorem q2180 : (Jvm.Cond.code ({ cls := "BorrowedLivesModel", name := "mayLeave", desc := "(I)Z" } : Jvm.MethodName) prog_30_method_70_code (2 : Nat) (Option.some Jvm.ClassFile.FieldType.boolean)) ∈ lw_all := lw_g (lw_at lw_m9 136 rfl) rfl
theorem q2181 : (Jvm.Cond.methodLink "BorrowedLivesModel" (384 : Nat) ({ cls := "BorrowedLivesModel", name := "draw", desc := "(I)I" } : Jvm.MethodName)) ∈ lw_all := lw_g (lw_at lw_m9 137 rfl) rfl
theorem q2182 : (Jvm.Cond.privateMethod ({ cls := "BorrowedLivesModel", name := "draw", desc := "(I)I" } : Jvm.MethodName)) ∈ lw_tbl := lw_at lw_m9 138 rfl
theorem q2183 : (Jvm.Cond.instanceMethod ({ cls := "BorrowedLivesModel", name := "draw", desc := "(I)I" } : Jvm.MethodName)) ∈ lw_all := lw_g (lw_at lw_m9 139 rfl) rfl
theorem q2184 : (Jvm.Cond.code ({ cls := "BorrowedLivesModel", name := "draw", desc := "(I)I" } : Jvm.MethodName) prog_30_method_69_code (2 : Nat) (Option.some Jvm.ClassFile.FieldType.int)) ∈ lw_all := lw_g (lw_at lw_m9 140 rfl) rfl
theorem q2185 : (Jvm.Cond.constantLong "BorrowedLivesModel" (373 : Nat) (1103515245 : Int64)) ∈ lw_all := lw_g (lw_at lw_m9 141 rfl) rfl
theorem q2186 : (Jvm.Cond.constantLong "BorrowedLivesModel" (375 : Nat) (12345 : Int64)) ∈ lw_all := lw_g (lw_at lw_m9 142 rfl) rfl
theorem q2187 : (Jvm.Cond.constantLong "BorrowedLivesModel" (377 : Nat) (2147483648 : Int64)) ∈ lw_all := lw_g (lw_at lw_m9 143 rfl) rfl
theorem q2188 : (Jvm.Cond.constantLong "BorrowedLivesModel" (379 : Nat) (65536 : Int64)) ∈ lw_all := lw_g (lw_at lw_m9 144 rfl) rfl
theorem q2189 : (Jvm.Cond.methodLink "BorrowedLivesModel" (387 : Nat) ({ cls := "BorrowedLivesModel", name := "leaves", desc := "(II)V" } : Jvm.MethodName)) ∈ lw_all := lw_g (lw_at lw_m9 145 rfl) rfl
theorem q2190 : (Jvm.Cond.privateMethod ({ cls := "BorrowedLivesModel", name := "leaves", desc := "(II)V" } : Jvm.MethodName)) ∈ lw_tbl := lw_at lw_m9 146 rfl
theorem q2191 : (Jvm.Cond.instanceMethod ({ cls := "BorrowedLivesModel", name := "leaves", desc := "(II)V" } : Jvm.MethodName)) ∈ lw_all := lw_g (lw_at lw_m9 147 rfl) rfl
theorem q2192 : (Jvm.Cond.code ({ cls := "BorrowedLivesModel", name := "leaves", desc := "(II)V" } : Jvm.MethodName) prog_30_method_60_code (4 : Nat) (Option.none : Option Jvm.ClassFile.FieldType)) ∈ lw_all := lw_g (lw_at lw_m9 148 rfl) rfl
theorem q2193 : (Jvm.Cond.methodLink "BorrowedLivesModel" (346 : Nat) ({ cls := "BorrowedLivesModel", name := "selfOf", desc := "(II)I" } : Jvm.MethodName)) ∈ lw_all := lw_g (lw_at lw_m9 149 rfl) rfl
theorem q2194 : (Jvm.Cond.privateMethod ({ cls := "BorrowedLivesModel", name := "selfOf", desc := "(II)I" } : Jvm.MethodName)) ∈ lw_tbl := lw_at lw_m9 150 rfl
theorem q2195 : (Jvm.Cond.instanceMethod ({ cls := "BorrowedLivesModel", name := "selfOf", desc := "(II)I" } : Jvm.MethodName)) ∈ lw_all := lw_g (lw_at lw_m9 151 rfl) rfl
theorem q2196 : (Jvm.Cond.code ({ cls := "BorrowedLivesModel", name := "selfOf", desc := "(II)I" } : Jvm.MethodName) prog_30_method_51_code (3 : Nat) (Option.some Jvm.ClassFile.FieldType.int)) ∈ lw_all := lw_g (lw_at lw_m9 152 rfl) rfl
theorem q2198 : (Jvm.Cond.instanceMethod ({ cls := "BorrowedLivesModel", name := "swap", desc := "(II)Z" } : Jvm.MethodName)) ∈ lw_all := lw_g (lw_at lw_m9 154 rfl) rfl
theorem q2199 : (Jvm.Cond.selects "BorrowedLivesModel" ({ cls := "BorrowedLivesModel", name := "swap", desc := "(II)Z" } : Jvm.MethodName) ({ cls := "BorrowedLivesModel", name := "swap", desc := "(II)Z" } : Jvm.MethodName)) ∈ lw_all := lw_g (lw_at lw_m9 155 rfl) rfl
theorem q2200 : (Jvm.Cond.code ({ cls := "BorrowedLivesModel", name := "swap", desc := "(II)Z" } : Jvm.MethodName) prog_30_method_75_code (3 : Nat) (Option.some Jvm.ClassFile.FieldType.boolean)) ∈ lw_all := lw_g (lw_at lw_m9 156 rfl) rfl
theorem q2201 : (Jvm.Cond.methodLink "BorrowedLivesModel" (393 : Nat) ({ cls := "BorrowedLivesModel", name := "maySwap", desc := "(III)Z" } : Jvm.MethodName)) ∈ lw_all := lw_g (lw_at lw_m9 157 rfl) rfl
theorem q2202 : (Jvm.Cond.privateMethod ({ cls := "BorrowedLivesModel", name := "maySwap", desc := "(III)Z" } : Jvm.MethodName)) ∈ lw_tbl := lw_at lw_m9 158 rfl
theorem q2203 : (Jvm.Cond.instanceMethod ({ cls := "BorrowedLivesModel", name := "maySwap", desc := "(III)Z" } : Jvm.MethodName)) ∈ lw_all := lw_g (lw_at lw_m9 159 rfl) rfl
theorem q2204 : (Jvm.Cond.code ({ cls := "BorrowedLivesModel", name := "maySwap", desc := "(III)Z" } : Jvm.MethodName) prog_30_method_73_code (4 : Nat) (Option.some Jvm.ClassFile.FieldType.boolean)) ∈ lw_all := lw_g (lw_at lw_m9 160 rfl) rfl
theorem q2205 : (Jvm.Cond.methodLink "BorrowedLivesModel" (390 : Nat) ({ cls := "BorrowedLivesModel", name := "ledBy", desc := "(II)I" } : Jvm.MethodName)) ∈ lw_all := lw_g (lw_at lw_m9 161 rfl) rfl
theorem q2206 : (Jvm.Cond.privateMethod ({ cls := "BorrowedLivesModel", name := "ledBy", desc := "(II)I" } : Jvm.MethodName)) ∈ lw_tbl := lw_at lw_m9 162 rfl
theorem q2207 : (Jvm.Cond.instanceMethod ({ cls := "BorrowedLivesModel", name := "ledBy", desc := "(II)I" } : Jvm.MethodName)) ∈ lw_all := lw_g (lw_at lw_m9 163 rfl) rfl
theorem q2208 : (Jvm.Cond.code ({ cls := "BorrowedLivesModel", name := "ledBy", desc := "(II)I" } : Jvm.MethodName) prog_30_method_72_code (4 : Nat) (Option.some Jvm.ClassFile.FieldType.int)) ∈ lw_all := lw_g (lw_at lw_m9 164 rfl) rfl
theorem q2209 : (Jvm.Cond.methodLink "BorrowedLivesModel" (396 : Nat) ({ cls := "BorrowedLivesModel", name := "swaps", desc := "(III)V" } : Jvm.MethodName)) ∈ lw_all := lw_g (lw_at lw_m9 165 rfl) rfl
theorem q2210 : (Jvm.Cond.privateMethod ({ cls := "BorrowedLivesModel", name := "swaps", desc := "(III)V" } : Jvm.MethodName)) ∈ lw_tbl := lw_at lw_m9 166 rfl
theorem q2211 : (Jvm.Cond.instanceMethod ({ cls := "BorrowedLivesModel", name := "swaps", desc := "(III)V" } : Jvm.MethodName)) ∈ lw_all := lw_g (lw_at lw_m9 167 rfl) rfl
theorem q2212 : (Jvm.Cond.code ({ cls := "BorrowedLivesModel", name := "swaps", desc := "(III)V" } : Jvm.MethodName) prog_30_method_74_code (6 : Nat) (Option.none : Option Jvm.ClassFile.FieldType)) ∈ lw_all := lw_g (lw_at lw_m9 168 rfl) rfl
theorem q2214 : (Jvm.Cond.instanceMethod ({ cls := "BorrowedLivesModel", name := "day", desc := "()I" } : Jvm.MethodName)) ∈ lw_all := lw_g (lw_at lw_m9 170 rfl) rfl
theorem q2215 : (Jvm.Cond.selects "BorrowedLivesModel" ({ cls := "BorrowedLivesModel", name := "day", desc := "()I" } : Jvm.MethodName) ({ cls := "BorrowedLivesModel", name := "day", desc := "()I" } : Jvm.MethodName)) ∈ lw_all := lw_g (lw_at lw_m9 171 rfl) rfl
theorem q2216 : (Jvm.Cond.code ({ cls := "BorrowedLivesModel", name := "day", desc := "()I" } : Jvm.MethodName) prog_30_method_77_code (1 : Nat) (Option.some Jvm.ClassFile.FieldType.int)) ∈ lw_all := lw_g (lw_at lw_m9 172 rfl) rfl
theorem q2217 : (Jvm.Cond.methodLink "BorrowedLivesModel" (399 : Nat) ({ cls := "BorrowedLivesModel", name := "mayPass", desc := "(I)Z" } : Jvm.MethodName)) ∈ lw_all := lw_g (lw_at lw_m9 173 rfl) rfl
theorem q2218 : (Jvm.Cond.privateMethod ({ cls := "BorrowedLivesModel", name := "mayPass", desc := "(I)Z" } : Jvm.MethodName)) ∈ lw_tbl := lw_at lw_m9 174 rfl
theorem q2219 : (Jvm.Cond.instanceMethod ({ cls := "BorrowedLivesModel", name := "mayPass", desc := "(I)Z" } : Jvm.MethodName)) ∈ lw_all := lw_g (lw_at lw_m9 175 rfl) rfl
theorem q2220 : (Jvm.Cond.code ({ cls := "BorrowedLivesModel", name := "mayPass", desc := "(I)Z" } : Jvm.MethodName) prog_30_method_76_code (2 : Nat) (Option.some Jvm.ClassFile.FieldType.boolean)) ∈ lw_all := lw_g (lw_at lw_m9 176 rfl) rfl
theorem q2221 : (Jvm.Cond.methodLink "BorrowedLivesModel" (402 : Nat) ({ cls := "BorrowedLivesModel", name := "passes", desc := "(I)V" } : Jvm.MethodName)) ∈ lw_all := lw_g (lw_at lw_m9 177 rfl) rfl
theorem q2222 : (Jvm.Cond.privateMethod ({ cls := "BorrowedLivesModel", name := "passes", desc := "(I)V" } : Jvm.MethodName)) ∈ lw_tbl := lw_at lw_m9 178 rfl
theorem q2223 : (Jvm.Cond.instanceMethod ({ cls := "BorrowedLivesModel", name := "passes", desc := "(I)V" } : Jvm.MethodName)) ∈ lw_all := lw_g (lw_at lw_m9 179 rfl) rfl
theorem q2224 : (Jvm.Cond.code ({ cls := "BorrowedLivesModel", name := "passes", desc := "(I)V" } : Jvm.MethodName) prog_30_method_59_code (3 : Nat) (Option.none : Option Jvm.ClassFile.FieldType)) ∈ lw_all := lw_g (lw_at lw_m9 180 rfl) rfl
theorem q2225 : (Jvm.Cond.methodLink "BorrowedLivesModel" (340 : Nat) ({ cls := "BorrowedLivesModel", name := "spendsAs", desc := "(II)V" } : Jvm.MethodName)) ∈ lw_all := lw_g (lw_at lw_m9 181 rfl) rfl
theorem q2226 : (Jvm.Cond.privateMethod ({ cls := "BorrowedLivesModel", name := "spendsAs", desc := "(II)V" } : Jvm.MethodName)) ∈ lw_tbl := lw_at lw_m9 182 rfl
theorem q2227 : (Jvm.Cond.instanceMethod ({ cls := "BorrowedLivesModel", name := "spendsAs", desc := "(II)V" } : Jvm.MethodName)) ∈ lw_all := lw_g (lw_at lw_m9 183 rfl) rfl
theorem q2228 : (Jvm.Cond.code ({ cls := "BorrowedLivesModel", name := "spendsAs", desc := "(II)V" } : Jvm.MethodName) prog_30_method_57_code (8 : Nat) (Option.none : Option Jvm.ClassFile.FieldType)) ∈ lw_all := lw_g (lw_at lw_m9 184 rfl) rfl
theorem q2229 : (Jvm.Cond.methodLink "BorrowedLivesModel" (327 : Nat) ({ cls := "BorrowedLivesModel", name := "laysFacts", desc := "(IIIZ)V" } : Jvm.MethodName)) ∈ lw_all := lw_g (lw_at lw_m9 185 rfl) rfl
theorem q2230 : (Jvm.Cond.privateMethod ({ cls := "BorrowedLivesModel", name := "laysFacts", desc := "(IIIZ)V" } : Jvm.MethodName)) ∈ lw_tbl := lw_at lw_m9 186 rfl
theorem q2231 : (Jvm.Cond.instanceMethod ({ cls := "BorrowedLivesModel", name := "laysFacts", desc := "(IIIZ)V" } : Jvm.MethodName)) ∈ lw_all := lw_g (lw_at lw_m9 187 rfl) rfl
theorem q2232 : (Jvm.Cond.code ({ cls := "BorrowedLivesModel", name := "laysFacts", desc := "(IIIZ)V" } : Jvm.MethodName) prog_30_method_54_code (5 : Nat) (Option.none : Option Jvm.ClassFile.FieldType)) ∈ lw_all := lw_g (lw_at lw_m9 188 rfl) rfl
theorem q2233 : (Jvm.Cond.methodLink "BorrowedLivesModel" (323 : Nat) ({ cls := "BorrowedLivesModel", name := "moneyOf", desc := "(IIZ)I" } : Jvm.MethodName)) ∈ lw_all := lw_g (lw_at lw_m9 189 rfl) rfl
theorem q2234 : (Jvm.Cond.privateMethod ({ cls := "BorrowedLivesModel", name := "moneyOf", desc := "(IIZ)I" } : Jvm.MethodName)) ∈ lw_tbl := lw_at lw_m9 190 rfl
theorem q2235 : (Jvm.Cond.instanceMethod ({ cls := "BorrowedLivesModel", name := "moneyOf", desc := "(IIZ)I" } : Jvm.MethodName)) ∈ lw_all := lw_g (lw_at lw_m9 191 rfl) rfl
theorem q2236 : (Jvm.Cond.code ({ cls := "BorrowedLivesModel", name := "moneyOf", desc := "(IIZ)I" } : Jvm.MethodName) prog_30_method_53_code (5 : Nat) (Option.some Jvm.ClassFile.FieldType.int)) ∈ lw_all := lw_g (lw_at lw_m9 192 rfl) rfl
theorem q2237 : (Jvm.Cond.methodLink "BorrowedLivesModel" (331 : Nat) ({ cls := "BorrowedLivesModel", name := "worthAt", desc := "(I)I" } : Jvm.MethodName)) ∈ lw_all := lw_g (lw_at lw_m9 193 rfl) rfl
theorem q2238 : (Jvm.Cond.privateMethod ({ cls := "BorrowedLivesModel", name := "worthAt", desc := "(I)I" } : Jvm.MethodName)) ∈ lw_tbl := lw_at lw_m9 194 rfl
theorem q2239 : (Jvm.Cond.instanceMethod ({ cls := "BorrowedLivesModel", name := "worthAt", desc := "(I)I" } : Jvm.MethodName)) ∈ lw_all := lw_g (lw_at lw_m9 195 rfl) rfl
theorem q2240 : (Jvm.Cond.code ({ cls := "BorrowedLivesModel", name := "worthAt", desc := "(I)I" } : Jvm.MethodName) prog_30_method_40_code (5 : Nat) (Option.some Jvm.ClassFile.FieldType.int)) ∈ lw_all := lw_g (lw_at lw_m9 196 rfl) rfl
theorem q2241 : (Jvm.Cond.methodLink "BorrowedLivesModel" (288 : Nat) ({ cls := "BorrowedLivesModel", name := "both", desc := "(III)I" } : Jvm.MethodName)) ∈ lw_all := lw_g (lw_at lw_m9 197 rfl) rfl
theorem q2242 : (Jvm.Cond.static ({ cls := "BorrowedLivesModel", name := "both", desc := "(III)I" } : Jvm.MethodName)) ∈ lw_all := lw_g (lw_at lw_m9 198 rfl) rfl
theorem q2243 : (Jvm.Cond.code ({ cls := "BorrowedLivesModel", name := "both", desc := "(III)I" } : Jvm.MethodName) prog_30_method_41_code (3 : Nat) (Option.some Jvm.ClassFile.FieldType.int)) ∈ lw_all := lw_g (lw_at lw_m9 199 rfl) rfl
theorem q2244 : (Jvm.Cond.methodLink "BorrowedLivesModel" (334 : Nat) ({ cls := "BorrowedLivesModel", name := "gets", desc := "(III)V" } : Jvm.MethodName)) ∈ lw_all := lw_g (lw_at lw_m9 200 rfl) rfl
theorem q2245 : (Jvm.Cond.privateMethod ({ cls := "BorrowedLivesModel", name := "gets", desc := "(III)V" } : Jvm.MethodName)) ∈ lw_tbl := lw_at lw_m9 201 rfl
theorem q2246 : (Jvm.Cond.instanceMethod ({ cls := "BorrowedLivesModel", name := "gets", desc := "(III)V" } : Jvm.MethodName)) ∈ lw_all := lw_g (lw_at lw_m9 202 rfl) rfl
theorem q2247 : (Jvm.Cond.code ({ cls := "BorrowedLivesModel", name := "gets", desc := "(III)V" } : Jvm.MethodName) prog_30_method_55_code (5 : Nat) (Option.none : Option Jvm.ClassFile.FieldType)) ∈ lw_all := lw_g (lw_at lw_m9 203 rfl) rfl
theorem q2248 : (Jvm.Cond.methodLink "BorrowedLivesModel" (337 : Nat) ({ cls := "BorrowedLivesModel", name := "poorest", desc := "(II)I" } : Jvm.MethodName)) ∈ lw_all := lw_g (lw_at lw_m9 204 rfl) rfl
theorem q2249 : (Jvm.Cond.privateMethod ({ cls := "BorrowedLivesModel", name := "poorest", desc := "(II)I" } : Jvm.MethodName)) ∈ lw_tbl := lw_at lw_m9 205 rfl
theorem q2250 : (Jvm.Cond.instanceMethod ({ cls := "BorrowedLivesModel", name := "poorest", desc := "(II)I" } : Jvm.MethodName)) ∈ lw_all := lw_g (lw_at lw_m9 206 rfl) rfl
theorem q2251 : (Jvm.Cond.code ({ cls := "BorrowedLivesModel", name := "poorest", desc := "(II)I" } : Jvm.MethodName) prog_30_method_56_code (6 : Nat) (Option.some Jvm.ClassFile.FieldType.int)) ∈ lw_all := lw_g (lw_at lw_m9 207 rfl) rfl
theorem q2252 : (Jvm.Cond.methodLink "BorrowedLivesModel" (343 : Nat) ({ cls := "BorrowedLivesModel", name := "mendsAs", desc := "(II)V" } : Jvm.MethodName)) ∈ lw_all := lw_g (lw_at lw_m9 208 rfl) rfl
theorem q2253 : (Jvm.Cond.privateMethod ({ cls := "BorrowedLivesModel", name := "mendsAs", desc := "(II)V" } : Jvm.MethodName)) ∈ lw_tbl := lw_at lw_m9 209 rfl
theorem q2254 : (Jvm.Cond.instanceMethod ({ cls := "BorrowedLivesModel", name := "mendsAs", desc := "(II)V" } : Jvm.MethodName)) ∈ lw_all := lw_g (lw_at lw_m9 210 rfl) rfl
theorem q2255 : (Jvm.Cond.code ({ cls := "BorrowedLivesModel", name := "mendsAs", desc := "(II)V" } : Jvm.MethodName) prog_30_method_58_code (5 : Nat) (Option.none : Option Jvm.ClassFile.FieldType)) ∈ lw_all := lw_g (lw_at lw_m9 211 rfl) rfl
theorem q2257 : (Jvm.Cond.instanceMethod ({ cls := "BorrowedLivesModel", name := "home", desc := "()I" } : Jvm.MethodName)) ∈ lw_all := lw_g (lw_at lw_m9 213 rfl) rfl
theorem q2258 : (Jvm.Cond.selects "BorrowedLivesModel" ({ cls := "BorrowedLivesModel", name := "home", desc := "()I" } : Jvm.MethodName) ({ cls := "BorrowedLivesModel", name := "home", desc := "()I" } : Jvm.MethodName)) ∈ lw_all := lw_g (lw_at lw_m9 214 rfl) rfl
theorem q2259 : (Jvm.Cond.code ({ cls := "BorrowedLivesModel", name := "home", desc := "()I" } : Jvm.MethodName) prog_30_method_78_code (1 : Nat) (Option.some Jvm.ClassFile.FieldType.int)) ∈ lw_all := lw_g (lw_at lw_m9 215 rfl) rfl
theorem q2260 : (Jvm.Cond.methodLink "BorrowedLivesModel" (405 : Nat) ({ cls := "BorrowedLivesModel", name := "goesHome", desc := "(I)I" } : Jvm.MethodName)) ∈ lw_all := lw_g (lw_at lw_m9 216 rfl) rfl
theorem q2261 : (Jvm.Cond.privateMethod ({ cls := "BorrowedLivesModel", name := "goesHome", desc := "(I)I" } : Jvm.MethodName)) ∈ lw_tbl := lw_at lw_m9 217 rfl
theorem q2262 : (Jvm.Cond.instanceMethod ({ cls := "BorrowedLivesModel", name := "goesHome", desc := "(I)I" } : Jvm.MethodName)) ∈ lw_all := lw_g (lw_at lw_m9 218 rfl) rfl
theorem q2263 : (Jvm.Cond.code ({ cls := "BorrowedLivesModel", name := "goesHome", desc := "(I)I" } : Jvm.MethodName) prog_30_method_63_code (4 : Nat) (Option.some Jvm.ClassFile.FieldType.int)) ∈ lw_all := lw_g (lw_at lw_m9 219 rfl) rfl
theorem q2264 : (Jvm.Cond.methodLink "BorrowedLivesModel" (352 : Nat) ({ cls := "BorrowedLivesModel", name := "allHarm", desc := "(IZ)I" } : Jvm.MethodName)) ∈ lw_all := lw_g (lw_at lw_m9 220 rfl) rfl
theorem q2265 : (Jvm.Cond.privateMethod ({ cls := "BorrowedLivesModel", name := "allHarm", desc := "(IZ)I" } : Jvm.MethodName)) ∈ lw_tbl := lw_at lw_m9 221 rfl
theorem q2266 : (Jvm.Cond.instanceMethod ({ cls := "BorrowedLivesModel", name := "allHarm", desc := "(IZ)I" } : Jvm.MethodName)) ∈ lw_all := lw_g (lw_at lw_m9 222 rfl) rfl
theorem q2267 : (Jvm.Cond.code ({ cls := "BorrowedLivesModel", name := "allHarm", desc := "(IZ)I" } : Jvm.MethodName) prog_30_method_62_code (5 : Nat) (Option.some Jvm.ClassFile.FieldType.int)) ∈ lw_all := lw_g (lw_at lw_m9 223 rfl) rfl
theorem q2269 : (Jvm.Cond.instanceMethod ({ cls := "BorrowedLivesModel", name := "undo", desc := "()Z" } : Jvm.MethodName)) ∈ lw_all := lw_g (lw_at lw_m9 225 rfl) rfl
theorem q2270 : (Jvm.Cond.selects "BorrowedLivesModel" ({ cls := "BorrowedLivesModel", name := "undo", desc := "()Z" } : Jvm.MethodName) ({ cls := "BorrowedLivesModel", name := "undo", desc := "()Z" } : Jvm.MethodName)) ∈ lw_all := lw_g (lw_at lw_m9 226 rfl) rfl
theorem q2271 : (Jvm.Cond.code ({ cls := "BorrowedLivesModel", name := "undo", desc := "()Z" } : Jvm.MethodName) prog_30_method_79_code (1 : Nat) (Option.some Jvm.ClassFile.FieldType.boolean)) ∈ lw_all := lw_g (lw_at lw_m9 227 rfl) rfl
theorem q2273 : (Jvm.Cond.instanceMethod ({ cls := "BorrowedLivesModel", name := "judged", desc := "(I)I" } : Jvm.MethodName)) ∈ lw_all := lw_g (lw_at lw_m9 229 rfl) rfl
theorem q2274 : (Jvm.Cond.selects "BorrowedLivesModel" ({ cls := "BorrowedLivesModel", name := "judged", desc := "(I)I" } : Jvm.MethodName) ({ cls := "BorrowedLivesModel", name := "judged", desc := "(I)I" } : Jvm.MethodName)) ∈ lw_all := lw_g (lw_at lw_m9 230 rfl) rfl
theorem q2275 : (Jvm.Cond.code ({ cls := "BorrowedLivesModel", name := "judged", desc := "(I)I" } : Jvm.MethodName) prog_30_method_82_code (6 : Nat) (Option.some Jvm.ClassFile.FieldType.int)) ∈ lw_all := lw_g (lw_at lw_m9 231 rfl) rfl
theorem q2276 : (Jvm.Cond.methodLink "BorrowedLivesModel" (408 : Nat) ({ cls := "BorrowedLivesModel", name := "mayDo", desc := "(III)Z" } : Jvm.MethodName)) ∈ lw_all := lw_g (lw_at lw_m9 232 rfl) rfl
theorem q2277 : (Jvm.Cond.privateMethod ({ cls := "BorrowedLivesModel", name := "mayDo", desc := "(III)Z" } : Jvm.MethodName)) ∈ lw_tbl := lw_at lw_m9 233 rfl
theorem q2278 : (Jvm.Cond.instanceMethod ({ cls := "BorrowedLivesModel", name := "mayDo", desc := "(III)Z" } : Jvm.MethodName)) ∈ lw_all := lw_g (lw_at lw_m9 234 rfl) rfl
theorem q2279 : (Jvm.Cond.code ({ cls := "BorrowedLivesModel", name := "mayDo", desc := "(III)Z" } : Jvm.MethodName) prog_30_method_80_code (4 : Nat) (Option.some Jvm.ClassFile.FieldType.boolean)) ∈ lw_all := lw_g (lw_at lw_m9 235 rfl) rfl
theorem q2280 : (Jvm.Cond.methodLink "BorrowedLivesModel" (411 : Nat) ({ cls := "BorrowedLivesModel", name := "does", desc := "(III)V" } : Jvm.MethodName)) ∈ lw_all := lw_g (lw_at lw_m9 236 rfl) rfl
theorem q2281 : (Jvm.Cond.privateMethod ({ cls := "BorrowedLivesModel", name := "does", desc := "(III)V" } : Jvm.MethodName)) ∈ lw_tbl := lw_at lw_m9 237 rfl
theorem q2282 : (Jvm.Cond.instanceMethod ({ cls := "BorrowedLivesModel", name := "does", desc := "(III)V" } : Jvm.MethodName)) ∈ lw_all := lw_g (lw_at lw_m9 238 rfl) rfl
theorem q2283 : (Jvm.Cond.code ({ cls := "BorrowedLivesModel", name := "does", desc := "(III)V" } : Jvm.MethodName) prog_30_method_81_code (4 : Nat) (Option.none : Option Jvm.ClassFile.FieldType)) ∈ lw_all := lw_g (lw_at lw_m9 239 rfl) rfl
theorem q2285 : (Jvm.Cond.instanceMethod ({ cls := "BorrowedLivesModel", name := "lots", desc := "()I" } : Jvm.MethodName)) ∈ lw_all := lw_g (lw_at lw_m10 1 rfl) rfl
theorem q2286 : (Jvm.Cond.selects "BorrowedLivesModel" ({ cls := "BorrowedLivesModel", name := "lots", desc := "()I" } : Jvm.MethodName) ({ cls := "BorrowedLivesModel", name := "lots", desc := "()I" } : Jvm.MethodName)) ∈ lw_all := lw_g (lw_at lw_m10 2 rfl) rfl
theorem q2287 : (Jvm.Cond.code ({ cls := "BorrowedLivesModel", name := "lots", desc := "()I" } : Jvm.MethodName) prog_30_method_84_code (1 : Nat) (Option.some Jvm.ClassFile.FieldType.int)) ∈ lw_all := lw_g (lw_at lw_m10 3 rfl) rfl
theorem q2289 : (Jvm.Cond.instanceMethod ({ cls := "BorrowedLivesModel", name := "odds", desc := "(II)I" } : Jvm.MethodName)) ∈ lw_all := lw_g (lw_at lw_m10 5 rfl) rfl
theorem q2290 : (Jvm.Cond.selects "BorrowedLivesModel" ({ cls := "BorrowedLivesModel", name := "odds", desc := "(II)I" } : Jvm.MethodName) ({ cls := "BorrowedLivesModel", name := "odds", desc := "(II)I" } : Jvm.MethodName)) ∈ lw_all := lw_g (lw_at lw_m10 6 rfl) rfl
theorem q2291 : (Jvm.Cond.code ({ cls := "BorrowedLivesModel", name := "odds", desc := "(II)I" } : Jvm.MethodName) prog_30_method_85_code (5 : Nat) (Option.some Jvm.ClassFile.FieldType.int)) ∈ lw_all := lw_g (lw_at lw_m10 7 rfl) rfl
theorem q2292 : (Jvm.Cond.constant "BorrowedLivesModel" (414 : Nat) (1000000 : Int32)) ∈ lw_all := lw_g (lw_at lw_m10 8 rfl) rfl
theorem q2294 : (Jvm.Cond.instanceMethod ({ cls := "BorrowedLivesModel", name := "least", desc := "(I)I" } : Jvm.MethodName)) ∈ lw_all := lw_g (lw_at lw_m10 10 rfl) rfl
theorem q2295 : (Jvm.Cond.selects "BorrowedLivesModel" ({ cls := "BorrowedLivesModel", name := "least", desc := "(I)I" } : Jvm.MethodName) ({ cls := "BorrowedLivesModel", name := "least", desc := "(I)I" } : Jvm.MethodName)) ∈ lw_all := lw_g (lw_at lw_m10 11 rfl) rfl
theorem q2296 : (Jvm.Cond.code ({ cls := "BorrowedLivesModel", name := "least", desc := "(I)I" } : Jvm.MethodName) prog_30_method_86_code (6 : Nat) (Option.some Jvm.ClassFile.FieldType.int)) ∈ lw_all := lw_g (lw_at lw_m10 12 rfl) rfl
theorem q2297 : (Jvm.Cond.methodLink "BorrowedLivesModel" (415 : Nat) ({ cls := "BorrowedLivesModel", name := "weekBy", desc := "(I)V" } : Jvm.MethodName)) ∈ lw_all := lw_g (lw_at lw_m10 13 rfl) rfl
theorem q2298 : (Jvm.Cond.privateMethod ({ cls := "BorrowedLivesModel", name := "weekBy", desc := "(I)V" } : Jvm.MethodName)) ∈ lw_tbl := lw_at lw_m10 14 rfl
theorem q2299 : (Jvm.Cond.instanceMethod ({ cls := "BorrowedLivesModel", name := "weekBy", desc := "(I)V" } : Jvm.MethodName)) ∈ lw_all := lw_g (lw_at lw_m10 15 rfl) rfl
theorem q2300 : (Jvm.Cond.code ({ cls := "BorrowedLivesModel", name := "weekBy", desc := "(I)V" } : Jvm.MethodName) prog_30_method_83_code (3 : Nat) (Option.none : Option Jvm.ClassFile.FieldType)) ∈ lw_all := lw_g (lw_at lw_m10 16 rfl) rfl
theorem q2302 : (Jvm.Cond.instanceMethod ({ cls := "BorrowedLivesModel", name := "prepare", desc := "(II)I" } : Jvm.MethodName)) ∈ lw_all := lw_g (lw_at lw_m10 18 rfl) rfl
theorem q2303 : (Jvm.Cond.selects "BorrowedLivesModel" ({ cls := "BorrowedLivesModel", name := "prepare", desc := "(II)I" } : Jvm.MethodName) ({ cls := "BorrowedLivesModel", name := "prepare", desc := "(II)I" } : Jvm.MethodName)) ∈ lw_all := lw_g (lw_at lw_m10 19 rfl) rfl
theorem q2304 : (Jvm.Cond.code ({ cls := "BorrowedLivesModel", name := "prepare", desc := "(II)I" } : Jvm.MethodName) prog_30_method_87_code (11 : Nat) (Option.some Jvm.ClassFile.FieldType.int)) ∈ lw_all := lw_g (lw_at lw_m10 20 rfl) rfl
theorem q2305 : (Jvm.Cond.constantLong "BorrowedLivesModel" (418 : Nat) (-1 : Int64)) ∈ lw_all := lw_g (lw_at lw_m10 21 rfl) rfl
theorem q2306 : (Jvm.Cond.constantLong "BorrowedLivesModel" (420 : Nat) (1000 : Int64)) ∈ lw_all := lw_g (lw_at lw_m10 22 rfl) rfl
theorem q2308 : (Jvm.Cond.instanceMethod ({ cls := "BorrowedLivesModel", name := "law", desc := "(I)I" } : Jvm.MethodName)) ∈ lw_all := lw_g (lw_at lw_m10 24 rfl) rfl
theorem q2309 : (Jvm.Cond.selects "BorrowedLivesModel" ({ cls := "BorrowedLivesModel", name := "law", desc := "(I)I" } : Jvm.MethodName) ({ cls := "BorrowedLivesModel", name := "law", desc := "(I)I" } : Jvm.MethodName)) ∈ lw_all := lw_g (lw_at lw_m10 25 rfl) rfl
theorem q2310 : (Jvm.Cond.code ({ cls := "BorrowedLivesModel", name := "law", desc := "(I)I" } : Jvm.MethodName) prog_30_method_88_code (5 : Nat) (Option.some Jvm.ClassFile.FieldType.int)) ∈ lw_all := lw_g (lw_at lw_m10 26 rfl) rfl
theorem q2312 : (Jvm.Cond.instanceMethod ({ cls := "BorrowedLivesModel", name := "deeds", desc := "(IIII)I" } : Jvm.MethodName)) ∈ lw_all := lw_g (lw_at lw_m10 28 rfl) rfl
theorem q2313 : (Jvm.Cond.selects "BorrowedLivesModel" ({ cls := "BorrowedLivesModel", name := "deeds", desc := "(IIII)I" } : Jvm.MethodName) ({ cls := "BorrowedLivesModel", name := "deeds", desc := "(IIII)I" } : Jvm.MethodName)) ∈ lw_all := lw_g (lw_at lw_m10 29 rfl) rfl
theorem q2314 : (Jvm.Cond.code ({ cls := "BorrowedLivesModel", name := "deeds", desc := "(IIII)I" } : Jvm.MethodName) prog_30_method_91_code (5 : Nat) (Option.some Jvm.ClassFile.FieldType.int)) ∈ lw_all := lw_g (lw_at lw_m10 30 rfl) rfl
theorem q2315 : (Jvm.Cond.methodLink "BorrowedLivesModel" (434 : Nat) ({ cls := "BorrowedLivesModel", name := "deedsFrom", desc := "(IIIIII)V" } : Jvm.MethodName)) ∈ lw_all := lw_g (lw_at lw_m10 31 rfl) rfl
theorem q2316 : (Jvm.Cond.privateMethod ({ cls := "BorrowedLivesModel", name := "deedsFrom", desc := "(IIIIII)V" } : Jvm.MethodName)) ∈ lw_tbl := lw_at lw_m10 32 rfl
theorem q2317 : (Jvm.Cond.instanceMethod ({ cls := "BorrowedLivesModel", name := "deedsFrom", desc := "(IIIIII)V" } : Jvm.MethodName)) ∈ lw_all := lw_g (lw_at lw_m10 33 rfl) rfl
theorem q2318 : (Jvm.Cond.code ({ cls := "BorrowedLivesModel", name := "deedsFrom", desc := "(IIIIII)V" } : Jvm.MethodName) prog_30_method_90_code (10 : Nat) (Option.none : Option Jvm.ClassFile.FieldType)) ∈ lw_all := lw_g (lw_at lw_m10 34 rfl) rfl
theorem q2319 : (Jvm.Cond.methodLink "BorrowedLivesModel" (425 : Nat) ({ cls := "BorrowedLivesModel", name := "goodOf", desc := "(III)I" } : Jvm.MethodName)) ∈ lw_all := lw_g (lw_at lw_m10 35 rfl) rfl
theorem q2320 : (Jvm.Cond.privateMethod ({ cls := "BorrowedLivesModel", name := "goodOf", desc := "(III)I" } : Jvm.MethodName)) ∈ lw_tbl := lw_at lw_m10 36 rfl
theorem q2321 : (Jvm.Cond.instanceMethod ({ cls := "BorrowedLivesModel", name := "goodOf", desc := "(III)I" } : Jvm.MethodName)) ∈ lw_all := lw_g (lw_at lw_m10 37 rfl) rfl
theorem q2322 : (Jvm.Cond.code ({ cls := "BorrowedLivesModel", name := "goodOf", desc := "(III)I" } : Jvm.MethodName) prog_30_method_89_code (4 : Nat) (Option.some Jvm.ClassFile.FieldType.int)) ∈ lw_all := lw_g (lw_at lw_m10 38 rfl) rfl
theorem q2324 : (Jvm.Cond.instanceMethod ({ cls := "BorrowedLivesModel", name := "pairs", desc := "(I)I" } : Jvm.MethodName)) ∈ lw_all := lw_g (lw_at lw_m10 40 rfl) rfl
theorem q2325 : (Jvm.Cond.selects "BorrowedLivesModel" ({ cls := "BorrowedLivesModel", name := "pairs", desc := "(I)I" } : Jvm.MethodName) ({ cls := "BorrowedLivesModel", name := "pairs", desc := "(I)I" } : Jvm.MethodName)) ∈ lw_all := lw_g (lw_at lw_m10 41 rfl) rfl
theorem q2326 : (Jvm.Cond.code ({ cls := "BorrowedLivesModel", name := "pairs", desc := "(I)I" } : Jvm.MethodName) prog_30_method_94_code (4 : Nat) (Option.some Jvm.ClassFile.FieldType.int)) ∈ lw_all := lw_g (lw_at lw_m10 42 rfl) rfl
theorem q2327 : (Jvm.Cond.methodLink "BorrowedLivesModel" (444 : Nat) ({ cls := "BorrowedLivesModel", name := "wishOf", desc := "(II)I" } : Jvm.MethodName)) ∈ lw_all := lw_g (lw_at lw_m10 43 rfl) rfl
theorem q2328 : (Jvm.Cond.privateMethod ({ cls := "BorrowedLivesModel", name := "wishOf", desc := "(II)I" } : Jvm.MethodName)) ∈ lw_tbl := lw_at lw_m10 44 rfl
theorem q2329 : (Jvm.Cond.instanceMethod ({ cls := "BorrowedLivesModel", name := "wishOf", desc := "(II)I" } : Jvm.MethodName)) ∈ lw_all := lw_g (lw_at lw_m10 45 rfl) rfl
theorem q2330 : (Jvm.Cond.code ({ cls := "BorrowedLivesModel", name := "wishOf", desc := "(II)I" } : Jvm.MethodName) prog_30_method_92_code (3 : Nat) (Option.some Jvm.ClassFile.FieldType.int)) ∈ lw_all := lw_g (lw_at lw_m10 46 rfl) rfl
theorem q2331 : (Jvm.Cond.methodLink "BorrowedLivesModel" (441 : Nat) ({ cls := "BorrowedLivesModel", name := "pairsFrom", desc := "(II)V" } : Jvm.MethodName)) ∈ lw_all := lw_g (lw_at lw_m10 47 rfl) rfl
theorem q2332 : (Jvm.Cond.privateMethod ({ cls := "BorrowedLivesModel", name := "pairsFrom", desc := "(II)V" } : Jvm.MethodName)) ∈ lw_tbl := lw_at lw_m10 48 rfl
theorem q2333 : (Jvm.Cond.instanceMethod ({ cls := "BorrowedLivesModel", name := "pairsFrom", desc := "(II)V" } : Jvm.MethodName)) ∈ lw_all := lw_g (lw_at lw_m10 49 rfl) rfl
theorem q2334 : (Jvm.Cond.code ({ cls := "BorrowedLivesModel", name := "pairsFrom", desc := "(II)V" } : Jvm.MethodName) prog_30_method_93_code (4 : Nat) (Option.none : Option Jvm.ClassFile.FieldType)) ∈ lw_all := lw_g (lw_at lw_m10 50 rfl) rfl
theorem q2336 : (Jvm.Cond.instanceMethod ({ cls := "BorrowedLivesModel", name := "tale", desc := "(III)Z" } : Jvm.MethodName)) ∈ lw_all := lw_g (lw_at lw_m10 52 rfl) rfl
theorem q2337 : (Jvm.Cond.selects "BorrowedLivesModel" ({ cls := "BorrowedLivesModel", name := "tale", desc := "(III)Z" } : Jvm.MethodName) ({ cls := "BorrowedLivesModel", name := "tale", desc := "(III)Z" } : Jvm.MethodName)) ∈ lw_all := lw_g (lw_at lw_m10 53 rfl) rfl
theorem q2338 : (Jvm.Cond.code ({ cls := "BorrowedLivesModel", name := "tale", desc := "(III)Z" } : Jvm.MethodName) prog_30_method_95_code (5 : Nat) (Option.some Jvm.ClassFile.FieldType.boolean)) ∈ lw_all := lw_g (lw_at lw_m10 54 rfl) rfl
theorem q2340 : (Jvm.Cond.instanceMethod ({ cls := "BorrowedLivesModel", name := "how", desc := "()I" } : Jvm.MethodName)) ∈ lw_all := lw_g (lw_at lw_m10 56 rfl) rfl
theorem q2341 : (Jvm.Cond.selects "BorrowedLivesModel" ({ cls := "BorrowedLivesModel", name := "how", desc := "()I" } : Jvm.MethodName) ({ cls := "BorrowedLivesModel", name := "how", desc := "()I" } : Jvm.MethodName)) ∈ lw_all := lw_g (lw_at lw_m10 57 rfl) rfl
theorem q2342 : (Jvm.Cond.code ({ cls := "BorrowedLivesModel", name := "how", desc := "()I" } : Jvm.MethodName) prog_30_method_99_code (1 : Nat) (Option.some Jvm.ClassFile.FieldType.int)) ∈ lw_all := lw_g (lw_at lw_m10 58 rfl) rfl
theorem q2343 : (Jvm.Cond.methodLink "BorrowedLivesModel" (453 : Nat) ({ cls := "BorrowedLivesModel", name := "findFitting", desc := "()V" } : Jvm.MethodName)) ∈ lw_all := lw_g (lw_at lw_m10 59 rfl) rfl
theorem q2344 : (Jvm.Cond.privateMethod ({ cls := "BorrowedLivesModel", name := "findFitting", desc := "()V" } : Jvm.MethodName)) ∈ lw_tbl := lw_at lw_m10 60 rfl
theorem q2345 : (Jvm.Cond.instanceMethod ({ cls := "BorrowedLivesModel", name := "findFitting", desc := "()V" } : Jvm.MethodName)) ∈ lw_all := lw_g (lw_at lw_m10 61 rfl) rfl
theorem q2346 : (Jvm.Cond.code ({ cls := "BorrowedLivesModel", name := "findFitting", desc := "()V" } : Jvm.MethodName) prog_30_method_96_code (2 : Nat) (Option.none : Option Jvm.ClassFile.FieldType)) ∈ lw_all := lw_g (lw_at lw_m10 62 rfl) rfl
theorem q2347 : (Jvm.Cond.methodLink "BorrowedLivesModel" (450 : Nat) ({ cls := "BorrowedLivesModel", name := "isAsTold", desc := "()Z" } : Jvm.MethodName)) ∈ lw_all := lw_g (lw_at lw_m10 63 rfl) rfl
theorem q2348 : (Jvm.Cond.privateMethod ({ cls := "BorrowedLivesModel", name := "isAsTold", desc := "()Z" } : Jvm.MethodName)) ∈ lw_tbl := lw_at lw_m10 64 rfl
theorem q2349 : (Jvm.Cond.instanceMethod ({ cls := "BorrowedLivesModel", name := "isAsTold", desc := "()Z" } : Jvm.MethodName)) ∈ lw_all := lw_g (lw_at lw_m10 65 rfl) rfl
theorem q2350 : (Jvm.Cond.code ({ cls := "BorrowedLivesModel", name := "isAsTold", desc := "()Z" } : Jvm.MethodName) prog_30_method_97_code (5 : Nat) (Option.some Jvm.ClassFile.FieldType.boolean)) ∈ lw_all := lw_g (lw_at lw_m10 66 rfl) rfl
theorem q2352 : (Jvm.Cond.instanceMethod ({ cls := "BorrowedLivesModel", name := "who", desc := "(I)I" } : Jvm.MethodName)) ∈ lw_all := lw_g (lw_at lw_m10 68 rfl) rfl
theorem q2353 : (Jvm.Cond.selects "BorrowedLivesModel" ({ cls := "BorrowedLivesModel", name := "who", desc := "(I)I" } : Jvm.MethodName) ({ cls := "BorrowedLivesModel", name := "who", desc := "(I)I" } : Jvm.MethodName)) ∈ lw_all := lw_g (lw_at lw_m10 69 rfl) rfl
theorem q2354 : (Jvm.Cond.code ({ cls := "BorrowedLivesModel", name := "who", desc := "(I)I" } : Jvm.MethodName) prog_30_method_100_code (5 : Nat) (Option.some Jvm.ClassFile.FieldType.int)) ∈ lw_all := lw_g (lw_at lw_m10 70 rfl) rfl
theorem q2356 : (Jvm.Cond.instanceMethod ({ cls := "BorrowedLivesModel", name := "ask", desc := "()I" } : Jvm.MethodName)) ∈ lw_all := lw_g (lw_at lw_m10 72 rfl) rfl
theorem q2357 : (Jvm.Cond.selects "BorrowedLivesModel" ({ cls := "BorrowedLivesModel", name := "ask", desc := "()I" } : Jvm.MethodName) ({ cls := "BorrowedLivesModel", name := "ask", desc := "()I" } : Jvm.MethodName)) ∈ lw_all := lw_g (lw_at lw_m10 73 rfl) rfl
theorem q2358 : (Jvm.Cond.code ({ cls := "BorrowedLivesModel", name := "ask", desc := "()I" } : Jvm.MethodName) prog_30_method_102_code (7 : Nat) (Option.some Jvm.ClassFile.FieldType.int)) ∈ lw_all := lw_g (lw_at lw_m10 74 rfl) rfl
theorem q2359 : (Jvm.Cond.methodLink "BorrowedLivesModel" (456 : Nat) ({ cls := "BorrowedLivesModel", name := "findPurses", desc := "(I)V" } : Jvm.MethodName)) ∈ lw_all := lw_g (lw_at lw_m10 75 rfl) rfl
theorem q2360 : (Jvm.Cond.privateMethod ({ cls := "BorrowedLivesModel", name := "findPurses", desc := "(I)V" } : Jvm.MethodName)) ∈ lw_tbl := lw_at lw_m10 76 rfl
theorem q2361 : (Jvm.Cond.instanceMethod ({ cls := "BorrowedLivesModel", name := "findPurses", desc := "(I)V" } : Jvm.MethodName)) ∈ lw_all := lw_g (lw_at lw_m10 77 rfl) rfl
theorem q2362 : (Jvm.Cond.code ({ cls := "BorrowedLivesModel", name := "findPurses", desc := "(I)V" } : Jvm.MethodName) prog_30_method_98_code (4 : Nat) (Option.none : Option Jvm.ClassFile.FieldType)) ∈ lw_all := lw_g (lw_at lw_m10 78 rfl) rfl
theorem q2363 : (Jvm.Cond.methodLink "BorrowedLivesModel" (459 : Nat) ({ cls := "BorrowedLivesModel", name := "greatestAlike", desc := "(I)I" } : Jvm.MethodName)) ∈ lw_all := lw_g (lw_at lw_m10 79 rfl) rfl
theorem q2364 : (Jvm.Cond.privateMethod ({ cls := "BorrowedLivesModel", name := "greatestAlike", desc := "(I)I" } : Jvm.MethodName)) ∈ lw_tbl := lw_at lw_m10 80 rfl
theorem q2365 : (Jvm.Cond.instanceMethod ({ cls := "BorrowedLivesModel", name := "greatestAlike", desc := "(I)I" } : Jvm.MethodName)) ∈ lw_all := lw_g (lw_at lw_m10 81 rfl) rfl
theorem q2366 : (Jvm.Cond.code ({ cls := "BorrowedLivesModel", name := "greatestAlike", desc := "(I)I" } : Jvm.MethodName) prog_30_method_101_code (6 : Nat) (Option.some Jvm.ClassFile.FieldType.int)) ∈ lw_all := lw_g (lw_at lw_m10 82 rfl) rfl
theorem q2368 : (Jvm.Cond.instanceMethod ({ cls := "BorrowedLivesModel", name := "rests", desc := "(IIII)I" } : Jvm.MethodName)) ∈ lw_all := lw_g (lw_at lw_m10 84 rfl) rfl
theorem q2369 : (Jvm.Cond.selects "BorrowedLivesModel" ({ cls := "BorrowedLivesModel", name := "rests", desc := "(IIII)I" } : Jvm.MethodName) ({ cls := "BorrowedLivesModel", name := "rests", desc := "(IIII)I" } : Jvm.MethodName)) ∈ lw_all := lw_g (lw_at lw_m10 85 rfl) rfl
theorem q2370 : (Jvm.Cond.code ({ cls := "BorrowedLivesModel", name := "rests", desc := "(IIII)I" } : Jvm.MethodName) prog_30_method_104_code (13 : Nat) (Option.some Jvm.ClassFile.FieldType.int)) ∈ lw_all := lw_g (lw_at lw_m10 86 rfl) rfl
theorem q2371 : (Jvm.Cond.methodLink "BorrowedLivesModel" (462 : Nat) ({ cls := "BorrowedLivesModel", name := "caresFor", desc := "(IIIII)I" } : Jvm.MethodName)) ∈ lw_all := lw_g (lw_at lw_m10 87 rfl) rfl
theorem q2372 : (Jvm.Cond.static ({ cls := "BorrowedLivesModel", name := "caresFor", desc := "(IIIII)I" } : Jvm.MethodName)) ∈ lw_all := lw_g (lw_at lw_m10 88 rfl) rfl
theorem q2373 : (Jvm.Cond.code ({ cls := "BorrowedLivesModel", name := "caresFor", desc := "(IIIII)I" } : Jvm.MethodName) prog_30_method_103_code (5 : Nat) (Option.some Jvm.ClassFile.FieldType.int)) ∈ lw_all := lw_g (lw_at lw_m10 89 rfl) rfl
theorem q2375 : (Jvm.Cond.instanceMethod ({ cls := "BorrowedLivesModel", name := "years", desc := "(III)I" } : Jvm.MethodName)) ∈ lw_all := lw_g (lw_at lw_m10 91 rfl) rfl
theorem q2376 : (Jvm.Cond.selects "BorrowedLivesModel" ({ cls := "BorrowedLivesModel", name := "years", desc := "(III)I" } : Jvm.MethodName) ({ cls := "BorrowedLivesModel", name := "years", desc := "(III)I" } : Jvm.MethodName)) ∈ lw_all := lw_g (lw_at lw_m10 92 rfl) rfl
theorem q2377 : (Jvm.Cond.code ({ cls := "BorrowedLivesModel", name := "years", desc := "(III)I" } : Jvm.MethodName) prog_30_method_107_code (8 : Nat) (Option.some Jvm.ClassFile.FieldType.int)) ∈ lw_all := lw_g (lw_at lw_m10 93 rfl) rfl
theorem q2378 : (Jvm.Cond.methodLink "BorrowedLivesModel" (466 : Nat) ({ cls := "BorrowedLivesModel", name := "hidesByDraw", desc := "()V" } : Jvm.MethodName)) ∈ lw_all := lw_g (lw_at lw_m10 94 rfl) rfl
theorem q2379 : (Jvm.Cond.privateMethod ({ cls := "BorrowedLivesModel", name := "hidesByDraw", desc := "()V" } : Jvm.MethodName)) ∈ lw_tbl := lw_at lw_m10 95 rfl
theorem q2380 : (Jvm.Cond.instanceMethod ({ cls := "BorrowedLivesModel", name := "hidesByDraw", desc := "()V" } : Jvm.MethodName)) ∈ lw_all := lw_g (lw_at lw_m10 96 rfl) rfl
theorem q2381 : (Jvm.Cond.code ({ cls := "BorrowedLivesModel", name := "hidesByDraw", desc := "()V" } : Jvm.MethodName) prog_30_method_106_code (3 : Nat) (Option.none : Option Jvm.ClassFile.FieldType)) ∈ lw_all := lw_g (lw_at lw_m10 97 rfl) rfl
theorem q2382 : (Jvm.Cond.methodLink "BorrowedLivesModel" (469 : Nat) ({ cls := "BorrowedLivesModel", name := "pursesOf", desc := "(I)I" } : Jvm.MethodName)) ∈ lw_all := lw_g (lw_at lw_m10 98 rfl) rfl
theorem q2383 : (Jvm.Cond.privateMethod ({ cls := "BorrowedLivesModel", name := "pursesOf", desc := "(I)I" } : Jvm.MethodName)) ∈ lw_tbl := lw_at lw_m10 99 rfl
theorem q2384 : (Jvm.Cond.instanceMethod ({ cls := "BorrowedLivesModel", name := "pursesOf", desc := "(I)I" } : Jvm.MethodName)) ∈ lw_all := lw_g (lw_at lw_m10 100 rfl) rfl
theorem q2385 : (Jvm.Cond.code ({ cls := "BorrowedLivesModel", name := "pursesOf", desc := "(I)I" } : Jvm.MethodName) prog_30_method_105_code (4 : Nat) (Option.some Jvm.ClassFile.FieldType.int)) ∈ lw_all := lw_g (lw_at lw_m10 101 rfl) rfl
theorem q2387 : (Jvm.Cond.instanceMethod ({ cls := "BorrowedLivesModel", name := "mark", desc := "(IZ)Z" } : Jvm.MethodName)) ∈ lw_all := lw_g (lw_at lw_m10 103 rfl) rfl
theorem q2388 : (Jvm.Cond.selects "BorrowedLivesModel" ({ cls := "BorrowedLivesModel", name := "mark", desc := "(IZ)Z" } : Jvm.MethodName) ({ cls := "BorrowedLivesModel", name := "mark", desc := "(IZ)Z" } : Jvm.MethodName)) ∈ lw_all := lw_g (lw_at lw_m10 104 rfl) rfl
theorem q2389 : (Jvm.Cond.code ({ cls := "BorrowedLivesModel", name := "mark", desc := "(IZ)Z" } : Jvm.MethodName) prog_30_method_108_code (3 : Nat) (Option.some Jvm.ClassFile.FieldType.boolean)) ∈ lw_all := lw_g (lw_at lw_m10 105 rfl) rfl
theorem q2391 : (Jvm.Cond.instanceMethod ({ cls := "BorrowedLivesModel", name := "count", desc := "(I)I" } : Jvm.MethodName)) ∈ lw_all := lw_g (lw_at lw_m10 107 rfl) rfl
theorem q2392 : (Jvm.Cond.selects "BorrowedLivesModel" ({ cls := "BorrowedLivesModel", name := "count", desc := "(I)I" } : Jvm.MethodName) ({ cls := "BorrowedLivesModel", name := "count", desc := "(I)I" } : Jvm.MethodName)) ∈ lw_all := lw_g (lw_at lw_m10 108 rfl) rfl
theorem q2393 : (Jvm.Cond.code ({ cls := "BorrowedLivesModel", name := "count", desc := "(I)I" } : Jvm.MethodName) prog_30_method_110_code (2 : Nat) (Option.some Jvm.ClassFile.FieldType.int)) ∈ lw_all := lw_g (lw_at lw_m10 109 rfl) rfl
theorem q2394 : (Jvm.Cond.methodLink "BorrowedLivesModel" (472 : Nat) ({ cls := "BorrowedLivesModel", name := "debtsOf", desc := "()I" } : Jvm.MethodName)) ∈ lw_all := lw_g (lw_at lw_m10 110 rfl) rfl
theorem q2395 : (Jvm.Cond.privateMethod ({ cls := "BorrowedLivesModel", name := "debtsOf", desc := "()I" } : Jvm.MethodName)) ∈ lw_tbl := lw_at lw_m10 111 rfl
theorem q2396 : (Jvm.Cond.instanceMethod ({ cls := "BorrowedLivesModel", name := "debtsOf", desc := "()I" } : Jvm.MethodName)) ∈ lw_all := lw_g (lw_at lw_m10 112 rfl) rfl
theorem q2397 : (Jvm.Cond.code ({ cls := "BorrowedLivesModel", name := "debtsOf", desc := "()I" } : Jvm.MethodName) prog_30_method_109_code (3 : Nat) (Option.some Jvm.ClassFile.FieldType.int)) ∈ lw_all := lw_g (lw_at lw_m10 113 rfl) rfl
theorem q2419 : (Jvm.Cond.castable "BorrowedLivesModel" "java/lang/Object") ∈ lw_tbl := lw_at lw_m10 135 rfl
theorem in_X5 : ∀ w ∈ wsX50, w ∈ lw_all := lw_in wsX50 [1914, 1916, 1918, 1920, 1922, 1924, 1926, 1928, 1930, 1932, 1934, 1936, 1938, 1940, 1942, 1944, 1946, 1948, 1950, 1952, 1954, 1956, 1958, 1960, 1962, 1964, 1966, 1968, 1970, 1972, 1974, 1976, 1978, 1980, 1982, 1984, 1986, 1988, 1990, 1992, 1994, 1996, 1998] (by decide +kernel) (by decide +kernel)
