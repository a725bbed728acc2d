/-! BorrowedLives$Reader -/
set_option maxRecDepth 100000
def RX2 : String := "BorrowedLives$Reader"
def TX2 : u_T := fun k => match k with
  | 0 => ("BorrowedLives$Reader", "text", "[B", false)
  | 1 => ("BorrowedLives$Reader", "size", "I", false)
  | 2 => ("BorrowedLives$Reader", "to", "I", false)
  | 3 => ("BorrowedLives$Reader", "kind", "I", false)
  | 4 => ("BorrowedLives$Reader", "from", "I", false)
  | 5 => ("BorrowedLives$Reader", "value", "I", false)
  | 6 => ("BorrowedLives$Reader", "within", "I", false)
  | 7 => ("BorrowedLives$Reader", "town", "LBorrowedLives$Town;", false)
  | _ => ("BorrowedLives$Reader", "factWords", "Ljava/lang/String;", false)
def tyX2 : Nat → FieldType := fun k => match k with
  | 0 => .array .byte
  | 1 => .int
  | 2 => .int
  | 3 => .int
  | 4 => .int
  | 5 => .int
  | 6 => .int
  | 7 => .object "BorrowedLives$Town"
  | _ => .object "java/lang/String"
abbrev wsX20 : List Cond := u_ws RX2 TX2 9
theorem nmX2 : ∀ a, a < 9 → ∀ b, b < 9 → a ≠ b → (TX2 a).2.1 ≠ (TX2 b).2.1 := by decide +kernel
theorem tyX2_ok : ∀ k, k < 9 → parseFieldDescriptor (TX2 k).2.2.1 = some (tyX2 k) := by decide +kernel
abbrev cX2_init : ByteArray := prog_21_method_1_code
def yX2_init : MethodName := ⟨RX2, "<init>", "()V"⟩
theorem dX2_init_0 : decode cX2_init 0 = .ok (.aload_n 0, 1) := by decide +kernel
theorem dX2_init_1 : decode cX2_init 1 = .ok (.invokespecial 3, 3) := by decide +kernel
theorem dX2_init_4 : decode cX2_init 4 = .ok (.return_, 1) := by decide +kernel
abbrev cX2_begin : ByteArray := prog_21_method_2_code
def yX2_begin : MethodName := ⟨RX2, "begin", "([BI)V"⟩
def dkwX2_begin_1 : List UInt8 := [177]
abbrev dktX2_begin_1 : List UInt8 := dkwX2_begin_1 ++ []
def dkwX2_begin_0 : List UInt8 := [42, 43, 181, 0, 9, 42, 28, 181, 0, 15, 42, 3, 181, 0, 19, 42, 3, 181, 0, 22, 42, 182, 0, 25]
abbrev dktX2_begin_0 : List UInt8 := dkwX2_begin_0 ++ dktX2_begin_1
theorem dksX2_begin_0 : cX2_begin.data.toList.drop 0 = dktX2_begin_0 := by decide +kernel
theorem dksX2_begin_1 : cX2_begin.data.toList.drop 24 = dktX2_begin_1 := dk_seg dksX2_begin_0 24 rfl rfl
theorem dX2_begin_0 : decode cX2_begin 0 = .ok (.aload_n 0, 1) := dk_42 (dk_at dksX2_begin_0 0 rfl rfl)
theorem dX2_begin_1 : decode cX2_begin 1 = .ok (.aload_n 1, 1) := dk_43 (dk_at dksX2_begin_0 1 rfl rfl)
theorem dX2_begin_2 : decode cX2_begin 2 = .ok (.putfield 9, 3) := dk_181 0 9 (dk_at dksX2_begin_0 2 rfl rfl)
theorem dX2_begin_5 : decode cX2_begin 5 = .ok (.aload_n 0, 1) := dk_42 (dk_at dksX2_begin_0 5 rfl rfl)
theorem dX2_begin_6 : decode cX2_begin 6 = .ok (.iload_n 2, 1) := dk_28 (dk_at dksX2_begin_0 6 rfl rfl)
theorem dX2_begin_7 : decode cX2_begin 7 = .ok (.putfield 15, 3) := dk_181 0 15 (dk_at dksX2_begin_0 7 rfl rfl)
theorem dX2_begin_10 : decode cX2_begin 10 = .ok (.aload_n 0, 1) := dk_42 (dk_at dksX2_begin_0 10 rfl rfl)
theorem dX2_begin_11 : decode cX2_begin 11 = .ok (.iconst 0, 1) := dk_3 (dk_at dksX2_begin_0 11 rfl rfl)
theorem dX2_begin_12 : decode cX2_begin 12 = .ok (.putfield 19, 3) := dk_181 0 19 (dk_at dksX2_begin_0 12 rfl rfl)
theorem dX2_begin_15 : decode cX2_begin 15 = .ok (.aload_n 0, 1) := dk_42 (dk_at dksX2_begin_0 15 rfl rfl)
theorem dX2_begin_16 : decode cX2_begin 16 = .ok (.iconst 0, 1) := dk_3 (dk_at dksX2_begin_0 16 rfl rfl)
theorem dX2_begin_17 : decode cX2_begin 17 = .ok (.putfield 22, 3) := dk_181 0 22 (dk_at dksX2_begin_0 17 rfl rfl)
theorem dX2_begin_20 : decode cX2_begin 20 = .ok (.aload_n 0, 1) := dk_42 (dk_at dksX2_begin_0 20 rfl rfl)
theorem dX2_begin_21 : decode cX2_begin 21 = .ok (.invokevirtual 25, 3) := dk_182 0 25 (dk_at dksX2_begin_0 21 rfl rfl)
theorem dX2_begin_24 : decode cX2_begin 24 = .ok (.return_, 1) := dk_177 (dk_at dksX2_begin_1 0 rfl rfl)
abbrev cX2_next : ByteArray := prog_21_method_6_code
def yX2_next : MethodName := ⟨RX2, "next", "()V"⟩
def dkwX2_next_12 : List UInt8 := [6, 167, 0, 4, 7, 181, 0, 31, 42, 89, 180, 0, 19, 4, 96, 181, 0, 19, 177]
abbrev dktX2_next_12 : List UInt8 := dkwX2_next_12 ++ []
def dkwX2_next_11 : List UInt8 := [181, 0, 31, 167, 0, 39, 42, 18, 48, 42, 42, 180, 0, 19, 182, 0, 34, 146, 182, 0, 50, 155, 0, 7]
abbrev dktX2_next_11 : List UInt8 := dkwX2_next_11 ++ dktX2_next_12
def dkwX2_next_10 : List UInt8 := [167, 255, 189, 42, 42, 180, 0, 19, 42, 180, 0, 28, 100, 7, 164, 0, 7, 7, 167, 0, 4, 5]
abbrev dktX2_next_10 : List UInt8 := dkwX2_next_10 ++ dktX2_next_11
def dkwX2_next_9 : List UInt8 := [96, 16, 48, 100, 167, 0, 7, 42, 180, 0, 45, 181, 0, 45, 42, 89, 180, 0, 19, 4, 96, 181, 0, 19]
abbrev dktX2_next_9 : List UInt8 := dkwX2_next_9 ++ dktX2_next_10
def dkwX2_next_8 : List UInt8 := [42, 180, 0, 28, 100, 7, 162, 0, 25, 16, 10, 42, 180, 0, 45, 104, 42, 42, 180, 0, 19, 182, 0, 34]
abbrev dktX2_next_8 : List UInt8 := dkwX2_next_8 ++ dktX2_next_9
def dkwX2_next_7 : List UInt8 := [42, 3, 181, 0, 45, 42, 42, 180, 0, 19, 182, 0, 34, 184, 0, 42, 153, 0, 59, 42, 42, 180, 0, 19]
abbrev dktX2_next_7 : List UInt8 := dkwX2_next_7 ++ dktX2_next_8
def dkwX2_next_6 : List UInt8 := [167, 0, 4, 4, 181, 0, 31, 167, 0, 153, 42, 42, 180, 0, 19, 182, 0, 34, 184, 0, 42, 153, 0, 103]
abbrev dktX2_next_6 : List UInt8 := dkwX2_next_6 ++ dktX2_next_7
def dkwX2_next_5 : List UInt8 := [181, 0, 19, 167, 255, 232, 42, 42, 180, 0, 19, 42, 180, 0, 28, 100, 16, 8, 164, 0, 7, 7]
abbrev dktX2_next_5 : List UInt8 := dkwX2_next_5 ++ dktX2_next_6
def dkwX2_next_4 : List UInt8 := [153, 0, 56, 42, 42, 180, 0, 19, 182, 0, 34, 184, 0, 38, 153, 0, 16, 42, 89, 180, 0, 19, 4, 96]
abbrev dktX2_next_4 : List UInt8 := dkwX2_next_4 ++ dktX2_next_5
def dkwX2_next_3 : List UInt8 := [160, 0, 11, 42, 3, 181, 0, 31, 167, 0, 220, 42, 42, 180, 0, 19, 182, 0, 34, 184, 0, 38]
abbrev dktX2_next_3 : List UInt8 := dkwX2_next_3 ++ dktX2_next_4
def dkwX2_next_2 : List UInt8 := [181, 0, 19, 167, 255, 207, 42, 42, 180, 0, 19, 181, 0, 28, 42, 180, 0, 19, 42, 180, 0, 15]
abbrev dktX2_next_2 : List UInt8 := dkwX2_next_2 ++ dktX2_next_3
def dkwX2_next_1 : List UInt8 := [159, 0, 17, 42, 180, 0, 9, 42, 180, 0, 19, 51, 16, 32, 160, 0, 16, 42, 89, 180, 0, 19, 4, 96]
abbrev dktX2_next_1 : List UInt8 := dkwX2_next_1 ++ dktX2_next_2
def dkwX2_next_0 : List UInt8 := [42, 180, 0, 19, 42, 180, 0, 15, 162, 0, 44, 42, 180, 0, 9, 42, 180, 0, 19, 51, 16, 10]
abbrev dktX2_next_0 : List UInt8 := dkwX2_next_0 ++ dktX2_next_1
theorem dksX2_next_0 : cX2_next.data.toList.drop 0 = dktX2_next_0 := by decide +kernel
theorem dksX2_next_1 : cX2_next.data.toList.drop 22 = dktX2_next_1 := dk_seg dksX2_next_0 22 rfl rfl
theorem dksX2_next_2 : cX2_next.data.toList.drop 46 = dktX2_next_2 := dk_seg dksX2_next_1 24 rfl rfl
theorem dksX2_next_3 : cX2_next.data.toList.drop 68 = dktX2_next_3 := dk_seg dksX2_next_2 22 rfl rfl
theorem dksX2_next_4 : cX2_next.data.toList.drop 90 = dktX2_next_4 := dk_seg dksX2_next_3 22 rfl rfl
theorem dksX2_next_5 : cX2_next.data.toList.drop 114 = dktX2_next_5 := dk_seg dksX2_next_4 24 rfl rfl
theorem dksX2_next_6 : cX2_next.data.toList.drop 136 = dktX2_next_6 := dk_seg dksX2_next_5 22 rfl rfl
theorem dksX2_next_7 : cX2_next.data.toList.drop 160 = dktX2_next_7 := dk_seg dksX2_next_6 24 rfl rfl
theorem dksX2_next_8 : cX2_next.data.toList.drop 184 = dktX2_next_8 := dk_seg dksX2_next_7 24 rfl rfl
theorem dksX2_next_9 : cX2_next.data.toList.drop 208 = dktX2_next_9 := dk_seg dksX2_next_8 24 rfl rfl
theorem dksX2_next_10 : cX2_next.data.toList.drop 232 = dktX2_next_10 := dk_seg dksX2_next_9 24 rfl rfl
theorem dksX2_next_11 : cX2_next.data.toList.drop 254 = dktX2_next_11 := dk_seg dksX2_next_10 22 rfl rfl
theorem dksX2_next_12 : cX2_next.data.toList.drop 278 = dktX2_next_12 := dk_seg dksX2_next_11 24 rfl rfl
theorem dX2_next_0 : decode cX2_next 0 = .ok (.aload_n 0, 1) := dk_42 (dk_at dksX2_next_0 0 rfl rfl)
theorem dX2_next_1 : decode cX2_next 1 = .ok (.getfield 19, 3) := dk_180 0 19 (dk_at dksX2_next_0 1 rfl rfl)
theorem dX2_next_4 : decode cX2_next 4 = .ok (.aload_n 0, 1) := dk_42 (dk_at dksX2_next_0 4 rfl rfl)
theorem dX2_next_5 : decode cX2_next 5 = .ok (.getfield 15, 3) := dk_180 0 15 (dk_at dksX2_next_0 5 rfl rfl)
theorem dX2_next_8 : decode cX2_next 8 = .ok (.if_icmp .ge 44, 3) := dk_162 0 44 (dk_at dksX2_next_0 8 rfl rfl)
theorem dX2_next_11 : decode cX2_next 11 = .ok (.aload_n 0, 1) := dk_42 (dk_at dksX2_next_0 11 rfl rfl)
theorem dX2_next_12 : decode cX2_next 12 = .ok (.getfield 9, 3) := dk_180 0 9 (dk_at dksX2_next_0 12 rfl rfl)
theorem dX2_next_15 : decode cX2_next 15 = .ok (.aload_n 0, 1) := dk_42 (dk_at dksX2_next_0 15 rfl rfl)
theorem dX2_next_16 : decode cX2_next 16 = .ok (.getfield 19, 3) := dk_180 0 19 (dk_at dksX2_next_0 16 rfl rfl)
theorem dX2_next_19 : decode cX2_next 19 = .ok (.baload, 1) := dk_51 (dk_at dksX2_next_0 19 rfl rfl)
theorem dX2_next_20 : decode cX2_next 20 = .ok (.bipush 10, 2) := dk_16 10 (dk_at dksX2_next_0 20 rfl rfl)
theorem dX2_next_22 : decode cX2_next 22 = .ok (.if_icmp .eq 17, 3) := dk_159 0 17 (dk_at dksX2_next_1 0 rfl rfl)
theorem dX2_next_25 : decode cX2_next 25 = .ok (.aload_n 0, 1) := dk_42 (dk_at dksX2_next_1 3 rfl rfl)
theorem dX2_next_26 : decode cX2_next 26 = .ok (.getfield 9, 3) := dk_180 0 9 (dk_at dksX2_next_1 4 rfl rfl)
theorem dX2_next_29 : decode cX2_next 29 = .ok (.aload_n 0, 1) := dk_42 (dk_at dksX2_next_1 7 rfl rfl)
theorem dX2_next_30 : decode cX2_next 30 = .ok (.getfield 19, 3) := dk_180 0 19 (dk_at dksX2_next_1 8 rfl rfl)
theorem dX2_next_33 : decode cX2_next 33 = .ok (.baload, 1) := dk_51 (dk_at dksX2_next_1 11 rfl rfl)
theorem dX2_next_34 : decode cX2_next 34 = .ok (.bipush 32, 2) := dk_16 32 (dk_at dksX2_next_1 12 rfl rfl)
theorem dX2_next_36 : decode cX2_next 36 = .ok (.if_icmp .ne 16, 3) := dk_160 0 16 (dk_at dksX2_next_1 14 rfl rfl)
theorem dX2_next_39 : decode cX2_next 39 = .ok (.aload_n 0, 1) := dk_42 (dk_at dksX2_next_1 17 rfl rfl)
theorem dX2_next_40 : decode cX2_next 40 = .ok (.dup, 1) := dk_89 (dk_at dksX2_next_1 18 rfl rfl)
theorem dX2_next_41 : decode cX2_next 41 = .ok (.getfield 19, 3) := dk_180 0 19 (dk_at dksX2_next_1 19 rfl rfl)
theorem dX2_next_44 : decode cX2_next 44 = .ok (.iconst 1, 1) := dk_4 (dk_at dksX2_next_1 22 rfl rfl)
theorem dX2_next_45 : decode cX2_next 45 = .ok (.iadd, 1) := dk_96 (dk_at dksX2_next_1 23 rfl rfl)
theorem dX2_next_46 : decode cX2_next 46 = .ok (.putfield 19, 3) := dk_181 0 19 (dk_at dksX2_next_2 0 rfl rfl)
theorem dX2_next_49 : decode cX2_next 49 = .ok (.goto (-49), 3) := dk_167 255 207 (dk_at dksX2_next_2 3 rfl rfl)
theorem dX2_next_52 : decode cX2_next 52 = .ok (.aload_n 0, 1) := dk_42 (dk_at dksX2_next_2 6 rfl rfl)
theorem dX2_next_53 : decode cX2_next 53 = .ok (.aload_n 0, 1) := dk_42 (dk_at dksX2_next_2 7 rfl rfl)
theorem dX2_next_54 : decode cX2_next 54 = .ok (.getfield 19, 3) := dk_180 0 19 (dk_at dksX2_next_2 8 rfl rfl)
theorem dX2_next_57 : decode cX2_next 57 = .ok (.putfield 28, 3) := dk_181 0 28 (dk_at dksX2_next_2 11 rfl rfl)
theorem dX2_next_60 : decode cX2_next 60 = .ok (.aload_n 0, 1) := dk_42 (dk_at dksX2_next_2 14 rfl rfl)
theorem dX2_next_61 : decode cX2_next 61 = .ok (.getfield 19, 3) := dk_180 0 19 (dk_at dksX2_next_2 15 rfl rfl)
theorem dX2_next_64 : decode cX2_next 64 = .ok (.aload_n 0, 1) := dk_42 (dk_at dksX2_next_2 18 rfl rfl)
theorem dX2_next_65 : decode cX2_next 65 = .ok (.getfield 15, 3) := dk_180 0 15 (dk_at dksX2_next_2 19 rfl rfl)
theorem dX2_next_68 : decode cX2_next 68 = .ok (.if_icmp .ne 11, 3) := dk_160 0 11 (dk_at dksX2_next_3 0 rfl rfl)
theorem dX2_next_71 : decode cX2_next 71 = .ok (.aload_n 0, 1) := dk_42 (dk_at dksX2_next_3 3 rfl rfl)
theorem dX2_next_72 : decode cX2_next 72 = .ok (.iconst 0, 1) := dk_3 (dk_at dksX2_next_3 4 rfl rfl)
theorem dX2_next_73 : decode cX2_next 73 = .ok (.putfield 31, 3) := dk_181 0 31 (dk_at dksX2_next_3 5 rfl rfl)
theorem dX2_next_76 : decode cX2_next 76 = .ok (.goto 220, 3) := dk_167 0 220 (dk_at dksX2_next_3 8 rfl rfl)
theorem dX2_next_79 : decode cX2_next 79 = .ok (.aload_n 0, 1) := dk_42 (dk_at dksX2_next_3 11 rfl rfl)
theorem dX2_next_80 : decode cX2_next 80 = .ok (.aload_n 0, 1) := dk_42 (dk_at dksX2_next_3 12 rfl rfl)
theorem dX2_next_81 : decode cX2_next 81 = .ok (.getfield 19, 3) := dk_180 0 19 (dk_at dksX2_next_3 13 rfl rfl)
theorem dX2_next_84 : decode cX2_next 84 = .ok (.invokevirtual 34, 3) := dk_182 0 34 (dk_at dksX2_next_3 16 rfl rfl)
theorem dX2_next_87 : decode cX2_next 87 = .ok (.invokestatic 38, 3) := dk_184 0 38 (dk_at dksX2_next_3 19 rfl rfl)
theorem dX2_next_90 : decode cX2_next 90 = .ok (.ifCond .eq 56, 3) := dk_153 0 56 (dk_at dksX2_next_4 0 rfl rfl)
theorem dX2_next_93 : decode cX2_next 93 = .ok (.aload_n 0, 1) := dk_42 (dk_at dksX2_next_4 3 rfl rfl)
theorem dX2_next_94 : decode cX2_next 94 = .ok (.aload_n 0, 1) := dk_42 (dk_at dksX2_next_4 4 rfl rfl)
theorem dX2_next_95 : decode cX2_next 95 = .ok (.getfield 19, 3) := dk_180 0 19 (dk_at dksX2_next_4 5 rfl rfl)
theorem dX2_next_98 : decode cX2_next 98 = .ok (.invokevirtual 34, 3) := dk_182 0 34 (dk_at dksX2_next_4 8 rfl rfl)
theorem dX2_next_101 : decode cX2_next 101 = .ok (.invokestatic 38, 3) := dk_184 0 38 (dk_at dksX2_next_4 11 rfl rfl)
theorem dX2_next_104 : decode cX2_next 104 = .ok (.ifCond .eq 16, 3) := dk_153 0 16 (dk_at dksX2_next_4 14 rfl rfl)
theorem dX2_next_107 : decode cX2_next 107 = .ok (.aload_n 0, 1) := dk_42 (dk_at dksX2_next_4 17 rfl rfl)
theorem dX2_next_108 : decode cX2_next 108 = .ok (.dup, 1) := dk_89 (dk_at dksX2_next_4 18 rfl rfl)
theorem dX2_next_109 : decode cX2_next 109 = .ok (.getfield 19, 3) := dk_180 0 19 (dk_at dksX2_next_4 19 rfl rfl)
theorem dX2_next_112 : decode cX2_next 112 = .ok (.iconst 1, 1) := dk_4 (dk_at dksX2_next_4 22 rfl rfl)
theorem dX2_next_113 : decode cX2_next 113 = .ok (.iadd, 1) := dk_96 (dk_at dksX2_next_4 23 rfl rfl)
theorem dX2_next_114 : decode cX2_next 114 = .ok (.putfield 19, 3) := dk_181 0 19 (dk_at dksX2_next_5 0 rfl rfl)
theorem dX2_next_117 : decode cX2_next 117 = .ok (.goto (-24), 3) := dk_167 255 232 (dk_at dksX2_next_5 3 rfl rfl)
theorem dX2_next_120 : decode cX2_next 120 = .ok (.aload_n 0, 1) := dk_42 (dk_at dksX2_next_5 6 rfl rfl)
theorem dX2_next_121 : decode cX2_next 121 = .ok (.aload_n 0, 1) := dk_42 (dk_at dksX2_next_5 7 rfl rfl)
theorem dX2_next_122 : decode cX2_next 122 = .ok (.getfield 19, 3) := dk_180 0 19 (dk_at dksX2_next_5 8 rfl rfl)
theorem dX2_next_125 : decode cX2_next 125 = .ok (.aload_n 0, 1) := dk_42 (dk_at dksX2_next_5 11 rfl rfl)
theorem dX2_next_126 : decode cX2_next 126 = .ok (.getfield 28, 3) := dk_180 0 28 (dk_at dksX2_next_5 12 rfl rfl)
theorem dX2_next_129 : decode cX2_next 129 = .ok (.isub, 1) := dk_100 (dk_at dksX2_next_5 15 rfl rfl)
theorem dX2_next_130 : decode cX2_next 130 = .ok (.bipush 8, 2) := dk_16 8 (dk_at dksX2_next_5 16 rfl rfl)
theorem dX2_next_132 : decode cX2_next 132 = .ok (.if_icmp .le 7, 3) := dk_164 0 7 (dk_at dksX2_next_5 18 rfl rfl)
theorem dX2_next_135 : decode cX2_next 135 = .ok (.iconst 4, 1) := dk_7 (dk_at dksX2_next_5 21 rfl rfl)
theorem dX2_next_136 : decode cX2_next 136 = .ok (.goto 4, 3) := dk_167 0 4 (dk_at dksX2_next_6 0 rfl rfl)
theorem dX2_next_139 : decode cX2_next 139 = .ok (.iconst 1, 1) := dk_4 (dk_at dksX2_next_6 3 rfl rfl)
theorem dX2_next_140 : decode cX2_next 140 = .ok (.putfield 31, 3) := dk_181 0 31 (dk_at dksX2_next_6 4 rfl rfl)
theorem dX2_next_143 : decode cX2_next 143 = .ok (.goto 153, 3) := dk_167 0 153 (dk_at dksX2_next_6 7 rfl rfl)
theorem dX2_next_146 : decode cX2_next 146 = .ok (.aload_n 0, 1) := dk_42 (dk_at dksX2_next_6 10 rfl rfl)
theorem dX2_next_147 : decode cX2_next 147 = .ok (.aload_n 0, 1) := dk_42 (dk_at dksX2_next_6 11 rfl rfl)
theorem dX2_next_148 : decode cX2_next 148 = .ok (.getfield 19, 3) := dk_180 0 19 (dk_at dksX2_next_6 12 rfl rfl)
theorem dX2_next_151 : decode cX2_next 151 = .ok (.invokevirtual 34, 3) := dk_182 0 34 (dk_at dksX2_next_6 15 rfl rfl)
theorem dX2_next_154 : decode cX2_next 154 = .ok (.invokestatic 42, 3) := dk_184 0 42 (dk_at dksX2_next_6 18 rfl rfl)
theorem dX2_next_157 : decode cX2_next 157 = .ok (.ifCond .eq 103, 3) := dk_153 0 103 (dk_at dksX2_next_6 21 rfl rfl)
theorem dX2_next_160 : decode cX2_next 160 = .ok (.aload_n 0, 1) := dk_42 (dk_at dksX2_next_7 0 rfl rfl)
theorem dX2_next_161 : decode cX2_next 161 = .ok (.iconst 0, 1) := dk_3 (dk_at dksX2_next_7 1 rfl rfl)
theorem dX2_next_162 : decode cX2_next 162 = .ok (.putfield 45, 3) := dk_181 0 45 (dk_at dksX2_next_7 2 rfl rfl)
theorem dX2_next_165 : decode cX2_next 165 = .ok (.aload_n 0, 1) := dk_42 (dk_at dksX2_next_7 5 rfl rfl)
theorem dX2_next_166 : decode cX2_next 166 = .ok (.aload_n 0, 1) := dk_42 (dk_at dksX2_next_7 6 rfl rfl)
theorem dX2_next_167 : decode cX2_next 167 = .ok (.getfield 19, 3) := dk_180 0 19 (dk_at dksX2_next_7 7 rfl rfl)
theorem dX2_next_170 : decode cX2_next 170 = .ok (.invokevirtual 34, 3) := dk_182 0 34 (dk_at dksX2_next_7 10 rfl rfl)
theorem dX2_next_173 : decode cX2_next 173 = .ok (.invokestatic 42, 3) := dk_184 0 42 (dk_at dksX2_next_7 13 rfl rfl)
theorem dX2_next_176 : decode cX2_next 176 = .ok (.ifCond .eq 59, 3) := dk_153 0 59 (dk_at dksX2_next_7 16 rfl rfl)
theorem dX2_next_179 : decode cX2_next 179 = .ok (.aload_n 0, 1) := dk_42 (dk_at dksX2_next_7 19 rfl rfl)
theorem dX2_next_180 : decode cX2_next 180 = .ok (.aload_n 0, 1) := dk_42 (dk_at dksX2_next_7 20 rfl rfl)
theorem dX2_next_181 : decode cX2_next 181 = .ok (.getfield 19, 3) := dk_180 0 19 (dk_at dksX2_next_7 21 rfl rfl)
theorem dX2_next_184 : decode cX2_next 184 = .ok (.aload_n 0, 1) := dk_42 (dk_at dksX2_next_8 0 rfl rfl)
theorem dX2_next_185 : decode cX2_next 185 = .ok (.getfield 28, 3) := dk_180 0 28 (dk_at dksX2_next_8 1 rfl rfl)
theorem dX2_next_188 : decode cX2_next 188 = .ok (.isub, 1) := dk_100 (dk_at dksX2_next_8 4 rfl rfl)
theorem dX2_next_189 : decode cX2_next 189 = .ok (.iconst 4, 1) := dk_7 (dk_at dksX2_next_8 5 rfl rfl)
theorem dX2_next_190 : decode cX2_next 190 = .ok (.if_icmp .ge 25, 3) := dk_162 0 25 (dk_at dksX2_next_8 6 rfl rfl)
theorem dX2_next_193 : decode cX2_next 193 = .ok (.bipush 10, 2) := dk_16 10 (dk_at dksX2_next_8 9 rfl rfl)
theorem dX2_next_195 : decode cX2_next 195 = .ok (.aload_n 0, 1) := dk_42 (dk_at dksX2_next_8 11 rfl rfl)
theorem dX2_next_196 : decode cX2_next 196 = .ok (.getfield 45, 3) := dk_180 0 45 (dk_at dksX2_next_8 12 rfl rfl)
theorem dX2_next_199 : decode cX2_next 199 = .ok (.imul, 1) := dk_104 (dk_at dksX2_next_8 15 rfl rfl)
theorem dX2_next_200 : decode cX2_next 200 = .ok (.aload_n 0, 1) := dk_42 (dk_at dksX2_next_8 16 rfl rfl)
theorem dX2_next_201 : decode cX2_next 201 = .ok (.aload_n 0, 1) := dk_42 (dk_at dksX2_next_8 17 rfl rfl)
theorem dX2_next_202 : decode cX2_next 202 = .ok (.getfield 19, 3) := dk_180 0 19 (dk_at dksX2_next_8 18 rfl rfl)
theorem dX2_next_205 : decode cX2_next 205 = .ok (.invokevirtual 34, 3) := dk_182 0 34 (dk_at dksX2_next_8 21 rfl rfl)
theorem dX2_next_208 : decode cX2_next 208 = .ok (.iadd, 1) := dk_96 (dk_at dksX2_next_9 0 rfl rfl)
theorem dX2_next_209 : decode cX2_next 209 = .ok (.bipush 48, 2) := dk_16 48 (dk_at dksX2_next_9 1 rfl rfl)
theorem dX2_next_211 : decode cX2_next 211 = .ok (.isub, 1) := dk_100 (dk_at dksX2_next_9 3 rfl rfl)
theorem dX2_next_212 : decode cX2_next 212 = .ok (.goto 7, 3) := dk_167 0 7 (dk_at dksX2_next_9 4 rfl rfl)
theorem dX2_next_215 : decode cX2_next 215 = .ok (.aload_n 0, 1) := dk_42 (dk_at dksX2_next_9 7 rfl rfl)
theorem dX2_next_216 : decode cX2_next 216 = .ok (.getfield 45, 3) := dk_180 0 45 (dk_at dksX2_next_9 8 rfl rfl)
theorem dX2_next_219 : decode cX2_next 219 = .ok (.putfield 45, 3) := dk_181 0 45 (dk_at dksX2_next_9 11 rfl rfl)
theorem dX2_next_222 : decode cX2_next 222 = .ok (.aload_n 0, 1) := dk_42 (dk_at dksX2_next_9 14 rfl rfl)
theorem dX2_next_223 : decode cX2_next 223 = .ok (.dup, 1) := dk_89 (dk_at dksX2_next_9 15 rfl rfl)
theorem dX2_next_224 : decode cX2_next 224 = .ok (.getfield 19, 3) := dk_180 0 19 (dk_at dksX2_next_9 16 rfl rfl)
theorem dX2_next_227 : decode cX2_next 227 = .ok (.iconst 1, 1) := dk_4 (dk_at dksX2_next_9 19 rfl rfl)
theorem dX2_next_228 : decode cX2_next 228 = .ok (.iadd, 1) := dk_96 (dk_at dksX2_next_9 20 rfl rfl)
theorem dX2_next_229 : decode cX2_next 229 = .ok (.putfield 19, 3) := dk_181 0 19 (dk_at dksX2_next_9 21 rfl rfl)
theorem dX2_next_232 : decode cX2_next 232 = .ok (.goto (-67), 3) := dk_167 255 189 (dk_at dksX2_next_10 0 rfl rfl)
theorem dX2_next_235 : decode cX2_next 235 = .ok (.aload_n 0, 1) := dk_42 (dk_at dksX2_next_10 3 rfl rfl)
theorem dX2_next_236 : decode cX2_next 236 = .ok (.aload_n 0, 1) := dk_42 (dk_at dksX2_next_10 4 rfl rfl)
theorem dX2_next_237 : decode cX2_next 237 = .ok (.getfield 19, 3) := dk_180 0 19 (dk_at dksX2_next_10 5 rfl rfl)
theorem dX2_next_240 : decode cX2_next 240 = .ok (.aload_n 0, 1) := dk_42 (dk_at dksX2_next_10 8 rfl rfl)
theorem dX2_next_241 : decode cX2_next 241 = .ok (.getfield 28, 3) := dk_180 0 28 (dk_at dksX2_next_10 9 rfl rfl)
theorem dX2_next_244 : decode cX2_next 244 = .ok (.isub, 1) := dk_100 (dk_at dksX2_next_10 12 rfl rfl)
theorem dX2_next_245 : decode cX2_next 245 = .ok (.iconst 4, 1) := dk_7 (dk_at dksX2_next_10 13 rfl rfl)
theorem dX2_next_246 : decode cX2_next 246 = .ok (.if_icmp .le 7, 3) := dk_164 0 7 (dk_at dksX2_next_10 14 rfl rfl)
theorem dX2_next_249 : decode cX2_next 249 = .ok (.iconst 4, 1) := dk_7 (dk_at dksX2_next_10 17 rfl rfl)
theorem dX2_next_250 : decode cX2_next 250 = .ok (.goto 4, 3) := dk_167 0 4 (dk_at dksX2_next_10 18 rfl rfl)
theorem dX2_next_253 : decode cX2_next 253 = .ok (.iconst 2, 1) := dk_5 (dk_at dksX2_next_10 21 rfl rfl)
theorem dX2_next_254 : decode cX2_next 254 = .ok (.putfield 31, 3) := dk_181 0 31 (dk_at dksX2_next_11 0 rfl rfl)
theorem dX2_next_257 : decode cX2_next 257 = .ok (.goto 39, 3) := dk_167 0 39 (dk_at dksX2_next_11 3 rfl rfl)
theorem dX2_next_260 : decode cX2_next 260 = .ok (.aload_n 0, 1) := dk_42 (dk_at dksX2_next_11 6 rfl rfl)
theorem dX2_next_261 : decode cX2_next 261 = .ok (.ldc 48, 2) := dk_18 48 (dk_at dksX2_next_11 7 rfl rfl)
theorem dX2_next_263 : decode cX2_next 263 = .ok (.aload_n 0, 1) := dk_42 (dk_at dksX2_next_11 9 rfl rfl)
theorem dX2_next_264 : decode cX2_next 264 = .ok (.aload_n 0, 1) := dk_42 (dk_at dksX2_next_11 10 rfl rfl)
theorem dX2_next_265 : decode cX2_next 265 = .ok (.getfield 19, 3) := dk_180 0 19 (dk_at dksX2_next_11 11 rfl rfl)
theorem dX2_next_268 : decode cX2_next 268 = .ok (.invokevirtual 34, 3) := dk_182 0 34 (dk_at dksX2_next_11 14 rfl rfl)
theorem dX2_next_271 : decode cX2_next 271 = .ok (.i2c, 1) := dk_146 (dk_at dksX2_next_11 17 rfl rfl)
theorem dX2_next_272 : decode cX2_next 272 = .ok (.invokevirtual 50, 3) := dk_182 0 50 (dk_at dksX2_next_11 18 rfl rfl)
theorem dX2_next_275 : decode cX2_next 275 = .ok (.ifCond .lt 7, 3) := dk_155 0 7 (dk_at dksX2_next_11 21 rfl rfl)
theorem dX2_next_278 : decode cX2_next 278 = .ok (.iconst 3, 1) := dk_6 (dk_at dksX2_next_12 0 rfl rfl)
theorem dX2_next_279 : decode cX2_next 279 = .ok (.goto 4, 3) := dk_167 0 4 (dk_at dksX2_next_12 1 rfl rfl)
theorem dX2_next_282 : decode cX2_next 282 = .ok (.iconst 4, 1) := dk_7 (dk_at dksX2_next_12 4 rfl rfl)
theorem dX2_next_283 : decode cX2_next 283 = .ok (.putfield 31, 3) := dk_181 0 31 (dk_at dksX2_next_12 5 rfl rfl)
theorem dX2_next_286 : decode cX2_next 286 = .ok (.aload_n 0, 1) := dk_42 (dk_at dksX2_next_12 8 rfl rfl)
theorem dX2_next_287 : decode cX2_next 287 = .ok (.dup, 1) := dk_89 (dk_at dksX2_next_12 9 rfl rfl)
theorem dX2_next_288 : decode cX2_next 288 = .ok (.getfield 19, 3) := dk_180 0 19 (dk_at dksX2_next_12 10 rfl rfl)
theorem dX2_next_291 : decode cX2_next 291 = .ok (.iconst 1, 1) := dk_4 (dk_at dksX2_next_12 13 rfl rfl)
theorem dX2_next_292 : decode cX2_next 292 = .ok (.iadd, 1) := dk_96 (dk_at dksX2_next_12 14 rfl rfl)
theorem dX2_next_293 : decode cX2_next 293 = .ok (.putfield 19, 3) := dk_181 0 19 (dk_at dksX2_next_12 15 rfl rfl)
theorem dX2_next_296 : decode cX2_next 296 = .ok (.return_, 1) := dk_177 (dk_at dksX2_next_12 18 rfl rfl)
abbrev cX2_at : ByteArray := prog_21_method_3_code
def yX2_at : MethodName := ⟨RX2, "at", "(I)I"⟩
def dkwX2_at_0 : List UInt8 := [27, 42, 180, 0, 15, 162, 0, 12, 42, 180, 0, 9, 27, 51, 167, 0, 4, 3, 172]
abbrev dktX2_at_0 : List UInt8 := dkwX2_at_0 ++ []
theorem dksX2_at_0 : cX2_at.data.toList.drop 0 = dktX2_at_0 := by decide +kernel
theorem dX2_at_0 : decode cX2_at 0 = .ok (.iload_n 1, 1) := dk_27 (dk_at dksX2_at_0 0 rfl rfl)
theorem dX2_at_1 : decode cX2_at 1 = .ok (.aload_n 0, 1) := dk_42 (dk_at dksX2_at_0 1 rfl rfl)
theorem dX2_at_2 : decode cX2_at 2 = .ok (.getfield 15, 3) := dk_180 0 15 (dk_at dksX2_at_0 2 rfl rfl)
theorem dX2_at_5 : decode cX2_at 5 = .ok (.if_icmp .ge 12, 3) := dk_162 0 12 (dk_at dksX2_at_0 5 rfl rfl)
theorem dX2_at_8 : decode cX2_at 8 = .ok (.aload_n 0, 1) := dk_42 (dk_at dksX2_at_0 8 rfl rfl)
theorem dX2_at_9 : decode cX2_at 9 = .ok (.getfield 9, 3) := dk_180 0 9 (dk_at dksX2_at_0 9 rfl rfl)
theorem dX2_at_12 : decode cX2_at 12 = .ok (.iload_n 1, 1) := dk_27 (dk_at dksX2_at_0 12 rfl rfl)
theorem dX2_at_13 : decode cX2_at 13 = .ok (.baload, 1) := dk_51 (dk_at dksX2_at_0 13 rfl rfl)
theorem dX2_at_14 : decode cX2_at 14 = .ok (.goto 4, 3) := dk_167 0 4 (dk_at dksX2_at_0 14 rfl rfl)
theorem dX2_at_17 : decode cX2_at 17 = .ok (.iconst 0, 1) := dk_3 (dk_at dksX2_at_0 17 rfl rfl)
theorem dX2_at_18 : decode cX2_at 18 = .ok (.ireturn, 1) := dk_172 (dk_at dksX2_at_0 18 rfl rfl)
abbrev cX2_isLetter : ByteArray := prog_21_method_4_code
def yX2_isLetter : MethodName := ⟨RX2, "isLetter", "(I)Z"⟩
def dkwX2_isLetter_0 : List UInt8 := [26, 16, 97, 161, 0, 13, 26, 16, 122, 163, 0, 7, 4, 167, 0, 4, 3, 172]
abbrev dktX2_isLetter_0 : List UInt8 := dkwX2_isLetter_0 ++ []
theorem dksX2_isLetter_0 : cX2_isLetter.data.toList.drop 0 = dktX2_isLetter_0 := by decide +kernel
theorem dX2_isLetter_0 : decode cX2_isLetter 0 = .ok (.iload_n 0, 1) := dk_26 (dk_at dksX2_isLetter_0 0 rfl rfl)
theorem dX2_isLetter_1 : decode cX2_isLetter 1 = .ok (.bipush 97, 2) := dk_16 97 (dk_at dksX2_isLetter_0 1 rfl rfl)
theorem dX2_isLetter_3 : decode cX2_isLetter 3 = .ok (.if_icmp .lt 13, 3) := dk_161 0 13 (dk_at dksX2_isLetter_0 3 rfl rfl)
theorem dX2_isLetter_6 : decode cX2_isLetter 6 = .ok (.iload_n 0, 1) := dk_26 (dk_at dksX2_isLetter_0 6 rfl rfl)
theorem dX2_isLetter_7 : decode cX2_isLetter 7 = .ok (.bipush 122, 2) := dk_16 122 (dk_at dksX2_isLetter_0 7 rfl rfl)
theorem dX2_isLetter_9 : decode cX2_isLetter 9 = .ok (.if_icmp .gt 7, 3) := dk_163 0 7 (dk_at dksX2_isLetter_0 9 rfl rfl)
theorem dX2_isLetter_12 : decode cX2_isLetter 12 = .ok (.iconst 1, 1) := dk_4 (dk_at dksX2_isLetter_0 12 rfl rfl)
theorem dX2_isLetter_13 : decode cX2_isLetter 13 = .ok (.goto 4, 3) := dk_167 0 4 (dk_at dksX2_isLetter_0 13 rfl rfl)
theorem dX2_isLetter_16 : decode cX2_isLetter 16 = .ok (.iconst 0, 1) := dk_3 (dk_at dksX2_isLetter_0 16 rfl rfl)
theorem dX2_isLetter_17 : decode cX2_isLetter 17 = .ok (.ireturn, 1) := dk_172 (dk_at dksX2_isLetter_0 17 rfl rfl)
abbrev cX2_isDigit : ByteArray := prog_21_method_5_code
def yX2_isDigit : MethodName := ⟨RX2, "isDigit", "(I)Z"⟩
def dkwX2_isDigit_0 : List UInt8 := [26, 16, 48, 161, 0, 13, 26, 16, 57, 163, 0, 7, 4, 167, 0, 4, 3, 172]
abbrev dktX2_isDigit_0 : List UInt8 := dkwX2_isDigit_0 ++ []
theorem dksX2_isDigit_0 : cX2_isDigit.data.toList.drop 0 = dktX2_isDigit_0 := by decide +kernel
theorem dX2_isDigit_0 : decode cX2_isDigit 0 = .ok (.iload_n 0, 1) := dk_26 (dk_at dksX2_isDigit_0 0 rfl rfl)
theorem dX2_isDigit_1 : decode cX2_isDigit 1 = .ok (.bipush 48, 2) := dk_16 48 (dk_at dksX2_isDigit_0 1 rfl rfl)
theorem dX2_isDigit_3 : decode cX2_isDigit 3 = .ok (.if_icmp .lt 13, 3) := dk_161 0 13 (dk_at dksX2_isDigit_0 3 rfl rfl)
theorem dX2_isDigit_6 : decode cX2_isDigit 6 = .ok (.iload_n 0, 1) := dk_26 (dk_at dksX2_isDigit_0 6 rfl rfl)
theorem dX2_isDigit_7 : decode cX2_isDigit 7 = .ok (.bipush 57, 2) := dk_16 57 (dk_at dksX2_isDigit_0 7 rfl rfl)
theorem dX2_isDigit_9 : decode cX2_isDigit 9 = .ok (.if_icmp .gt 7, 3) := dk_163 0 7 (dk_at dksX2_isDigit_0 9 rfl rfl)
theorem dX2_isDigit_12 : decode cX2_isDigit 12 = .ok (.iconst 1, 1) := dk_4 (dk_at dksX2_isDigit_0 12 rfl rfl)
theorem dX2_isDigit_13 : decode cX2_isDigit 13 = .ok (.goto 4, 3) := dk_167 0 4 (dk_at dksX2_isDigit_0 13 rfl rfl)
theorem dX2_isDigit_16 : decode cX2_isDigit 16 = .ok (.iconst 0, 1) := dk_3 (dk_at dksX2_isDigit_0 16 rfl rfl)
theorem dX2_isDigit_17 : decode cX2_isDigit 17 = .ok (.ireturn, 1) := dk_172 (dk_at dksX2_isDigit_0 17 rfl rfl)
abbrev cX2_town : ByteArray := prog_21_method_20_code
def yX2_town : MethodName := ⟨RX2, "town", "()LBorrowedLives$Town;"⟩
def dkwX2_town_4 : List UInt8 := [180, 0, 113, 176]
abbrev dktX2_town_4 : List UInt8 := dkwX2_town_4 ++ []
def dkwX2_town_3 : List UInt8 := [182, 0, 75, 191, 42, 182, 0, 25, 42, 27, 182, 0, 157, 42, 16, 59, 182, 0, 160, 167, 255, 178, 42]
abbrev dktX2_town_3 : List UInt8 := dkwX2_town_3 ++ dktX2_town_4
def dkwX2_town_2 : List UInt8 := [191, 27, 154, 0, 24, 42, 180, 0, 113, 180, 0, 149, 182, 0, 153, 16, 6, 160, 0, 9, 42, 8]
abbrev dktX2_town_2 : List UInt8 := dkwX2_town_2 ++ dktX2_town_3
def dkwX2_town_1 : List UInt8 := [60, 27, 156, 0, 9, 42, 4, 182, 0, 75, 191, 42, 27, 182, 0, 146, 153, 0, 9, 42, 6, 182, 0, 75]
abbrev dktX2_town_1 : List UInt8 := dkwX2_town_1 ++ dktX2_town_2
def dkwX2_town_0 : List UInt8 := [42, 187, 0, 121, 89, 183, 0, 143, 181, 0, 113, 42, 180, 0, 31, 153, 0, 77, 42, 18, 144, 182, 0, 71]
abbrev dktX2_town_0 : List UInt8 := dkwX2_town_0 ++ dktX2_town_1
theorem dksX2_town_0 : cX2_town.data.toList.drop 0 = dktX2_town_0 := by decide +kernel
theorem dksX2_town_1 : cX2_town.data.toList.drop 24 = dktX2_town_1 := dk_seg dksX2_town_0 24 rfl rfl
theorem dksX2_town_2 : cX2_town.data.toList.drop 48 = dktX2_town_2 := dk_seg dksX2_town_1 24 rfl rfl
theorem dksX2_town_3 : cX2_town.data.toList.drop 70 = dktX2_town_3 := dk_seg dksX2_town_2 22 rfl rfl
theorem dksX2_town_4 : cX2_town.data.toList.drop 93 = dktX2_town_4 := dk_seg dksX2_town_3 23 rfl rfl
theorem dX2_town_0 : decode cX2_town 0 = .ok (.aload_n 0, 1) := dk_42 (dk_at dksX2_town_0 0 rfl rfl)
theorem dX2_town_1 : decode cX2_town 1 = .ok (.new 121, 3) := dk_187 0 121 (dk_at dksX2_town_0 1 rfl rfl)
theorem dX2_town_4 : decode cX2_town 4 = .ok (.dup, 1) := dk_89 (dk_at dksX2_town_0 4 rfl rfl)
theorem dX2_town_5 : decode cX2_town 5 = .ok (.invokespecial 143, 3) := dk_183 0 143 (dk_at dksX2_town_0 5 rfl rfl)
theorem dX2_town_8 : decode cX2_town 8 = .ok (.putfield 113, 3) := dk_181 0 113 (dk_at dksX2_town_0 8 rfl rfl)
theorem dX2_town_11 : decode cX2_town 11 = .ok (.aload_n 0, 1) := dk_42 (dk_at dksX2_town_0 11 rfl rfl)
theorem dX2_town_12 : decode cX2_town 12 = .ok (.getfield 31, 3) := dk_180 0 31 (dk_at dksX2_town_0 12 rfl rfl)
theorem dX2_town_15 : decode cX2_town 15 = .ok (.ifCond .eq 77, 3) := dk_153 0 77 (dk_at dksX2_town_0 15 rfl rfl)
theorem dX2_town_18 : decode cX2_town 18 = .ok (.aload_n 0, 1) := dk_42 (dk_at dksX2_town_0 18 rfl rfl)
theorem dX2_town_19 : decode cX2_town 19 = .ok (.ldc 144, 2) := dk_18 144 (dk_at dksX2_town_0 19 rfl rfl)
theorem dX2_town_21 : decode cX2_town 21 = .ok (.invokevirtual 71, 3) := dk_182 0 71 (dk_at dksX2_town_0 21 rfl rfl)
theorem dX2_town_24 : decode cX2_town 24 = .ok (.istore_n 1, 1) := dk_60 (dk_at dksX2_town_1 0 rfl rfl)
theorem dX2_town_25 : decode cX2_town 25 = .ok (.iload_n 1, 1) := dk_27 (dk_at dksX2_town_1 1 rfl rfl)
theorem dX2_town_26 : decode cX2_town 26 = .ok (.ifCond .ge 9, 3) := dk_156 0 9 (dk_at dksX2_town_1 2 rfl rfl)
theorem dX2_town_29 : decode cX2_town 29 = .ok (.aload_n 0, 1) := dk_42 (dk_at dksX2_town_1 5 rfl rfl)
theorem dX2_town_30 : decode cX2_town 30 = .ok (.iconst 1, 1) := dk_4 (dk_at dksX2_town_1 6 rfl rfl)
theorem dX2_town_31 : decode cX2_town 31 = .ok (.invokevirtual 75, 3) := dk_182 0 75 (dk_at dksX2_town_1 7 rfl rfl)
theorem dX2_town_34 : decode cX2_town 34 = .ok (.athrow, 1) := dk_191 (dk_at dksX2_town_1 10 rfl rfl)
theorem dX2_town_35 : decode cX2_town 35 = .ok (.aload_n 0, 1) := dk_42 (dk_at dksX2_town_1 11 rfl rfl)
theorem dX2_town_36 : decode cX2_town 36 = .ok (.iload_n 1, 1) := dk_27 (dk_at dksX2_town_1 12 rfl rfl)
theorem dX2_town_37 : decode cX2_town 37 = .ok (.invokevirtual 146, 3) := dk_182 0 146 (dk_at dksX2_town_1 13 rfl rfl)
theorem dX2_town_40 : decode cX2_town 40 = .ok (.ifCond .eq 9, 3) := dk_153 0 9 (dk_at dksX2_town_1 16 rfl rfl)
theorem dX2_town_43 : decode cX2_town 43 = .ok (.aload_n 0, 1) := dk_42 (dk_at dksX2_town_1 19 rfl rfl)
theorem dX2_town_44 : decode cX2_town 44 = .ok (.iconst 3, 1) := dk_6 (dk_at dksX2_town_1 20 rfl rfl)
theorem dX2_town_45 : decode cX2_town 45 = .ok (.invokevirtual 75, 3) := dk_182 0 75 (dk_at dksX2_town_1 21 rfl rfl)
theorem dX2_town_48 : decode cX2_town 48 = .ok (.athrow, 1) := dk_191 (dk_at dksX2_town_2 0 rfl rfl)
theorem dX2_town_49 : decode cX2_town 49 = .ok (.iload_n 1, 1) := dk_27 (dk_at dksX2_town_2 1 rfl rfl)
theorem dX2_town_50 : decode cX2_town 50 = .ok (.ifCond .ne 24, 3) := dk_154 0 24 (dk_at dksX2_town_2 2 rfl rfl)
theorem dX2_town_53 : decode cX2_town 53 = .ok (.aload_n 0, 1) := dk_42 (dk_at dksX2_town_2 5 rfl rfl)
theorem dX2_town_54 : decode cX2_town 54 = .ok (.getfield 113, 3) := dk_180 0 113 (dk_at dksX2_town_2 6 rfl rfl)
theorem dX2_town_57 : decode cX2_town 57 = .ok (.getfield 149, 3) := dk_180 0 149 (dk_at dksX2_town_2 9 rfl rfl)
theorem dX2_town_60 : decode cX2_town 60 = .ok (.invokevirtual 153, 3) := dk_182 0 153 (dk_at dksX2_town_2 12 rfl rfl)
theorem dX2_town_63 : decode cX2_town 63 = .ok (.bipush 6, 2) := dk_16 6 (dk_at dksX2_town_2 15 rfl rfl)
theorem dX2_town_65 : decode cX2_town 65 = .ok (.if_icmp .ne 9, 3) := dk_160 0 9 (dk_at dksX2_town_2 17 rfl rfl)
theorem dX2_town_68 : decode cX2_town 68 = .ok (.aload_n 0, 1) := dk_42 (dk_at dksX2_town_2 20 rfl rfl)
theorem dX2_town_69 : decode cX2_town 69 = .ok (.iconst 5, 1) := dk_8 (dk_at dksX2_town_2 21 rfl rfl)
theorem dX2_town_70 : decode cX2_town 70 = .ok (.invokevirtual 75, 3) := dk_182 0 75 (dk_at dksX2_town_3 0 rfl rfl)
theorem dX2_town_73 : decode cX2_town 73 = .ok (.athrow, 1) := dk_191 (dk_at dksX2_town_3 3 rfl rfl)
theorem dX2_town_74 : decode cX2_town 74 = .ok (.aload_n 0, 1) := dk_42 (dk_at dksX2_town_3 4 rfl rfl)
theorem dX2_town_75 : decode cX2_town 75 = .ok (.invokevirtual 25, 3) := dk_182 0 25 (dk_at dksX2_town_3 5 rfl rfl)
theorem dX2_town_78 : decode cX2_town 78 = .ok (.aload_n 0, 1) := dk_42 (dk_at dksX2_town_3 8 rfl rfl)
theorem dX2_town_79 : decode cX2_town 79 = .ok (.iload_n 1, 1) := dk_27 (dk_at dksX2_town_3 9 rfl rfl)
theorem dX2_town_80 : decode cX2_town 80 = .ok (.invokevirtual 157, 3) := dk_182 0 157 (dk_at dksX2_town_3 10 rfl rfl)
theorem dX2_town_83 : decode cX2_town 83 = .ok (.aload_n 0, 1) := dk_42 (dk_at dksX2_town_3 13 rfl rfl)
theorem dX2_town_84 : decode cX2_town 84 = .ok (.bipush 59, 2) := dk_16 59 (dk_at dksX2_town_3 14 rfl rfl)
theorem dX2_town_86 : decode cX2_town 86 = .ok (.invokevirtual 160, 3) := dk_182 0 160 (dk_at dksX2_town_3 16 rfl rfl)
theorem dX2_town_89 : decode cX2_town 89 = .ok (.goto (-78), 3) := dk_167 255 178 (dk_at dksX2_town_3 19 rfl rfl)
theorem dX2_town_92 : decode cX2_town 92 = .ok (.aload_n 0, 1) := dk_42 (dk_at dksX2_town_3 22 rfl rfl)
theorem dX2_town_93 : decode cX2_town 93 = .ok (.getfield 113, 3) := dk_180 0 113 (dk_at dksX2_town_4 0 rfl rfl)
theorem dX2_town_96 : decode cX2_town 96 = .ok (.areturn, 1) := dk_176 (dk_at dksX2_town_4 3 rfl rfl)
abbrev cX2_which : ByteArray := prog_21_method_8_code
def yX2_which : MethodName := ⟨RX2, "which", "(Ljava/lang/String;)I"⟩
def dkwX2_which_5 : List UInt8 := [96, 62, 132, 2, 1, 167, 255, 140, 2, 172]
abbrev dktX2_which_5 : List UInt8 := dkwX2_which_5 ++ []
def dkwX2_which_4 : List UInt8 := [167, 0, 4, 3, 54, 5, 132, 6, 1, 167, 255, 211, 21, 5, 153, 0, 5, 28, 172, 29, 21, 4, 4, 96]
abbrev dktX2_which_4 : List UInt8 := dkwX2_which_4 ++ dktX2_which_5
def dkwX2_which_3 : List UInt8 := [180, 0, 9, 42, 180, 0, 28, 21, 6, 96, 51, 43, 29, 21, 6, 96, 182, 0, 67, 160, 0, 7, 4]
abbrev dktX2_which_3 : List UInt8 := dkwX2_which_3 ++ dktX2_which_4
def dkwX2_which_2 : List UInt8 := [167, 0, 4, 3, 54, 5, 3, 54, 6, 21, 5, 153, 0, 46, 21, 6, 21, 4, 162, 0, 39, 42]
abbrev dktX2_which_2 : List UInt8 := dkwX2_which_2 ++ dktX2_which_3
def dkwX2_which_1 : List UInt8 := [182, 0, 64, 29, 100, 54, 4, 42, 180, 0, 19, 42, 180, 0, 28, 100, 21, 4, 160, 0, 7, 4]
abbrev dktX2_which_1 : List UInt8 := dkwX2_which_1 ++ dktX2_which_2
def dkwX2_which_0 : List UInt8 := [3, 61, 3, 62, 29, 43, 182, 0, 60, 162, 0, 114, 42, 180, 0, 31, 4, 160, 0, 106, 43, 16, 32, 29]
abbrev dktX2_which_0 : List UInt8 := dkwX2_which_0 ++ dktX2_which_1
theorem dksX2_which_0 : cX2_which.data.toList.drop 0 = dktX2_which_0 := by decide +kernel
theorem dksX2_which_1 : cX2_which.data.toList.drop 24 = dktX2_which_1 := dk_seg dksX2_which_0 24 rfl rfl
theorem dksX2_which_2 : cX2_which.data.toList.drop 46 = dktX2_which_2 := dk_seg dksX2_which_1 22 rfl rfl
theorem dksX2_which_3 : cX2_which.data.toList.drop 68 = dktX2_which_3 := dk_seg dksX2_which_2 22 rfl rfl
theorem dksX2_which_4 : cX2_which.data.toList.drop 91 = dktX2_which_4 := dk_seg dksX2_which_3 23 rfl rfl
theorem dksX2_which_5 : cX2_which.data.toList.drop 115 = dktX2_which_5 := dk_seg dksX2_which_4 24 rfl rfl
theorem dX2_which_0 : decode cX2_which 0 = .ok (.iconst 0, 1) := dk_3 (dk_at dksX2_which_0 0 rfl rfl)
theorem dX2_which_1 : decode cX2_which 1 = .ok (.istore_n 2, 1) := dk_61 (dk_at dksX2_which_0 1 rfl rfl)
theorem dX2_which_2 : decode cX2_which 2 = .ok (.iconst 0, 1) := dk_3 (dk_at dksX2_which_0 2 rfl rfl)
theorem dX2_which_3 : decode cX2_which 3 = .ok (.istore_n 3, 1) := dk_62 (dk_at dksX2_which_0 3 rfl rfl)
theorem dX2_which_4 : decode cX2_which 4 = .ok (.iload_n 3, 1) := dk_29 (dk_at dksX2_which_0 4 rfl rfl)
theorem dX2_which_5 : decode cX2_which 5 = .ok (.aload_n 1, 1) := dk_43 (dk_at dksX2_which_0 5 rfl rfl)
theorem dX2_which_6 : decode cX2_which 6 = .ok (.invokevirtual 60, 3) := dk_182 0 60 (dk_at dksX2_which_0 6 rfl rfl)
theorem dX2_which_9 : decode cX2_which 9 = .ok (.if_icmp .ge 114, 3) := dk_162 0 114 (dk_at dksX2_which_0 9 rfl rfl)
theorem dX2_which_12 : decode cX2_which 12 = .ok (.aload_n 0, 1) := dk_42 (dk_at dksX2_which_0 12 rfl rfl)
theorem dX2_which_13 : decode cX2_which 13 = .ok (.getfield 31, 3) := dk_180 0 31 (dk_at dksX2_which_0 13 rfl rfl)
theorem dX2_which_16 : decode cX2_which 16 = .ok (.iconst 1, 1) := dk_4 (dk_at dksX2_which_0 16 rfl rfl)
theorem dX2_which_17 : decode cX2_which 17 = .ok (.if_icmp .ne 106, 3) := dk_160 0 106 (dk_at dksX2_which_0 17 rfl rfl)
theorem dX2_which_20 : decode cX2_which 20 = .ok (.aload_n 1, 1) := dk_43 (dk_at dksX2_which_0 20 rfl rfl)
theorem dX2_which_21 : decode cX2_which 21 = .ok (.bipush 32, 2) := dk_16 32 (dk_at dksX2_which_0 21 rfl rfl)
theorem dX2_which_23 : decode cX2_which 23 = .ok (.iload_n 3, 1) := dk_29 (dk_at dksX2_which_0 23 rfl rfl)
theorem dX2_which_24 : decode cX2_which 24 = .ok (.invokevirtual 64, 3) := dk_182 0 64 (dk_at dksX2_which_1 0 rfl rfl)
theorem dX2_which_27 : decode cX2_which 27 = .ok (.iload_n 3, 1) := dk_29 (dk_at dksX2_which_1 3 rfl rfl)
theorem dX2_which_28 : decode cX2_which 28 = .ok (.isub, 1) := dk_100 (dk_at dksX2_which_1 4 rfl rfl)
theorem dX2_which_29 : decode cX2_which 29 = .ok (.istore 4, 2) := dk_54 4 (dk_at dksX2_which_1 5 rfl rfl)
theorem dX2_which_31 : decode cX2_which 31 = .ok (.aload_n 0, 1) := dk_42 (dk_at dksX2_which_1 7 rfl rfl)
theorem dX2_which_32 : decode cX2_which 32 = .ok (.getfield 19, 3) := dk_180 0 19 (dk_at dksX2_which_1 8 rfl rfl)
theorem dX2_which_35 : decode cX2_which 35 = .ok (.aload_n 0, 1) := dk_42 (dk_at dksX2_which_1 11 rfl rfl)
theorem dX2_which_36 : decode cX2_which 36 = .ok (.getfield 28, 3) := dk_180 0 28 (dk_at dksX2_which_1 12 rfl rfl)
theorem dX2_which_39 : decode cX2_which 39 = .ok (.isub, 1) := dk_100 (dk_at dksX2_which_1 15 rfl rfl)
theorem dX2_which_40 : decode cX2_which 40 = .ok (.iload 4, 2) := dk_21 4 (dk_at dksX2_which_1 16 rfl rfl)
theorem dX2_which_42 : decode cX2_which 42 = .ok (.if_icmp .ne 7, 3) := dk_160 0 7 (dk_at dksX2_which_1 18 rfl rfl)
theorem dX2_which_45 : decode cX2_which 45 = .ok (.iconst 1, 1) := dk_4 (dk_at dksX2_which_1 21 rfl rfl)
theorem dX2_which_46 : decode cX2_which 46 = .ok (.goto 4, 3) := dk_167 0 4 (dk_at dksX2_which_2 0 rfl rfl)
theorem dX2_which_49 : decode cX2_which 49 = .ok (.iconst 0, 1) := dk_3 (dk_at dksX2_which_2 3 rfl rfl)
theorem dX2_which_50 : decode cX2_which 50 = .ok (.istore 5, 2) := dk_54 5 (dk_at dksX2_which_2 4 rfl rfl)
theorem dX2_which_52 : decode cX2_which 52 = .ok (.iconst 0, 1) := dk_3 (dk_at dksX2_which_2 6 rfl rfl)
theorem dX2_which_53 : decode cX2_which 53 = .ok (.istore 6, 2) := dk_54 6 (dk_at dksX2_which_2 7 rfl rfl)
theorem dX2_which_55 : decode cX2_which 55 = .ok (.iload 5, 2) := dk_21 5 (dk_at dksX2_which_2 9 rfl rfl)
theorem dX2_which_57 : decode cX2_which 57 = .ok (.ifCond .eq 46, 3) := dk_153 0 46 (dk_at dksX2_which_2 11 rfl rfl)
theorem dX2_which_60 : decode cX2_which 60 = .ok (.iload 6, 2) := dk_21 6 (dk_at dksX2_which_2 14 rfl rfl)
theorem dX2_which_62 : decode cX2_which 62 = .ok (.iload 4, 2) := dk_21 4 (dk_at dksX2_which_2 16 rfl rfl)
theorem dX2_which_64 : decode cX2_which 64 = .ok (.if_icmp .ge 39, 3) := dk_162 0 39 (dk_at dksX2_which_2 18 rfl rfl)
theorem dX2_which_67 : decode cX2_which 67 = .ok (.aload_n 0, 1) := dk_42 (dk_at dksX2_which_2 21 rfl rfl)
theorem dX2_which_68 : decode cX2_which 68 = .ok (.getfield 9, 3) := dk_180 0 9 (dk_at dksX2_which_3 0 rfl rfl)
theorem dX2_which_71 : decode cX2_which 71 = .ok (.aload_n 0, 1) := dk_42 (dk_at dksX2_which_3 3 rfl rfl)
theorem dX2_which_72 : decode cX2_which 72 = .ok (.getfield 28, 3) := dk_180 0 28 (dk_at dksX2_which_3 4 rfl rfl)
theorem dX2_which_75 : decode cX2_which 75 = .ok (.iload 6, 2) := dk_21 6 (dk_at dksX2_which_3 7 rfl rfl)
theorem dX2_which_77 : decode cX2_which 77 = .ok (.iadd, 1) := dk_96 (dk_at dksX2_which_3 9 rfl rfl)
theorem dX2_which_78 : decode cX2_which 78 = .ok (.baload, 1) := dk_51 (dk_at dksX2_which_3 10 rfl rfl)
theorem dX2_which_79 : decode cX2_which 79 = .ok (.aload_n 1, 1) := dk_43 (dk_at dksX2_which_3 11 rfl rfl)
theorem dX2_which_80 : decode cX2_which 80 = .ok (.iload_n 3, 1) := dk_29 (dk_at dksX2_which_3 12 rfl rfl)
theorem dX2_which_81 : decode cX2_which 81 = .ok (.iload 6, 2) := dk_21 6 (dk_at dksX2_which_3 13 rfl rfl)
theorem dX2_which_83 : decode cX2_which 83 = .ok (.iadd, 1) := dk_96 (dk_at dksX2_which_3 15 rfl rfl)
theorem dX2_which_84 : decode cX2_which 84 = .ok (.invokevirtual 67, 3) := dk_182 0 67 (dk_at dksX2_which_3 16 rfl rfl)
theorem dX2_which_87 : decode cX2_which 87 = .ok (.if_icmp .ne 7, 3) := dk_160 0 7 (dk_at dksX2_which_3 19 rfl rfl)
theorem dX2_which_90 : decode cX2_which 90 = .ok (.iconst 1, 1) := dk_4 (dk_at dksX2_which_3 22 rfl rfl)
theorem dX2_which_91 : decode cX2_which 91 = .ok (.goto 4, 3) := dk_167 0 4 (dk_at dksX2_which_4 0 rfl rfl)
theorem dX2_which_94 : decode cX2_which 94 = .ok (.iconst 0, 1) := dk_3 (dk_at dksX2_which_4 3 rfl rfl)
theorem dX2_which_95 : decode cX2_which 95 = .ok (.istore 5, 2) := dk_54 5 (dk_at dksX2_which_4 4 rfl rfl)
theorem dX2_which_97 : decode cX2_which 97 = .ok (.iinc 6 1, 3) := dk_132 6 1 (dk_at dksX2_which_4 6 rfl rfl)
theorem dX2_which_100 : decode cX2_which 100 = .ok (.goto (-45), 3) := dk_167 255 211 (dk_at dksX2_which_4 9 rfl rfl)
theorem dX2_which_103 : decode cX2_which 103 = .ok (.iload 5, 2) := dk_21 5 (dk_at dksX2_which_4 12 rfl rfl)
theorem dX2_which_105 : decode cX2_which 105 = .ok (.ifCond .eq 5, 3) := dk_153 0 5 (dk_at dksX2_which_4 14 rfl rfl)
theorem dX2_which_108 : decode cX2_which 108 = .ok (.iload_n 2, 1) := dk_28 (dk_at dksX2_which_4 17 rfl rfl)
theorem dX2_which_109 : decode cX2_which 109 = .ok (.ireturn, 1) := dk_172 (dk_at dksX2_which_4 18 rfl rfl)
theorem dX2_which_110 : decode cX2_which 110 = .ok (.iload_n 3, 1) := dk_29 (dk_at dksX2_which_4 19 rfl rfl)
theorem dX2_which_111 : decode cX2_which 111 = .ok (.iload 4, 2) := dk_21 4 (dk_at dksX2_which_4 20 rfl rfl)
theorem dX2_which_113 : decode cX2_which 113 = .ok (.iconst 1, 1) := dk_4 (dk_at dksX2_which_4 22 rfl rfl)
theorem dX2_which_114 : decode cX2_which 114 = .ok (.iadd, 1) := dk_96 (dk_at dksX2_which_4 23 rfl rfl)
theorem dX2_which_115 : decode cX2_which 115 = .ok (.iadd, 1) := dk_96 (dk_at dksX2_which_5 0 rfl rfl)
theorem dX2_which_116 : decode cX2_which 116 = .ok (.istore_n 3, 1) := dk_62 (dk_at dksX2_which_5 1 rfl rfl)
theorem dX2_which_117 : decode cX2_which 117 = .ok (.iinc 2 1, 3) := dk_132 2 1 (dk_at dksX2_which_5 2 rfl rfl)
theorem dX2_which_120 : decode cX2_which 120 = .ok (.goto (-116), 3) := dk_167 255 140 (dk_at dksX2_which_5 5 rfl rfl)
theorem dX2_which_123 : decode cX2_which 123 = .ok (.iconst (-1), 1) := dk_2 (dk_at dksX2_which_5 8 rfl rfl)
theorem dX2_which_124 : decode cX2_which 124 = .ok (.ireturn, 1) := dk_172 (dk_at dksX2_which_5 9 rfl rfl)
abbrev cX2_wrong : ByteArray := prog_21_method_7_code
def yX2_wrong : MethodName := ⟨RX2, "wrong", "(I)LBorrowedLives$Wrong;"⟩
def dkwX2_wrong_0 : List UInt8 := [187, 0, 55, 89, 27, 42, 180, 0, 28, 183, 0, 57, 176]
abbrev dktX2_wrong_0 : List UInt8 := dkwX2_wrong_0 ++ []
theorem dksX2_wrong_0 : cX2_wrong.data.toList.drop 0 = dktX2_wrong_0 := by decide +kernel
theorem dX2_wrong_0 : decode cX2_wrong 0 = .ok (.new 55, 3) := dk_187 0 55 (dk_at dksX2_wrong_0 0 rfl rfl)
theorem dX2_wrong_3 : decode cX2_wrong 3 = .ok (.dup, 1) := dk_89 (dk_at dksX2_wrong_0 3 rfl rfl)
theorem dX2_wrong_4 : decode cX2_wrong 4 = .ok (.iload_n 1, 1) := dk_27 (dk_at dksX2_wrong_0 4 rfl rfl)
theorem dX2_wrong_5 : decode cX2_wrong 5 = .ok (.aload_n 0, 1) := dk_42 (dk_at dksX2_wrong_0 5 rfl rfl)
theorem dX2_wrong_6 : decode cX2_wrong 6 = .ok (.getfield 28, 3) := dk_180 0 28 (dk_at dksX2_wrong_0 6 rfl rfl)
theorem dX2_wrong_9 : decode cX2_wrong 9 = .ok (.invokespecial 57, 3) := dk_183 0 57 (dk_at dksX2_wrong_0 9 rfl rfl)
theorem dX2_wrong_12 : decode cX2_wrong 12 = .ok (.areturn, 1) := dk_176 (dk_at dksX2_wrong_0 12 rfl rfl)
abbrev cX2_isTold : ByteArray := prog_21_method_19_code
def yX2_isTold : MethodName := ⟨RX2, "isTold", "(I)Z"⟩
def dkwX2_isTold_5 : List UInt8 := [198, 0, 7, 4, 167, 0, 4, 3, 172, 3, 172]
abbrev dktX2_isTold_5 : List UInt8 := dkwX2_isTold_5 ++ []
def dkwX2_isTold_4 : List UInt8 := [172, 42, 180, 0, 113, 180, 0, 137, 198, 0, 7, 4, 167, 0, 4, 3, 172, 42, 180, 0, 113, 180, 0, 140]
abbrev dktX2_isTold_4 : List UInt8 := dkwX2_isTold_4 ++ dktX2_isTold_5
def dkwX2_isTold_3 : List UInt8 := [198, 0, 7, 4, 167, 0, 4, 3, 172, 42, 180, 0, 113, 180, 0, 134, 198, 0, 7, 4, 167, 0, 4, 3]
abbrev dktX2_isTold_3 : List UInt8 := dkwX2_isTold_3 ++ dktX2_isTold_4
def dkwX2_isTold_2 : List UInt8 := [42, 180, 0, 113, 180, 0, 127, 155, 0, 7, 4, 167, 0, 4, 3, 172, 42, 180, 0, 113, 180, 0, 130]
abbrev dktX2_isTold_2 : List UInt8 := dkwX2_isTold_2 ++ dktX2_isTold_3
def dkwX2_isTold_1 : List UInt8 := [170, 0, 0, 0, 0, 0, 115, 0, 0, 0, 2, 0, 0, 0, 6, 0, 0, 0, 35, 0, 0, 0, 51, 0, 0, 0, 67, 0, 0, 0, 83, 0, 0, 0, 99]
abbrev dktX2_isTold_1 : List UInt8 := dkwX2_isTold_1 ++ dktX2_isTold_2
def dkwX2_isTold_0 : List UInt8 := [27]
abbrev dktX2_isTold_0 : List UInt8 := dkwX2_isTold_0 ++ dktX2_isTold_1
theorem dksX2_isTold_0 : cX2_isTold.data.toList.drop 0 = dktX2_isTold_0 := by decide +kernel
theorem dksX2_isTold_1 : cX2_isTold.data.toList.drop 1 = dktX2_isTold_1 := dk_seg dksX2_isTold_0 1 rfl rfl
theorem dksX2_isTold_2 : cX2_isTold.data.toList.drop 36 = dktX2_isTold_2 := dk_seg dksX2_isTold_1 35 rfl rfl
theorem dksX2_isTold_3 : cX2_isTold.data.toList.drop 59 = dktX2_isTold_3 := dk_seg dksX2_isTold_2 23 rfl rfl
theorem dksX2_isTold_4 : cX2_isTold.data.toList.drop 83 = dktX2_isTold_4 := dk_seg dksX2_isTold_3 24 rfl rfl
theorem dksX2_isTold_5 : cX2_isTold.data.toList.drop 107 = dktX2_isTold_5 := dk_seg dksX2_isTold_4 24 rfl rfl
theorem dX2_isTold_0 : decode cX2_isTold 0 = .ok (.iload_n 1, 1) := dk_27 (dk_at dksX2_isTold_0 0 rfl rfl)
theorem dX2_isTold_1 : decode cX2_isTold 1 = .ok (.tableswitch 115 2 6 #[35, 51, 67, 83, 99], 35) := by decide +kernel
theorem dX2_isTold_36 : decode cX2_isTold 36 = .ok (.aload_n 0, 1) := dk_42 (dk_at dksX2_isTold_2 0 rfl rfl)
theorem dX2_isTold_37 : decode cX2_isTold 37 = .ok (.getfield 113, 3) := dk_180 0 113 (dk_at dksX2_isTold_2 1 rfl rfl)
theorem dX2_isTold_40 : decode cX2_isTold 40 = .ok (.getfield 127, 3) := dk_180 0 127 (dk_at dksX2_isTold_2 4 rfl rfl)
theorem dX2_isTold_43 : decode cX2_isTold 43 = .ok (.ifCond .lt 7, 3) := dk_155 0 7 (dk_at dksX2_isTold_2 7 rfl rfl)
theorem dX2_isTold_46 : decode cX2_isTold 46 = .ok (.iconst 1, 1) := dk_4 (dk_at dksX2_isTold_2 10 rfl rfl)
theorem dX2_isTold_47 : decode cX2_isTold 47 = .ok (.goto 4, 3) := dk_167 0 4 (dk_at dksX2_isTold_2 11 rfl rfl)
theorem dX2_isTold_50 : decode cX2_isTold 50 = .ok (.iconst 0, 1) := dk_3 (dk_at dksX2_isTold_2 14 rfl rfl)
theorem dX2_isTold_51 : decode cX2_isTold 51 = .ok (.ireturn, 1) := dk_172 (dk_at dksX2_isTold_2 15 rfl rfl)
theorem dX2_isTold_52 : decode cX2_isTold 52 = .ok (.aload_n 0, 1) := dk_42 (dk_at dksX2_isTold_2 16 rfl rfl)
theorem dX2_isTold_53 : decode cX2_isTold 53 = .ok (.getfield 113, 3) := dk_180 0 113 (dk_at dksX2_isTold_2 17 rfl rfl)
theorem dX2_isTold_56 : decode cX2_isTold 56 = .ok (.getfield 130, 3) := dk_180 0 130 (dk_at dksX2_isTold_2 20 rfl rfl)
theorem dX2_isTold_59 : decode cX2_isTold 59 = .ok (.ifnull 7, 3) := dk_198 0 7 (dk_at dksX2_isTold_3 0 rfl rfl)
theorem dX2_isTold_62 : decode cX2_isTold 62 = .ok (.iconst 1, 1) := dk_4 (dk_at dksX2_isTold_3 3 rfl rfl)
theorem dX2_isTold_63 : decode cX2_isTold 63 = .ok (.goto 4, 3) := dk_167 0 4 (dk_at dksX2_isTold_3 4 rfl rfl)
theorem dX2_isTold_66 : decode cX2_isTold 66 = .ok (.iconst 0, 1) := dk_3 (dk_at dksX2_isTold_3 7 rfl rfl)
theorem dX2_isTold_67 : decode cX2_isTold 67 = .ok (.ireturn, 1) := dk_172 (dk_at dksX2_isTold_3 8 rfl rfl)
theorem dX2_isTold_68 : decode cX2_isTold 68 = .ok (.aload_n 0, 1) := dk_42 (dk_at dksX2_isTold_3 9 rfl rfl)
theorem dX2_isTold_69 : decode cX2_isTold 69 = .ok (.getfield 113, 3) := dk_180 0 113 (dk_at dksX2_isTold_3 10 rfl rfl)
theorem dX2_isTold_72 : decode cX2_isTold 72 = .ok (.getfield 134, 3) := dk_180 0 134 (dk_at dksX2_isTold_3 13 rfl rfl)
theorem dX2_isTold_75 : decode cX2_isTold 75 = .ok (.ifnull 7, 3) := dk_198 0 7 (dk_at dksX2_isTold_3 16 rfl rfl)
theorem dX2_isTold_78 : decode cX2_isTold 78 = .ok (.iconst 1, 1) := dk_4 (dk_at dksX2_isTold_3 19 rfl rfl)
theorem dX2_isTold_79 : decode cX2_isTold 79 = .ok (.goto 4, 3) := dk_167 0 4 (dk_at dksX2_isTold_3 20 rfl rfl)
theorem dX2_isTold_82 : decode cX2_isTold 82 = .ok (.iconst 0, 1) := dk_3 (dk_at dksX2_isTold_3 23 rfl rfl)
theorem dX2_isTold_83 : decode cX2_isTold 83 = .ok (.ireturn, 1) := dk_172 (dk_at dksX2_isTold_4 0 rfl rfl)
theorem dX2_isTold_84 : decode cX2_isTold 84 = .ok (.aload_n 0, 1) := dk_42 (dk_at dksX2_isTold_4 1 rfl rfl)
theorem dX2_isTold_85 : decode cX2_isTold 85 = .ok (.getfield 113, 3) := dk_180 0 113 (dk_at dksX2_isTold_4 2 rfl rfl)
theorem dX2_isTold_88 : decode cX2_isTold 88 = .ok (.getfield 137, 3) := dk_180 0 137 (dk_at dksX2_isTold_4 5 rfl rfl)
theorem dX2_isTold_91 : decode cX2_isTold 91 = .ok (.ifnull 7, 3) := dk_198 0 7 (dk_at dksX2_isTold_4 8 rfl rfl)
theorem dX2_isTold_94 : decode cX2_isTold 94 = .ok (.iconst 1, 1) := dk_4 (dk_at dksX2_isTold_4 11 rfl rfl)
theorem dX2_isTold_95 : decode cX2_isTold 95 = .ok (.goto 4, 3) := dk_167 0 4 (dk_at dksX2_isTold_4 12 rfl rfl)
theorem dX2_isTold_98 : decode cX2_isTold 98 = .ok (.iconst 0, 1) := dk_3 (dk_at dksX2_isTold_4 15 rfl rfl)
theorem dX2_isTold_99 : decode cX2_isTold 99 = .ok (.ireturn, 1) := dk_172 (dk_at dksX2_isTold_4 16 rfl rfl)
theorem dX2_isTold_100 : decode cX2_isTold 100 = .ok (.aload_n 0, 1) := dk_42 (dk_at dksX2_isTold_4 17 rfl rfl)
theorem dX2_isTold_101 : decode cX2_isTold 101 = .ok (.getfield 113, 3) := dk_180 0 113 (dk_at dksX2_isTold_4 18 rfl rfl)
theorem dX2_isTold_104 : decode cX2_isTold 104 = .ok (.getfield 140, 3) := dk_180 0 140 (dk_at dksX2_isTold_4 21 rfl rfl)
theorem dX2_isTold_107 : decode cX2_isTold 107 = .ok (.ifnull 7, 3) := dk_198 0 7 (dk_at dksX2_isTold_5 0 rfl rfl)
theorem dX2_isTold_110 : decode cX2_isTold 110 = .ok (.iconst 1, 1) := dk_4 (dk_at dksX2_isTold_5 3 rfl rfl)
theorem dX2_isTold_111 : decode cX2_isTold 111 = .ok (.goto 4, 3) := dk_167 0 4 (dk_at dksX2_isTold_5 4 rfl rfl)
theorem dX2_isTold_114 : decode cX2_isTold 114 = .ok (.iconst 0, 1) := dk_3 (dk_at dksX2_isTold_5 7 rfl rfl)
theorem dX2_isTold_115 : decode cX2_isTold 115 = .ok (.ireturn, 1) := dk_172 (dk_at dksX2_isTold_5 8 rfl rfl)
theorem dX2_isTold_116 : decode cX2_isTold 116 = .ok (.iconst 0, 1) := dk_3 (dk_at dksX2_isTold_5 9 rfl rfl)
theorem dX2_isTold_117 : decode cX2_isTold 117 = .ok (.ireturn, 1) := dk_172 (dk_at dksX2_isTold_5 10 rfl rfl)
abbrev cX2_line : ByteArray := prog_21_method_21_code
def yX2_line : MethodName := ⟨RX2, "line", "(I)V"⟩
def dkwX2_line_9 : List UInt8 := [167, 0, 16, 42, 180, 0, 113, 42, 18, 182, 182, 0, 184, 181, 0, 140, 177]
abbrev dktX2_line_9 : List UInt8 := dkwX2_line_9 ++ []
def dkwX2_line_8 : List UInt8 := [182, 0, 184, 181, 0, 134, 167, 0, 32, 42, 180, 0, 113, 42, 18, 188, 182, 0, 184, 181, 0, 137]
abbrev dktX2_line_8 : List UInt8 := dkwX2_line_8 ++ dktX2_line_9
def dkwX2_line_7 : List UInt8 := [42, 180, 0, 113, 42, 18, 182, 182, 0, 184, 181, 0, 130, 167, 0, 48, 42, 180, 0, 113, 42, 18, 182]
abbrev dktX2_line_7 : List UInt8 := dkwX2_line_7 ++ dktX2_line_8
def dkwX2_line_6 : List UInt8 := [181, 0, 179, 167, 0, 82, 42, 180, 0, 113, 42, 3, 17, 3, 231, 182, 0, 102, 181, 0, 127, 167, 0, 64]
abbrev dktX2_line_6 : List UInt8 := dkwX2_line_6 ++ dktX2_line_7
def dkwX2_line_5 : List UInt8 := [192, 0, 170, 89, 180, 0, 172, 4, 29, 120, 128, 181, 0, 172, 42, 180, 0, 113, 89, 180, 0, 179, 4, 96]
abbrev dktX2_line_5 : List UInt8 := dkwX2_line_5 ++ dktX2_line_6
def dkwX2_line_4 : List UInt8 := [153, 0, 9, 42, 6, 182, 0, 75, 191, 42, 182, 0, 25, 42, 180, 0, 113, 180, 0, 149, 28, 182, 0, 166]
abbrev dktX2_line_4 : List UInt8 := dkwX2_line_4 ++ dktX2_line_5
def dkwX2_line_3 : List UInt8 := [159, 0, 27, 42, 180, 0, 113, 180, 0, 149, 28, 182, 0, 166, 192, 0, 170, 180, 0, 172, 29, 184, 0, 175]
abbrev dktX2_line_3 : List UInt8 := dkwX2_line_3 ++ dktX2_line_4
def dkwX2_line_2 : List UInt8 := [42, 182, 0, 163, 167, 0, 176, 42, 182, 0, 125, 61, 42, 182, 0, 25, 42, 182, 0, 125, 62, 28, 29]
abbrev dktX2_line_2 : List UInt8 := dkwX2_line_2 ++ dktX2_line_3
def dkwX2_line_1 : List UInt8 := [170, 0, 0, 0, 0, 0, 206, 0, 0, 0, 0, 0, 0, 0, 5, 0, 0, 0, 39, 0, 0, 0, 46, 0, 0, 0, 140, 0, 0, 0, 158, 0, 0, 0, 174, 0, 0, 0, 190]
abbrev dktX2_line_1 : List UInt8 := dkwX2_line_1 ++ dktX2_line_2
def dkwX2_line_0 : List UInt8 := [27]
abbrev dktX2_line_0 : List UInt8 := dkwX2_line_0 ++ dktX2_line_1
theorem dksX2_line_0 : cX2_line.data.toList.drop 0 = dktX2_line_0 := by decide +kernel
theorem dksX2_line_1 : cX2_line.data.toList.drop 1 = dktX2_line_1 := dk_seg dksX2_line_0 1 rfl rfl
theorem dksX2_line_2 : cX2_line.data.toList.drop 40 = dktX2_line_2 := dk_seg dksX2_line_1 39 rfl rfl
theorem dksX2_line_3 : cX2_line.data.toList.drop 63 = dktX2_line_3 := dk_seg dksX2_line_2 23 rfl rfl
theorem dksX2_line_4 : cX2_line.data.toList.drop 87 = dktX2_line_4 := dk_seg dksX2_line_3 24 rfl rfl
theorem dksX2_line_5 : cX2_line.data.toList.drop 111 = dktX2_line_5 := dk_seg dksX2_line_4 24 rfl rfl
theorem dksX2_line_6 : cX2_line.data.toList.drop 135 = dktX2_line_6 := dk_seg dksX2_line_5 24 rfl rfl
theorem dksX2_line_7 : cX2_line.data.toList.drop 159 = dktX2_line_7 := dk_seg dksX2_line_6 24 rfl rfl
theorem dksX2_line_8 : cX2_line.data.toList.drop 182 = dktX2_line_8 := dk_seg dksX2_line_7 23 rfl rfl
theorem dksX2_line_9 : cX2_line.data.toList.drop 204 = dktX2_line_9 := dk_seg dksX2_line_8 22 rfl rfl
theorem dX2_line_0 : decode cX2_line 0 = .ok (.iload_n 1, 1) := dk_27 (dk_at dksX2_line_0 0 rfl rfl)
theorem dX2_line_1 : decode cX2_line 1 = .ok (.tableswitch 206 0 5 #[39, 46, 140, 158, 174, 190], 39) := by decide +kernel
theorem dX2_line_40 : decode cX2_line 40 = .ok (.aload_n 0, 1) := dk_42 (dk_at dksX2_line_2 0 rfl rfl)
theorem dX2_line_41 : decode cX2_line 41 = .ok (.invokevirtual 163, 3) := dk_182 0 163 (dk_at dksX2_line_2 1 rfl rfl)
theorem dX2_line_44 : decode cX2_line 44 = .ok (.goto 176, 3) := dk_167 0 176 (dk_at dksX2_line_2 4 rfl rfl)
theorem dX2_line_47 : decode cX2_line 47 = .ok (.aload_n 0, 1) := dk_42 (dk_at dksX2_line_2 7 rfl rfl)
theorem dX2_line_48 : decode cX2_line 48 = .ok (.invokevirtual 125, 3) := dk_182 0 125 (dk_at dksX2_line_2 8 rfl rfl)
theorem dX2_line_51 : decode cX2_line 51 = .ok (.istore_n 2, 1) := dk_61 (dk_at dksX2_line_2 11 rfl rfl)
theorem dX2_line_52 : decode cX2_line 52 = .ok (.aload_n 0, 1) := dk_42 (dk_at dksX2_line_2 12 rfl rfl)
theorem dX2_line_53 : decode cX2_line 53 = .ok (.invokevirtual 25, 3) := dk_182 0 25 (dk_at dksX2_line_2 13 rfl rfl)
theorem dX2_line_56 : decode cX2_line 56 = .ok (.aload_n 0, 1) := dk_42 (dk_at dksX2_line_2 16 rfl rfl)
theorem dX2_line_57 : decode cX2_line 57 = .ok (.invokevirtual 125, 3) := dk_182 0 125 (dk_at dksX2_line_2 17 rfl rfl)
theorem dX2_line_60 : decode cX2_line 60 = .ok (.istore_n 3, 1) := dk_62 (dk_at dksX2_line_2 20 rfl rfl)
theorem dX2_line_61 : decode cX2_line 61 = .ok (.iload_n 2, 1) := dk_28 (dk_at dksX2_line_2 21 rfl rfl)
theorem dX2_line_62 : decode cX2_line 62 = .ok (.iload_n 3, 1) := dk_29 (dk_at dksX2_line_2 22 rfl rfl)
theorem dX2_line_63 : decode cX2_line 63 = .ok (.if_icmp .eq 27, 3) := dk_159 0 27 (dk_at dksX2_line_3 0 rfl rfl)
theorem dX2_line_66 : decode cX2_line 66 = .ok (.aload_n 0, 1) := dk_42 (dk_at dksX2_line_3 3 rfl rfl)
theorem dX2_line_67 : decode cX2_line 67 = .ok (.getfield 113, 3) := dk_180 0 113 (dk_at dksX2_line_3 4 rfl rfl)
theorem dX2_line_70 : decode cX2_line 70 = .ok (.getfield 149, 3) := dk_180 0 149 (dk_at dksX2_line_3 7 rfl rfl)
theorem dX2_line_73 : decode cX2_line 73 = .ok (.iload_n 2, 1) := dk_28 (dk_at dksX2_line_3 10 rfl rfl)
theorem dX2_line_74 : decode cX2_line 74 = .ok (.invokevirtual 166, 3) := dk_182 0 166 (dk_at dksX2_line_3 11 rfl rfl)
theorem dX2_line_77 : decode cX2_line 77 = .ok (.checkcast 170, 3) := dk_192 0 170 (dk_at dksX2_line_3 14 rfl rfl)
theorem dX2_line_80 : decode cX2_line 80 = .ok (.getfield 172, 3) := dk_180 0 172 (dk_at dksX2_line_3 17 rfl rfl)
theorem dX2_line_83 : decode cX2_line 83 = .ok (.iload_n 3, 1) := dk_29 (dk_at dksX2_line_3 20 rfl rfl)
theorem dX2_line_84 : decode cX2_line 84 = .ok (.invokestatic 175, 3) := dk_184 0 175 (dk_at dksX2_line_3 21 rfl rfl)
theorem dX2_line_87 : decode cX2_line 87 = .ok (.ifCond .eq 9, 3) := dk_153 0 9 (dk_at dksX2_line_4 0 rfl rfl)
theorem dX2_line_90 : decode cX2_line 90 = .ok (.aload_n 0, 1) := dk_42 (dk_at dksX2_line_4 3 rfl rfl)
theorem dX2_line_91 : decode cX2_line 91 = .ok (.iconst 3, 1) := dk_6 (dk_at dksX2_line_4 4 rfl rfl)
theorem dX2_line_92 : decode cX2_line 92 = .ok (.invokevirtual 75, 3) := dk_182 0 75 (dk_at dksX2_line_4 5 rfl rfl)
theorem dX2_line_95 : decode cX2_line 95 = .ok (.athrow, 1) := dk_191 (dk_at dksX2_line_4 8 rfl rfl)
theorem dX2_line_96 : decode cX2_line 96 = .ok (.aload_n 0, 1) := dk_42 (dk_at dksX2_line_4 9 rfl rfl)
theorem dX2_line_97 : decode cX2_line 97 = .ok (.invokevirtual 25, 3) := dk_182 0 25 (dk_at dksX2_line_4 10 rfl rfl)
theorem dX2_line_100 : decode cX2_line 100 = .ok (.aload_n 0, 1) := dk_42 (dk_at dksX2_line_4 13 rfl rfl)
theorem dX2_line_101 : decode cX2_line 101 = .ok (.getfield 113, 3) := dk_180 0 113 (dk_at dksX2_line_4 14 rfl rfl)
theorem dX2_line_104 : decode cX2_line 104 = .ok (.getfield 149, 3) := dk_180 0 149 (dk_at dksX2_line_4 17 rfl rfl)
theorem dX2_line_107 : decode cX2_line 107 = .ok (.iload_n 2, 1) := dk_28 (dk_at dksX2_line_4 20 rfl rfl)
theorem dX2_line_108 : decode cX2_line 108 = .ok (.invokevirtual 166, 3) := dk_182 0 166 (dk_at dksX2_line_4 21 rfl rfl)
theorem dX2_line_111 : decode cX2_line 111 = .ok (.checkcast 170, 3) := dk_192 0 170 (dk_at dksX2_line_5 0 rfl rfl)
theorem dX2_line_114 : decode cX2_line 114 = .ok (.dup, 1) := dk_89 (dk_at dksX2_line_5 3 rfl rfl)
theorem dX2_line_115 : decode cX2_line 115 = .ok (.getfield 172, 3) := dk_180 0 172 (dk_at dksX2_line_5 4 rfl rfl)
theorem dX2_line_118 : decode cX2_line 118 = .ok (.iconst 1, 1) := dk_4 (dk_at dksX2_line_5 7 rfl rfl)
theorem dX2_line_119 : decode cX2_line 119 = .ok (.iload_n 3, 1) := dk_29 (dk_at dksX2_line_5 8 rfl rfl)
theorem dX2_line_120 : decode cX2_line 120 = .ok (.ishl, 1) := dk_120 (dk_at dksX2_line_5 9 rfl rfl)
theorem dX2_line_121 : decode cX2_line 121 = .ok (.ior, 1) := dk_128 (dk_at dksX2_line_5 10 rfl rfl)
theorem dX2_line_122 : decode cX2_line 122 = .ok (.putfield 172, 3) := dk_181 0 172 (dk_at dksX2_line_5 11 rfl rfl)
theorem dX2_line_125 : decode cX2_line 125 = .ok (.aload_n 0, 1) := dk_42 (dk_at dksX2_line_5 14 rfl rfl)
theorem dX2_line_126 : decode cX2_line 126 = .ok (.getfield 113, 3) := dk_180 0 113 (dk_at dksX2_line_5 15 rfl rfl)
theorem dX2_line_129 : decode cX2_line 129 = .ok (.dup, 1) := dk_89 (dk_at dksX2_line_5 18 rfl rfl)
theorem dX2_line_130 : decode cX2_line 130 = .ok (.getfield 179, 3) := dk_180 0 179 (dk_at dksX2_line_5 19 rfl rfl)
theorem dX2_line_133 : decode cX2_line 133 = .ok (.iconst 1, 1) := dk_4 (dk_at dksX2_line_5 22 rfl rfl)
theorem dX2_line_134 : decode cX2_line 134 = .ok (.iadd, 1) := dk_96 (dk_at dksX2_line_5 23 rfl rfl)
theorem dX2_line_135 : decode cX2_line 135 = .ok (.putfield 179, 3) := dk_181 0 179 (dk_at dksX2_line_6 0 rfl rfl)
theorem dX2_line_138 : decode cX2_line 138 = .ok (.goto 82, 3) := dk_167 0 82 (dk_at dksX2_line_6 3 rfl rfl)
theorem dX2_line_141 : decode cX2_line 141 = .ok (.aload_n 0, 1) := dk_42 (dk_at dksX2_line_6 6 rfl rfl)
theorem dX2_line_142 : decode cX2_line 142 = .ok (.getfield 113, 3) := dk_180 0 113 (dk_at dksX2_line_6 7 rfl rfl)
theorem dX2_line_145 : decode cX2_line 145 = .ok (.aload_n 0, 1) := dk_42 (dk_at dksX2_line_6 10 rfl rfl)
theorem dX2_line_146 : decode cX2_line 146 = .ok (.iconst 0, 1) := dk_3 (dk_at dksX2_line_6 11 rfl rfl)
theorem dX2_line_147 : decode cX2_line 147 = .ok (.sipush 999, 3) := dk_17 3 231 (dk_at dksX2_line_6 12 rfl rfl)
theorem dX2_line_150 : decode cX2_line 150 = .ok (.invokevirtual 102, 3) := dk_182 0 102 (dk_at dksX2_line_6 15 rfl rfl)
theorem dX2_line_153 : decode cX2_line 153 = .ok (.putfield 127, 3) := dk_181 0 127 (dk_at dksX2_line_6 18 rfl rfl)
theorem dX2_line_156 : decode cX2_line 156 = .ok (.goto 64, 3) := dk_167 0 64 (dk_at dksX2_line_6 21 rfl rfl)
theorem dX2_line_159 : decode cX2_line 159 = .ok (.aload_n 0, 1) := dk_42 (dk_at dksX2_line_7 0 rfl rfl)
theorem dX2_line_160 : decode cX2_line 160 = .ok (.getfield 113, 3) := dk_180 0 113 (dk_at dksX2_line_7 1 rfl rfl)
theorem dX2_line_163 : decode cX2_line 163 = .ok (.aload_n 0, 1) := dk_42 (dk_at dksX2_line_7 4 rfl rfl)
theorem dX2_line_164 : decode cX2_line 164 = .ok (.ldc 182, 2) := dk_18 182 (dk_at dksX2_line_7 5 rfl rfl)
theorem dX2_line_166 : decode cX2_line 166 = .ok (.invokevirtual 184, 3) := dk_182 0 184 (dk_at dksX2_line_7 7 rfl rfl)
theorem dX2_line_169 : decode cX2_line 169 = .ok (.putfield 130, 3) := dk_181 0 130 (dk_at dksX2_line_7 10 rfl rfl)
theorem dX2_line_172 : decode cX2_line 172 = .ok (.goto 48, 3) := dk_167 0 48 (dk_at dksX2_line_7 13 rfl rfl)
theorem dX2_line_175 : decode cX2_line 175 = .ok (.aload_n 0, 1) := dk_42 (dk_at dksX2_line_7 16 rfl rfl)
theorem dX2_line_176 : decode cX2_line 176 = .ok (.getfield 113, 3) := dk_180 0 113 (dk_at dksX2_line_7 17 rfl rfl)
theorem dX2_line_179 : decode cX2_line 179 = .ok (.aload_n 0, 1) := dk_42 (dk_at dksX2_line_7 20 rfl rfl)
theorem dX2_line_180 : decode cX2_line 180 = .ok (.ldc 182, 2) := dk_18 182 (dk_at dksX2_line_7 21 rfl rfl)
theorem dX2_line_182 : decode cX2_line 182 = .ok (.invokevirtual 184, 3) := dk_182 0 184 (dk_at dksX2_line_8 0 rfl rfl)
theorem dX2_line_185 : decode cX2_line 185 = .ok (.putfield 134, 3) := dk_181 0 134 (dk_at dksX2_line_8 3 rfl rfl)
theorem dX2_line_188 : decode cX2_line 188 = .ok (.goto 32, 3) := dk_167 0 32 (dk_at dksX2_line_8 6 rfl rfl)
theorem dX2_line_191 : decode cX2_line 191 = .ok (.aload_n 0, 1) := dk_42 (dk_at dksX2_line_8 9 rfl rfl)
theorem dX2_line_192 : decode cX2_line 192 = .ok (.getfield 113, 3) := dk_180 0 113 (dk_at dksX2_line_8 10 rfl rfl)
theorem dX2_line_195 : decode cX2_line 195 = .ok (.aload_n 0, 1) := dk_42 (dk_at dksX2_line_8 13 rfl rfl)
theorem dX2_line_196 : decode cX2_line 196 = .ok (.ldc 188, 2) := dk_18 188 (dk_at dksX2_line_8 14 rfl rfl)
theorem dX2_line_198 : decode cX2_line 198 = .ok (.invokevirtual 184, 3) := dk_182 0 184 (dk_at dksX2_line_8 16 rfl rfl)
theorem dX2_line_201 : decode cX2_line 201 = .ok (.putfield 137, 3) := dk_181 0 137 (dk_at dksX2_line_8 19 rfl rfl)
theorem dX2_line_204 : decode cX2_line 204 = .ok (.goto 16, 3) := dk_167 0 16 (dk_at dksX2_line_9 0 rfl rfl)
theorem dX2_line_207 : decode cX2_line 207 = .ok (.aload_n 0, 1) := dk_42 (dk_at dksX2_line_9 3 rfl rfl)
theorem dX2_line_208 : decode cX2_line 208 = .ok (.getfield 113, 3) := dk_180 0 113 (dk_at dksX2_line_9 4 rfl rfl)
theorem dX2_line_211 : decode cX2_line 211 = .ok (.aload_n 0, 1) := dk_42 (dk_at dksX2_line_9 7 rfl rfl)
theorem dX2_line_212 : decode cX2_line 212 = .ok (.ldc 182, 2) := dk_18 182 (dk_at dksX2_line_9 8 rfl rfl)
theorem dX2_line_214 : decode cX2_line 214 = .ok (.invokevirtual 184, 3) := dk_182 0 184 (dk_at dksX2_line_9 10 rfl rfl)
theorem dX2_line_217 : decode cX2_line 217 = .ok (.putfield 140, 3) := dk_181 0 140 (dk_at dksX2_line_9 13 rfl rfl)
theorem dX2_line_220 : decode cX2_line 220 = .ok (.return_, 1) := dk_177 (dk_at dksX2_line_9 16 rfl rfl)
abbrev cX2_comes : ByteArray := prog_21_method_22_code
def yX2_comes : MethodName := ⟨RX2, "comes", "()V"⟩
def dkwX2_comes_6 : List UInt8 := [181, 0, 226, 42, 180, 0, 113, 180, 0, 149, 45, 182, 0, 229, 87, 177]
abbrev dktX2_comes_6 : List UInt8 := dkwX2_comes_6 ++ []
def dkwX2_comes_5 : List UInt8 := [42, 18, 219, 3, 17, 3, 231, 182, 0, 208, 181, 0, 221, 45, 42, 18, 224, 3, 16, 9, 182, 0, 208]
abbrev dktX2_comes_5 : List UInt8 := dkwX2_comes_5 ++ dktX2_comes_6
def dkwX2_comes_4 : List UInt8 := [3, 16, 9, 182, 0, 208, 181, 0, 211, 45, 42, 18, 214, 3, 17, 3, 231, 182, 0, 208, 181, 0, 216, 45]
abbrev dktX2_comes_4 : List UInt8 := dkwX2_comes_4 ++ dktX2_comes_5
def dkwX2_comes_3 : List UInt8 := [187, 0, 200, 89, 43, 183, 0, 202, 167, 0, 11, 187, 0, 203, 89, 43, 183, 0, 205, 78, 45, 42, 18, 206]
abbrev dktX2_comes_3 : List UInt8 := dkwX2_comes_3 ++ dktX2_comes_4
def dkwX2_comes_2 : List UInt8 := [167, 0, 43, 28, 4, 160, 0, 14, 187, 0, 197, 89, 43, 183, 0, 199, 167, 0, 27, 28, 5, 160, 0, 14]
abbrev dktX2_comes_2 : List UInt8 := dkwX2_comes_2 ++ dktX2_comes_3
def dkwX2_comes_1 : List UInt8 := [182, 0, 25, 42, 18, 190, 182, 0, 192, 61, 28, 154, 0, 14, 187, 0, 170, 89, 43, 183, 0, 195]
abbrev dktX2_comes_1 : List UInt8 := dkwX2_comes_1 ++ dktX2_comes_2
def dkwX2_comes_0 : List UInt8 := [42, 182, 0, 117, 76, 42, 180, 0, 113, 43, 182, 0, 120, 155, 0, 9, 42, 6, 182, 0, 75, 191, 42]
abbrev dktX2_comes_0 : List UInt8 := dkwX2_comes_0 ++ dktX2_comes_1
theorem dksX2_comes_0 : cX2_comes.data.toList.drop 0 = dktX2_comes_0 := by decide +kernel
theorem dksX2_comes_1 : cX2_comes.data.toList.drop 23 = dktX2_comes_1 := dk_seg dksX2_comes_0 23 rfl rfl
theorem dksX2_comes_2 : cX2_comes.data.toList.drop 45 = dktX2_comes_2 := dk_seg dksX2_comes_1 22 rfl rfl
theorem dksX2_comes_3 : cX2_comes.data.toList.drop 69 = dktX2_comes_3 := dk_seg dksX2_comes_2 24 rfl rfl
theorem dksX2_comes_4 : cX2_comes.data.toList.drop 93 = dktX2_comes_4 := dk_seg dksX2_comes_3 24 rfl rfl
theorem dksX2_comes_5 : cX2_comes.data.toList.drop 117 = dktX2_comes_5 := dk_seg dksX2_comes_4 24 rfl rfl
theorem dksX2_comes_6 : cX2_comes.data.toList.drop 140 = dktX2_comes_6 := dk_seg dksX2_comes_5 23 rfl rfl
theorem dX2_comes_0 : decode cX2_comes 0 = .ok (.aload_n 0, 1) := dk_42 (dk_at dksX2_comes_0 0 rfl rfl)
theorem dX2_comes_1 : decode cX2_comes 1 = .ok (.invokevirtual 117, 3) := dk_182 0 117 (dk_at dksX2_comes_0 1 rfl rfl)
theorem dX2_comes_4 : decode cX2_comes 4 = .ok (.astore_n 1, 1) := dk_76 (dk_at dksX2_comes_0 4 rfl rfl)
theorem dX2_comes_5 : decode cX2_comes 5 = .ok (.aload_n 0, 1) := dk_42 (dk_at dksX2_comes_0 5 rfl rfl)
theorem dX2_comes_6 : decode cX2_comes 6 = .ok (.getfield 113, 3) := dk_180 0 113 (dk_at dksX2_comes_0 6 rfl rfl)
theorem dX2_comes_9 : decode cX2_comes 9 = .ok (.aload_n 1, 1) := dk_43 (dk_at dksX2_comes_0 9 rfl rfl)
theorem dX2_comes_10 : decode cX2_comes 10 = .ok (.invokevirtual 120, 3) := dk_182 0 120 (dk_at dksX2_comes_0 10 rfl rfl)
theorem dX2_comes_13 : decode cX2_comes 13 = .ok (.ifCond .lt 9, 3) := dk_155 0 9 (dk_at dksX2_comes_0 13 rfl rfl)
theorem dX2_comes_16 : decode cX2_comes 16 = .ok (.aload_n 0, 1) := dk_42 (dk_at dksX2_comes_0 16 rfl rfl)
theorem dX2_comes_17 : decode cX2_comes 17 = .ok (.iconst 3, 1) := dk_6 (dk_at dksX2_comes_0 17 rfl rfl)
theorem dX2_comes_18 : decode cX2_comes 18 = .ok (.invokevirtual 75, 3) := dk_182 0 75 (dk_at dksX2_comes_0 18 rfl rfl)
theorem dX2_comes_21 : decode cX2_comes 21 = .ok (.athrow, 1) := dk_191 (dk_at dksX2_comes_0 21 rfl rfl)
theorem dX2_comes_22 : decode cX2_comes 22 = .ok (.aload_n 0, 1) := dk_42 (dk_at dksX2_comes_0 22 rfl rfl)
theorem dX2_comes_23 : decode cX2_comes 23 = .ok (.invokevirtual 25, 3) := dk_182 0 25 (dk_at dksX2_comes_1 0 rfl rfl)
theorem dX2_comes_26 : decode cX2_comes 26 = .ok (.aload_n 0, 1) := dk_42 (dk_at dksX2_comes_1 3 rfl rfl)
theorem dX2_comes_27 : decode cX2_comes 27 = .ok (.ldc 190, 2) := dk_18 190 (dk_at dksX2_comes_1 4 rfl rfl)
theorem dX2_comes_29 : decode cX2_comes 29 = .ok (.invokevirtual 192, 3) := dk_182 0 192 (dk_at dksX2_comes_1 6 rfl rfl)
theorem dX2_comes_32 : decode cX2_comes 32 = .ok (.istore_n 2, 1) := dk_61 (dk_at dksX2_comes_1 9 rfl rfl)
theorem dX2_comes_33 : decode cX2_comes 33 = .ok (.iload_n 2, 1) := dk_28 (dk_at dksX2_comes_1 10 rfl rfl)
theorem dX2_comes_34 : decode cX2_comes 34 = .ok (.ifCond .ne 14, 3) := dk_154 0 14 (dk_at dksX2_comes_1 11 rfl rfl)
theorem dX2_comes_37 : decode cX2_comes 37 = .ok (.new 170, 3) := dk_187 0 170 (dk_at dksX2_comes_1 14 rfl rfl)
theorem dX2_comes_40 : decode cX2_comes 40 = .ok (.dup, 1) := dk_89 (dk_at dksX2_comes_1 17 rfl rfl)
theorem dX2_comes_41 : decode cX2_comes 41 = .ok (.aload_n 1, 1) := dk_43 (dk_at dksX2_comes_1 18 rfl rfl)
theorem dX2_comes_42 : decode cX2_comes 42 = .ok (.invokespecial 195, 3) := dk_183 0 195 (dk_at dksX2_comes_1 19 rfl rfl)
theorem dX2_comes_45 : decode cX2_comes 45 = .ok (.goto 43, 3) := dk_167 0 43 (dk_at dksX2_comes_2 0 rfl rfl)
theorem dX2_comes_48 : decode cX2_comes 48 = .ok (.iload_n 2, 1) := dk_28 (dk_at dksX2_comes_2 3 rfl rfl)
theorem dX2_comes_49 : decode cX2_comes 49 = .ok (.iconst 1, 1) := dk_4 (dk_at dksX2_comes_2 4 rfl rfl)
theorem dX2_comes_50 : decode cX2_comes 50 = .ok (.if_icmp .ne 14, 3) := dk_160 0 14 (dk_at dksX2_comes_2 5 rfl rfl)
theorem dX2_comes_53 : decode cX2_comes 53 = .ok (.new 197, 3) := dk_187 0 197 (dk_at dksX2_comes_2 8 rfl rfl)
theorem dX2_comes_56 : decode cX2_comes 56 = .ok (.dup, 1) := dk_89 (dk_at dksX2_comes_2 11 rfl rfl)
theorem dX2_comes_57 : decode cX2_comes 57 = .ok (.aload_n 1, 1) := dk_43 (dk_at dksX2_comes_2 12 rfl rfl)
theorem dX2_comes_58 : decode cX2_comes 58 = .ok (.invokespecial 199, 3) := dk_183 0 199 (dk_at dksX2_comes_2 13 rfl rfl)
theorem dX2_comes_61 : decode cX2_comes 61 = .ok (.goto 27, 3) := dk_167 0 27 (dk_at dksX2_comes_2 16 rfl rfl)
theorem dX2_comes_64 : decode cX2_comes 64 = .ok (.iload_n 2, 1) := dk_28 (dk_at dksX2_comes_2 19 rfl rfl)
theorem dX2_comes_65 : decode cX2_comes 65 = .ok (.iconst 2, 1) := dk_5 (dk_at dksX2_comes_2 20 rfl rfl)
theorem dX2_comes_66 : decode cX2_comes 66 = .ok (.if_icmp .ne 14, 3) := dk_160 0 14 (dk_at dksX2_comes_2 21 rfl rfl)
theorem dX2_comes_69 : decode cX2_comes 69 = .ok (.new 200, 3) := dk_187 0 200 (dk_at dksX2_comes_3 0 rfl rfl)
theorem dX2_comes_72 : decode cX2_comes 72 = .ok (.dup, 1) := dk_89 (dk_at dksX2_comes_3 3 rfl rfl)
theorem dX2_comes_73 : decode cX2_comes 73 = .ok (.aload_n 1, 1) := dk_43 (dk_at dksX2_comes_3 4 rfl rfl)
theorem dX2_comes_74 : decode cX2_comes 74 = .ok (.invokespecial 202, 3) := dk_183 0 202 (dk_at dksX2_comes_3 5 rfl rfl)
theorem dX2_comes_77 : decode cX2_comes 77 = .ok (.goto 11, 3) := dk_167 0 11 (dk_at dksX2_comes_3 8 rfl rfl)
theorem dX2_comes_80 : decode cX2_comes 80 = .ok (.new 203, 3) := dk_187 0 203 (dk_at dksX2_comes_3 11 rfl rfl)
theorem dX2_comes_83 : decode cX2_comes 83 = .ok (.dup, 1) := dk_89 (dk_at dksX2_comes_3 14 rfl rfl)
theorem dX2_comes_84 : decode cX2_comes 84 = .ok (.aload_n 1, 1) := dk_43 (dk_at dksX2_comes_3 15 rfl rfl)
theorem dX2_comes_85 : decode cX2_comes 85 = .ok (.invokespecial 205, 3) := dk_183 0 205 (dk_at dksX2_comes_3 16 rfl rfl)
theorem dX2_comes_88 : decode cX2_comes 88 = .ok (.astore_n 3, 1) := dk_78 (dk_at dksX2_comes_3 19 rfl rfl)
theorem dX2_comes_89 : decode cX2_comes 89 = .ok (.aload_n 3, 1) := dk_45 (dk_at dksX2_comes_3 20 rfl rfl)
theorem dX2_comes_90 : decode cX2_comes 90 = .ok (.aload_n 0, 1) := dk_42 (dk_at dksX2_comes_3 21 rfl rfl)
theorem dX2_comes_91 : decode cX2_comes 91 = .ok (.ldc 206, 2) := dk_18 206 (dk_at dksX2_comes_3 22 rfl rfl)
theorem dX2_comes_93 : decode cX2_comes 93 = .ok (.iconst 0, 1) := dk_3 (dk_at dksX2_comes_4 0 rfl rfl)
theorem dX2_comes_94 : decode cX2_comes 94 = .ok (.bipush 9, 2) := dk_16 9 (dk_at dksX2_comes_4 1 rfl rfl)
theorem dX2_comes_96 : decode cX2_comes 96 = .ok (.invokevirtual 208, 3) := dk_182 0 208 (dk_at dksX2_comes_4 3 rfl rfl)
theorem dX2_comes_99 : decode cX2_comes 99 = .ok (.putfield 211, 3) := dk_181 0 211 (dk_at dksX2_comes_4 6 rfl rfl)
theorem dX2_comes_102 : decode cX2_comes 102 = .ok (.aload_n 3, 1) := dk_45 (dk_at dksX2_comes_4 9 rfl rfl)
theorem dX2_comes_103 : decode cX2_comes 103 = .ok (.aload_n 0, 1) := dk_42 (dk_at dksX2_comes_4 10 rfl rfl)
theorem dX2_comes_104 : decode cX2_comes 104 = .ok (.ldc 214, 2) := dk_18 214 (dk_at dksX2_comes_4 11 rfl rfl)
theorem dX2_comes_106 : decode cX2_comes 106 = .ok (.iconst 0, 1) := dk_3 (dk_at dksX2_comes_4 13 rfl rfl)
theorem dX2_comes_107 : decode cX2_comes 107 = .ok (.sipush 999, 3) := dk_17 3 231 (dk_at dksX2_comes_4 14 rfl rfl)
theorem dX2_comes_110 : decode cX2_comes 110 = .ok (.invokevirtual 208, 3) := dk_182 0 208 (dk_at dksX2_comes_4 17 rfl rfl)
theorem dX2_comes_113 : decode cX2_comes 113 = .ok (.putfield 216, 3) := dk_181 0 216 (dk_at dksX2_comes_4 20 rfl rfl)
theorem dX2_comes_116 : decode cX2_comes 116 = .ok (.aload_n 3, 1) := dk_45 (dk_at dksX2_comes_4 23 rfl rfl)
theorem dX2_comes_117 : decode cX2_comes 117 = .ok (.aload_n 0, 1) := dk_42 (dk_at dksX2_comes_5 0 rfl rfl)
theorem dX2_comes_118 : decode cX2_comes 118 = .ok (.ldc 219, 2) := dk_18 219 (dk_at dksX2_comes_5 1 rfl rfl)
theorem dX2_comes_120 : decode cX2_comes 120 = .ok (.iconst 0, 1) := dk_3 (dk_at dksX2_comes_5 3 rfl rfl)
theorem dX2_comes_121 : decode cX2_comes 121 = .ok (.sipush 999, 3) := dk_17 3 231 (dk_at dksX2_comes_5 4 rfl rfl)
theorem dX2_comes_124 : decode cX2_comes 124 = .ok (.invokevirtual 208, 3) := dk_182 0 208 (dk_at dksX2_comes_5 7 rfl rfl)
theorem dX2_comes_127 : decode cX2_comes 127 = .ok (.putfield 221, 3) := dk_181 0 221 (dk_at dksX2_comes_5 10 rfl rfl)
theorem dX2_comes_130 : decode cX2_comes 130 = .ok (.aload_n 3, 1) := dk_45 (dk_at dksX2_comes_5 13 rfl rfl)
theorem dX2_comes_131 : decode cX2_comes 131 = .ok (.aload_n 0, 1) := dk_42 (dk_at dksX2_comes_5 14 rfl rfl)
theorem dX2_comes_132 : decode cX2_comes 132 = .ok (.ldc 224, 2) := dk_18 224 (dk_at dksX2_comes_5 15 rfl rfl)
theorem dX2_comes_134 : decode cX2_comes 134 = .ok (.iconst 0, 1) := dk_3 (dk_at dksX2_comes_5 17 rfl rfl)
theorem dX2_comes_135 : decode cX2_comes 135 = .ok (.bipush 9, 2) := dk_16 9 (dk_at dksX2_comes_5 18 rfl rfl)
theorem dX2_comes_137 : decode cX2_comes 137 = .ok (.invokevirtual 208, 3) := dk_182 0 208 (dk_at dksX2_comes_5 20 rfl rfl)
theorem dX2_comes_140 : decode cX2_comes 140 = .ok (.putfield 226, 3) := dk_181 0 226 (dk_at dksX2_comes_6 0 rfl rfl)
theorem dX2_comes_143 : decode cX2_comes 143 = .ok (.aload_n 0, 1) := dk_42 (dk_at dksX2_comes_6 3 rfl rfl)
theorem dX2_comes_144 : decode cX2_comes 144 = .ok (.getfield 113, 3) := dk_180 0 113 (dk_at dksX2_comes_6 4 rfl rfl)
theorem dX2_comes_147 : decode cX2_comes 147 = .ok (.getfield 149, 3) := dk_180 0 149 (dk_at dksX2_comes_6 7 rfl rfl)
theorem dX2_comes_150 : decode cX2_comes 150 = .ok (.aload_n 3, 1) := dk_45 (dk_at dksX2_comes_6 10 rfl rfl)
theorem dX2_comes_151 : decode cX2_comes 151 = .ok (.invokevirtual 229, 3) := dk_182 0 229 (dk_at dksX2_comes_6 11 rfl rfl)
theorem dX2_comes_154 : decode cX2_comes 154 = .ok (.pop, 1) := dk_87 (dk_at dksX2_comes_6 14 rfl rfl)
theorem dX2_comes_155 : decode cX2_comes 155 = .ok (.return_, 1) := dk_177 (dk_at dksX2_comes_6 15 rfl rfl)
abbrev cX2_name : ByteArray := prog_21_method_13_code
def yX2_name : MethodName := ⟨RX2, "name", "()Ljava/lang/String;"⟩
def dkwX2_name_2 : List UInt8 := [42, 180, 0, 9, 28, 51, 146, 182, 0, 90, 87, 132, 2, 1, 167, 255, 233, 43, 182, 0, 94, 176]
abbrev dktX2_name_2 : List UInt8 := dkwX2_name_2 ++ []
def dkwX2_name_1 : List UInt8 := [187, 0, 85, 89, 16, 8, 183, 0, 87, 76, 42, 180, 0, 28, 61, 28, 42, 180, 0, 19, 162, 0, 21, 43]
abbrev dktX2_name_1 : List UInt8 := dkwX2_name_1 ++ dktX2_name_2
def dkwX2_name_0 : List UInt8 := [42, 180, 0, 31, 4, 160, 0, 12, 42, 18, 83, 182, 0, 71, 155, 0, 9, 42, 4, 182, 0, 75, 191]
abbrev dktX2_name_0 : List UInt8 := dkwX2_name_0 ++ dktX2_name_1
theorem dksX2_name_0 : cX2_name.data.toList.drop 0 = dktX2_name_0 := by decide +kernel
theorem dksX2_name_1 : cX2_name.data.toList.drop 23 = dktX2_name_1 := dk_seg dksX2_name_0 23 rfl rfl
theorem dksX2_name_2 : cX2_name.data.toList.drop 47 = dktX2_name_2 := dk_seg dksX2_name_1 24 rfl rfl
theorem dX2_name_0 : decode cX2_name 0 = .ok (.aload_n 0, 1) := dk_42 (dk_at dksX2_name_0 0 rfl rfl)
theorem dX2_name_1 : decode cX2_name 1 = .ok (.getfield 31, 3) := dk_180 0 31 (dk_at dksX2_name_0 1 rfl rfl)
theorem dX2_name_4 : decode cX2_name 4 = .ok (.iconst 1, 1) := dk_4 (dk_at dksX2_name_0 4 rfl rfl)
theorem dX2_name_5 : decode cX2_name 5 = .ok (.if_icmp .ne 12, 3) := dk_160 0 12 (dk_at dksX2_name_0 5 rfl rfl)
theorem dX2_name_8 : decode cX2_name 8 = .ok (.aload_n 0, 1) := dk_42 (dk_at dksX2_name_0 8 rfl rfl)
theorem dX2_name_9 : decode cX2_name 9 = .ok (.ldc 83, 2) := dk_18 83 (dk_at dksX2_name_0 9 rfl rfl)
theorem dX2_name_11 : decode cX2_name 11 = .ok (.invokevirtual 71, 3) := dk_182 0 71 (dk_at dksX2_name_0 11 rfl rfl)
theorem dX2_name_14 : decode cX2_name 14 = .ok (.ifCond .lt 9, 3) := dk_155 0 9 (dk_at dksX2_name_0 14 rfl rfl)
theorem dX2_name_17 : decode cX2_name 17 = .ok (.aload_n 0, 1) := dk_42 (dk_at dksX2_name_0 17 rfl rfl)
theorem dX2_name_18 : decode cX2_name 18 = .ok (.iconst 1, 1) := dk_4 (dk_at dksX2_name_0 18 rfl rfl)
theorem dX2_name_19 : decode cX2_name 19 = .ok (.invokevirtual 75, 3) := dk_182 0 75 (dk_at dksX2_name_0 19 rfl rfl)
theorem dX2_name_22 : decode cX2_name 22 = .ok (.athrow, 1) := dk_191 (dk_at dksX2_name_0 22 rfl rfl)
theorem dX2_name_23 : decode cX2_name 23 = .ok (.new 85, 3) := dk_187 0 85 (dk_at dksX2_name_1 0 rfl rfl)
theorem dX2_name_26 : decode cX2_name 26 = .ok (.dup, 1) := dk_89 (dk_at dksX2_name_1 3 rfl rfl)
theorem dX2_name_27 : decode cX2_name 27 = .ok (.bipush 8, 2) := dk_16 8 (dk_at dksX2_name_1 4 rfl rfl)
theorem dX2_name_29 : decode cX2_name 29 = .ok (.invokespecial 87, 3) := dk_183 0 87 (dk_at dksX2_name_1 6 rfl rfl)
theorem dX2_name_32 : decode cX2_name 32 = .ok (.astore_n 1, 1) := dk_76 (dk_at dksX2_name_1 9 rfl rfl)
theorem dX2_name_33 : decode cX2_name 33 = .ok (.aload_n 0, 1) := dk_42 (dk_at dksX2_name_1 10 rfl rfl)
theorem dX2_name_34 : decode cX2_name 34 = .ok (.getfield 28, 3) := dk_180 0 28 (dk_at dksX2_name_1 11 rfl rfl)
theorem dX2_name_37 : decode cX2_name 37 = .ok (.istore_n 2, 1) := dk_61 (dk_at dksX2_name_1 14 rfl rfl)
theorem dX2_name_38 : decode cX2_name 38 = .ok (.iload_n 2, 1) := dk_28 (dk_at dksX2_name_1 15 rfl rfl)
theorem dX2_name_39 : decode cX2_name 39 = .ok (.aload_n 0, 1) := dk_42 (dk_at dksX2_name_1 16 rfl rfl)
theorem dX2_name_40 : decode cX2_name 40 = .ok (.getfield 19, 3) := dk_180 0 19 (dk_at dksX2_name_1 17 rfl rfl)
theorem dX2_name_43 : decode cX2_name 43 = .ok (.if_icmp .ge 21, 3) := dk_162 0 21 (dk_at dksX2_name_1 20 rfl rfl)
theorem dX2_name_46 : decode cX2_name 46 = .ok (.aload_n 1, 1) := dk_43 (dk_at dksX2_name_1 23 rfl rfl)
theorem dX2_name_47 : decode cX2_name 47 = .ok (.aload_n 0, 1) := dk_42 (dk_at dksX2_name_2 0 rfl rfl)
theorem dX2_name_48 : decode cX2_name 48 = .ok (.getfield 9, 3) := dk_180 0 9 (dk_at dksX2_name_2 1 rfl rfl)
theorem dX2_name_51 : decode cX2_name 51 = .ok (.iload_n 2, 1) := dk_28 (dk_at dksX2_name_2 4 rfl rfl)
theorem dX2_name_52 : decode cX2_name 52 = .ok (.baload, 1) := dk_51 (dk_at dksX2_name_2 5 rfl rfl)
theorem dX2_name_53 : decode cX2_name 53 = .ok (.i2c, 1) := dk_146 (dk_at dksX2_name_2 6 rfl rfl)
theorem dX2_name_54 : decode cX2_name 54 = .ok (.invokevirtual 90, 3) := dk_182 0 90 (dk_at dksX2_name_2 7 rfl rfl)
theorem dX2_name_57 : decode cX2_name 57 = .ok (.pop, 1) := dk_87 (dk_at dksX2_name_2 10 rfl rfl)
theorem dX2_name_58 : decode cX2_name 58 = .ok (.iinc 2 1, 3) := dk_132 2 1 (dk_at dksX2_name_2 11 rfl rfl)
theorem dX2_name_61 : decode cX2_name 61 = .ok (.goto (-23), 3) := dk_167 255 233 (dk_at dksX2_name_2 14 rfl rfl)
theorem dX2_name_64 : decode cX2_name 64 = .ok (.aload_n 1, 1) := dk_43 (dk_at dksX2_name_2 17 rfl rfl)
theorem dX2_name_65 : decode cX2_name 65 = .ok (.invokevirtual 94, 3) := dk_182 0 94 (dk_at dksX2_name_2 18 rfl rfl)
theorem dX2_name_68 : decode cX2_name 68 = .ok (.areturn, 1) := dk_176 (dk_at dksX2_name_2 21 rfl rfl)
abbrev cX2_one : ByteArray := prog_21_method_15_code
def yX2_one : MethodName := ⟨RX2, "one", "(Ljava/lang/String;)I"⟩
def dkwX2_one_0 : List UInt8 := [42, 43, 182, 0, 71, 61, 28, 156, 0, 9, 42, 4, 182, 0, 75, 191, 42, 182, 0, 25, 28, 172]
abbrev dktX2_one_0 : List UInt8 := dkwX2_one_0 ++ []
theorem dksX2_one_0 : cX2_one.data.toList.drop 0 = dktX2_one_0 := by decide +kernel
theorem dX2_one_0 : decode cX2_one 0 = .ok (.aload_n 0, 1) := dk_42 (dk_at dksX2_one_0 0 rfl rfl)
theorem dX2_one_1 : decode cX2_one 1 = .ok (.aload_n 1, 1) := dk_43 (dk_at dksX2_one_0 1 rfl rfl)
theorem dX2_one_2 : decode cX2_one 2 = .ok (.invokevirtual 71, 3) := dk_182 0 71 (dk_at dksX2_one_0 2 rfl rfl)
theorem dX2_one_5 : decode cX2_one 5 = .ok (.istore_n 2, 1) := dk_61 (dk_at dksX2_one_0 5 rfl rfl)
theorem dX2_one_6 : decode cX2_one 6 = .ok (.iload_n 2, 1) := dk_28 (dk_at dksX2_one_0 6 rfl rfl)
theorem dX2_one_7 : decode cX2_one 7 = .ok (.ifCond .ge 9, 3) := dk_156 0 9 (dk_at dksX2_one_0 7 rfl rfl)
theorem dX2_one_10 : decode cX2_one 10 = .ok (.aload_n 0, 1) := dk_42 (dk_at dksX2_one_0 10 rfl rfl)
theorem dX2_one_11 : decode cX2_one 11 = .ok (.iconst 1, 1) := dk_4 (dk_at dksX2_one_0 11 rfl rfl)
theorem dX2_one_12 : decode cX2_one 12 = .ok (.invokevirtual 75, 3) := dk_182 0 75 (dk_at dksX2_one_0 12 rfl rfl)
theorem dX2_one_15 : decode cX2_one 15 = .ok (.athrow, 1) := dk_191 (dk_at dksX2_one_0 15 rfl rfl)
theorem dX2_one_16 : decode cX2_one 16 = .ok (.aload_n 0, 1) := dk_42 (dk_at dksX2_one_0 16 rfl rfl)
theorem dX2_one_17 : decode cX2_one 17 = .ok (.invokevirtual 25, 3) := dk_182 0 25 (dk_at dksX2_one_0 17 rfl rfl)
theorem dX2_one_20 : decode cX2_one 20 = .ok (.iload_n 2, 1) := dk_28 (dk_at dksX2_one_0 20 rfl rfl)
theorem dX2_one_21 : decode cX2_one 21 = .ok (.ireturn, 1) := dk_172 (dk_at dksX2_one_0 21 rfl rfl)
abbrev cX2_number : ByteArray := prog_21_method_14_code
def yX2_number : MethodName := ⟨RX2, "number", "(Ljava/lang/String;II)I"⟩
def dkwX2_number_0 : List UInt8 := [42, 43, 182, 0, 98, 42, 28, 29, 182, 0, 102, 172]
abbrev dktX2_number_0 : List UInt8 := dkwX2_number_0 ++ []
theorem dksX2_number_0 : cX2_number.data.toList.drop 0 = dktX2_number_0 := by decide +kernel
theorem dX2_number_0 : decode cX2_number 0 = .ok (.aload_n 0, 1) := dk_42 (dk_at dksX2_number_0 0 rfl rfl)
theorem dX2_number_1 : decode cX2_number 1 = .ok (.aload_n 1, 1) := dk_43 (dk_at dksX2_number_0 1 rfl rfl)
theorem dX2_number_2 : decode cX2_number 2 = .ok (.invokevirtual 98, 3) := dk_182 0 98 (dk_at dksX2_number_0 2 rfl rfl)
theorem dX2_number_5 : decode cX2_number 5 = .ok (.aload_n 0, 1) := dk_42 (dk_at dksX2_number_0 5 rfl rfl)
theorem dX2_number_6 : decode cX2_number 6 = .ok (.iload_n 2, 1) := dk_28 (dk_at dksX2_number_0 6 rfl rfl)
theorem dX2_number_7 : decode cX2_number 7 = .ok (.iload_n 3, 1) := dk_29 (dk_at dksX2_number_0 7 rfl rfl)
theorem dX2_number_8 : decode cX2_number 8 = .ok (.invokevirtual 102, 3) := dk_182 0 102 (dk_at dksX2_number_0 8 rfl rfl)
theorem dX2_number_11 : decode cX2_number 11 = .ok (.ireturn, 1) := dk_172 (dk_at dksX2_number_0 11 rfl rfl)
abbrev cX2_need : ByteArray := prog_21_method_9_code
def yX2_need : MethodName := ⟨RX2, "need", "(Ljava/lang/String;)V"⟩
def dkwX2_need_0 : List UInt8 := [42, 43, 182, 0, 71, 156, 0, 9, 42, 4, 182, 0, 75, 191, 42, 182, 0, 25, 177]
abbrev dktX2_need_0 : List UInt8 := dkwX2_need_0 ++ []
theorem dksX2_need_0 : cX2_need.data.toList.drop 0 = dktX2_need_0 := by decide +kernel
theorem dX2_need_0 : decode cX2_need 0 = .ok (.aload_n 0, 1) := dk_42 (dk_at dksX2_need_0 0 rfl rfl)
theorem dX2_need_1 : decode cX2_need 1 = .ok (.aload_n 1, 1) := dk_43 (dk_at dksX2_need_0 1 rfl rfl)
theorem dX2_need_2 : decode cX2_need 2 = .ok (.invokevirtual 71, 3) := dk_182 0 71 (dk_at dksX2_need_0 2 rfl rfl)
theorem dX2_need_5 : decode cX2_need 5 = .ok (.ifCond .ge 9, 3) := dk_156 0 9 (dk_at dksX2_need_0 5 rfl rfl)
theorem dX2_need_8 : decode cX2_need 8 = .ok (.aload_n 0, 1) := dk_42 (dk_at dksX2_need_0 8 rfl rfl)
theorem dX2_need_9 : decode cX2_need 9 = .ok (.iconst 1, 1) := dk_4 (dk_at dksX2_need_0 9 rfl rfl)
theorem dX2_need_10 : decode cX2_need 10 = .ok (.invokevirtual 75, 3) := dk_182 0 75 (dk_at dksX2_need_0 10 rfl rfl)
theorem dX2_need_13 : decode cX2_need 13 = .ok (.athrow, 1) := dk_191 (dk_at dksX2_need_0 13 rfl rfl)
theorem dX2_need_14 : decode cX2_need 14 = .ok (.aload_n 0, 1) := dk_42 (dk_at dksX2_need_0 14 rfl rfl)
theorem dX2_need_15 : decode cX2_need 15 = .ok (.invokevirtual 25, 3) := dk_182 0 25 (dk_at dksX2_need_0 15 rfl rfl)
theorem dX2_need_18 : decode cX2_need 18 = .ok (.return_, 1) := dk_177 (dk_at dksX2_need_0 18 rfl rfl)
abbrev cX2_number_2 : ByteArray := prog_21_method_12_code
def yX2_number_2 : MethodName := ⟨RX2, "number", "(II)I"⟩
def dkwX2_number_2_1 : List UInt8 := [180, 0, 45, 28, 164, 0, 9, 42, 7, 182, 0, 75, 191, 42, 180, 0, 45, 62, 42, 182, 0, 25, 29, 172]
abbrev dktX2_number_2_1 : List UInt8 := dkwX2_number_2_1 ++ []
def dkwX2_number_2_0 : List UInt8 := [42, 180, 0, 31, 5, 159, 0, 9, 42, 4, 182, 0, 75, 191, 42, 180, 0, 45, 27, 161, 0, 11, 42]
abbrev dktX2_number_2_0 : List UInt8 := dkwX2_number_2_0 ++ dktX2_number_2_1
theorem dksX2_number_2_0 : cX2_number_2.data.toList.drop 0 = dktX2_number_2_0 := by decide +kernel
theorem dksX2_number_2_1 : cX2_number_2.data.toList.drop 23 = dktX2_number_2_1 := dk_seg dksX2_number_2_0 23 rfl rfl
theorem dX2_number_2_0 : decode cX2_number_2 0 = .ok (.aload_n 0, 1) := dk_42 (dk_at dksX2_number_2_0 0 rfl rfl)
theorem dX2_number_2_1 : decode cX2_number_2 1 = .ok (.getfield 31, 3) := dk_180 0 31 (dk_at dksX2_number_2_0 1 rfl rfl)
theorem dX2_number_2_4 : decode cX2_number_2 4 = .ok (.iconst 2, 1) := dk_5 (dk_at dksX2_number_2_0 4 rfl rfl)
theorem dX2_number_2_5 : decode cX2_number_2 5 = .ok (.if_icmp .eq 9, 3) := dk_159 0 9 (dk_at dksX2_number_2_0 5 rfl rfl)
theorem dX2_number_2_8 : decode cX2_number_2 8 = .ok (.aload_n 0, 1) := dk_42 (dk_at dksX2_number_2_0 8 rfl rfl)
theorem dX2_number_2_9 : decode cX2_number_2 9 = .ok (.iconst 1, 1) := dk_4 (dk_at dksX2_number_2_0 9 rfl rfl)
theorem dX2_number_2_10 : decode cX2_number_2 10 = .ok (.invokevirtual 75, 3) := dk_182 0 75 (dk_at dksX2_number_2_0 10 rfl rfl)
theorem dX2_number_2_13 : decode cX2_number_2 13 = .ok (.athrow, 1) := dk_191 (dk_at dksX2_number_2_0 13 rfl rfl)
theorem dX2_number_2_14 : decode cX2_number_2 14 = .ok (.aload_n 0, 1) := dk_42 (dk_at dksX2_number_2_0 14 rfl rfl)
theorem dX2_number_2_15 : decode cX2_number_2 15 = .ok (.getfield 45, 3) := dk_180 0 45 (dk_at dksX2_number_2_0 15 rfl rfl)
theorem dX2_number_2_18 : decode cX2_number_2 18 = .ok (.iload_n 1, 1) := dk_27 (dk_at dksX2_number_2_0 18 rfl rfl)
theorem dX2_number_2_19 : decode cX2_number_2 19 = .ok (.if_icmp .lt 11, 3) := dk_161 0 11 (dk_at dksX2_number_2_0 19 rfl rfl)
theorem dX2_number_2_22 : decode cX2_number_2 22 = .ok (.aload_n 0, 1) := dk_42 (dk_at dksX2_number_2_0 22 rfl rfl)
theorem dX2_number_2_23 : decode cX2_number_2 23 = .ok (.getfield 45, 3) := dk_180 0 45 (dk_at dksX2_number_2_1 0 rfl rfl)
theorem dX2_number_2_26 : decode cX2_number_2 26 = .ok (.iload_n 2, 1) := dk_28 (dk_at dksX2_number_2_1 3 rfl rfl)
theorem dX2_number_2_27 : decode cX2_number_2 27 = .ok (.if_icmp .le 9, 3) := dk_164 0 9 (dk_at dksX2_number_2_1 4 rfl rfl)
theorem dX2_number_2_30 : decode cX2_number_2 30 = .ok (.aload_n 0, 1) := dk_42 (dk_at dksX2_number_2_1 7 rfl rfl)
theorem dX2_number_2_31 : decode cX2_number_2 31 = .ok (.iconst 4, 1) := dk_7 (dk_at dksX2_number_2_1 8 rfl rfl)
theorem dX2_number_2_32 : decode cX2_number_2 32 = .ok (.invokevirtual 75, 3) := dk_182 0 75 (dk_at dksX2_number_2_1 9 rfl rfl)
theorem dX2_number_2_35 : decode cX2_number_2 35 = .ok (.athrow, 1) := dk_191 (dk_at dksX2_number_2_1 12 rfl rfl)
theorem dX2_number_2_36 : decode cX2_number_2 36 = .ok (.aload_n 0, 1) := dk_42 (dk_at dksX2_number_2_1 13 rfl rfl)
theorem dX2_number_2_37 : decode cX2_number_2 37 = .ok (.getfield 45, 3) := dk_180 0 45 (dk_at dksX2_number_2_1 14 rfl rfl)
theorem dX2_number_2_40 : decode cX2_number_2 40 = .ok (.istore_n 3, 1) := dk_62 (dk_at dksX2_number_2_1 17 rfl rfl)
theorem dX2_number_2_41 : decode cX2_number_2 41 = .ok (.aload_n 0, 1) := dk_42 (dk_at dksX2_number_2_1 18 rfl rfl)
theorem dX2_number_2_42 : decode cX2_number_2 42 = .ok (.invokevirtual 25, 3) := dk_182 0 25 (dk_at dksX2_number_2_1 19 rfl rfl)
theorem dX2_number_2_45 : decode cX2_number_2 45 = .ok (.iload_n 3, 1) := dk_29 (dk_at dksX2_number_2_1 22 rfl rfl)
theorem dX2_number_2_46 : decode cX2_number_2 46 = .ok (.ireturn, 1) := dk_172 (dk_at dksX2_number_2_1 23 rfl rfl)
abbrev cX2_person : ByteArray := prog_21_method_17_code
def yX2_person : MethodName := ⟨RX2, "person", "()I"⟩
def dkwX2_person_0 : List UInt8 := [42, 180, 0, 113, 42, 182, 0, 117, 182, 0, 120, 60, 27, 156, 0, 9, 42, 5, 182, 0, 75, 191, 27, 172]
abbrev dktX2_person_0 : List UInt8 := dkwX2_person_0 ++ []
theorem dksX2_person_0 : cX2_person.data.toList.drop 0 = dktX2_person_0 := by decide +kernel
theorem dX2_person_0 : decode cX2_person 0 = .ok (.aload_n 0, 1) := dk_42 (dk_at dksX2_person_0 0 rfl rfl)
theorem dX2_person_1 : decode cX2_person 1 = .ok (.getfield 113, 3) := dk_180 0 113 (dk_at dksX2_person_0 1 rfl rfl)
theorem dX2_person_4 : decode cX2_person 4 = .ok (.aload_n 0, 1) := dk_42 (dk_at dksX2_person_0 4 rfl rfl)
theorem dX2_person_5 : decode cX2_person 5 = .ok (.invokevirtual 117, 3) := dk_182 0 117 (dk_at dksX2_person_0 5 rfl rfl)
theorem dX2_person_8 : decode cX2_person 8 = .ok (.invokevirtual 120, 3) := dk_182 0 120 (dk_at dksX2_person_0 8 rfl rfl)
theorem dX2_person_11 : decode cX2_person 11 = .ok (.istore_n 1, 1) := dk_60 (dk_at dksX2_person_0 11 rfl rfl)
theorem dX2_person_12 : decode cX2_person 12 = .ok (.iload_n 1, 1) := dk_27 (dk_at dksX2_person_0 12 rfl rfl)
theorem dX2_person_13 : decode cX2_person 13 = .ok (.ifCond .ge 9, 3) := dk_156 0 9 (dk_at dksX2_person_0 13 rfl rfl)
theorem dX2_person_16 : decode cX2_person 16 = .ok (.aload_n 0, 1) := dk_42 (dk_at dksX2_person_0 16 rfl rfl)
theorem dX2_person_17 : decode cX2_person 17 = .ok (.iconst 2, 1) := dk_5 (dk_at dksX2_person_0 17 rfl rfl)
theorem dX2_person_18 : decode cX2_person 18 = .ok (.invokevirtual 75, 3) := dk_182 0 75 (dk_at dksX2_person_0 18 rfl rfl)
theorem dX2_person_21 : decode cX2_person 21 = .ok (.athrow, 1) := dk_191 (dk_at dksX2_person_0 21 rfl rfl)
theorem dX2_person_22 : decode cX2_person 22 = .ok (.iload_n 1, 1) := dk_27 (dk_at dksX2_person_0 22 rfl rfl)
theorem dX2_person_23 : decode cX2_person 23 = .ok (.ireturn, 1) := dk_172 (dk_at dksX2_person_0 23 rfl rfl)
abbrev cX2_worked : ByteArray := prog_21_method_16_code
def yX2_worked : MethodName := ⟨RX2, "worked", "(Ljava/lang/String;)LBorrowedLives$Expression;"⟩
def dkwX2_worked_0 : List UInt8 := [42, 43, 181, 0, 105, 42, 182, 0, 109, 176]
abbrev dktX2_worked_0 : List UInt8 := dkwX2_worked_0 ++ []
theorem dksX2_worked_0 : cX2_worked.data.toList.drop 0 = dktX2_worked_0 := by decide +kernel
theorem dX2_worked_0 : decode cX2_worked 0 = .ok (.aload_n 0, 1) := dk_42 (dk_at dksX2_worked_0 0 rfl rfl)
theorem dX2_worked_1 : decode cX2_worked 1 = .ok (.aload_n 1, 1) := dk_43 (dk_at dksX2_worked_0 1 rfl rfl)
theorem dX2_worked_2 : decode cX2_worked 2 = .ok (.putfield 105, 3) := dk_181 0 105 (dk_at dksX2_worked_0 2 rfl rfl)
theorem dX2_worked_5 : decode cX2_worked 5 = .ok (.aload_n 0, 1) := dk_42 (dk_at dksX2_worked_0 5 rfl rfl)
theorem dX2_worked_6 : decode cX2_worked 6 = .ok (.invokevirtual 109, 3) := dk_182 0 109 (dk_at dksX2_worked_0 6 rfl rfl)
theorem dX2_worked_9 : decode cX2_worked 9 = .ok (.areturn, 1) := dk_176 (dk_at dksX2_worked_0 9 rfl rfl)
abbrev cX2_expression : ByteArray := prog_21_method_25_code
def yX2_expression : MethodName := ⟨RX2, "expression", "()LBorrowedLives$Expression;"⟩
def dkwX2_expression_2 : List UInt8 := [167, 255, 214]
abbrev dktX2_expression_2 : List UInt8 := dkwX2_expression_2 ++ []
def dkwX2_expression_1 : List UInt8 := [187, 1, 7, 89, 28, 154, 0, 8, 16, 38, 167, 0, 5, 16, 124, 43, 42, 182, 1, 2, 183, 1, 9, 76]
abbrev dktX2_expression_1 : List UInt8 := dkwX2_expression_1 ++ dktX2_expression_2
def dkwX2_expression_0 : List UInt8 := [42, 182, 1, 2, 76, 42, 19, 1, 5, 182, 0, 71, 61, 28, 156, 0, 5, 43, 176, 42, 182, 0, 25]
abbrev dktX2_expression_0 : List UInt8 := dkwX2_expression_0 ++ dktX2_expression_1
theorem dksX2_expression_0 : cX2_expression.data.toList.drop 0 = dktX2_expression_0 := by decide +kernel
theorem dksX2_expression_1 : cX2_expression.data.toList.drop 23 = dktX2_expression_1 := dk_seg dksX2_expression_0 23 rfl rfl
theorem dksX2_expression_2 : cX2_expression.data.toList.drop 47 = dktX2_expression_2 := dk_seg dksX2_expression_1 24 rfl rfl
theorem dX2_expression_0 : decode cX2_expression 0 = .ok (.aload_n 0, 1) := dk_42 (dk_at dksX2_expression_0 0 rfl rfl)
theorem dX2_expression_1 : decode cX2_expression 1 = .ok (.invokevirtual 258, 3) := dk_182 1 2 (dk_at dksX2_expression_0 1 rfl rfl)
theorem dX2_expression_4 : decode cX2_expression 4 = .ok (.astore_n 1, 1) := dk_76 (dk_at dksX2_expression_0 4 rfl rfl)
theorem dX2_expression_5 : decode cX2_expression 5 = .ok (.aload_n 0, 1) := dk_42 (dk_at dksX2_expression_0 5 rfl rfl)
theorem dX2_expression_6 : decode cX2_expression 6 = .ok (.ldc_w 261, 3) := dk_19 1 5 (dk_at dksX2_expression_0 6 rfl rfl)
theorem dX2_expression_9 : decode cX2_expression 9 = .ok (.invokevirtual 71, 3) := dk_182 0 71 (dk_at dksX2_expression_0 9 rfl rfl)
theorem dX2_expression_12 : decode cX2_expression 12 = .ok (.istore_n 2, 1) := dk_61 (dk_at dksX2_expression_0 12 rfl rfl)
theorem dX2_expression_13 : decode cX2_expression 13 = .ok (.iload_n 2, 1) := dk_28 (dk_at dksX2_expression_0 13 rfl rfl)
theorem dX2_expression_14 : decode cX2_expression 14 = .ok (.ifCond .ge 5, 3) := dk_156 0 5 (dk_at dksX2_expression_0 14 rfl rfl)
theorem dX2_expression_17 : decode cX2_expression 17 = .ok (.aload_n 1, 1) := dk_43 (dk_at dksX2_expression_0 17 rfl rfl)
theorem dX2_expression_18 : decode cX2_expression 18 = .ok (.areturn, 1) := dk_176 (dk_at dksX2_expression_0 18 rfl rfl)
theorem dX2_expression_19 : decode cX2_expression 19 = .ok (.aload_n 0, 1) := dk_42 (dk_at dksX2_expression_0 19 rfl rfl)
theorem dX2_expression_20 : decode cX2_expression 20 = .ok (.invokevirtual 25, 3) := dk_182 0 25 (dk_at dksX2_expression_0 20 rfl rfl)
theorem dX2_expression_23 : decode cX2_expression 23 = .ok (.new 263, 3) := dk_187 1 7 (dk_at dksX2_expression_1 0 rfl rfl)
theorem dX2_expression_26 : decode cX2_expression 26 = .ok (.dup, 1) := dk_89 (dk_at dksX2_expression_1 3 rfl rfl)
theorem dX2_expression_27 : decode cX2_expression 27 = .ok (.iload_n 2, 1) := dk_28 (dk_at dksX2_expression_1 4 rfl rfl)
theorem dX2_expression_28 : decode cX2_expression 28 = .ok (.ifCond .ne 8, 3) := dk_154 0 8 (dk_at dksX2_expression_1 5 rfl rfl)
theorem dX2_expression_31 : decode cX2_expression 31 = .ok (.bipush 38, 2) := dk_16 38 (dk_at dksX2_expression_1 8 rfl rfl)
theorem dX2_expression_33 : decode cX2_expression 33 = .ok (.goto 5, 3) := dk_167 0 5 (dk_at dksX2_expression_1 10 rfl rfl)
theorem dX2_expression_36 : decode cX2_expression 36 = .ok (.bipush 124, 2) := dk_16 124 (dk_at dksX2_expression_1 13 rfl rfl)
theorem dX2_expression_38 : decode cX2_expression 38 = .ok (.aload_n 1, 1) := dk_43 (dk_at dksX2_expression_1 15 rfl rfl)
theorem dX2_expression_39 : decode cX2_expression 39 = .ok (.aload_n 0, 1) := dk_42 (dk_at dksX2_expression_1 16 rfl rfl)
theorem dX2_expression_40 : decode cX2_expression 40 = .ok (.invokevirtual 258, 3) := dk_182 1 2 (dk_at dksX2_expression_1 17 rfl rfl)
theorem dX2_expression_43 : decode cX2_expression 43 = .ok (.invokespecial 265, 3) := dk_183 1 9 (dk_at dksX2_expression_1 20 rfl rfl)
theorem dX2_expression_46 : decode cX2_expression 46 = .ok (.astore_n 1, 1) := dk_76 (dk_at dksX2_expression_1 23 rfl rfl)
theorem dX2_expression_47 : decode cX2_expression 47 = .ok (.goto (-42), 3) := dk_167 255 214 (dk_at dksX2_expression_2 0 rfl rfl)
abbrev cX2_test : ByteArray := prog_21_method_26_code
def yX2_test : MethodName := ⟨RX2, "test", "()LBorrowedLives$Expression;"⟩
def dkwX2_test_2 : List UInt8 := [182, 0, 25, 187, 1, 7, 89, 28, 43, 42, 182, 1, 12, 183, 1, 9, 176]
abbrev dktX2_test_2 : List UInt8 := dkwX2_test_2 ++ []
def dkwX2_test_1 : List UInt8 := [182, 0, 79, 153, 0, 8, 16, 61, 167, 0, 5, 16, 32, 61, 28, 16, 32, 160, 0, 5, 43, 176, 42]
abbrev dktX2_test_1 : List UInt8 := dkwX2_test_1 ++ dktX2_test_2
def dkwX2_test_0 : List UInt8 := [42, 182, 1, 12, 76, 42, 16, 60, 182, 0, 79, 153, 0, 8, 16, 60, 167, 0, 19, 42, 16, 61]
abbrev dktX2_test_0 : List UInt8 := dkwX2_test_0 ++ dktX2_test_1
theorem dksX2_test_0 : cX2_test.data.toList.drop 0 = dktX2_test_0 := by decide +kernel
theorem dksX2_test_1 : cX2_test.data.toList.drop 22 = dktX2_test_1 := dk_seg dksX2_test_0 22 rfl rfl
theorem dksX2_test_2 : cX2_test.data.toList.drop 45 = dktX2_test_2 := dk_seg dksX2_test_1 23 rfl rfl
theorem dX2_test_0 : decode cX2_test 0 = .ok (.aload_n 0, 1) := dk_42 (dk_at dksX2_test_0 0 rfl rfl)
theorem dX2_test_1 : decode cX2_test 1 = .ok (.invokevirtual 268, 3) := dk_182 1 12 (dk_at dksX2_test_0 1 rfl rfl)
theorem dX2_test_4 : decode cX2_test 4 = .ok (.astore_n 1, 1) := dk_76 (dk_at dksX2_test_0 4 rfl rfl)
theorem dX2_test_5 : decode cX2_test 5 = .ok (.aload_n 0, 1) := dk_42 (dk_at dksX2_test_0 5 rfl rfl)
theorem dX2_test_6 : decode cX2_test 6 = .ok (.bipush 60, 2) := dk_16 60 (dk_at dksX2_test_0 6 rfl rfl)
theorem dX2_test_8 : decode cX2_test 8 = .ok (.invokevirtual 79, 3) := dk_182 0 79 (dk_at dksX2_test_0 8 rfl rfl)
theorem dX2_test_11 : decode cX2_test 11 = .ok (.ifCond .eq 8, 3) := dk_153 0 8 (dk_at dksX2_test_0 11 rfl rfl)
theorem dX2_test_14 : decode cX2_test 14 = .ok (.bipush 60, 2) := dk_16 60 (dk_at dksX2_test_0 14 rfl rfl)
theorem dX2_test_16 : decode cX2_test 16 = .ok (.goto 19, 3) := dk_167 0 19 (dk_at dksX2_test_0 16 rfl rfl)
theorem dX2_test_19 : decode cX2_test 19 = .ok (.aload_n 0, 1) := dk_42 (dk_at dksX2_test_0 19 rfl rfl)
theorem dX2_test_20 : decode cX2_test 20 = .ok (.bipush 61, 2) := dk_16 61 (dk_at dksX2_test_0 20 rfl rfl)
theorem dX2_test_22 : decode cX2_test 22 = .ok (.invokevirtual 79, 3) := dk_182 0 79 (dk_at dksX2_test_1 0 rfl rfl)
theorem dX2_test_25 : decode cX2_test 25 = .ok (.ifCond .eq 8, 3) := dk_153 0 8 (dk_at dksX2_test_1 3 rfl rfl)
theorem dX2_test_28 : decode cX2_test 28 = .ok (.bipush 61, 2) := dk_16 61 (dk_at dksX2_test_1 6 rfl rfl)
theorem dX2_test_30 : decode cX2_test 30 = .ok (.goto 5, 3) := dk_167 0 5 (dk_at dksX2_test_1 8 rfl rfl)
theorem dX2_test_33 : decode cX2_test 33 = .ok (.bipush 32, 2) := dk_16 32 (dk_at dksX2_test_1 11 rfl rfl)
theorem dX2_test_35 : decode cX2_test 35 = .ok (.istore_n 2, 1) := dk_61 (dk_at dksX2_test_1 13 rfl rfl)
theorem dX2_test_36 : decode cX2_test 36 = .ok (.iload_n 2, 1) := dk_28 (dk_at dksX2_test_1 14 rfl rfl)
theorem dX2_test_37 : decode cX2_test 37 = .ok (.bipush 32, 2) := dk_16 32 (dk_at dksX2_test_1 15 rfl rfl)
theorem dX2_test_39 : decode cX2_test 39 = .ok (.if_icmp .ne 5, 3) := dk_160 0 5 (dk_at dksX2_test_1 17 rfl rfl)
theorem dX2_test_42 : decode cX2_test 42 = .ok (.aload_n 1, 1) := dk_43 (dk_at dksX2_test_1 20 rfl rfl)
theorem dX2_test_43 : decode cX2_test 43 = .ok (.areturn, 1) := dk_176 (dk_at dksX2_test_1 21 rfl rfl)
theorem dX2_test_44 : decode cX2_test 44 = .ok (.aload_n 0, 1) := dk_42 (dk_at dksX2_test_1 22 rfl rfl)
theorem dX2_test_45 : decode cX2_test 45 = .ok (.invokevirtual 25, 3) := dk_182 0 25 (dk_at dksX2_test_2 0 rfl rfl)
theorem dX2_test_48 : decode cX2_test 48 = .ok (.new 263, 3) := dk_187 1 7 (dk_at dksX2_test_2 3 rfl rfl)
theorem dX2_test_51 : decode cX2_test 51 = .ok (.dup, 1) := dk_89 (dk_at dksX2_test_2 6 rfl rfl)
theorem dX2_test_52 : decode cX2_test 52 = .ok (.iload_n 2, 1) := dk_28 (dk_at dksX2_test_2 7 rfl rfl)
theorem dX2_test_53 : decode cX2_test 53 = .ok (.aload_n 1, 1) := dk_43 (dk_at dksX2_test_2 8 rfl rfl)
theorem dX2_test_54 : decode cX2_test 54 = .ok (.aload_n 0, 1) := dk_42 (dk_at dksX2_test_2 9 rfl rfl)
theorem dX2_test_55 : decode cX2_test 55 = .ok (.invokevirtual 268, 3) := dk_182 1 12 (dk_at dksX2_test_2 10 rfl rfl)
theorem dX2_test_58 : decode cX2_test 58 = .ok (.invokespecial 265, 3) := dk_183 1 9 (dk_at dksX2_test_2 13 rfl rfl)
theorem dX2_test_61 : decode cX2_test 61 = .ok (.areturn, 1) := dk_176 (dk_at dksX2_test_2 16 rfl rfl)
abbrev cX2_sum : ByteArray := prog_21_method_27_code
def yX2_sum : MethodName := ⟨RX2, "sum", "()LBorrowedLives$Expression;"⟩
def dkwX2_sum_2 : List UInt8 := [28, 43, 42, 182, 1, 15, 183, 1, 9, 76, 167, 255, 203, 43, 176]
abbrev dktX2_sum_2 : List UInt8 := dkwX2_sum_2 ++ []
def dkwX2_sum_1 : List UInt8 := [16, 43, 182, 0, 79, 153, 0, 8, 16, 43, 167, 0, 5, 16, 45, 61, 42, 182, 0, 25, 187, 1, 7, 89]
abbrev dktX2_sum_1 : List UInt8 := dkwX2_sum_1 ++ dktX2_sum_2
def dkwX2_sum_0 : List UInt8 := [42, 182, 1, 15, 76, 42, 16, 43, 182, 0, 79, 154, 0, 12, 42, 16, 45, 182, 0, 79, 153, 0, 41, 42]
abbrev dktX2_sum_0 : List UInt8 := dkwX2_sum_0 ++ dktX2_sum_1
theorem dksX2_sum_0 : cX2_sum.data.toList.drop 0 = dktX2_sum_0 := by decide +kernel
theorem dksX2_sum_1 : cX2_sum.data.toList.drop 24 = dktX2_sum_1 := dk_seg dksX2_sum_0 24 rfl rfl
theorem dksX2_sum_2 : cX2_sum.data.toList.drop 48 = dktX2_sum_2 := dk_seg dksX2_sum_1 24 rfl rfl
theorem dX2_sum_0 : decode cX2_sum 0 = .ok (.aload_n 0, 1) := dk_42 (dk_at dksX2_sum_0 0 rfl rfl)
theorem dX2_sum_1 : decode cX2_sum 1 = .ok (.invokevirtual 271, 3) := dk_182 1 15 (dk_at dksX2_sum_0 1 rfl rfl)
theorem dX2_sum_4 : decode cX2_sum 4 = .ok (.astore_n 1, 1) := dk_76 (dk_at dksX2_sum_0 4 rfl rfl)
theorem dX2_sum_5 : decode cX2_sum 5 = .ok (.aload_n 0, 1) := dk_42 (dk_at dksX2_sum_0 5 rfl rfl)
theorem dX2_sum_6 : decode cX2_sum 6 = .ok (.bipush 43, 2) := dk_16 43 (dk_at dksX2_sum_0 6 rfl rfl)
theorem dX2_sum_8 : decode cX2_sum 8 = .ok (.invokevirtual 79, 3) := dk_182 0 79 (dk_at dksX2_sum_0 8 rfl rfl)
theorem dX2_sum_11 : decode cX2_sum 11 = .ok (.ifCond .ne 12, 3) := dk_154 0 12 (dk_at dksX2_sum_0 11 rfl rfl)
theorem dX2_sum_14 : decode cX2_sum 14 = .ok (.aload_n 0, 1) := dk_42 (dk_at dksX2_sum_0 14 rfl rfl)
theorem dX2_sum_15 : decode cX2_sum 15 = .ok (.bipush 45, 2) := dk_16 45 (dk_at dksX2_sum_0 15 rfl rfl)
theorem dX2_sum_17 : decode cX2_sum 17 = .ok (.invokevirtual 79, 3) := dk_182 0 79 (dk_at dksX2_sum_0 17 rfl rfl)
theorem dX2_sum_20 : decode cX2_sum 20 = .ok (.ifCond .eq 41, 3) := dk_153 0 41 (dk_at dksX2_sum_0 20 rfl rfl)
theorem dX2_sum_23 : decode cX2_sum 23 = .ok (.aload_n 0, 1) := dk_42 (dk_at dksX2_sum_0 23 rfl rfl)
theorem dX2_sum_24 : decode cX2_sum 24 = .ok (.bipush 43, 2) := dk_16 43 (dk_at dksX2_sum_1 0 rfl rfl)
theorem dX2_sum_26 : decode cX2_sum 26 = .ok (.invokevirtual 79, 3) := dk_182 0 79 (dk_at dksX2_sum_1 2 rfl rfl)
theorem dX2_sum_29 : decode cX2_sum 29 = .ok (.ifCond .eq 8, 3) := dk_153 0 8 (dk_at dksX2_sum_1 5 rfl rfl)
theorem dX2_sum_32 : decode cX2_sum 32 = .ok (.bipush 43, 2) := dk_16 43 (dk_at dksX2_sum_1 8 rfl rfl)
theorem dX2_sum_34 : decode cX2_sum 34 = .ok (.goto 5, 3) := dk_167 0 5 (dk_at dksX2_sum_1 10 rfl rfl)
theorem dX2_sum_37 : decode cX2_sum 37 = .ok (.bipush 45, 2) := dk_16 45 (dk_at dksX2_sum_1 13 rfl rfl)
theorem dX2_sum_39 : decode cX2_sum 39 = .ok (.istore_n 2, 1) := dk_61 (dk_at dksX2_sum_1 15 rfl rfl)
theorem dX2_sum_40 : decode cX2_sum 40 = .ok (.aload_n 0, 1) := dk_42 (dk_at dksX2_sum_1 16 rfl rfl)
theorem dX2_sum_41 : decode cX2_sum 41 = .ok (.invokevirtual 25, 3) := dk_182 0 25 (dk_at dksX2_sum_1 17 rfl rfl)
theorem dX2_sum_44 : decode cX2_sum 44 = .ok (.new 263, 3) := dk_187 1 7 (dk_at dksX2_sum_1 20 rfl rfl)
theorem dX2_sum_47 : decode cX2_sum 47 = .ok (.dup, 1) := dk_89 (dk_at dksX2_sum_1 23 rfl rfl)
theorem dX2_sum_48 : decode cX2_sum 48 = .ok (.iload_n 2, 1) := dk_28 (dk_at dksX2_sum_2 0 rfl rfl)
theorem dX2_sum_49 : decode cX2_sum 49 = .ok (.aload_n 1, 1) := dk_43 (dk_at dksX2_sum_2 1 rfl rfl)
theorem dX2_sum_50 : decode cX2_sum 50 = .ok (.aload_n 0, 1) := dk_42 (dk_at dksX2_sum_2 2 rfl rfl)
theorem dX2_sum_51 : decode cX2_sum 51 = .ok (.invokevirtual 271, 3) := dk_182 1 15 (dk_at dksX2_sum_2 3 rfl rfl)
theorem dX2_sum_54 : decode cX2_sum 54 = .ok (.invokespecial 265, 3) := dk_183 1 9 (dk_at dksX2_sum_2 6 rfl rfl)
theorem dX2_sum_57 : decode cX2_sum 57 = .ok (.astore_n 1, 1) := dk_76 (dk_at dksX2_sum_2 9 rfl rfl)
theorem dX2_sum_58 : decode cX2_sum 58 = .ok (.goto (-53), 3) := dk_167 255 203 (dk_at dksX2_sum_2 10 rfl rfl)
theorem dX2_sum_61 : decode cX2_sum 61 = .ok (.aload_n 1, 1) := dk_43 (dk_at dksX2_sum_2 13 rfl rfl)
theorem dX2_sum_62 : decode cX2_sum 62 = .ok (.areturn, 1) := dk_176 (dk_at dksX2_sum_2 14 rfl rfl)
abbrev cX2_product : ByteArray := prog_21_method_28_code
def yX2_product : MethodName := ⟨RX2, "product", "()LBorrowedLives$Expression;"⟩
def dkwX2_product_1 : List UInt8 := [43, 42, 182, 1, 18, 183, 1, 9, 76, 167, 255, 228, 43, 176]
abbrev dktX2_product_1 : List UInt8 := dkwX2_product_1 ++ []
def dkwX2_product_0 : List UInt8 := [42, 182, 1, 18, 76, 42, 16, 42, 182, 0, 79, 153, 0, 25, 42, 182, 0, 25, 187, 1, 7, 89, 16, 42]
abbrev dktX2_product_0 : List UInt8 := dkwX2_product_0 ++ dktX2_product_1
theorem dksX2_product_0 : cX2_product.data.toList.drop 0 = dktX2_product_0 := by decide +kernel
theorem dksX2_product_1 : cX2_product.data.toList.drop 24 = dktX2_product_1 := dk_seg dksX2_product_0 24 rfl rfl
theorem dX2_product_0 : decode cX2_product 0 = .ok (.aload_n 0, 1) := dk_42 (dk_at dksX2_product_0 0 rfl rfl)
theorem dX2_product_1 : decode cX2_product 1 = .ok (.invokevirtual 274, 3) := dk_182 1 18 (dk_at dksX2_product_0 1 rfl rfl)
theorem dX2_product_4 : decode cX2_product 4 = .ok (.astore_n 1, 1) := dk_76 (dk_at dksX2_product_0 4 rfl rfl)
theorem dX2_product_5 : decode cX2_product 5 = .ok (.aload_n 0, 1) := dk_42 (dk_at dksX2_product_0 5 rfl rfl)
theorem dX2_product_6 : decode cX2_product 6 = .ok (.bipush 42, 2) := dk_16 42 (dk_at dksX2_product_0 6 rfl rfl)
theorem dX2_product_8 : decode cX2_product 8 = .ok (.invokevirtual 79, 3) := dk_182 0 79 (dk_at dksX2_product_0 8 rfl rfl)
theorem dX2_product_11 : decode cX2_product 11 = .ok (.ifCond .eq 25, 3) := dk_153 0 25 (dk_at dksX2_product_0 11 rfl rfl)
theorem dX2_product_14 : decode cX2_product 14 = .ok (.aload_n 0, 1) := dk_42 (dk_at dksX2_product_0 14 rfl rfl)
theorem dX2_product_15 : decode cX2_product 15 = .ok (.invokevirtual 25, 3) := dk_182 0 25 (dk_at dksX2_product_0 15 rfl rfl)
theorem dX2_product_18 : decode cX2_product 18 = .ok (.new 263, 3) := dk_187 1 7 (dk_at dksX2_product_0 18 rfl rfl)
theorem dX2_product_21 : decode cX2_product 21 = .ok (.dup, 1) := dk_89 (dk_at dksX2_product_0 21 rfl rfl)
theorem dX2_product_22 : decode cX2_product 22 = .ok (.bipush 42, 2) := dk_16 42 (dk_at dksX2_product_0 22 rfl rfl)
theorem dX2_product_24 : decode cX2_product 24 = .ok (.aload_n 1, 1) := dk_43 (dk_at dksX2_product_1 0 rfl rfl)
theorem dX2_product_25 : decode cX2_product 25 = .ok (.aload_n 0, 1) := dk_42 (dk_at dksX2_product_1 1 rfl rfl)
theorem dX2_product_26 : decode cX2_product 26 = .ok (.invokevirtual 274, 3) := dk_182 1 18 (dk_at dksX2_product_1 2 rfl rfl)
theorem dX2_product_29 : decode cX2_product 29 = .ok (.invokespecial 265, 3) := dk_183 1 9 (dk_at dksX2_product_1 5 rfl rfl)
theorem dX2_product_32 : decode cX2_product 32 = .ok (.astore_n 1, 1) := dk_76 (dk_at dksX2_product_1 8 rfl rfl)
theorem dX2_product_33 : decode cX2_product 33 = .ok (.goto (-28), 3) := dk_167 255 228 (dk_at dksX2_product_1 9 rfl rfl)
theorem dX2_product_36 : decode cX2_product 36 = .ok (.aload_n 1, 1) := dk_43 (dk_at dksX2_product_1 12 rfl rfl)
theorem dX2_product_37 : decode cX2_product 37 = .ok (.areturn, 1) := dk_176 (dk_at dksX2_product_1 13 rfl rfl)
abbrev cX2_part : ByteArray := prog_21_method_29_code
def yX2_part : MethodName := ⟨RX2, "part", "()LBorrowedLives$Expression;"⟩
def dkwX2_part_7 : List UInt8 := [181, 0, 22, 25, 4, 176]
abbrev dktX2_part_7 : List UInt8 := dkwX2_part_7 ++ []
def dkwX2_part_6 : List UInt8 := [182, 0, 109, 58, 4, 29, 153, 0, 9, 42, 16, 41, 182, 0, 160, 42, 89, 180, 0, 22, 4, 100]
abbrev dktX2_part_6 : List UInt8 := dkwX2_part_6 ++ dktX2_part_7
def dkwX2_part_5 : List UInt8 := [181, 0, 22, 28, 153, 0, 17, 187, 1, 29, 89, 42, 182, 1, 18, 183, 1, 31, 167, 0, 7, 42]
abbrev dktX2_part_5 : List UInt8 := dkwX2_part_5 ++ dktX2_part_6
def dkwX2_part_4 : List UInt8 := [42, 182, 0, 25, 27, 155, 0, 12, 187, 1, 26, 89, 27, 183, 1, 28, 176, 42, 89, 180, 0, 22, 4, 96]
abbrev dktX2_part_4 : List UInt8 := dkwX2_part_4 ++ dktX2_part_5
def dkwX2_part_3 : List UInt8 := [42, 180, 0, 31, 5, 160, 0, 19, 187, 1, 23, 89, 42, 3, 17, 39, 15, 182, 0, 102, 183, 1, 25, 176]
abbrev dktX2_part_3 : List UInt8 := dkwX2_part_3 ++ dktX2_part_4
def dkwX2_part_2 : List UInt8 := [5, 159, 0, 9, 42, 4, 182, 0, 75, 191, 42, 180, 0, 22, 8, 160, 0, 9, 42, 8, 182, 0, 75, 191]
abbrev dktX2_part_2 : List UInt8 := dkwX2_part_2 ++ dktX2_part_3
def dkwX2_part_1 : List UInt8 := [61, 42, 16, 40, 182, 0, 79, 62, 27, 156, 0, 25, 28, 154, 0, 21, 29, 154, 0, 17, 42, 180, 0, 31]
abbrev dktX2_part_1 : List UInt8 := dkwX2_part_1 ++ dktX2_part_2
def dkwX2_part_0 : List UInt8 := [42, 42, 180, 0, 105, 182, 0, 71, 60, 42, 19, 1, 21, 182, 0, 71, 155, 0, 7, 4, 167, 0, 4, 3]
abbrev dktX2_part_0 : List UInt8 := dkwX2_part_0 ++ dktX2_part_1
theorem dksX2_part_0 : cX2_part.data.toList.drop 0 = dktX2_part_0 := by decide +kernel
theorem dksX2_part_1 : cX2_part.data.toList.drop 24 = dktX2_part_1 := dk_seg dksX2_part_0 24 rfl rfl
theorem dksX2_part_2 : cX2_part.data.toList.drop 48 = dktX2_part_2 := dk_seg dksX2_part_1 24 rfl rfl
theorem dksX2_part_3 : cX2_part.data.toList.drop 72 = dktX2_part_3 := dk_seg dksX2_part_2 24 rfl rfl
theorem dksX2_part_4 : cX2_part.data.toList.drop 96 = dktX2_part_4 := dk_seg dksX2_part_3 24 rfl rfl
theorem dksX2_part_5 : cX2_part.data.toList.drop 120 = dktX2_part_5 := dk_seg dksX2_part_4 24 rfl rfl
theorem dksX2_part_6 : cX2_part.data.toList.drop 142 = dktX2_part_6 := dk_seg dksX2_part_5 22 rfl rfl
theorem dksX2_part_7 : cX2_part.data.toList.drop 164 = dktX2_part_7 := dk_seg dksX2_part_6 22 rfl rfl
theorem dX2_part_0 : decode cX2_part 0 = .ok (.aload_n 0, 1) := dk_42 (dk_at dksX2_part_0 0 rfl rfl)
theorem dX2_part_1 : decode cX2_part 1 = .ok (.aload_n 0, 1) := dk_42 (dk_at dksX2_part_0 1 rfl rfl)
theorem dX2_part_2 : decode cX2_part 2 = .ok (.getfield 105, 3) := dk_180 0 105 (dk_at dksX2_part_0 2 rfl rfl)
theorem dX2_part_5 : decode cX2_part 5 = .ok (.invokevirtual 71, 3) := dk_182 0 71 (dk_at dksX2_part_0 5 rfl rfl)
theorem dX2_part_8 : decode cX2_part 8 = .ok (.istore_n 1, 1) := dk_60 (dk_at dksX2_part_0 8 rfl rfl)
theorem dX2_part_9 : decode cX2_part 9 = .ok (.aload_n 0, 1) := dk_42 (dk_at dksX2_part_0 9 rfl rfl)
theorem dX2_part_10 : decode cX2_part 10 = .ok (.ldc_w 277, 3) := dk_19 1 21 (dk_at dksX2_part_0 10 rfl rfl)
theorem dX2_part_13 : decode cX2_part 13 = .ok (.invokevirtual 71, 3) := dk_182 0 71 (dk_at dksX2_part_0 13 rfl rfl)
theorem dX2_part_16 : decode cX2_part 16 = .ok (.ifCond .lt 7, 3) := dk_155 0 7 (dk_at dksX2_part_0 16 rfl rfl)
theorem dX2_part_19 : decode cX2_part 19 = .ok (.iconst 1, 1) := dk_4 (dk_at dksX2_part_0 19 rfl rfl)
theorem dX2_part_20 : decode cX2_part 20 = .ok (.goto 4, 3) := dk_167 0 4 (dk_at dksX2_part_0 20 rfl rfl)
theorem dX2_part_23 : decode cX2_part 23 = .ok (.iconst 0, 1) := dk_3 (dk_at dksX2_part_0 23 rfl rfl)
theorem dX2_part_24 : decode cX2_part 24 = .ok (.istore_n 2, 1) := dk_61 (dk_at dksX2_part_1 0 rfl rfl)
theorem dX2_part_25 : decode cX2_part 25 = .ok (.aload_n 0, 1) := dk_42 (dk_at dksX2_part_1 1 rfl rfl)
theorem dX2_part_26 : decode cX2_part 26 = .ok (.bipush 40, 2) := dk_16 40 (dk_at dksX2_part_1 2 rfl rfl)
theorem dX2_part_28 : decode cX2_part 28 = .ok (.invokevirtual 79, 3) := dk_182 0 79 (dk_at dksX2_part_1 4 rfl rfl)
theorem dX2_part_31 : decode cX2_part 31 = .ok (.istore_n 3, 1) := dk_62 (dk_at dksX2_part_1 7 rfl rfl)
theorem dX2_part_32 : decode cX2_part 32 = .ok (.iload_n 1, 1) := dk_27 (dk_at dksX2_part_1 8 rfl rfl)
theorem dX2_part_33 : decode cX2_part 33 = .ok (.ifCond .ge 25, 3) := dk_156 0 25 (dk_at dksX2_part_1 9 rfl rfl)
theorem dX2_part_36 : decode cX2_part 36 = .ok (.iload_n 2, 1) := dk_28 (dk_at dksX2_part_1 12 rfl rfl)
theorem dX2_part_37 : decode cX2_part 37 = .ok (.ifCond .ne 21, 3) := dk_154 0 21 (dk_at dksX2_part_1 13 rfl rfl)
theorem dX2_part_40 : decode cX2_part 40 = .ok (.iload_n 3, 1) := dk_29 (dk_at dksX2_part_1 16 rfl rfl)
theorem dX2_part_41 : decode cX2_part 41 = .ok (.ifCond .ne 17, 3) := dk_154 0 17 (dk_at dksX2_part_1 17 rfl rfl)
theorem dX2_part_44 : decode cX2_part 44 = .ok (.aload_n 0, 1) := dk_42 (dk_at dksX2_part_1 20 rfl rfl)
theorem dX2_part_45 : decode cX2_part 45 = .ok (.getfield 31, 3) := dk_180 0 31 (dk_at dksX2_part_1 21 rfl rfl)
theorem dX2_part_48 : decode cX2_part 48 = .ok (.iconst 2, 1) := dk_5 (dk_at dksX2_part_2 0 rfl rfl)
theorem dX2_part_49 : decode cX2_part 49 = .ok (.if_icmp .eq 9, 3) := dk_159 0 9 (dk_at dksX2_part_2 1 rfl rfl)
theorem dX2_part_52 : decode cX2_part 52 = .ok (.aload_n 0, 1) := dk_42 (dk_at dksX2_part_2 4 rfl rfl)
theorem dX2_part_53 : decode cX2_part 53 = .ok (.iconst 1, 1) := dk_4 (dk_at dksX2_part_2 5 rfl rfl)
theorem dX2_part_54 : decode cX2_part 54 = .ok (.invokevirtual 75, 3) := dk_182 0 75 (dk_at dksX2_part_2 6 rfl rfl)
theorem dX2_part_57 : decode cX2_part 57 = .ok (.athrow, 1) := dk_191 (dk_at dksX2_part_2 9 rfl rfl)
theorem dX2_part_58 : decode cX2_part 58 = .ok (.aload_n 0, 1) := dk_42 (dk_at dksX2_part_2 10 rfl rfl)
theorem dX2_part_59 : decode cX2_part 59 = .ok (.getfield 22, 3) := dk_180 0 22 (dk_at dksX2_part_2 11 rfl rfl)
theorem dX2_part_62 : decode cX2_part 62 = .ok (.iconst 5, 1) := dk_8 (dk_at dksX2_part_2 14 rfl rfl)
theorem dX2_part_63 : decode cX2_part 63 = .ok (.if_icmp .ne 9, 3) := dk_160 0 9 (dk_at dksX2_part_2 15 rfl rfl)
theorem dX2_part_66 : decode cX2_part 66 = .ok (.aload_n 0, 1) := dk_42 (dk_at dksX2_part_2 18 rfl rfl)
theorem dX2_part_67 : decode cX2_part 67 = .ok (.iconst 5, 1) := dk_8 (dk_at dksX2_part_2 19 rfl rfl)
theorem dX2_part_68 : decode cX2_part 68 = .ok (.invokevirtual 75, 3) := dk_182 0 75 (dk_at dksX2_part_2 20 rfl rfl)
theorem dX2_part_71 : decode cX2_part 71 = .ok (.athrow, 1) := dk_191 (dk_at dksX2_part_2 23 rfl rfl)
theorem dX2_part_72 : decode cX2_part 72 = .ok (.aload_n 0, 1) := dk_42 (dk_at dksX2_part_3 0 rfl rfl)
theorem dX2_part_73 : decode cX2_part 73 = .ok (.getfield 31, 3) := dk_180 0 31 (dk_at dksX2_part_3 1 rfl rfl)
theorem dX2_part_76 : decode cX2_part 76 = .ok (.iconst 2, 1) := dk_5 (dk_at dksX2_part_3 4 rfl rfl)
theorem dX2_part_77 : decode cX2_part 77 = .ok (.if_icmp .ne 19, 3) := dk_160 0 19 (dk_at dksX2_part_3 5 rfl rfl)
theorem dX2_part_80 : decode cX2_part 80 = .ok (.new 279, 3) := dk_187 1 23 (dk_at dksX2_part_3 8 rfl rfl)
theorem dX2_part_83 : decode cX2_part 83 = .ok (.dup, 1) := dk_89 (dk_at dksX2_part_3 11 rfl rfl)
theorem dX2_part_84 : decode cX2_part 84 = .ok (.aload_n 0, 1) := dk_42 (dk_at dksX2_part_3 12 rfl rfl)
theorem dX2_part_85 : decode cX2_part 85 = .ok (.iconst 0, 1) := dk_3 (dk_at dksX2_part_3 13 rfl rfl)
theorem dX2_part_86 : decode cX2_part 86 = .ok (.sipush 9999, 3) := dk_17 39 15 (dk_at dksX2_part_3 14 rfl rfl)
theorem dX2_part_89 : decode cX2_part 89 = .ok (.invokevirtual 102, 3) := dk_182 0 102 (dk_at dksX2_part_3 17 rfl rfl)
theorem dX2_part_92 : decode cX2_part 92 = .ok (.invokespecial 281, 3) := dk_183 1 25 (dk_at dksX2_part_3 20 rfl rfl)
theorem dX2_part_95 : decode cX2_part 95 = .ok (.areturn, 1) := dk_176 (dk_at dksX2_part_3 23 rfl rfl)
theorem dX2_part_96 : decode cX2_part 96 = .ok (.aload_n 0, 1) := dk_42 (dk_at dksX2_part_4 0 rfl rfl)
theorem dX2_part_97 : decode cX2_part 97 = .ok (.invokevirtual 25, 3) := dk_182 0 25 (dk_at dksX2_part_4 1 rfl rfl)
theorem dX2_part_100 : decode cX2_part 100 = .ok (.iload_n 1, 1) := dk_27 (dk_at dksX2_part_4 4 rfl rfl)
theorem dX2_part_101 : decode cX2_part 101 = .ok (.ifCond .lt 12, 3) := dk_155 0 12 (dk_at dksX2_part_4 5 rfl rfl)
theorem dX2_part_104 : decode cX2_part 104 = .ok (.new 282, 3) := dk_187 1 26 (dk_at dksX2_part_4 8 rfl rfl)
theorem dX2_part_107 : decode cX2_part 107 = .ok (.dup, 1) := dk_89 (dk_at dksX2_part_4 11 rfl rfl)
theorem dX2_part_108 : decode cX2_part 108 = .ok (.iload_n 1, 1) := dk_27 (dk_at dksX2_part_4 12 rfl rfl)
theorem dX2_part_109 : decode cX2_part 109 = .ok (.invokespecial 284, 3) := dk_183 1 28 (dk_at dksX2_part_4 13 rfl rfl)
theorem dX2_part_112 : decode cX2_part 112 = .ok (.areturn, 1) := dk_176 (dk_at dksX2_part_4 16 rfl rfl)
theorem dX2_part_113 : decode cX2_part 113 = .ok (.aload_n 0, 1) := dk_42 (dk_at dksX2_part_4 17 rfl rfl)
theorem dX2_part_114 : decode cX2_part 114 = .ok (.dup, 1) := dk_89 (dk_at dksX2_part_4 18 rfl rfl)
theorem dX2_part_115 : decode cX2_part 115 = .ok (.getfield 22, 3) := dk_180 0 22 (dk_at dksX2_part_4 19 rfl rfl)
theorem dX2_part_118 : decode cX2_part 118 = .ok (.iconst 1, 1) := dk_4 (dk_at dksX2_part_4 22 rfl rfl)
theorem dX2_part_119 : decode cX2_part 119 = .ok (.iadd, 1) := dk_96 (dk_at dksX2_part_4 23 rfl rfl)
theorem dX2_part_120 : decode cX2_part 120 = .ok (.putfield 22, 3) := dk_181 0 22 (dk_at dksX2_part_5 0 rfl rfl)
theorem dX2_part_123 : decode cX2_part 123 = .ok (.iload_n 2, 1) := dk_28 (dk_at dksX2_part_5 3 rfl rfl)
theorem dX2_part_124 : decode cX2_part 124 = .ok (.ifCond .eq 17, 3) := dk_153 0 17 (dk_at dksX2_part_5 4 rfl rfl)
theorem dX2_part_127 : decode cX2_part 127 = .ok (.new 285, 3) := dk_187 1 29 (dk_at dksX2_part_5 7 rfl rfl)
theorem dX2_part_130 : decode cX2_part 130 = .ok (.dup, 1) := dk_89 (dk_at dksX2_part_5 10 rfl rfl)
theorem dX2_part_131 : decode cX2_part 131 = .ok (.aload_n 0, 1) := dk_42 (dk_at dksX2_part_5 11 rfl rfl)
theorem dX2_part_132 : decode cX2_part 132 = .ok (.invokevirtual 274, 3) := dk_182 1 18 (dk_at dksX2_part_5 12 rfl rfl)
theorem dX2_part_135 : decode cX2_part 135 = .ok (.invokespecial 287, 3) := dk_183 1 31 (dk_at dksX2_part_5 15 rfl rfl)
theorem dX2_part_138 : decode cX2_part 138 = .ok (.goto 7, 3) := dk_167 0 7 (dk_at dksX2_part_5 18 rfl rfl)
theorem dX2_part_141 : decode cX2_part 141 = .ok (.aload_n 0, 1) := dk_42 (dk_at dksX2_part_5 21 rfl rfl)
theorem dX2_part_142 : decode cX2_part 142 = .ok (.invokevirtual 109, 3) := dk_182 0 109 (dk_at dksX2_part_6 0 rfl rfl)
theorem dX2_part_145 : decode cX2_part 145 = .ok (.astore 4, 2) := dk_58 4 (dk_at dksX2_part_6 3 rfl rfl)
theorem dX2_part_147 : decode cX2_part 147 = .ok (.iload_n 3, 1) := dk_29 (dk_at dksX2_part_6 5 rfl rfl)
theorem dX2_part_148 : decode cX2_part 148 = .ok (.ifCond .eq 9, 3) := dk_153 0 9 (dk_at dksX2_part_6 6 rfl rfl)
theorem dX2_part_151 : decode cX2_part 151 = .ok (.aload_n 0, 1) := dk_42 (dk_at dksX2_part_6 9 rfl rfl)
theorem dX2_part_152 : decode cX2_part 152 = .ok (.bipush 41, 2) := dk_16 41 (dk_at dksX2_part_6 10 rfl rfl)
theorem dX2_part_154 : decode cX2_part 154 = .ok (.invokevirtual 160, 3) := dk_182 0 160 (dk_at dksX2_part_6 12 rfl rfl)
theorem dX2_part_157 : decode cX2_part 157 = .ok (.aload_n 0, 1) := dk_42 (dk_at dksX2_part_6 15 rfl rfl)
theorem dX2_part_158 : decode cX2_part 158 = .ok (.dup, 1) := dk_89 (dk_at dksX2_part_6 16 rfl rfl)
theorem dX2_part_159 : decode cX2_part 159 = .ok (.getfield 22, 3) := dk_180 0 22 (dk_at dksX2_part_6 17 rfl rfl)
theorem dX2_part_162 : decode cX2_part 162 = .ok (.iconst 1, 1) := dk_4 (dk_at dksX2_part_6 20 rfl rfl)
theorem dX2_part_163 : decode cX2_part 163 = .ok (.isub, 1) := dk_100 (dk_at dksX2_part_6 21 rfl rfl)
theorem dX2_part_164 : decode cX2_part 164 = .ok (.putfield 22, 3) := dk_181 0 22 (dk_at dksX2_part_7 0 rfl rfl)
theorem dX2_part_167 : decode cX2_part 167 = .ok (.aload 4, 2) := dk_25 4 (dk_at dksX2_part_7 3 rfl rfl)
theorem dX2_part_169 : decode cX2_part 169 = .ok (.areturn, 1) := dk_176 (dk_at dksX2_part_7 5 rfl rfl)
abbrev cX2_isSign : ByteArray := prog_21_method_10_code
def yX2_isSign : MethodName := ⟨RX2, "isSign", "(C)Z"⟩
def dkwX2_isSign_1 : List UInt8 := [167, 0, 4, 3, 172]
abbrev dktX2_isSign_1 : List UInt8 := dkwX2_isSign_1 ++ []
def dkwX2_isSign_0 : List UInt8 := [42, 180, 0, 31, 6, 160, 0, 20, 42, 180, 0, 9, 42, 180, 0, 28, 51, 27, 160, 0, 7, 4]
abbrev dktX2_isSign_0 : List UInt8 := dkwX2_isSign_0 ++ dktX2_isSign_1
theorem dksX2_isSign_0 : cX2_isSign.data.toList.drop 0 = dktX2_isSign_0 := by decide +kernel
theorem dksX2_isSign_1 : cX2_isSign.data.toList.drop 22 = dktX2_isSign_1 := dk_seg dksX2_isSign_0 22 rfl rfl
theorem dX2_isSign_0 : decode cX2_isSign 0 = .ok (.aload_n 0, 1) := dk_42 (dk_at dksX2_isSign_0 0 rfl rfl)
theorem dX2_isSign_1 : decode cX2_isSign 1 = .ok (.getfield 31, 3) := dk_180 0 31 (dk_at dksX2_isSign_0 1 rfl rfl)
theorem dX2_isSign_4 : decode cX2_isSign 4 = .ok (.iconst 3, 1) := dk_6 (dk_at dksX2_isSign_0 4 rfl rfl)
theorem dX2_isSign_5 : decode cX2_isSign 5 = .ok (.if_icmp .ne 20, 3) := dk_160 0 20 (dk_at dksX2_isSign_0 5 rfl rfl)
theorem dX2_isSign_8 : decode cX2_isSign 8 = .ok (.aload_n 0, 1) := dk_42 (dk_at dksX2_isSign_0 8 rfl rfl)
theorem dX2_isSign_9 : decode cX2_isSign 9 = .ok (.getfield 9, 3) := dk_180 0 9 (dk_at dksX2_isSign_0 9 rfl rfl)
theorem dX2_isSign_12 : decode cX2_isSign 12 = .ok (.aload_n 0, 1) := dk_42 (dk_at dksX2_isSign_0 12 rfl rfl)
theorem dX2_isSign_13 : decode cX2_isSign 13 = .ok (.getfield 28, 3) := dk_180 0 28 (dk_at dksX2_isSign_0 13 rfl rfl)
theorem dX2_isSign_16 : decode cX2_isSign 16 = .ok (.baload, 1) := dk_51 (dk_at dksX2_isSign_0 16 rfl rfl)
theorem dX2_isSign_17 : decode cX2_isSign 17 = .ok (.iload_n 1, 1) := dk_27 (dk_at dksX2_isSign_0 17 rfl rfl)
theorem dX2_isSign_18 : decode cX2_isSign 18 = .ok (.if_icmp .ne 7, 3) := dk_160 0 7 (dk_at dksX2_isSign_0 18 rfl rfl)
theorem dX2_isSign_21 : decode cX2_isSign 21 = .ok (.iconst 1, 1) := dk_4 (dk_at dksX2_isSign_0 21 rfl rfl)
theorem dX2_isSign_22 : decode cX2_isSign 22 = .ok (.goto 4, 3) := dk_167 0 4 (dk_at dksX2_isSign_1 0 rfl rfl)
theorem dX2_isSign_25 : decode cX2_isSign 25 = .ok (.iconst 0, 1) := dk_3 (dk_at dksX2_isSign_1 3 rfl rfl)
theorem dX2_isSign_26 : decode cX2_isSign 26 = .ok (.ireturn, 1) := dk_172 (dk_at dksX2_isSign_1 4 rfl rfl)
abbrev cX2_need_2 : ByteArray := prog_21_method_11_code
def yX2_need_2 : MethodName := ⟨RX2, "need", "(C)V"⟩
def dkwX2_need_2_0 : List UInt8 := [42, 27, 182, 0, 79, 154, 0, 9, 42, 4, 182, 0, 75, 191, 42, 182, 0, 25, 177]
abbrev dktX2_need_2_0 : List UInt8 := dkwX2_need_2_0 ++ []
theorem dksX2_need_2_0 : cX2_need_2.data.toList.drop 0 = dktX2_need_2_0 := by decide +kernel
theorem dX2_need_2_0 : decode cX2_need_2 0 = .ok (.aload_n 0, 1) := dk_42 (dk_at dksX2_need_2_0 0 rfl rfl)
theorem dX2_need_2_1 : decode cX2_need_2 1 = .ok (.iload_n 1, 1) := dk_27 (dk_at dksX2_need_2_0 1 rfl rfl)
theorem dX2_need_2_2 : decode cX2_need_2 2 = .ok (.invokevirtual 79, 3) := dk_182 0 79 (dk_at dksX2_need_2_0 2 rfl rfl)
theorem dX2_need_2_5 : decode cX2_need_2 5 = .ok (.ifCond .ne 9, 3) := dk_154 0 9 (dk_at dksX2_need_2_0 5 rfl rfl)
theorem dX2_need_2_8 : decode cX2_need_2 8 = .ok (.aload_n 0, 1) := dk_42 (dk_at dksX2_need_2_0 8 rfl rfl)
theorem dX2_need_2_9 : decode cX2_need_2 9 = .ok (.iconst 1, 1) := dk_4 (dk_at dksX2_need_2_0 9 rfl rfl)
theorem dX2_need_2_10 : decode cX2_need_2 10 = .ok (.invokevirtual 75, 3) := dk_182 0 75 (dk_at dksX2_need_2_0 10 rfl rfl)
theorem dX2_need_2_13 : decode cX2_need_2 13 = .ok (.athrow, 1) := dk_191 (dk_at dksX2_need_2_0 13 rfl rfl)
theorem dX2_need_2_14 : decode cX2_need_2 14 = .ok (.aload_n 0, 1) := dk_42 (dk_at dksX2_need_2_0 14 rfl rfl)
theorem dX2_need_2_15 : decode cX2_need_2 15 = .ok (.invokevirtual 25, 3) := dk_182 0 25 (dk_at dksX2_need_2_0 15 rfl rfl)
theorem dX2_need_2_18 : decode cX2_need_2 18 = .ok (.return_, 1) := dk_177 (dk_at dksX2_need_2_0 18 rfl rfl)
abbrev cX2_year : ByteArray := prog_21_method_23_code
def yX2_year : MethodName := ⟨RX2, "year", "(LBorrowedLives$Town;)Ljava/util/ArrayList;"⟩
def dkwX2_year_3 : List UInt8 := [182, 0, 160, 167, 255, 197, 44, 176]
abbrev dktX2_year_3 : List UInt8 := dkwX2_year_3 ++ []
def dkwX2_year_2 : List UInt8 := [8, 182, 0, 75, 191, 42, 182, 0, 25, 44, 42, 29, 182, 0, 236, 182, 0, 229, 87, 42, 16, 59]
abbrev dktX2_year_2 : List UInt8 := dkwX2_year_2 ++ dktX2_year_3
def dkwX2_year_1 : List UInt8 := [182, 0, 71, 62, 29, 156, 0, 9, 42, 4, 182, 0, 75, 191, 44, 182, 0, 153, 16, 40, 160, 0, 9, 42]
abbrev dktX2_year_1 : List UInt8 := dkwX2_year_1 ++ dktX2_year_2
def dkwX2_year_0 : List UInt8 := [42, 43, 181, 0, 113, 187, 0, 154, 89, 7, 183, 0, 233, 77, 42, 180, 0, 31, 153, 0, 58, 42, 18, 234]
abbrev dktX2_year_0 : List UInt8 := dkwX2_year_0 ++ dktX2_year_1
theorem dksX2_year_0 : cX2_year.data.toList.drop 0 = dktX2_year_0 := by decide +kernel
theorem dksX2_year_1 : cX2_year.data.toList.drop 24 = dktX2_year_1 := dk_seg dksX2_year_0 24 rfl rfl
theorem dksX2_year_2 : cX2_year.data.toList.drop 48 = dktX2_year_2 := dk_seg dksX2_year_1 24 rfl rfl
theorem dksX2_year_3 : cX2_year.data.toList.drop 70 = dktX2_year_3 := dk_seg dksX2_year_2 22 rfl rfl
theorem dX2_year_0 : decode cX2_year 0 = .ok (.aload_n 0, 1) := dk_42 (dk_at dksX2_year_0 0 rfl rfl)
theorem dX2_year_1 : decode cX2_year 1 = .ok (.aload_n 1, 1) := dk_43 (dk_at dksX2_year_0 1 rfl rfl)
theorem dX2_year_2 : decode cX2_year 2 = .ok (.putfield 113, 3) := dk_181 0 113 (dk_at dksX2_year_0 2 rfl rfl)
theorem dX2_year_5 : decode cX2_year 5 = .ok (.new 154, 3) := dk_187 0 154 (dk_at dksX2_year_0 5 rfl rfl)
theorem dX2_year_8 : decode cX2_year 8 = .ok (.dup, 1) := dk_89 (dk_at dksX2_year_0 8 rfl rfl)
theorem dX2_year_9 : decode cX2_year 9 = .ok (.iconst 4, 1) := dk_7 (dk_at dksX2_year_0 9 rfl rfl)
theorem dX2_year_10 : decode cX2_year 10 = .ok (.invokespecial 233, 3) := dk_183 0 233 (dk_at dksX2_year_0 10 rfl rfl)
theorem dX2_year_13 : decode cX2_year 13 = .ok (.astore_n 2, 1) := dk_77 (dk_at dksX2_year_0 13 rfl rfl)
theorem dX2_year_14 : decode cX2_year 14 = .ok (.aload_n 0, 1) := dk_42 (dk_at dksX2_year_0 14 rfl rfl)
theorem dX2_year_15 : decode cX2_year 15 = .ok (.getfield 31, 3) := dk_180 0 31 (dk_at dksX2_year_0 15 rfl rfl)
theorem dX2_year_18 : decode cX2_year 18 = .ok (.ifCond .eq 58, 3) := dk_153 0 58 (dk_at dksX2_year_0 18 rfl rfl)
theorem dX2_year_21 : decode cX2_year 21 = .ok (.aload_n 0, 1) := dk_42 (dk_at dksX2_year_0 21 rfl rfl)
theorem dX2_year_22 : decode cX2_year 22 = .ok (.ldc 234, 2) := dk_18 234 (dk_at dksX2_year_0 22 rfl rfl)
theorem dX2_year_24 : decode cX2_year 24 = .ok (.invokevirtual 71, 3) := dk_182 0 71 (dk_at dksX2_year_1 0 rfl rfl)
theorem dX2_year_27 : decode cX2_year 27 = .ok (.istore_n 3, 1) := dk_62 (dk_at dksX2_year_1 3 rfl rfl)
theorem dX2_year_28 : decode cX2_year 28 = .ok (.iload_n 3, 1) := dk_29 (dk_at dksX2_year_1 4 rfl rfl)
theorem dX2_year_29 : decode cX2_year 29 = .ok (.ifCond .ge 9, 3) := dk_156 0 9 (dk_at dksX2_year_1 5 rfl rfl)
theorem dX2_year_32 : decode cX2_year 32 = .ok (.aload_n 0, 1) := dk_42 (dk_at dksX2_year_1 8 rfl rfl)
theorem dX2_year_33 : decode cX2_year 33 = .ok (.iconst 1, 1) := dk_4 (dk_at dksX2_year_1 9 rfl rfl)
theorem dX2_year_34 : decode cX2_year 34 = .ok (.invokevirtual 75, 3) := dk_182 0 75 (dk_at dksX2_year_1 10 rfl rfl)
theorem dX2_year_37 : decode cX2_year 37 = .ok (.athrow, 1) := dk_191 (dk_at dksX2_year_1 13 rfl rfl)
theorem dX2_year_38 : decode cX2_year 38 = .ok (.aload_n 2, 1) := dk_44 (dk_at dksX2_year_1 14 rfl rfl)
theorem dX2_year_39 : decode cX2_year 39 = .ok (.invokevirtual 153, 3) := dk_182 0 153 (dk_at dksX2_year_1 15 rfl rfl)
theorem dX2_year_42 : decode cX2_year 42 = .ok (.bipush 40, 2) := dk_16 40 (dk_at dksX2_year_1 18 rfl rfl)
theorem dX2_year_44 : decode cX2_year 44 = .ok (.if_icmp .ne 9, 3) := dk_160 0 9 (dk_at dksX2_year_1 20 rfl rfl)
theorem dX2_year_47 : decode cX2_year 47 = .ok (.aload_n 0, 1) := dk_42 (dk_at dksX2_year_1 23 rfl rfl)
theorem dX2_year_48 : decode cX2_year 48 = .ok (.iconst 5, 1) := dk_8 (dk_at dksX2_year_2 0 rfl rfl)
theorem dX2_year_49 : decode cX2_year 49 = .ok (.invokevirtual 75, 3) := dk_182 0 75 (dk_at dksX2_year_2 1 rfl rfl)
theorem dX2_year_52 : decode cX2_year 52 = .ok (.athrow, 1) := dk_191 (dk_at dksX2_year_2 4 rfl rfl)
theorem dX2_year_53 : decode cX2_year 53 = .ok (.aload_n 0, 1) := dk_42 (dk_at dksX2_year_2 5 rfl rfl)
theorem dX2_year_54 : decode cX2_year 54 = .ok (.invokevirtual 25, 3) := dk_182 0 25 (dk_at dksX2_year_2 6 rfl rfl)
theorem dX2_year_57 : decode cX2_year 57 = .ok (.aload_n 2, 1) := dk_44 (dk_at dksX2_year_2 9 rfl rfl)
theorem dX2_year_58 : decode cX2_year 58 = .ok (.aload_n 0, 1) := dk_42 (dk_at dksX2_year_2 10 rfl rfl)
theorem dX2_year_59 : decode cX2_year 59 = .ok (.iload_n 3, 1) := dk_29 (dk_at dksX2_year_2 11 rfl rfl)
theorem dX2_year_60 : decode cX2_year 60 = .ok (.invokevirtual 236, 3) := dk_182 0 236 (dk_at dksX2_year_2 12 rfl rfl)
theorem dX2_year_63 : decode cX2_year 63 = .ok (.invokevirtual 229, 3) := dk_182 0 229 (dk_at dksX2_year_2 15 rfl rfl)
theorem dX2_year_66 : decode cX2_year 66 = .ok (.pop, 1) := dk_87 (dk_at dksX2_year_2 18 rfl rfl)
theorem dX2_year_67 : decode cX2_year 67 = .ok (.aload_n 0, 1) := dk_42 (dk_at dksX2_year_2 19 rfl rfl)
theorem dX2_year_68 : decode cX2_year 68 = .ok (.bipush 59, 2) := dk_16 59 (dk_at dksX2_year_2 20 rfl rfl)
theorem dX2_year_70 : decode cX2_year 70 = .ok (.invokevirtual 160, 3) := dk_182 0 160 (dk_at dksX2_year_3 0 rfl rfl)
theorem dX2_year_73 : decode cX2_year 73 = .ok (.goto (-59), 3) := dk_167 255 197 (dk_at dksX2_year_3 3 rfl rfl)
theorem dX2_year_76 : decode cX2_year 76 = .ok (.aload_n 2, 1) := dk_44 (dk_at dksX2_year_3 6 rfl rfl)
theorem dX2_year_77 : decode cX2_year 77 = .ok (.areturn, 1) := dk_176 (dk_at dksX2_year_3 7 rfl rfl)
abbrev cX2_told : ByteArray := prog_21_method_24_code
def yX2_told : MethodName := ⟨RX2, "told", "(I)LBorrowedLives$Line;"⟩
def dkwX2_told_3 : List UInt8 := [182, 0, 102, 183, 0, 251, 167, 0, 16, 187, 0, 252, 89, 28, 42, 28, 182, 0, 254, 183, 1, 1, 176]
abbrev dktX2_told_3 : List UInt8 := dkwX2_told_3 ++ []
def dkwX2_told_2 : List UInt8 := [42, 182, 0, 125, 61, 42, 182, 0, 25, 27, 154, 0, 22, 187, 0, 249, 89, 28, 42, 3, 17, 3, 231]
abbrev dktX2_told_2 : List UInt8 := dkwX2_told_2 ++ dktX2_told_3
def dkwX2_told_1 : List UInt8 := [160, 0, 11, 187, 0, 243, 89, 183, 0, 245, 176, 27, 7, 160, 0, 11, 187, 0, 246, 89, 183, 0, 248, 176]
abbrev dktX2_told_1 : List UInt8 := dkwX2_told_1 ++ dktX2_told_2
def dkwX2_told_0 : List UInt8 := [27, 4, 160, 0, 19, 187, 0, 240, 89, 42, 3, 17, 39, 15, 182, 0, 102, 183, 0, 242, 176, 27, 6]
abbrev dktX2_told_0 : List UInt8 := dkwX2_told_0 ++ dktX2_told_1
theorem dksX2_told_0 : cX2_told.data.toList.drop 0 = dktX2_told_0 := by decide +kernel
theorem dksX2_told_1 : cX2_told.data.toList.drop 23 = dktX2_told_1 := dk_seg dksX2_told_0 23 rfl rfl
theorem dksX2_told_2 : cX2_told.data.toList.drop 47 = dktX2_told_2 := dk_seg dksX2_told_1 24 rfl rfl
theorem dksX2_told_3 : cX2_told.data.toList.drop 70 = dktX2_told_3 := dk_seg dksX2_told_2 23 rfl rfl
theorem dX2_told_0 : decode cX2_told 0 = .ok (.iload_n 1, 1) := dk_27 (dk_at dksX2_told_0 0 rfl rfl)
theorem dX2_told_1 : decode cX2_told 1 = .ok (.iconst 1, 1) := dk_4 (dk_at dksX2_told_0 1 rfl rfl)
theorem dX2_told_2 : decode cX2_told 2 = .ok (.if_icmp .ne 19, 3) := dk_160 0 19 (dk_at dksX2_told_0 2 rfl rfl)
theorem dX2_told_5 : decode cX2_told 5 = .ok (.new 240, 3) := dk_187 0 240 (dk_at dksX2_told_0 5 rfl rfl)
theorem dX2_told_8 : decode cX2_told 8 = .ok (.dup, 1) := dk_89 (dk_at dksX2_told_0 8 rfl rfl)
theorem dX2_told_9 : decode cX2_told 9 = .ok (.aload_n 0, 1) := dk_42 (dk_at dksX2_told_0 9 rfl rfl)
theorem dX2_told_10 : decode cX2_told 10 = .ok (.iconst 0, 1) := dk_3 (dk_at dksX2_told_0 10 rfl rfl)
theorem dX2_told_11 : decode cX2_told 11 = .ok (.sipush 9999, 3) := dk_17 39 15 (dk_at dksX2_told_0 11 rfl rfl)
theorem dX2_told_14 : decode cX2_told 14 = .ok (.invokevirtual 102, 3) := dk_182 0 102 (dk_at dksX2_told_0 14 rfl rfl)
theorem dX2_told_17 : decode cX2_told 17 = .ok (.invokespecial 242, 3) := dk_183 0 242 (dk_at dksX2_told_0 17 rfl rfl)
theorem dX2_told_20 : decode cX2_told 20 = .ok (.areturn, 1) := dk_176 (dk_at dksX2_told_0 20 rfl rfl)
theorem dX2_told_21 : decode cX2_told 21 = .ok (.iload_n 1, 1) := dk_27 (dk_at dksX2_told_0 21 rfl rfl)
theorem dX2_told_22 : decode cX2_told 22 = .ok (.iconst 3, 1) := dk_6 (dk_at dksX2_told_0 22 rfl rfl)
theorem dX2_told_23 : decode cX2_told 23 = .ok (.if_icmp .ne 11, 3) := dk_160 0 11 (dk_at dksX2_told_1 0 rfl rfl)
theorem dX2_told_26 : decode cX2_told 26 = .ok (.new 243, 3) := dk_187 0 243 (dk_at dksX2_told_1 3 rfl rfl)
theorem dX2_told_29 : decode cX2_told 29 = .ok (.dup, 1) := dk_89 (dk_at dksX2_told_1 6 rfl rfl)
theorem dX2_told_30 : decode cX2_told 30 = .ok (.invokespecial 245, 3) := dk_183 0 245 (dk_at dksX2_told_1 7 rfl rfl)
theorem dX2_told_33 : decode cX2_told 33 = .ok (.areturn, 1) := dk_176 (dk_at dksX2_told_1 10 rfl rfl)
theorem dX2_told_34 : decode cX2_told 34 = .ok (.iload_n 1, 1) := dk_27 (dk_at dksX2_told_1 11 rfl rfl)
theorem dX2_told_35 : decode cX2_told 35 = .ok (.iconst 4, 1) := dk_7 (dk_at dksX2_told_1 12 rfl rfl)
theorem dX2_told_36 : decode cX2_told 36 = .ok (.if_icmp .ne 11, 3) := dk_160 0 11 (dk_at dksX2_told_1 13 rfl rfl)
theorem dX2_told_39 : decode cX2_told 39 = .ok (.new 246, 3) := dk_187 0 246 (dk_at dksX2_told_1 16 rfl rfl)
theorem dX2_told_42 : decode cX2_told 42 = .ok (.dup, 1) := dk_89 (dk_at dksX2_told_1 19 rfl rfl)
theorem dX2_told_43 : decode cX2_told 43 = .ok (.invokespecial 248, 3) := dk_183 0 248 (dk_at dksX2_told_1 20 rfl rfl)
theorem dX2_told_46 : decode cX2_told 46 = .ok (.areturn, 1) := dk_176 (dk_at dksX2_told_1 23 rfl rfl)
theorem dX2_told_47 : decode cX2_told 47 = .ok (.aload_n 0, 1) := dk_42 (dk_at dksX2_told_2 0 rfl rfl)
theorem dX2_told_48 : decode cX2_told 48 = .ok (.invokevirtual 125, 3) := dk_182 0 125 (dk_at dksX2_told_2 1 rfl rfl)
theorem dX2_told_51 : decode cX2_told 51 = .ok (.istore_n 2, 1) := dk_61 (dk_at dksX2_told_2 4 rfl rfl)
theorem dX2_told_52 : decode cX2_told 52 = .ok (.aload_n 0, 1) := dk_42 (dk_at dksX2_told_2 5 rfl rfl)
theorem dX2_told_53 : decode cX2_told 53 = .ok (.invokevirtual 25, 3) := dk_182 0 25 (dk_at dksX2_told_2 6 rfl rfl)
theorem dX2_told_56 : decode cX2_told 56 = .ok (.iload_n 1, 1) := dk_27 (dk_at dksX2_told_2 9 rfl rfl)
theorem dX2_told_57 : decode cX2_told 57 = .ok (.ifCond .ne 22, 3) := dk_154 0 22 (dk_at dksX2_told_2 10 rfl rfl)
theorem dX2_told_60 : decode cX2_told 60 = .ok (.new 249, 3) := dk_187 0 249 (dk_at dksX2_told_2 13 rfl rfl)
theorem dX2_told_63 : decode cX2_told 63 = .ok (.dup, 1) := dk_89 (dk_at dksX2_told_2 16 rfl rfl)
theorem dX2_told_64 : decode cX2_told 64 = .ok (.iload_n 2, 1) := dk_28 (dk_at dksX2_told_2 17 rfl rfl)
theorem dX2_told_65 : decode cX2_told 65 = .ok (.aload_n 0, 1) := dk_42 (dk_at dksX2_told_2 18 rfl rfl)
theorem dX2_told_66 : decode cX2_told 66 = .ok (.iconst 0, 1) := dk_3 (dk_at dksX2_told_2 19 rfl rfl)
theorem dX2_told_67 : decode cX2_told 67 = .ok (.sipush 999, 3) := dk_17 3 231 (dk_at dksX2_told_2 20 rfl rfl)
theorem dX2_told_70 : decode cX2_told 70 = .ok (.invokevirtual 102, 3) := dk_182 0 102 (dk_at dksX2_told_3 0 rfl rfl)
theorem dX2_told_73 : decode cX2_told 73 = .ok (.invokespecial 251, 3) := dk_183 0 251 (dk_at dksX2_told_3 3 rfl rfl)
theorem dX2_told_76 : decode cX2_told 76 = .ok (.goto 16, 3) := dk_167 0 16 (dk_at dksX2_told_3 6 rfl rfl)
theorem dX2_told_79 : decode cX2_told 79 = .ok (.new 252, 3) := dk_187 0 252 (dk_at dksX2_told_3 9 rfl rfl)
theorem dX2_told_82 : decode cX2_told 82 = .ok (.dup, 1) := dk_89 (dk_at dksX2_told_3 12 rfl rfl)
theorem dX2_told_83 : decode cX2_told 83 = .ok (.iload_n 2, 1) := dk_28 (dk_at dksX2_told_3 13 rfl rfl)
theorem dX2_told_84 : decode cX2_told 84 = .ok (.aload_n 0, 1) := dk_42 (dk_at dksX2_told_3 14 rfl rfl)
theorem dX2_told_85 : decode cX2_told 85 = .ok (.iload_n 2, 1) := dk_28 (dk_at dksX2_told_3 15 rfl rfl)
theorem dX2_told_86 : decode cX2_told 86 = .ok (.invokevirtual 254, 3) := dk_182 0 254 (dk_at dksX2_told_3 16 rfl rfl)
theorem dX2_told_89 : decode cX2_told 89 = .ok (.invokespecial 257, 3) := dk_183 1 1 (dk_at dksX2_told_3 19 rfl rfl)
theorem dX2_told_92 : decode cX2_told 92 = .ok (.areturn, 1) := dk_176 (dk_at dksX2_told_3 22 rfl rfl)
abbrev cX2_other : ByteArray := prog_21_method_18_code
def yX2_other : MethodName := ⟨RX2, "other", "(I)I"⟩
def dkwX2_other_0 : List UInt8 := [42, 182, 0, 125, 61, 28, 27, 160, 0, 9, 42, 6, 182, 0, 75, 191, 42, 182, 0, 25, 28, 172]
abbrev dktX2_other_0 : List UInt8 := dkwX2_other_0 ++ []
theorem dksX2_other_0 : cX2_other.data.toList.drop 0 = dktX2_other_0 := by decide +kernel
theorem dX2_other_0 : decode cX2_other 0 = .ok (.aload_n 0, 1) := dk_42 (dk_at dksX2_other_0 0 rfl rfl)
theorem dX2_other_1 : decode cX2_other 1 = .ok (.invokevirtual 125, 3) := dk_182 0 125 (dk_at dksX2_other_0 1 rfl rfl)
theorem dX2_other_4 : decode cX2_other 4 = .ok (.istore_n 2, 1) := dk_61 (dk_at dksX2_other_0 4 rfl rfl)
theorem dX2_other_5 : decode cX2_other 5 = .ok (.iload_n 2, 1) := dk_28 (dk_at dksX2_other_0 5 rfl rfl)
theorem dX2_other_6 : decode cX2_other 6 = .ok (.iload_n 1, 1) := dk_27 (dk_at dksX2_other_0 6 rfl rfl)
theorem dX2_other_7 : decode cX2_other 7 = .ok (.if_icmp .ne 9, 3) := dk_160 0 9 (dk_at dksX2_other_0 7 rfl rfl)
theorem dX2_other_10 : decode cX2_other 10 = .ok (.aload_n 0, 1) := dk_42 (dk_at dksX2_other_0 10 rfl rfl)
theorem dX2_other_11 : decode cX2_other 11 = .ok (.iconst 3, 1) := dk_6 (dk_at dksX2_other_0 11 rfl rfl)
theorem dX2_other_12 : decode cX2_other 12 = .ok (.invokevirtual 75, 3) := dk_182 0 75 (dk_at dksX2_other_0 12 rfl rfl)
theorem dX2_other_15 : decode cX2_other 15 = .ok (.athrow, 1) := dk_191 (dk_at dksX2_other_0 15 rfl rfl)
theorem dX2_other_16 : decode cX2_other 16 = .ok (.aload_n 0, 1) := dk_42 (dk_at dksX2_other_0 16 rfl rfl)
theorem dX2_other_17 : decode cX2_other 17 = .ok (.invokevirtual 25, 3) := dk_182 0 25 (dk_at dksX2_other_0 17 rfl rfl)
theorem dX2_other_20 : decode cX2_other 20 = .ok (.iload_n 2, 1) := dk_28 (dk_at dksX2_other_0 20 rfl rfl)
theorem dX2_other_21 : decode cX2_other 21 = .ok (.ireturn, 1) := dk_172 (dk_at dksX2_other_0 21 rfl rfl)
theorem q126 : (Jvm.Cond.initialized "BorrowedLives$Reader") ∈ lw_all := lw_g (lw_at lw_m1 2 rfl) rfl
theorem q183 : (Jvm.Cond.instantiable "BorrowedLives$Reader" (9 : Nat)) ∈ lw_all := lw_g (lw_at lw_m1 59 rfl) rfl
theorem q185 : (Jvm.Cond.instanceMethod ({ cls := "BorrowedLives$Reader", name := "<init>", desc := "()V" } : Jvm.MethodName)) ∈ lw_all := lw_g (lw_at lw_m1 61 rfl) rfl
theorem q186 : (Jvm.Cond.code ({ cls := "BorrowedLives$Reader", name := "<init>", desc := "()V" } : Jvm.MethodName) prog_21_method_1_code (1 : Nat) (Option.none : Option Jvm.ClassFile.FieldType)) ∈ lw_all := lw_g (lw_at lw_m1 62 rfl) rfl
theorem q187 : (Jvm.Cond.methodLink "BorrowedLives$Reader" (3 : Nat) ({ cls := "java/lang/Object", name := "<init>", desc := "()V" } : Jvm.MethodName)) ∈ lw_all := lw_g (lw_at lw_m1 63 rfl) rfl
theorem q188 : (Jvm.Cond.fieldLink "BorrowedLives$Reader" (9 : Nat) "BorrowedLives$Reader" "text" "[B") ∈ lw_all := lw_g (lw_at lw_m1 64 rfl) rfl
theorem q189 : (Jvm.Cond.fieldLink "BorrowedLives$Reader" (15 : Nat) "BorrowedLives$Reader" "size" "I") ∈ lw_all := lw_g (lw_at lw_m1 65 rfl) rfl
theorem q190 : (Jvm.Cond.fieldLink "BorrowedLives$Reader" (19 : Nat) "BorrowedLives$Reader" "to" "I") ∈ lw_all := lw_g (lw_at lw_m1 66 rfl) rfl
theorem q191 : (Jvm.Cond.fieldLink "BorrowedLives$Reader" (31 : Nat) "BorrowedLives$Reader" "kind" "I") ∈ lw_all := lw_g (lw_at lw_m1 67 rfl) rfl
theorem q192 : (Jvm.Cond.fieldLink "BorrowedLives$Reader" (28 : Nat) "BorrowedLives$Reader" "from" "I") ∈ lw_all := lw_g (lw_at lw_m1 68 rfl) rfl
theorem q193 : (Jvm.Cond.fieldLink "BorrowedLives$Reader" (45 : Nat) "BorrowedLives$Reader" "value" "I") ∈ lw_all := lw_g (lw_at lw_m1 69 rfl) rfl
theorem q194 : (Jvm.Cond.fieldLink "BorrowedLives$Reader" (22 : Nat) "BorrowedLives$Reader" "within" "I") ∈ lw_all := lw_g (lw_at lw_m1 70 rfl) rfl
theorem q195 : (Jvm.Cond.fieldLink "BorrowedLives$Reader" (113 : Nat) "BorrowedLives$Reader" "town" "LBorrowedLives$Town;") ∈ lw_all := lw_g (lw_at lw_m1 71 rfl) rfl
theorem q196 : (Jvm.Cond.fieldLink "BorrowedLives$Reader" (105 : Nat) "BorrowedLives$Reader" "factWords" "Ljava/lang/String;") ∈ lw_all := lw_g (lw_at lw_m1 72 rfl) rfl
theorem q197 : (Jvm.Cond.lays "BorrowedLives$Reader" "BorrowedLives$Reader" "text" "[B") ∈ lw_all := lw_g (lw_at lw_m1 73 rfl) rfl
theorem q198 : (Jvm.Cond.soleField "BorrowedLives$Reader" "text") ∈ lw_all := lw_g (lw_at lw_m1 74 rfl) rfl
theorem q199 : (Jvm.Cond.lays "BorrowedLives$Reader" "BorrowedLives$Reader" "size" "I") ∈ lw_all := lw_g (lw_at lw_m1 75 rfl) rfl
theorem q200 : (Jvm.Cond.soleField "BorrowedLives$Reader" "size") ∈ lw_all := lw_g (lw_at lw_m1 76 rfl) rfl
theorem q201 : (Jvm.Cond.lays "BorrowedLives$Reader" "BorrowedLives$Reader" "to" "I") ∈ lw_all := lw_g (lw_at lw_m1 77 rfl) rfl
theorem q202 : (Jvm.Cond.soleField "BorrowedLives$Reader" "to") ∈ lw_all := lw_g (lw_at lw_m1 78 rfl) rfl
theorem q203 : (Jvm.Cond.lays "BorrowedLives$Reader" "BorrowedLives$Reader" "kind" "I") ∈ lw_all := lw_g (lw_at lw_m1 79 rfl) rfl
theorem q204 : (Jvm.Cond.soleField "BorrowedLives$Reader" "kind") ∈ lw_all := lw_g (lw_at lw_m1 80 rfl) rfl
theorem q205 : (Jvm.Cond.lays "BorrowedLives$Reader" "BorrowedLives$Reader" "from" "I") ∈ lw_all := lw_g (lw_at lw_m1 81 rfl) rfl
theorem q206 : (Jvm.Cond.soleField "BorrowedLives$Reader" "from") ∈ lw_all := lw_g (lw_at lw_m1 82 rfl) rfl
theorem q207 : (Jvm.Cond.lays "BorrowedLives$Reader" "BorrowedLives$Reader" "value" "I") ∈ lw_all := lw_g (lw_at lw_m1 83 rfl) rfl
theorem q208 : (Jvm.Cond.soleField "BorrowedLives$Reader" "value") ∈ lw_all := lw_g (lw_at lw_m1 84 rfl) rfl
theorem q209 : (Jvm.Cond.lays "BorrowedLives$Reader" "BorrowedLives$Reader" "within" "I") ∈ lw_all := lw_g (lw_at lw_m1 85 rfl) rfl
theorem q210 : (Jvm.Cond.soleField "BorrowedLives$Reader" "within") ∈ lw_all := lw_g (lw_at lw_m1 86 rfl) rfl
theorem q211 : (Jvm.Cond.lays "BorrowedLives$Reader" "BorrowedLives$Reader" "town" "LBorrowedLives$Town;") ∈ lw_all := lw_g (lw_at lw_m1 87 rfl) rfl
theorem q212 : (Jvm.Cond.soleField "BorrowedLives$Reader" "town") ∈ lw_all := lw_g (lw_at lw_m1 88 rfl) rfl
theorem q213 : (Jvm.Cond.lays "BorrowedLives$Reader" "BorrowedLives$Reader" "factWords" "Ljava/lang/String;") ∈ lw_all := lw_g (lw_at lw_m1 89 rfl) rfl
theorem q214 : (Jvm.Cond.soleField "BorrowedLives$Reader" "factWords") ∈ lw_all := lw_g (lw_at lw_m1 90 rfl) rfl
theorem q215 : (Jvm.Cond.superclass "BorrowedLives$Reader" "java/lang/Object") ∈ lw_all := lw_g (lw_at lw_m1 91 rfl) rfl
theorem q254 : (Jvm.Cond.fieldLinkNest "BorrowedLives$Reader" (149 : Nat) "BorrowedLives$Town" "people" "Ljava/util/ArrayList;" "BorrowedLives") ∈ lw_tbl := lw_at lw_m1 130 rfl
theorem q255 : (Jvm.Cond.fieldLinkNest "BorrowedLives$Reader" (179 : Nat) "BorrowedLives$Town" "bars" "I" "BorrowedLives") ∈ lw_tbl := lw_at lw_m1 131 rfl
theorem q258 : (Jvm.Cond.fieldLinkNest "BorrowedLives$Reader" (127 : Nat) "BorrowedLives$Town" "sign" "I" "BorrowedLives") ∈ lw_tbl := lw_at lw_m1 134 rfl
theorem q259 : (Jvm.Cond.fieldLinkNest "BorrowedLives$Reader" (130 : Nat) "BorrowedLives$Town" "spends" "LBorrowedLives$Expression;" "BorrowedLives") ∈ lw_tbl := lw_at lw_m1 135 rfl
theorem q261 : (Jvm.Cond.fieldLinkNest "BorrowedLives$Reader" (134 : Nat) "BorrowedLives$Town" "mends" "LBorrowedLives$Expression;" "BorrowedLives") ∈ lw_tbl := lw_at lw_m1 137 rfl
theorem q263 : (Jvm.Cond.fieldLinkNest "BorrowedLives$Reader" (137 : Nat) "BorrowedLives$Town" "good" "LBorrowedLives$Expression;" "BorrowedLives") ∈ lw_tbl := lw_at lw_m1 139 rfl
theorem q265 : (Jvm.Cond.fieldLinkNest "BorrowedLives$Reader" (140 : Nat) "BorrowedLives$Town" "wish" "LBorrowedLives$Expression;" "BorrowedLives") ∈ lw_tbl := lw_at lw_m1 141 rfl
theorem q467 : (Jvm.Cond.instanceMethod ({ cls := "BorrowedLives$Reader", name := "begin", desc := "([BI)V" } : Jvm.MethodName)) ∈ lw_all := lw_g (lw_at lw_m2 103 rfl) rfl
theorem q468 : (Jvm.Cond.selects "BorrowedLives$Reader" ({ cls := "BorrowedLives$Reader", name := "begin", desc := "([BI)V" } : Jvm.MethodName) ({ cls := "BorrowedLives$Reader", name := "begin", desc := "([BI)V" } : Jvm.MethodName)) ∈ lw_all := lw_g (lw_at lw_m2 104 rfl) rfl
theorem q469 : (Jvm.Cond.code ({ cls := "BorrowedLives$Reader", name := "begin", desc := "([BI)V" } : Jvm.MethodName) prog_21_method_2_code (3 : Nat) (Option.none : Option Jvm.ClassFile.FieldType)) ∈ lw_all := lw_g (lw_at lw_m2 105 rfl) rfl
theorem q470 : (Jvm.Cond.methodLink "BorrowedLives$Reader" (25 : Nat) ({ cls := "BorrowedLives$Reader", name := "next", desc := "()V" } : Jvm.MethodName)) ∈ lw_all := lw_g (lw_at lw_m2 106 rfl) rfl
theorem q471 : (Jvm.Cond.privateMethod ({ cls := "BorrowedLives$Reader", name := "next", desc := "()V" } : Jvm.MethodName)) ∈ lw_tbl := lw_at lw_m2 107 rfl
theorem q472 : (Jvm.Cond.instanceMethod ({ cls := "BorrowedLives$Reader", name := "next", desc := "()V" } : Jvm.MethodName)) ∈ lw_all := lw_g (lw_at lw_m2 108 rfl) rfl
theorem q473 : (Jvm.Cond.code ({ cls := "BorrowedLives$Reader", name := "next", desc := "()V" } : Jvm.MethodName) prog_21_method_6_code (1 : Nat) (Option.none : Option Jvm.ClassFile.FieldType)) ∈ lw_all := lw_g (lw_at lw_m2 109 rfl) rfl
theorem q474 : (Jvm.Cond.methodLink "BorrowedLives$Reader" (34 : Nat) ({ cls := "BorrowedLives$Reader", name := "at", desc := "(I)I" } : Jvm.MethodName)) ∈ lw_all := lw_g (lw_at lw_m2 110 rfl) rfl
theorem q475 : (Jvm.Cond.privateMethod ({ cls := "BorrowedLives$Reader", name := "at", desc := "(I)I" } : Jvm.MethodName)) ∈ lw_tbl := lw_at lw_m2 111 rfl
theorem q476 : (Jvm.Cond.instanceMethod ({ cls := "BorrowedLives$Reader", name := "at", desc := "(I)I" } : Jvm.MethodName)) ∈ lw_all := lw_g (lw_at lw_m2 112 rfl) rfl
theorem q477 : (Jvm.Cond.code ({ cls := "BorrowedLives$Reader", name := "at", desc := "(I)I" } : Jvm.MethodName) prog_21_method_3_code (2 : Nat) (Option.some Jvm.ClassFile.FieldType.int)) ∈ lw_all := lw_g (lw_at lw_m2 113 rfl) rfl
theorem q478 : (Jvm.Cond.methodLink "BorrowedLives$Reader" (38 : Nat) ({ cls := "BorrowedLives$Reader", name := "isLetter", desc := "(I)Z" } : Jvm.MethodName)) ∈ lw_all := lw_g (lw_at lw_m2 114 rfl) rfl
theorem q479 : (Jvm.Cond.static ({ cls := "BorrowedLives$Reader", name := "isLetter", desc := "(I)Z" } : Jvm.MethodName)) ∈ lw_all := lw_g (lw_at lw_m2 115 rfl) rfl
theorem q480 : (Jvm.Cond.code ({ cls := "BorrowedLives$Reader", name := "isLetter", desc := "(I)Z" } : Jvm.MethodName) prog_21_method_4_code (1 : Nat) (Option.some Jvm.ClassFile.FieldType.boolean)) ∈ lw_all := lw_g (lw_at lw_m2 116 rfl) rfl
theorem q481 : (Jvm.Cond.methodLink "BorrowedLives$Reader" (42 : Nat) ({ cls := "BorrowedLives$Reader", name := "isDigit", desc := "(I)Z" } : Jvm.MethodName)) ∈ lw_all := lw_g (lw_at lw_m2 117 rfl) rfl
theorem q482 : (Jvm.Cond.static ({ cls := "BorrowedLives$Reader", name := "isDigit", desc := "(I)Z" } : Jvm.MethodName)) ∈ lw_all := lw_g (lw_at lw_m2 118 rfl) rfl
theorem q483 : (Jvm.Cond.code ({ cls := "BorrowedLives$Reader", name := "isDigit", desc := "(I)Z" } : Jvm.MethodName) prog_21_method_5_code (1 : Nat) (Option.some Jvm.ClassFile.FieldType.boolean)) ∈ lw_all := lw_g (lw_at lw_m2 119 rfl) rfl
theorem q484 : (Jvm.Cond.stringRef "BorrowedLives$Reader" (48 : Nat) "()<=+-*;") ∈ lw_tbl := lw_at lw_m2 120 rfl
theorem q485 : (Jvm.Cond.methodLink "BorrowedLives$Reader" (50 : Nat) ({ cls := "java/lang/String", name := "indexOf", desc := "(I)I" } : Jvm.MethodName)) ∈ lw_all := lw_g (lw_at lw_m2 121 rfl) rfl
theorem q572 : (Jvm.Cond.instanceMethod ({ cls := "BorrowedLives$Reader", name := "town", desc := "()LBorrowedLives$Town;" } : Jvm.MethodName)) ∈ lw_all := lw_g (lw_at lw_m2 208 rfl) rfl
theorem q573 : (Jvm.Cond.selects "BorrowedLives$Reader" ({ cls := "BorrowedLives$Reader", name := "town", desc := "()LBorrowedLives$Town;" } : Jvm.MethodName) ({ cls := "BorrowedLives$Reader", name := "town", desc := "()LBorrowedLives$Town;" } : Jvm.MethodName)) ∈ lw_all := lw_g (lw_at lw_m2 209 rfl) rfl
theorem q574 : (Jvm.Cond.code ({ cls := "BorrowedLives$Reader", name := "town", desc := "()LBorrowedLives$Town;" } : Jvm.MethodName) prog_21_method_20_code (2 : Nat) (Option.some (Jvm.ClassFile.FieldType.object "BorrowedLives$Town"))) ∈ lw_all := lw_g (lw_at lw_m2 210 rfl) rfl
theorem q575 : (Jvm.Cond.classLink "BorrowedLives$Reader" (121 : Nat) "BorrowedLives$Town") ∈ lw_all := lw_g (lw_at lw_m2 211 rfl) rfl
theorem q576 : (Jvm.Cond.methodLinkNest "BorrowedLives$Reader" (143 : Nat) ({ cls := "BorrowedLives$Town", name := "<init>", desc := "()V" } : Jvm.MethodName) "BorrowedLives") ∈ lw_tbl := lw_at lw_m2 212 rfl
theorem q577 : (Jvm.Cond.stringRef "BorrowedLives$Reader" (144 : Nat) "person bar sign spends mends good wish ") ∈ lw_tbl := lw_at lw_m2 213 rfl
theorem q578 : (Jvm.Cond.methodLink "BorrowedLives$Reader" (71 : Nat) ({ cls := "BorrowedLives$Reader", name := "which", desc := "(Ljava/lang/String;)I" } : Jvm.MethodName)) ∈ lw_all := lw_g (lw_at lw_m2 214 rfl) rfl
theorem q579 : (Jvm.Cond.privateMethod ({ cls := "BorrowedLives$Reader", name := "which", desc := "(Ljava/lang/String;)I" } : Jvm.MethodName)) ∈ lw_tbl := lw_at lw_m2 215 rfl
theorem q580 : (Jvm.Cond.instanceMethod ({ cls := "BorrowedLives$Reader", name := "which", desc := "(Ljava/lang/String;)I" } : Jvm.MethodName)) ∈ lw_all := lw_g (lw_at lw_m2 216 rfl) rfl
theorem q581 : (Jvm.Cond.code ({ cls := "BorrowedLives$Reader", name := "which", desc := "(Ljava/lang/String;)I" } : Jvm.MethodName) prog_21_method_8_code (7 : Nat) (Option.some Jvm.ClassFile.FieldType.int)) ∈ lw_all := lw_g (lw_at lw_m2 217 rfl) rfl
theorem q582 : (Jvm.Cond.methodLink "BorrowedLives$Reader" (60 : Nat) ({ cls := "java/lang/String", name := "length", desc := "()I" } : Jvm.MethodName)) ∈ lw_all := lw_g (lw_at lw_m2 218 rfl) rfl
theorem q583 : (Jvm.Cond.methodLink "BorrowedLives$Reader" (64 : Nat) ({ cls := "java/lang/String", name := "indexOf", desc := "(II)I" } : Jvm.MethodName)) ∈ lw_all := lw_g (lw_at lw_m2 219 rfl) rfl
theorem q584 : (Jvm.Cond.methodLink "BorrowedLives$Reader" (67 : Nat) ({ cls := "java/lang/String", name := "charAt", desc := "(I)C" } : Jvm.MethodName)) ∈ lw_all := lw_g (lw_at lw_m2 220 rfl) rfl
theorem q602 : (Jvm.Cond.methodLink "BorrowedLives$Reader" (75 : Nat) ({ cls := "BorrowedLives$Reader", name := "wrong", desc := "(I)LBorrowedLives$Wrong;" } : Jvm.MethodName)) ∈ lw_all := lw_g (lw_at lw_m2 238 rfl) rfl
theorem q603 : (Jvm.Cond.privateMethod ({ cls := "BorrowedLives$Reader", name := "wrong", desc := "(I)LBorrowedLives$Wrong;" } : Jvm.MethodName)) ∈ lw_tbl := lw_at lw_m2 239 rfl
theorem q604 : (Jvm.Cond.instanceMethod ({ cls := "BorrowedLives$Reader", name := "wrong", desc := "(I)LBorrowedLives$Wrong;" } : Jvm.MethodName)) ∈ lw_all := lw_g (lw_at lw_m3 0 rfl) rfl
theorem q605 : (Jvm.Cond.code ({ cls := "BorrowedLives$Reader", name := "wrong", desc := "(I)LBorrowedLives$Wrong;" } : Jvm.MethodName) prog_21_method_7_code (2 : Nat) (Option.some (Jvm.ClassFile.FieldType.object "BorrowedLives$Wrong"))) ∈ lw_all := lw_g (lw_at lw_m3 1 rfl) rfl
theorem q606 : (Jvm.Cond.classLink "BorrowedLives$Reader" (55 : Nat) "BorrowedLives$Wrong") ∈ lw_all := lw_g (lw_at lw_m3 2 rfl) rfl
theorem q646 : (Jvm.Cond.methodLink "BorrowedLives$Reader" (57 : Nat) ({ cls := "BorrowedLives$Wrong", name := "<init>", desc := "(II)V" } : Jvm.MethodName)) ∈ lw_all := lw_g (lw_at lw_m3 42 rfl) rfl
theorem q675 : (Jvm.Cond.methodLink "BorrowedLives$Reader" (146 : Nat) ({ cls := "BorrowedLives$Reader", name := "isTold", desc := "(I)Z" } : Jvm.MethodName)) ∈ lw_all := lw_g (lw_at lw_m3 71 rfl) rfl
theorem q676 : (Jvm.Cond.privateMethod ({ cls := "BorrowedLives$Reader", name := "isTold", desc := "(I)Z" } : Jvm.MethodName)) ∈ lw_tbl := lw_at lw_m3 72 rfl
theorem q677 : (Jvm.Cond.instanceMethod ({ cls := "BorrowedLives$Reader", name := "isTold", desc := "(I)Z" } : Jvm.MethodName)) ∈ lw_all := lw_g (lw_at lw_m3 73 rfl) rfl
theorem q678 : (Jvm.Cond.code ({ cls := "BorrowedLives$Reader", name := "isTold", desc := "(I)Z" } : Jvm.MethodName) prog_21_method_19_code (2 : Nat) (Option.some Jvm.ClassFile.FieldType.boolean)) ∈ lw_all := lw_g (lw_at lw_m3 74 rfl) rfl
theorem q679 : (Jvm.Cond.methodLink "BorrowedLives$Reader" (153 : Nat) ({ cls := "java/util/ArrayList", name := "size", desc := "()I" } : Jvm.MethodName)) ∈ lw_all := lw_g (lw_at lw_m3 75 rfl) rfl
theorem q680 : (Jvm.Cond.methodLink "BorrowedLives$Reader" (157 : Nat) ({ cls := "BorrowedLives$Reader", name := "line", desc := "(I)V" } : Jvm.MethodName)) ∈ lw_all := lw_g (lw_at lw_m3 76 rfl) rfl
theorem q681 : (Jvm.Cond.privateMethod ({ cls := "BorrowedLives$Reader", name := "line", desc := "(I)V" } : Jvm.MethodName)) ∈ lw_tbl := lw_at lw_m3 77 rfl
theorem q682 : (Jvm.Cond.instanceMethod ({ cls := "BorrowedLives$Reader", name := "line", desc := "(I)V" } : Jvm.MethodName)) ∈ lw_all := lw_g (lw_at lw_m3 78 rfl) rfl
theorem q683 : (Jvm.Cond.code ({ cls := "BorrowedLives$Reader", name := "line", desc := "(I)V" } : Jvm.MethodName) prog_21_method_21_code (4 : Nat) (Option.none : Option Jvm.ClassFile.FieldType)) ∈ lw_all := lw_g (lw_at lw_m3 79 rfl) rfl
theorem q684 : (Jvm.Cond.methodLink "BorrowedLives$Reader" (163 : Nat) ({ cls := "BorrowedLives$Reader", name := "comes", desc := "()V" } : Jvm.MethodName)) ∈ lw_all := lw_g (lw_at lw_m3 80 rfl) rfl
theorem q685 : (Jvm.Cond.privateMethod ({ cls := "BorrowedLives$Reader", name := "comes", desc := "()V" } : Jvm.MethodName)) ∈ lw_tbl := lw_at lw_m3 81 rfl
theorem q686 : (Jvm.Cond.instanceMethod ({ cls := "BorrowedLives$Reader", name := "comes", desc := "()V" } : Jvm.MethodName)) ∈ lw_all := lw_g (lw_at lw_m3 82 rfl) rfl
theorem q687 : (Jvm.Cond.code ({ cls := "BorrowedLives$Reader", name := "comes", desc := "()V" } : Jvm.MethodName) prog_21_method_22_code (4 : Nat) (Option.none : Option Jvm.ClassFile.FieldType)) ∈ lw_all := lw_g (lw_at lw_m3 83 rfl) rfl
theorem q688 : (Jvm.Cond.methodLink "BorrowedLives$Reader" (117 : Nat) ({ cls := "BorrowedLives$Reader", name := "name", desc := "()Ljava/lang/String;" } : Jvm.MethodName)) ∈ lw_all := lw_g (lw_at lw_m3 84 rfl) rfl
theorem q689 : (Jvm.Cond.privateMethod ({ cls := "BorrowedLives$Reader", name := "name", desc := "()Ljava/lang/String;" } : Jvm.MethodName)) ∈ lw_tbl := lw_at lw_m3 85 rfl
theorem q690 : (Jvm.Cond.instanceMethod ({ cls := "BorrowedLives$Reader", name := "name", desc := "()Ljava/lang/String;" } : Jvm.MethodName)) ∈ lw_all := lw_g (lw_at lw_m3 86 rfl) rfl
theorem q691 : (Jvm.Cond.code ({ cls := "BorrowedLives$Reader", name := "name", desc := "()Ljava/lang/String;" } : Jvm.MethodName) prog_21_method_13_code (3 : Nat) (Option.some (Jvm.ClassFile.FieldType.object "java/lang/String"))) ∈ lw_all := lw_g (lw_at lw_m3 87 rfl) rfl
theorem q692 : (Jvm.Cond.stringRef "BorrowedLives$Reader" (83 : Nat) "person skill purse debt home bar sign spends mends good wish hide lot swap day plain miser thief mayor not and or ") ∈ lw_tbl := lw_at lw_m3 88 rfl
theorem q693 : (Jvm.Cond.classLink "BorrowedLives$Reader" (85 : Nat) "java/lang/StringBuilder") ∈ lw_all := lw_g (lw_at lw_m3 89 rfl) rfl
theorem q695 : (Jvm.Cond.methodLink "BorrowedLives$Reader" (87 : Nat) ({ cls := "java/lang/StringBuilder", name := "<init>", desc := "(I)V" } : Jvm.MethodName)) ∈ lw_all := lw_g (lw_at lw_m3 91 rfl) rfl
theorem q723 : (Jvm.Cond.methodLink "BorrowedLives$Reader" (90 : Nat) ({ cls := "java/lang/StringBuilder", name := "append", desc := "(C)Ljava/lang/StringBuilder;" } : Jvm.MethodName)) ∈ lw_all := lw_g (lw_at lw_m3 119 rfl) rfl
theorem q794 : (Jvm.Cond.methodLink "BorrowedLives$Reader" (94 : Nat) ({ cls := "java/lang/StringBuilder", name := "toString", desc := "()Ljava/lang/String;" } : Jvm.MethodName)) ∈ lw_all := lw_g (lw_at lw_m3 190 rfl) rfl
theorem q851 : (Jvm.Cond.methodLink "BorrowedLives$Reader" (120 : Nat) ({ cls := "BorrowedLives$Town", name := "person", desc := "(Ljava/lang/String;)I" } : Jvm.MethodName)) ∈ lw_all := lw_g (lw_at lw_m4 7 rfl) rfl
theorem q866 : (Jvm.Cond.stringRef "BorrowedLives$Reader" (190 : Nat) "plain miser thief mayor ") ∈ lw_tbl := lw_at lw_m4 22 rfl
theorem q867 : (Jvm.Cond.methodLink "BorrowedLives$Reader" (192 : Nat) ({ cls := "BorrowedLives$Reader", name := "one", desc := "(Ljava/lang/String;)I" } : Jvm.MethodName)) ∈ lw_all := lw_g (lw_at lw_m4 23 rfl) rfl
theorem q868 : (Jvm.Cond.privateMethod ({ cls := "BorrowedLives$Reader", name := "one", desc := "(Ljava/lang/String;)I" } : Jvm.MethodName)) ∈ lw_tbl := lw_at lw_m4 24 rfl
theorem q869 : (Jvm.Cond.instanceMethod ({ cls := "BorrowedLives$Reader", name := "one", desc := "(Ljava/lang/String;)I" } : Jvm.MethodName)) ∈ lw_all := lw_g (lw_at lw_m4 25 rfl) rfl
theorem q870 : (Jvm.Cond.code ({ cls := "BorrowedLives$Reader", name := "one", desc := "(Ljava/lang/String;)I" } : Jvm.MethodName) prog_21_method_15_code (3 : Nat) (Option.some Jvm.ClassFile.FieldType.int)) ∈ lw_all := lw_g (lw_at lw_m4 26 rfl) rfl
theorem q871 : (Jvm.Cond.classLink "BorrowedLives$Reader" (170 : Nat) "BorrowedLives$Person") ∈ lw_all := lw_g (lw_at lw_m4 27 rfl) rfl
theorem q873 : (Jvm.Cond.methodLink "BorrowedLives$Reader" (195 : Nat) ({ cls := "BorrowedLives$Person", name := "<init>", desc := "(Ljava/lang/String;)V" } : Jvm.MethodName)) ∈ lw_all := lw_g (lw_at lw_m4 29 rfl) rfl
theorem q880 : (Jvm.Cond.fieldLink "BorrowedLives$Reader" (211 : Nat) "BorrowedLives$Person" "skill" "I") ∈ lw_all := lw_g (lw_at lw_m4 36 rfl) rfl
theorem q882 : (Jvm.Cond.fieldLink "BorrowedLives$Reader" (216 : Nat) "BorrowedLives$Person" "purse" "I") ∈ lw_all := lw_g (lw_at lw_m4 38 rfl) rfl
theorem q884 : (Jvm.Cond.fieldLink "BorrowedLives$Reader" (221 : Nat) "BorrowedLives$Person" "debt" "I") ∈ lw_all := lw_g (lw_at lw_m4 40 rfl) rfl
theorem q886 : (Jvm.Cond.fieldLink "BorrowedLives$Reader" (226 : Nat) "BorrowedLives$Person" "home" "I") ∈ lw_all := lw_g (lw_at lw_m4 42 rfl) rfl
theorem q888 : (Jvm.Cond.fieldLink "BorrowedLives$Reader" (172 : Nat) "BorrowedLives$Person" "barred" "I") ∈ lw_all := lw_g (lw_at lw_m4 44 rfl) rfl
theorem q902 : (Jvm.Cond.classLink "BorrowedLives$Reader" (197 : Nat) "BorrowedLives$Miser") ∈ lw_all := lw_g (lw_at lw_m4 58 rfl) rfl
theorem q904 : (Jvm.Cond.methodLink "BorrowedLives$Reader" (199 : Nat) ({ cls := "BorrowedLives$Miser", name := "<init>", desc := "(Ljava/lang/String;)V" } : Jvm.MethodName)) ∈ lw_all := lw_g (lw_at lw_m4 60 rfl) rfl
theorem q915 : (Jvm.Cond.classLink "BorrowedLives$Reader" (200 : Nat) "BorrowedLives$Thief") ∈ lw_all := lw_g (lw_at lw_m4 71 rfl) rfl
theorem q917 : (Jvm.Cond.methodLink "BorrowedLives$Reader" (202 : Nat) ({ cls := "BorrowedLives$Thief", name := "<init>", desc := "(Ljava/lang/String;)V" } : Jvm.MethodName)) ∈ lw_all := lw_g (lw_at lw_m4 73 rfl) rfl
theorem q928 : (Jvm.Cond.classLink "BorrowedLives$Reader" (203 : Nat) "BorrowedLives$Mayor") ∈ lw_all := lw_g (lw_at lw_m4 84 rfl) rfl
theorem q930 : (Jvm.Cond.methodLink "BorrowedLives$Reader" (205 : Nat) ({ cls := "BorrowedLives$Mayor", name := "<init>", desc := "(Ljava/lang/String;)V" } : Jvm.MethodName)) ∈ lw_all := lw_g (lw_at lw_m4 86 rfl) rfl
theorem q941 : (Jvm.Cond.stringRef "BorrowedLives$Reader" (206 : Nat) "skill ") ∈ lw_tbl := lw_at lw_m4 97 rfl
theorem q942 : (Jvm.Cond.methodLink "BorrowedLives$Reader" (208 : Nat) ({ cls := "BorrowedLives$Reader", name := "number", desc := "(Ljava/lang/String;II)I" } : Jvm.MethodName)) ∈ lw_all := lw_g (lw_at lw_m4 98 rfl) rfl
theorem q943 : (Jvm.Cond.privateMethod ({ cls := "BorrowedLives$Reader", name := "number", desc := "(Ljava/lang/String;II)I" } : Jvm.MethodName)) ∈ lw_tbl := lw_at lw_m4 99 rfl
theorem q944 : (Jvm.Cond.instanceMethod ({ cls := "BorrowedLives$Reader", name := "number", desc := "(Ljava/lang/String;II)I" } : Jvm.MethodName)) ∈ lw_all := lw_g (lw_at lw_m4 100 rfl) rfl
theorem q945 : (Jvm.Cond.code ({ cls := "BorrowedLives$Reader", name := "number", desc := "(Ljava/lang/String;II)I" } : Jvm.MethodName) prog_21_method_14_code (4 : Nat) (Option.some Jvm.ClassFile.FieldType.int)) ∈ lw_all := lw_g (lw_at lw_m4 101 rfl) rfl
theorem q946 : (Jvm.Cond.methodLink "BorrowedLives$Reader" (98 : Nat) ({ cls := "BorrowedLives$Reader", name := "need", desc := "(Ljava/lang/String;)V" } : Jvm.MethodName)) ∈ lw_all := lw_g (lw_at lw_m4 102 rfl) rfl
theorem q947 : (Jvm.Cond.privateMethod ({ cls := "BorrowedLives$Reader", name := "need", desc := "(Ljava/lang/String;)V" } : Jvm.MethodName)) ∈ lw_tbl := lw_at lw_m4 103 rfl
theorem q948 : (Jvm.Cond.instanceMethod ({ cls := "BorrowedLives$Reader", name := "need", desc := "(Ljava/lang/String;)V" } : Jvm.MethodName)) ∈ lw_all := lw_g (lw_at lw_m4 104 rfl) rfl
theorem q949 : (Jvm.Cond.code ({ cls := "BorrowedLives$Reader", name := "need", desc := "(Ljava/lang/String;)V" } : Jvm.MethodName) prog_21_method_9_code (2 : Nat) (Option.none : Option Jvm.ClassFile.FieldType)) ∈ lw_all := lw_g (lw_at lw_m4 105 rfl) rfl
theorem q950 : (Jvm.Cond.methodLink "BorrowedLives$Reader" (102 : Nat) ({ cls := "BorrowedLives$Reader", name := "number", desc := "(II)I" } : Jvm.MethodName)) ∈ lw_all := lw_g (lw_at lw_m4 106 rfl) rfl
theorem q951 : (Jvm.Cond.privateMethod ({ cls := "BorrowedLives$Reader", name := "number", desc := "(II)I" } : Jvm.MethodName)) ∈ lw_tbl := lw_at lw_m4 107 rfl
theorem q952 : (Jvm.Cond.instanceMethod ({ cls := "BorrowedLives$Reader", name := "number", desc := "(II)I" } : Jvm.MethodName)) ∈ lw_all := lw_g (lw_at lw_m4 108 rfl) rfl
theorem q953 : (Jvm.Cond.code ({ cls := "BorrowedLives$Reader", name := "number", desc := "(II)I" } : Jvm.MethodName) prog_21_method_12_code (4 : Nat) (Option.some Jvm.ClassFile.FieldType.int)) ∈ lw_all := lw_g (lw_at lw_m4 109 rfl) rfl
theorem q954 : (Jvm.Cond.stringRef "BorrowedLives$Reader" (214 : Nat) "purse ") ∈ lw_tbl := lw_at lw_m4 110 rfl
theorem q955 : (Jvm.Cond.stringRef "BorrowedLives$Reader" (219 : Nat) "debt ") ∈ lw_tbl := lw_at lw_m4 111 rfl
theorem q956 : (Jvm.Cond.stringRef "BorrowedLives$Reader" (224 : Nat) "home ") ∈ lw_tbl := lw_at lw_m4 112 rfl
theorem q957 : (Jvm.Cond.methodLink "BorrowedLives$Reader" (229 : Nat) ({ cls := "java/util/ArrayList", name := "add", desc := "(Ljava/lang/Object;)Z" } : Jvm.MethodName)) ∈ lw_all := lw_g (lw_at lw_m4 113 rfl) rfl
theorem q999 : (Jvm.Cond.selects "BorrowedLives$Reader" ({ cls := "java/lang/Object", name := "getClass", desc := "()Ljava/lang/Class;" } : Jvm.MethodName) ({ cls := "java/lang/Object", name := "getClass", desc := "()Ljava/lang/Class;" } : Jvm.MethodName)) ∈ lw_all := lw_g (lw_at lw_m4 155 rfl) rfl
theorem q1019 : (Jvm.Cond.methodLink "BorrowedLives$Reader" (125 : Nat) ({ cls := "BorrowedLives$Reader", name := "person", desc := "()I" } : Jvm.MethodName)) ∈ lw_all := lw_g (lw_at lw_m4 175 rfl) rfl
theorem q1020 : (Jvm.Cond.privateMethod ({ cls := "BorrowedLives$Reader", name := "person", desc := "()I" } : Jvm.MethodName)) ∈ lw_tbl := lw_at lw_m4 176 rfl
theorem q1021 : (Jvm.Cond.instanceMethod ({ cls := "BorrowedLives$Reader", name := "person", desc := "()I" } : Jvm.MethodName)) ∈ lw_all := lw_g (lw_at lw_m4 177 rfl) rfl
theorem q1022 : (Jvm.Cond.code ({ cls := "BorrowedLives$Reader", name := "person", desc := "()I" } : Jvm.MethodName) prog_21_method_17_code (2 : Nat) (Option.some Jvm.ClassFile.FieldType.int)) ∈ lw_all := lw_g (lw_at lw_m4 178 rfl) rfl
theorem q1023 : (Jvm.Cond.methodLink "BorrowedLives$Reader" (166 : Nat) ({ cls := "java/util/ArrayList", name := "get", desc := "(I)Ljava/lang/Object;" } : Jvm.MethodName)) ∈ lw_all := lw_g (lw_at lw_m4 179 rfl) rfl
theorem q1024 : (Jvm.Cond.methodLinkNest "BorrowedLives$Reader" (175 : Nat) ({ cls := "BorrowedLives", name := "isIn", desc := "(II)Z" } : Jvm.MethodName) "BorrowedLives") ∈ lw_tbl := lw_at lw_m4 180 rfl
theorem q1027 : (Jvm.Cond.stringRef "BorrowedLives$Reader" (182 : Nat) "money owed neat able trade ") ∈ lw_tbl := lw_at lw_m4 183 rfl
theorem q1028 : (Jvm.Cond.methodLink "BorrowedLives$Reader" (184 : Nat) ({ cls := "BorrowedLives$Reader", name := "worked", desc := "(Ljava/lang/String;)LBorrowedLives$Expression;" } : Jvm.MethodName)) ∈ lw_all := lw_g (lw_at lw_m4 184 rfl) rfl
theorem q1029 : (Jvm.Cond.privateMethod ({ cls := "BorrowedLives$Reader", name := "worked", desc := "(Ljava/lang/String;)LBorrowedLives$Expression;" } : Jvm.MethodName)) ∈ lw_tbl := lw_at lw_m4 185 rfl
theorem q1030 : (Jvm.Cond.instanceMethod ({ cls := "BorrowedLives$Reader", name := "worked", desc := "(Ljava/lang/String;)LBorrowedLives$Expression;" } : Jvm.MethodName)) ∈ lw_all := lw_g (lw_at lw_m4 186 rfl) rfl
theorem q1031 : (Jvm.Cond.code ({ cls := "BorrowedLives$Reader", name := "worked", desc := "(Ljava/lang/String;)LBorrowedLives$Expression;" } : Jvm.MethodName) prog_21_method_16_code (2 : Nat) (Option.some (Jvm.ClassFile.FieldType.object "BorrowedLives$Expression"))) ∈ lw_all := lw_g (lw_at lw_m4 187 rfl) rfl
theorem q1032 : (Jvm.Cond.methodLink "BorrowedLives$Reader" (109 : Nat) ({ cls := "BorrowedLives$Reader", name := "expression", desc := "()LBorrowedLives$Expression;" } : Jvm.MethodName)) ∈ lw_all := lw_g (lw_at lw_m4 188 rfl) rfl
theorem q1033 : (Jvm.Cond.privateMethod ({ cls := "BorrowedLives$Reader", name := "expression", desc := "()LBorrowedLives$Expression;" } : Jvm.MethodName)) ∈ lw_tbl := lw_at lw_m4 189 rfl
theorem q1034 : (Jvm.Cond.instanceMethod ({ cls := "BorrowedLives$Reader", name := "expression", desc := "()LBorrowedLives$Expression;" } : Jvm.MethodName)) ∈ lw_all := lw_g (lw_at lw_m4 190 rfl) rfl
theorem q1035 : (Jvm.Cond.code ({ cls := "BorrowedLives$Reader", name := "expression", desc := "()LBorrowedLives$Expression;" } : Jvm.MethodName) prog_21_method_25_code (3 : Nat) (Option.some (Jvm.ClassFile.FieldType.object "BorrowedLives$Expression"))) ∈ lw_all := lw_g (lw_at lw_m4 191 rfl) rfl
theorem q1036 : (Jvm.Cond.methodLink "BorrowedLives$Reader" (258 : Nat) ({ cls := "BorrowedLives$Reader", name := "test", desc := "()LBorrowedLives$Expression;" } : Jvm.MethodName)) ∈ lw_all := lw_g (lw_at lw_m4 192 rfl) rfl
theorem q1037 : (Jvm.Cond.privateMethod ({ cls := "BorrowedLives$Reader", name := "test", desc := "()LBorrowedLives$Expression;" } : Jvm.MethodName)) ∈ lw_tbl := lw_at lw_m4 193 rfl
theorem q1038 : (Jvm.Cond.instanceMethod ({ cls := "BorrowedLives$Reader", name := "test", desc := "()LBorrowedLives$Expression;" } : Jvm.MethodName)) ∈ lw_all := lw_g (lw_at lw_m4 194 rfl) rfl
theorem q1039 : (Jvm.Cond.code ({ cls := "BorrowedLives$Reader", name := "test", desc := "()LBorrowedLives$Expression;" } : Jvm.MethodName) prog_21_method_26_code (3 : Nat) (Option.some (Jvm.ClassFile.FieldType.object "BorrowedLives$Expression"))) ∈ lw_all := lw_g (lw_at lw_m4 195 rfl) rfl
theorem q1040 : (Jvm.Cond.methodLink "BorrowedLives$Reader" (268 : Nat) ({ cls := "BorrowedLives$Reader", name := "sum", desc := "()LBorrowedLives$Expression;" } : Jvm.MethodName)) ∈ lw_all := lw_g (lw_at lw_m4 196 rfl) rfl
theorem q1041 : (Jvm.Cond.privateMethod ({ cls := "BorrowedLives$Reader", name := "sum", desc := "()LBorrowedLives$Expression;" } : Jvm.MethodName)) ∈ lw_tbl := lw_at lw_m4 197 rfl
theorem q1042 : (Jvm.Cond.instanceMethod ({ cls := "BorrowedLives$Reader", name := "sum", desc := "()LBorrowedLives$Expression;" } : Jvm.MethodName)) ∈ lw_all := lw_g (lw_at lw_m4 198 rfl) rfl
theorem q1043 : (Jvm.Cond.code ({ cls := "BorrowedLives$Reader", name := "sum", desc := "()LBorrowedLives$Expression;" } : Jvm.MethodName) prog_21_method_27_code (3 : Nat) (Option.some (Jvm.ClassFile.FieldType.object "BorrowedLives$Expression"))) ∈ lw_all := lw_g (lw_at lw_m4 199 rfl) rfl
theorem q1044 : (Jvm.Cond.methodLink "BorrowedLives$Reader" (271 : Nat) ({ cls := "BorrowedLives$Reader", name := "product", desc := "()LBorrowedLives$Expression;" } : Jvm.MethodName)) ∈ lw_all := lw_g (lw_at lw_m4 200 rfl) rfl
theorem q1045 : (Jvm.Cond.privateMethod ({ cls := "BorrowedLives$Reader", name := "product", desc := "()LBorrowedLives$Expression;" } : Jvm.MethodName)) ∈ lw_tbl := lw_at lw_m4 201 rfl
theorem q1046 : (Jvm.Cond.instanceMethod ({ cls := "BorrowedLives$Reader", name := "product", desc := "()LBorrowedLives$Expression;" } : Jvm.MethodName)) ∈ lw_all := lw_g (lw_at lw_m4 202 rfl) rfl
theorem q1047 : (Jvm.Cond.code ({ cls := "BorrowedLives$Reader", name := "product", desc := "()LBorrowedLives$Expression;" } : Jvm.MethodName) prog_21_method_28_code (2 : Nat) (Option.some (Jvm.ClassFile.FieldType.object "BorrowedLives$Expression"))) ∈ lw_all := lw_g (lw_at lw_m4 203 rfl) rfl
theorem q1048 : (Jvm.Cond.methodLink "BorrowedLives$Reader" (274 : Nat) ({ cls := "BorrowedLives$Reader", name := "part", desc := "()LBorrowedLives$Expression;" } : Jvm.MethodName)) ∈ lw_all := lw_g (lw_at lw_m4 204 rfl) rfl
theorem q1049 : (Jvm.Cond.privateMethod ({ cls := "BorrowedLives$Reader", name := "part", desc := "()LBorrowedLives$Expression;" } : Jvm.MethodName)) ∈ lw_tbl := lw_at lw_m4 205 rfl
theorem q1050 : (Jvm.Cond.instanceMethod ({ cls := "BorrowedLives$Reader", name := "part", desc := "()LBorrowedLives$Expression;" } : Jvm.MethodName)) ∈ lw_all := lw_g (lw_at lw_m4 206 rfl) rfl
theorem q1051 : (Jvm.Cond.code ({ cls := "BorrowedLives$Reader", name := "part", desc := "()LBorrowedLives$Expression;" } : Jvm.MethodName) prog_21_method_29_code (5 : Nat) (Option.some (Jvm.ClassFile.FieldType.object "BorrowedLives$Expression"))) ∈ lw_all := lw_g (lw_at lw_m4 207 rfl) rfl
theorem q1052 : (Jvm.Cond.stringRef "BorrowedLives$Reader" (277 : Nat) "not ") ∈ lw_tbl := lw_at lw_m4 208 rfl
theorem q1053 : (Jvm.Cond.methodLink "BorrowedLives$Reader" (79 : Nat) ({ cls := "BorrowedLives$Reader", name := "isSign", desc := "(C)Z" } : Jvm.MethodName)) ∈ lw_all := lw_g (lw_at lw_m4 209 rfl) rfl
theorem q1054 : (Jvm.Cond.privateMethod ({ cls := "BorrowedLives$Reader", name := "isSign", desc := "(C)Z" } : Jvm.MethodName)) ∈ lw_tbl := lw_at lw_m4 210 rfl
theorem q1055 : (Jvm.Cond.instanceMethod ({ cls := "BorrowedLives$Reader", name := "isSign", desc := "(C)Z" } : Jvm.MethodName)) ∈ lw_all := lw_g (lw_at lw_m4 211 rfl) rfl
theorem q1056 : (Jvm.Cond.code ({ cls := "BorrowedLives$Reader", name := "isSign", desc := "(C)Z" } : Jvm.MethodName) prog_21_method_10_code (2 : Nat) (Option.some Jvm.ClassFile.FieldType.boolean)) ∈ lw_all := lw_g (lw_at lw_m4 212 rfl) rfl
theorem q1057 : (Jvm.Cond.classLink "BorrowedLives$Reader" (279 : Nat) "BorrowedLives$Given") ∈ lw_all := lw_g (lw_at lw_m4 213 rfl) rfl
theorem q1059 : (Jvm.Cond.methodLink "BorrowedLives$Reader" (281 : Nat) ({ cls := "BorrowedLives$Given", name := "<init>", desc := "(I)V" } : Jvm.MethodName)) ∈ lw_all := lw_g (lw_at lw_m4 215 rfl) rfl
theorem q1070 : (Jvm.Cond.classLink "BorrowedLives$Reader" (282 : Nat) "BorrowedLives$Fact") ∈ lw_all := lw_g (lw_at lw_m4 226 rfl) rfl
theorem q1072 : (Jvm.Cond.methodLink "BorrowedLives$Reader" (284 : Nat) ({ cls := "BorrowedLives$Fact", name := "<init>", desc := "(I)V" } : Jvm.MethodName)) ∈ lw_all := lw_g (lw_at lw_m4 228 rfl) rfl
theorem q1080 : (Jvm.Cond.classLink "BorrowedLives$Reader" (285 : Nat) "BorrowedLives$Not") ∈ lw_all := lw_g (lw_at lw_m4 236 rfl) rfl
theorem q1082 : (Jvm.Cond.methodLink "BorrowedLives$Reader" (287 : Nat) ({ cls := "BorrowedLives$Not", name := "<init>", desc := "(LBorrowedLives$Expression;)V" } : Jvm.MethodName)) ∈ lw_all := lw_g (lw_at lw_m4 238 rfl) rfl
theorem q1090 : (Jvm.Cond.methodLink "BorrowedLives$Reader" (160 : Nat) ({ cls := "BorrowedLives$Reader", name := "need", desc := "(C)V" } : Jvm.MethodName)) ∈ lw_all := lw_g (lw_at lw_m5 6 rfl) rfl
theorem q1091 : (Jvm.Cond.privateMethod ({ cls := "BorrowedLives$Reader", name := "need", desc := "(C)V" } : Jvm.MethodName)) ∈ lw_tbl := lw_at lw_m5 7 rfl
theorem q1092 : (Jvm.Cond.instanceMethod ({ cls := "BorrowedLives$Reader", name := "need", desc := "(C)V" } : Jvm.MethodName)) ∈ lw_all := lw_g (lw_at lw_m5 8 rfl) rfl
theorem q1093 : (Jvm.Cond.code ({ cls := "BorrowedLives$Reader", name := "need", desc := "(C)V" } : Jvm.MethodName) prog_21_method_11_code (2 : Nat) (Option.none : Option Jvm.ClassFile.FieldType)) ∈ lw_all := lw_g (lw_at lw_m5 9 rfl) rfl
theorem q1094 : (Jvm.Cond.classLink "BorrowedLives$Reader" (263 : Nat) "BorrowedLives$Two") ∈ lw_all := lw_g (lw_at lw_m5 10 rfl) rfl
theorem q1096 : (Jvm.Cond.methodLink "BorrowedLives$Reader" (265 : Nat) ({ cls := "BorrowedLives$Two", name := "<init>", desc := "(CLBorrowedLives$Expression;LBorrowedLives$Expression;)V" } : Jvm.MethodName)) ∈ lw_all := lw_g (lw_at lw_m5 12 rfl) rfl
theorem q1110 : (Jvm.Cond.stringRef "BorrowedLives$Reader" (261 : Nat) "and or ") ∈ lw_tbl := lw_at lw_m5 26 rfl
theorem q1111 : (Jvm.Cond.stringRef "BorrowedLives$Reader" (188 : Nat) "money owed neat ") ∈ lw_tbl := lw_at lw_m5 27 rfl
theorem q1117 : (Jvm.Cond.instanceMethod ({ cls := "BorrowedLives$Reader", name := "year", desc := "(LBorrowedLives$Town;)Ljava/util/ArrayList;" } : Jvm.MethodName)) ∈ lw_all := lw_g (lw_at lw_m5 33 rfl) rfl
theorem q1118 : (Jvm.Cond.selects "BorrowedLives$Reader" ({ cls := "BorrowedLives$Reader", name := "year", desc := "(LBorrowedLives$Town;)Ljava/util/ArrayList;" } : Jvm.MethodName) ({ cls := "BorrowedLives$Reader", name := "year", desc := "(LBorrowedLives$Town;)Ljava/util/ArrayList;" } : Jvm.MethodName)) ∈ lw_all := lw_g (lw_at lw_m5 34 rfl) rfl
theorem q1119 : (Jvm.Cond.code ({ cls := "BorrowedLives$Reader", name := "year", desc := "(LBorrowedLives$Town;)Ljava/util/ArrayList;" } : Jvm.MethodName) prog_21_method_23_code (4 : Nat) (Option.some (Jvm.ClassFile.FieldType.object "java/util/ArrayList"))) ∈ lw_all := lw_g (lw_at lw_m5 35 rfl) rfl
theorem q1120 : (Jvm.Cond.classLink "BorrowedLives$Reader" (154 : Nat) "java/util/ArrayList") ∈ lw_all := lw_g (lw_at lw_m5 36 rfl) rfl
theorem q1121 : (Jvm.Cond.methodLink "BorrowedLives$Reader" (233 : Nat) ({ cls := "java/util/ArrayList", name := "<init>", desc := "(I)V" } : Jvm.MethodName)) ∈ lw_all := lw_g (lw_at lw_m5 37 rfl) rfl
theorem q1122 : (Jvm.Cond.stringRef "BorrowedLives$Reader" (234 : Nat) "hide lot swap day home ") ∈ lw_tbl := lw_at lw_m5 38 rfl
theorem q1123 : (Jvm.Cond.methodLink "BorrowedLives$Reader" (236 : Nat) ({ cls := "BorrowedLives$Reader", name := "told", desc := "(I)LBorrowedLives$Line;" } : Jvm.MethodName)) ∈ lw_all := lw_g (lw_at lw_m5 39 rfl) rfl
theorem q1124 : (Jvm.Cond.privateMethod ({ cls := "BorrowedLives$Reader", name := "told", desc := "(I)LBorrowedLives$Line;" } : Jvm.MethodName)) ∈ lw_tbl := lw_at lw_m5 40 rfl
theorem q1125 : (Jvm.Cond.instanceMethod ({ cls := "BorrowedLives$Reader", name := "told", desc := "(I)LBorrowedLives$Line;" } : Jvm.MethodName)) ∈ lw_all := lw_g (lw_at lw_m5 41 rfl) rfl
theorem q1126 : (Jvm.Cond.code ({ cls := "BorrowedLives$Reader", name := "told", desc := "(I)LBorrowedLives$Line;" } : Jvm.MethodName) prog_21_method_24_code (3 : Nat) (Option.some (Jvm.ClassFile.FieldType.object "BorrowedLives$Line"))) ∈ lw_all := lw_g (lw_at lw_m5 42 rfl) rfl
theorem q1127 : (Jvm.Cond.classLink "BorrowedLives$Reader" (240 : Nat) "BorrowedLives$Drawn") ∈ lw_all := lw_g (lw_at lw_m5 43 rfl) rfl
theorem q1129 : (Jvm.Cond.methodLink "BorrowedLives$Reader" (242 : Nat) ({ cls := "BorrowedLives$Drawn", name := "<init>", desc := "(I)V" } : Jvm.MethodName)) ∈ lw_all := lw_g (lw_at lw_m5 45 rfl) rfl
theorem q1140 : (Jvm.Cond.classLink "BorrowedLives$Reader" (243 : Nat) "BorrowedLives$Passed") ∈ lw_all := lw_g (lw_at lw_m5 56 rfl) rfl
theorem q1142 : (Jvm.Cond.methodLinkNest "BorrowedLives$Reader" (245 : Nat) ({ cls := "BorrowedLives$Passed", name := "<init>", desc := "()V" } : Jvm.MethodName) "BorrowedLives") ∈ lw_tbl := lw_at lw_m5 58 rfl
theorem q1147 : (Jvm.Cond.classLink "BorrowedLives$Reader" (246 : Nat) "BorrowedLives$Gone") ∈ lw_all := lw_g (lw_at lw_m5 63 rfl) rfl
theorem q1149 : (Jvm.Cond.methodLinkNest "BorrowedLives$Reader" (248 : Nat) ({ cls := "BorrowedLives$Gone", name := "<init>", desc := "()V" } : Jvm.MethodName) "BorrowedLives") ∈ lw_tbl := lw_at lw_m5 65 rfl
theorem q1154 : (Jvm.Cond.classLink "BorrowedLives$Reader" (249 : Nat) "BorrowedLives$Hidden") ∈ lw_all := lw_g (lw_at lw_m5 70 rfl) rfl
theorem q1156 : (Jvm.Cond.methodLink "BorrowedLives$Reader" (251 : Nat) ({ cls := "BorrowedLives$Hidden", name := "<init>", desc := "(II)V" } : Jvm.MethodName)) ∈ lw_all := lw_g (lw_at lw_m5 72 rfl) rfl
theorem q1167 : (Jvm.Cond.classLink "BorrowedLives$Reader" (252 : Nat) "BorrowedLives$Swapped") ∈ lw_all := lw_g (lw_at lw_m5 83 rfl) rfl
theorem q1169 : (Jvm.Cond.methodLink "BorrowedLives$Reader" (254 : Nat) ({ cls := "BorrowedLives$Reader", name := "other", desc := "(I)I" } : Jvm.MethodName)) ∈ lw_all := lw_g (lw_at lw_m5 85 rfl) rfl
theorem q1170 : (Jvm.Cond.privateMethod ({ cls := "BorrowedLives$Reader", name := "other", desc := "(I)I" } : Jvm.MethodName)) ∈ lw_tbl := lw_at lw_m5 86 rfl
theorem q1171 : (Jvm.Cond.instanceMethod ({ cls := "BorrowedLives$Reader", name := "other", desc := "(I)I" } : Jvm.MethodName)) ∈ lw_all := lw_g (lw_at lw_m5 87 rfl) rfl
theorem q1172 : (Jvm.Cond.code ({ cls := "BorrowedLives$Reader", name := "other", desc := "(I)I" } : Jvm.MethodName) prog_21_method_18_code (3 : Nat) (Option.some Jvm.ClassFile.FieldType.int)) ∈ lw_all := lw_g (lw_at lw_m5 88 rfl) rfl
theorem q1173 : (Jvm.Cond.methodLink "BorrowedLives$Reader" (257 : Nat) ({ cls := "BorrowedLives$Swapped", name := "<init>", desc := "(II)V" } : Jvm.MethodName)) ∈ lw_all := lw_g (lw_at lw_m5 89 rfl) rfl
theorem q2416 : (Jvm.Cond.castable "BorrowedLives$Reader" "java/lang/Object") ∈ lw_tbl := lw_at lw_m10 132 rfl
theorem in_X2 : ∀ w ∈ wsX20, w ∈ lw_all := lw_in wsX20 [197, 199, 201, 203, 205, 207, 209, 211, 213] (by decide +kernel) (by decide +kernel)
