/-! ExcessTree -/
set_option maxRecDepth 100000
def RX0 : String := "ExcessTree"
def TX0 : u_T := fun k => match k with
  | 0 => ("ExcessTree", "now", "LExcessTree$Row;", true)
  | 1 => ("ExcessTree", "images", "[LExcessTree$Row;", true)
  | 2 => ("ExcessTree", "kept", "I", false)
  | 3 => ("ExcessTree", "least", "I", false)
  | 4 => ("ExcessTree", "leastAt", "I", false)
  | 5 => ("ExcessTree", "leastMany", "I", false)
  | 6 => ("ExcessTree", "most", "I", false)
  | 7 => ("ExcessTree", "mostAt", "I", false)
  | 8 => ("ExcessTree", "tape", "[B", true)
  | 9 => ("ExcessTree", "taped", "I", false)
  | 10 => ("ExcessTree", "fault", "I", false)
  | 11 => ("ExcessTree", "cut", "LExcessTree$Row;", true)
  | 12 => ("ExcessTree", "sheets", "[LExcessTree$Sheet;", true)
  | 13 => ("ExcessTree", "taken", "LExcessTree$Row;", true)
  | _ => ("ExcessTree", "torn", "I", false)
def tyX0 : Nat → FieldType := fun k => match k with
  | 0 => .object "ExcessTree$Row"
  | 1 => .array (.object "ExcessTree$Row")
  | 2 => .int
  | 3 => .int
  | 4 => .int
  | 5 => .int
  | 6 => .int
  | 7 => .int
  | 8 => .array .byte
  | 9 => .int
  | 10 => .int
  | 11 => .object "ExcessTree$Row"
  | 12 => .array (.object "ExcessTree$Sheet")
  | 13 => .object "ExcessTree$Row"
  | _ => .int
abbrev wsX00 : List Cond := u_ws RX0 TX0 15
set_option maxRecDepth 100000 in
theorem nmX0 : ∀ a, a < 15 → ∀ b, b < 15 → a ≠ b → (TX0 a).2.1 ≠ (TX0 b).2.1 := by decide +kernel
set_option maxRecDepth 100000 in
theorem tyX0_ok : ∀ k, k < 15 → parseFieldDescriptor (TX0 k).2.2.1 = some (tyX0 k) := by decide +kernel
abbrev cX0_init : ByteArray := prog_1_method_15_code
def yX0_init : MethodName := ⟨RX0, "<init>", "()V"⟩
def dkwX0_init_5 : List UInt8 := [182, 0, 110, 177]
abbrev dktX0_init_5 : List UInt8 := dkwX0_init_5 ++ []
def dkwX0_init_4 : List UInt8 := [180, 0, 102, 27, 187, 0, 100, 89, 183, 0, 109, 83, 132, 1, 1, 167, 255, 235, 42, 180, 0, 1]
abbrev dktX0_init_4 : List UInt8 := dkwX0_init_4 ++ dktX0_init_5
def dkwX0_init_3 : List UInt8 := [181, 0, 102, 42, 187, 0, 8, 89, 183, 0, 88, 181, 0, 106, 3, 60, 27, 7, 162, 0, 22, 42]
abbrev dktX0_init_3 : List UInt8 := dkwX0_init_3 ++ dktX0_init_4
def dkwX0_init_2 : List UInt8 := [17, 0, 160, 188, 8, 181, 0, 93, 42, 187, 0, 8, 89, 183, 0, 88, 181, 0, 97, 42, 7, 189, 0, 100]
abbrev dktX0_init_2 : List UInt8 := dkwX0_init_2 ++ dktX0_init_3
def dkwX0_init_1 : List UInt8 := [187, 0, 8, 89, 183, 0, 88, 83, 89, 4, 187, 0, 8, 89, 183, 0, 88, 83, 181, 0, 89, 42]
abbrev dktX0_init_1 : List UInt8 := dkwX0_init_1 ++ dktX0_init_2
def dkwX0_init_0 : List UInt8 := [42, 183, 0, 82, 42, 187, 0, 8, 89, 183, 0, 88, 181, 0, 1, 42, 5, 189, 0, 8, 89, 3]
abbrev dktX0_init_0 : List UInt8 := dkwX0_init_0 ++ dktX0_init_1
theorem dksX0_init_0 : cX0_init.data.toList.drop 0 = dktX0_init_0 := by decide +kernel
theorem dksX0_init_1 : cX0_init.data.toList.drop 22 = dktX0_init_1 := dk_seg dksX0_init_0 22 rfl rfl
theorem dksX0_init_2 : cX0_init.data.toList.drop 44 = dktX0_init_2 := dk_seg dksX0_init_1 22 rfl rfl
theorem dksX0_init_3 : cX0_init.data.toList.drop 68 = dktX0_init_3 := dk_seg dksX0_init_2 24 rfl rfl
theorem dksX0_init_4 : cX0_init.data.toList.drop 90 = dktX0_init_4 := dk_seg dksX0_init_3 22 rfl rfl
theorem dksX0_init_5 : cX0_init.data.toList.drop 112 = dktX0_init_5 := dk_seg dksX0_init_4 22 rfl rfl
theorem dX0_init_0 : decode cX0_init 0 = .ok (.aload_n 0, 1) := dk_42 (dk_at dksX0_init_0 0 rfl rfl)
theorem dX0_init_1 : decode cX0_init 1 = .ok (.invokespecial 82, 3) := dk_183 0 82 (dk_at dksX0_init_0 1 rfl rfl)
theorem dX0_init_4 : decode cX0_init 4 = .ok (.aload_n 0, 1) := dk_42 (dk_at dksX0_init_0 4 rfl rfl)
theorem dX0_init_5 : decode cX0_init 5 = .ok (.new 8, 3) := dk_187 0 8 (dk_at dksX0_init_0 5 rfl rfl)
theorem dX0_init_8 : decode cX0_init 8 = .ok (.dup, 1) := dk_89 (dk_at dksX0_init_0 8 rfl rfl)
theorem dX0_init_9 : decode cX0_init 9 = .ok (.invokespecial 88, 3) := dk_183 0 88 (dk_at dksX0_init_0 9 rfl rfl)
theorem dX0_init_12 : decode cX0_init 12 = .ok (.putfield 1, 3) := dk_181 0 1 (dk_at dksX0_init_0 12 rfl rfl)
theorem dX0_init_15 : decode cX0_init 15 = .ok (.aload_n 0, 1) := dk_42 (dk_at dksX0_init_0 15 rfl rfl)
theorem dX0_init_16 : decode cX0_init 16 = .ok (.iconst 2, 1) := dk_5 (dk_at dksX0_init_0 16 rfl rfl)
theorem dX0_init_17 : decode cX0_init 17 = .ok (.anewarray 8, 3) := dk_189 0 8 (dk_at dksX0_init_0 17 rfl rfl)
theorem dX0_init_20 : decode cX0_init 20 = .ok (.dup, 1) := dk_89 (dk_at dksX0_init_0 20 rfl rfl)
theorem dX0_init_21 : decode cX0_init 21 = .ok (.iconst 0, 1) := dk_3 (dk_at dksX0_init_0 21 rfl rfl)
theorem dX0_init_22 : decode cX0_init 22 = .ok (.new 8, 3) := dk_187 0 8 (dk_at dksX0_init_1 0 rfl rfl)
theorem dX0_init_25 : decode cX0_init 25 = .ok (.dup, 1) := dk_89 (dk_at dksX0_init_1 3 rfl rfl)
theorem dX0_init_26 : decode cX0_init 26 = .ok (.invokespecial 88, 3) := dk_183 0 88 (dk_at dksX0_init_1 4 rfl rfl)
theorem dX0_init_29 : decode cX0_init 29 = .ok (.aastore, 1) := dk_83 (dk_at dksX0_init_1 7 rfl rfl)
theorem dX0_init_30 : decode cX0_init 30 = .ok (.dup, 1) := dk_89 (dk_at dksX0_init_1 8 rfl rfl)
theorem dX0_init_31 : decode cX0_init 31 = .ok (.iconst 1, 1) := dk_4 (dk_at dksX0_init_1 9 rfl rfl)
theorem dX0_init_32 : decode cX0_init 32 = .ok (.new 8, 3) := dk_187 0 8 (dk_at dksX0_init_1 10 rfl rfl)
theorem dX0_init_35 : decode cX0_init 35 = .ok (.dup, 1) := dk_89 (dk_at dksX0_init_1 13 rfl rfl)
theorem dX0_init_36 : decode cX0_init 36 = .ok (.invokespecial 88, 3) := dk_183 0 88 (dk_at dksX0_init_1 14 rfl rfl)
theorem dX0_init_39 : decode cX0_init 39 = .ok (.aastore, 1) := dk_83 (dk_at dksX0_init_1 17 rfl rfl)
theorem dX0_init_40 : decode cX0_init 40 = .ok (.putfield 89, 3) := dk_181 0 89 (dk_at dksX0_init_1 18 rfl rfl)
theorem dX0_init_43 : decode cX0_init 43 = .ok (.aload_n 0, 1) := dk_42 (dk_at dksX0_init_1 21 rfl rfl)
theorem dX0_init_44 : decode cX0_init 44 = .ok (.sipush 160, 3) := dk_17 0 160 (dk_at dksX0_init_2 0 rfl rfl)
theorem dX0_init_47 : decode cX0_init 47 = .ok (.newarray .byte, 2) := dk_188_8 (dk_at dksX0_init_2 3 rfl rfl)
theorem dX0_init_49 : decode cX0_init 49 = .ok (.putfield 93, 3) := dk_181 0 93 (dk_at dksX0_init_2 5 rfl rfl)
theorem dX0_init_52 : decode cX0_init 52 = .ok (.aload_n 0, 1) := dk_42 (dk_at dksX0_init_2 8 rfl rfl)
theorem dX0_init_53 : decode cX0_init 53 = .ok (.new 8, 3) := dk_187 0 8 (dk_at dksX0_init_2 9 rfl rfl)
theorem dX0_init_56 : decode cX0_init 56 = .ok (.dup, 1) := dk_89 (dk_at dksX0_init_2 12 rfl rfl)
theorem dX0_init_57 : decode cX0_init 57 = .ok (.invokespecial 88, 3) := dk_183 0 88 (dk_at dksX0_init_2 13 rfl rfl)
theorem dX0_init_60 : decode cX0_init 60 = .ok (.putfield 97, 3) := dk_181 0 97 (dk_at dksX0_init_2 16 rfl rfl)
theorem dX0_init_63 : decode cX0_init 63 = .ok (.aload_n 0, 1) := dk_42 (dk_at dksX0_init_2 19 rfl rfl)
theorem dX0_init_64 : decode cX0_init 64 = .ok (.iconst 4, 1) := dk_7 (dk_at dksX0_init_2 20 rfl rfl)
theorem dX0_init_65 : decode cX0_init 65 = .ok (.anewarray 100, 3) := dk_189 0 100 (dk_at dksX0_init_2 21 rfl rfl)
theorem dX0_init_68 : decode cX0_init 68 = .ok (.putfield 102, 3) := dk_181 0 102 (dk_at dksX0_init_3 0 rfl rfl)
theorem dX0_init_71 : decode cX0_init 71 = .ok (.aload_n 0, 1) := dk_42 (dk_at dksX0_init_3 3 rfl rfl)
theorem dX0_init_72 : decode cX0_init 72 = .ok (.new 8, 3) := dk_187 0 8 (dk_at dksX0_init_3 4 rfl rfl)
theorem dX0_init_75 : decode cX0_init 75 = .ok (.dup, 1) := dk_89 (dk_at dksX0_init_3 7 rfl rfl)
theorem dX0_init_76 : decode cX0_init 76 = .ok (.invokespecial 88, 3) := dk_183 0 88 (dk_at dksX0_init_3 8 rfl rfl)
theorem dX0_init_79 : decode cX0_init 79 = .ok (.putfield 106, 3) := dk_181 0 106 (dk_at dksX0_init_3 11 rfl rfl)
theorem dX0_init_82 : decode cX0_init 82 = .ok (.iconst 0, 1) := dk_3 (dk_at dksX0_init_3 14 rfl rfl)
theorem dX0_init_83 : decode cX0_init 83 = .ok (.istore_n 1, 1) := dk_60 (dk_at dksX0_init_3 15 rfl rfl)
theorem dX0_init_84 : decode cX0_init 84 = .ok (.iload_n 1, 1) := dk_27 (dk_at dksX0_init_3 16 rfl rfl)
theorem dX0_init_85 : decode cX0_init 85 = .ok (.iconst 4, 1) := dk_7 (dk_at dksX0_init_3 17 rfl rfl)
theorem dX0_init_86 : decode cX0_init 86 = .ok (.if_icmp .ge 22, 3) := dk_162 0 22 (dk_at dksX0_init_3 18 rfl rfl)
theorem dX0_init_89 : decode cX0_init 89 = .ok (.aload_n 0, 1) := dk_42 (dk_at dksX0_init_3 21 rfl rfl)
theorem dX0_init_90 : decode cX0_init 90 = .ok (.getfield 102, 3) := dk_180 0 102 (dk_at dksX0_init_4 0 rfl rfl)
theorem dX0_init_93 : decode cX0_init 93 = .ok (.iload_n 1, 1) := dk_27 (dk_at dksX0_init_4 3 rfl rfl)
theorem dX0_init_94 : decode cX0_init 94 = .ok (.new 100, 3) := dk_187 0 100 (dk_at dksX0_init_4 4 rfl rfl)
theorem dX0_init_97 : decode cX0_init 97 = .ok (.dup, 1) := dk_89 (dk_at dksX0_init_4 7 rfl rfl)
theorem dX0_init_98 : decode cX0_init 98 = .ok (.invokespecial 109, 3) := dk_183 0 109 (dk_at dksX0_init_4 8 rfl rfl)
theorem dX0_init_101 : decode cX0_init 101 = .ok (.aastore, 1) := dk_83 (dk_at dksX0_init_4 11 rfl rfl)
theorem dX0_init_102 : decode cX0_init 102 = .ok (.iinc 1 1, 3) := dk_132 1 1 (dk_at dksX0_init_4 12 rfl rfl)
theorem dX0_init_105 : decode cX0_init 105 = .ok (.goto (-21), 3) := dk_167 255 235 (dk_at dksX0_init_4 15 rfl rfl)
theorem dX0_init_108 : decode cX0_init 108 = .ok (.aload_n 0, 1) := dk_42 (dk_at dksX0_init_4 18 rfl rfl)
theorem dX0_init_109 : decode cX0_init 109 = .ok (.getfield 1, 3) := dk_180 0 1 (dk_at dksX0_init_4 19 rfl rfl)
theorem dX0_init_112 : decode cX0_init 112 = .ok (.invokevirtual 110, 3) := dk_182 0 110 (dk_at dksX0_init_5 0 rfl rfl)
theorem dX0_init_115 : decode cX0_init 115 = .ok (.return_, 1) := dk_177 (dk_at dksX0_init_5 3 rfl rfl)
abbrev cX0_feed : ByteArray := prog_1_method_16_code
def yX0_feed : MethodName := ⟨RX0, "feed", "(I)I"⟩
def dkwX0_feed_2 : List UInt8 := [42, 180, 0, 119, 172]
abbrev dktX0_feed_2 : List UInt8 := dkwX0_feed_2 ++ []
def dkwX0_feed_1 : List UInt8 := [16, 253, 172, 42, 180, 0, 93, 42, 180, 0, 119, 27, 145, 84, 42, 89, 180, 0, 119, 4, 96, 181, 0, 119]
abbrev dktX0_feed_1 : List UInt8 := dkwX0_feed_1 ++ dktX0_feed_2
def dkwX0_feed_0 : List UInt8 := [27, 133, 9, 20, 0, 113, 184, 0, 115, 154, 0, 5, 2, 172, 42, 180, 0, 119, 17, 0, 160, 160, 0, 6]
abbrev dktX0_feed_0 : List UInt8 := dkwX0_feed_0 ++ dktX0_feed_1
theorem dksX0_feed_0 : cX0_feed.data.toList.drop 0 = dktX0_feed_0 := by decide +kernel
theorem dksX0_feed_1 : cX0_feed.data.toList.drop 24 = dktX0_feed_1 := dk_seg dksX0_feed_0 24 rfl rfl
theorem dksX0_feed_2 : cX0_feed.data.toList.drop 48 = dktX0_feed_2 := dk_seg dksX0_feed_1 24 rfl rfl
theorem dX0_feed_0 : decode cX0_feed 0 = .ok (.iload_n 1, 1) := dk_27 (dk_at dksX0_feed_0 0 rfl rfl)
theorem dX0_feed_1 : decode cX0_feed 1 = .ok (.i2l, 1) := dk_133 (dk_at dksX0_feed_0 1 rfl rfl)
theorem dX0_feed_2 : decode cX0_feed 2 = .ok (.lconst 0, 1) := dk_9 (dk_at dksX0_feed_0 2 rfl rfl)
theorem dX0_feed_3 : decode cX0_feed 3 = .ok (.ldc2_w 113, 3) := dk_20 0 113 (dk_at dksX0_feed_0 3 rfl rfl)
theorem dX0_feed_6 : decode cX0_feed 6 = .ok (.invokestatic 115, 3) := dk_184 0 115 (dk_at dksX0_feed_0 6 rfl rfl)
theorem dX0_feed_9 : decode cX0_feed 9 = .ok (.ifCond .ne 5, 3) := dk_154 0 5 (dk_at dksX0_feed_0 9 rfl rfl)
theorem dX0_feed_12 : decode cX0_feed 12 = .ok (.iconst (-1), 1) := dk_2 (dk_at dksX0_feed_0 12 rfl rfl)
theorem dX0_feed_13 : decode cX0_feed 13 = .ok (.ireturn, 1) := dk_172 (dk_at dksX0_feed_0 13 rfl rfl)
theorem dX0_feed_14 : decode cX0_feed 14 = .ok (.aload_n 0, 1) := dk_42 (dk_at dksX0_feed_0 14 rfl rfl)
theorem dX0_feed_15 : decode cX0_feed 15 = .ok (.getfield 119, 3) := dk_180 0 119 (dk_at dksX0_feed_0 15 rfl rfl)
theorem dX0_feed_18 : decode cX0_feed 18 = .ok (.sipush 160, 3) := dk_17 0 160 (dk_at dksX0_feed_0 18 rfl rfl)
theorem dX0_feed_21 : decode cX0_feed 21 = .ok (.if_icmp .ne 6, 3) := dk_160 0 6 (dk_at dksX0_feed_0 21 rfl rfl)
theorem dX0_feed_24 : decode cX0_feed 24 = .ok (.bipush (-3), 2) := dk_16 253 (dk_at dksX0_feed_1 0 rfl rfl)
theorem dX0_feed_26 : decode cX0_feed 26 = .ok (.ireturn, 1) := dk_172 (dk_at dksX0_feed_1 2 rfl rfl)
theorem dX0_feed_27 : decode cX0_feed 27 = .ok (.aload_n 0, 1) := dk_42 (dk_at dksX0_feed_1 3 rfl rfl)
theorem dX0_feed_28 : decode cX0_feed 28 = .ok (.getfield 93, 3) := dk_180 0 93 (dk_at dksX0_feed_1 4 rfl rfl)
theorem dX0_feed_31 : decode cX0_feed 31 = .ok (.aload_n 0, 1) := dk_42 (dk_at dksX0_feed_1 7 rfl rfl)
theorem dX0_feed_32 : decode cX0_feed 32 = .ok (.getfield 119, 3) := dk_180 0 119 (dk_at dksX0_feed_1 8 rfl rfl)
theorem dX0_feed_35 : decode cX0_feed 35 = .ok (.iload_n 1, 1) := dk_27 (dk_at dksX0_feed_1 11 rfl rfl)
theorem dX0_feed_36 : decode cX0_feed 36 = .ok (.i2b, 1) := dk_145 (dk_at dksX0_feed_1 12 rfl rfl)
theorem dX0_feed_37 : decode cX0_feed 37 = .ok (.bastore, 1) := dk_84 (dk_at dksX0_feed_1 13 rfl rfl)
theorem dX0_feed_38 : decode cX0_feed 38 = .ok (.aload_n 0, 1) := dk_42 (dk_at dksX0_feed_1 14 rfl rfl)
theorem dX0_feed_39 : decode cX0_feed 39 = .ok (.dup, 1) := dk_89 (dk_at dksX0_feed_1 15 rfl rfl)
theorem dX0_feed_40 : decode cX0_feed 40 = .ok (.getfield 119, 3) := dk_180 0 119 (dk_at dksX0_feed_1 16 rfl rfl)
theorem dX0_feed_43 : decode cX0_feed 43 = .ok (.iconst 1, 1) := dk_4 (dk_at dksX0_feed_1 19 rfl rfl)
theorem dX0_feed_44 : decode cX0_feed 44 = .ok (.iadd, 1) := dk_96 (dk_at dksX0_feed_1 20 rfl rfl)
theorem dX0_feed_45 : decode cX0_feed 45 = .ok (.putfield 119, 3) := dk_181 0 119 (dk_at dksX0_feed_1 21 rfl rfl)
theorem dX0_feed_48 : decode cX0_feed 48 = .ok (.aload_n 0, 1) := dk_42 (dk_at dksX0_feed_2 0 rfl rfl)
theorem dX0_feed_49 : decode cX0_feed 49 = .ok (.getfield 119, 3) := dk_180 0 119 (dk_at dksX0_feed_2 1 rfl rfl)
theorem dX0_feed_52 : decode cX0_feed 52 = .ok (.ireturn, 1) := dk_172 (dk_at dksX0_feed_2 4 rfl rfl)
abbrev cX0_in : ByteArray := prog_1_method_1_code
def yX0_in : MethodName := ⟨RX0, "in", "(JJJ)Z"⟩
def dkwX0_in_0 : List UInt8 := [30, 32, 148, 155, 0, 14, 30, 22, 4, 148, 157, 0, 7, 4, 167, 0, 4, 3, 172]
abbrev dktX0_in_0 : List UInt8 := dkwX0_in_0 ++ []
theorem dksX0_in_0 : cX0_in.data.toList.drop 0 = dktX0_in_0 := by decide +kernel
theorem dX0_in_0 : decode cX0_in 0 = .ok (.lload_n 0, 1) := dk_30 (dk_at dksX0_in_0 0 rfl rfl)
theorem dX0_in_1 : decode cX0_in 1 = .ok (.lload_n 2, 1) := dk_32 (dk_at dksX0_in_0 1 rfl rfl)
theorem dX0_in_2 : decode cX0_in 2 = .ok (.lcmp, 1) := dk_148 (dk_at dksX0_in_0 2 rfl rfl)
theorem dX0_in_3 : decode cX0_in 3 = .ok (.ifCond .lt 14, 3) := dk_155 0 14 (dk_at dksX0_in_0 3 rfl rfl)
theorem dX0_in_6 : decode cX0_in 6 = .ok (.lload_n 0, 1) := dk_30 (dk_at dksX0_in_0 6 rfl rfl)
theorem dX0_in_7 : decode cX0_in 7 = .ok (.lload 4, 2) := dk_22 4 (dk_at dksX0_in_0 7 rfl rfl)
theorem dX0_in_9 : decode cX0_in 9 = .ok (.lcmp, 1) := dk_148 (dk_at dksX0_in_0 9 rfl rfl)
theorem dX0_in_10 : decode cX0_in 10 = .ok (.ifCond .gt 7, 3) := dk_157 0 7 (dk_at dksX0_in_0 10 rfl rfl)
theorem dX0_in_13 : decode cX0_in 13 = .ok (.iconst 1, 1) := dk_4 (dk_at dksX0_in_0 13 rfl rfl)
theorem dX0_in_14 : decode cX0_in 14 = .ok (.goto 4, 3) := dk_167 0 4 (dk_at dksX0_in_0 14 rfl rfl)
theorem dX0_in_17 : decode cX0_in 17 = .ok (.iconst 0, 1) := dk_3 (dk_at dksX0_in_0 17 rfl rfl)
theorem dX0_in_18 : decode cX0_in 18 = .ok (.ireturn, 1) := dk_172 (dk_at dksX0_in_0 18 rfl rfl)
abbrev cX0_end : ByteArray := prog_1_method_17_code
def yX0_end : MethodName := ⟨RX0, "end", "(I)I"⟩
def dkwX0_end_1 : List UInt8 := [181, 0, 119, 28, 172]
abbrev dktX0_end_1 : List UInt8 := dkwX0_end_1 ++ []
def dkwX0_end_0 : List UInt8 := [27, 133, 9, 42, 180, 0, 119, 133, 184, 0, 115, 154, 0, 5, 2, 172, 42, 180, 0, 119, 61, 42, 27]
abbrev dktX0_end_0 : List UInt8 := dkwX0_end_0 ++ dktX0_end_1
theorem dksX0_end_0 : cX0_end.data.toList.drop 0 = dktX0_end_0 := by decide +kernel
theorem dksX0_end_1 : cX0_end.data.toList.drop 23 = dktX0_end_1 := dk_seg dksX0_end_0 23 rfl rfl
theorem dX0_end_0 : decode cX0_end 0 = .ok (.iload_n 1, 1) := dk_27 (dk_at dksX0_end_0 0 rfl rfl)
theorem dX0_end_1 : decode cX0_end 1 = .ok (.i2l, 1) := dk_133 (dk_at dksX0_end_0 1 rfl rfl)
theorem dX0_end_2 : decode cX0_end 2 = .ok (.lconst 0, 1) := dk_9 (dk_at dksX0_end_0 2 rfl rfl)
theorem dX0_end_3 : decode cX0_end 3 = .ok (.aload_n 0, 1) := dk_42 (dk_at dksX0_end_0 3 rfl rfl)
theorem dX0_end_4 : decode cX0_end 4 = .ok (.getfield 119, 3) := dk_180 0 119 (dk_at dksX0_end_0 4 rfl rfl)
theorem dX0_end_7 : decode cX0_end 7 = .ok (.i2l, 1) := dk_133 (dk_at dksX0_end_0 7 rfl rfl)
theorem dX0_end_8 : decode cX0_end 8 = .ok (.invokestatic 115, 3) := dk_184 0 115 (dk_at dksX0_end_0 8 rfl rfl)
theorem dX0_end_11 : decode cX0_end 11 = .ok (.ifCond .ne 5, 3) := dk_154 0 5 (dk_at dksX0_end_0 11 rfl rfl)
theorem dX0_end_14 : decode cX0_end 14 = .ok (.iconst (-1), 1) := dk_2 (dk_at dksX0_end_0 14 rfl rfl)
theorem dX0_end_15 : decode cX0_end 15 = .ok (.ireturn, 1) := dk_172 (dk_at dksX0_end_0 15 rfl rfl)
theorem dX0_end_16 : decode cX0_end 16 = .ok (.aload_n 0, 1) := dk_42 (dk_at dksX0_end_0 16 rfl rfl)
theorem dX0_end_17 : decode cX0_end 17 = .ok (.getfield 119, 3) := dk_180 0 119 (dk_at dksX0_end_0 17 rfl rfl)
theorem dX0_end_20 : decode cX0_end 20 = .ok (.istore_n 2, 1) := dk_61 (dk_at dksX0_end_0 20 rfl rfl)
theorem dX0_end_21 : decode cX0_end 21 = .ok (.aload_n 0, 1) := dk_42 (dk_at dksX0_end_0 21 rfl rfl)
theorem dX0_end_22 : decode cX0_end 22 = .ok (.iload_n 1, 1) := dk_27 (dk_at dksX0_end_0 22 rfl rfl)
theorem dX0_end_23 : decode cX0_end 23 = .ok (.putfield 119, 3) := dk_181 0 119 (dk_at dksX0_end_1 0 rfl rfl)
theorem dX0_end_26 : decode cX0_end 26 = .ok (.iload_n 2, 1) := dk_28 (dk_at dksX0_end_1 3 rfl rfl)
theorem dX0_end_27 : decode cX0_end 27 = .ok (.ireturn, 1) := dk_172 (dk_at dksX0_end_1 4 rfl rfl)
abbrev cX0_text : ByteArray := prog_1_method_18_code
def yX0_text : MethodName := ⟨RX0, "text", "()I"⟩
def dkwX0_text_2 : List UInt8 := [77, 42, 44, 180, 0, 146, 181, 0, 122, 16, 246, 44, 180, 0, 149, 100, 172]
abbrev dktX0_text_2 : List UInt8 := dkwX0_text_2 ++ []
def dkwX0_text_1 : List UInt8 := [77, 44, 182, 0, 130, 62, 42, 180, 0, 1, 44, 180, 0, 134, 182, 0, 137, 42, 3, 181, 0, 141, 29, 172]
abbrev dktX0_text_1 : List UInt8 := dkwX0_text_1 ++ dktX0_text_2
def dkwX0_text_0 : List UInt8 := [42, 180, 0, 119, 60, 42, 3, 181, 0, 119, 42, 3, 181, 0, 122, 187, 0, 125, 89, 42, 27, 183, 0, 127]
abbrev dktX0_text_0 : List UInt8 := dkwX0_text_0 ++ dktX0_text_1
theorem dksX0_text_0 : cX0_text.data.toList.drop 0 = dktX0_text_0 := by decide +kernel
theorem dksX0_text_1 : cX0_text.data.toList.drop 24 = dktX0_text_1 := dk_seg dksX0_text_0 24 rfl rfl
theorem dksX0_text_2 : cX0_text.data.toList.drop 48 = dktX0_text_2 := dk_seg dksX0_text_1 24 rfl rfl
theorem dX0_text_0 : decode cX0_text 0 = .ok (.aload_n 0, 1) := dk_42 (dk_at dksX0_text_0 0 rfl rfl)
theorem dX0_text_1 : decode cX0_text 1 = .ok (.getfield 119, 3) := dk_180 0 119 (dk_at dksX0_text_0 1 rfl rfl)
theorem dX0_text_4 : decode cX0_text 4 = .ok (.istore_n 1, 1) := dk_60 (dk_at dksX0_text_0 4 rfl rfl)
theorem dX0_text_5 : decode cX0_text 5 = .ok (.aload_n 0, 1) := dk_42 (dk_at dksX0_text_0 5 rfl rfl)
theorem dX0_text_6 : decode cX0_text 6 = .ok (.iconst 0, 1) := dk_3 (dk_at dksX0_text_0 6 rfl rfl)
theorem dX0_text_7 : decode cX0_text 7 = .ok (.putfield 119, 3) := dk_181 0 119 (dk_at dksX0_text_0 7 rfl rfl)
theorem dX0_text_10 : decode cX0_text 10 = .ok (.aload_n 0, 1) := dk_42 (dk_at dksX0_text_0 10 rfl rfl)
theorem dX0_text_11 : decode cX0_text 11 = .ok (.iconst 0, 1) := dk_3 (dk_at dksX0_text_0 11 rfl rfl)
theorem dX0_text_12 : decode cX0_text 12 = .ok (.putfield 122, 3) := dk_181 0 122 (dk_at dksX0_text_0 12 rfl rfl)
theorem dX0_text_15 : decode cX0_text 15 = .ok (.new 125, 3) := dk_187 0 125 (dk_at dksX0_text_0 15 rfl rfl)
theorem dX0_text_18 : decode cX0_text 18 = .ok (.dup, 1) := dk_89 (dk_at dksX0_text_0 18 rfl rfl)
theorem dX0_text_19 : decode cX0_text 19 = .ok (.aload_n 0, 1) := dk_42 (dk_at dksX0_text_0 19 rfl rfl)
theorem dX0_text_20 : decode cX0_text 20 = .ok (.iload_n 1, 1) := dk_27 (dk_at dksX0_text_0 20 rfl rfl)
theorem dX0_text_21 : decode cX0_text 21 = .ok (.invokespecial 127, 3) := dk_183 0 127 (dk_at dksX0_text_0 21 rfl rfl)
theorem dX0_text_24 : decode cX0_text 24 = .ok (.astore_n 2, 1) := dk_77 (dk_at dksX0_text_1 0 rfl rfl)
theorem dX0_text_25 : decode cX0_text 25 = .ok (.aload_n 2, 1) := dk_44 (dk_at dksX0_text_1 1 rfl rfl)
theorem dX0_text_26 : decode cX0_text 26 = .ok (.invokevirtual 130, 3) := dk_182 0 130 (dk_at dksX0_text_1 2 rfl rfl)
theorem dX0_text_29 : decode cX0_text 29 = .ok (.istore_n 3, 1) := dk_62 (dk_at dksX0_text_1 5 rfl rfl)
theorem dX0_text_30 : decode cX0_text 30 = .ok (.aload_n 0, 1) := dk_42 (dk_at dksX0_text_1 6 rfl rfl)
theorem dX0_text_31 : decode cX0_text 31 = .ok (.getfield 1, 3) := dk_180 0 1 (dk_at dksX0_text_1 7 rfl rfl)
theorem dX0_text_34 : decode cX0_text 34 = .ok (.aload_n 2, 1) := dk_44 (dk_at dksX0_text_1 10 rfl rfl)
theorem dX0_text_35 : decode cX0_text 35 = .ok (.getfield 134, 3) := dk_180 0 134 (dk_at dksX0_text_1 11 rfl rfl)
theorem dX0_text_38 : decode cX0_text 38 = .ok (.invokevirtual 137, 3) := dk_182 0 137 (dk_at dksX0_text_1 14 rfl rfl)
theorem dX0_text_41 : decode cX0_text 41 = .ok (.aload_n 0, 1) := dk_42 (dk_at dksX0_text_1 17 rfl rfl)
theorem dX0_text_42 : decode cX0_text 42 = .ok (.iconst 0, 1) := dk_3 (dk_at dksX0_text_1 18 rfl rfl)
theorem dX0_text_43 : decode cX0_text 43 = .ok (.putfield 141, 3) := dk_181 0 141 (dk_at dksX0_text_1 19 rfl rfl)
theorem dX0_text_46 : decode cX0_text 46 = .ok (.iload_n 3, 1) := dk_29 (dk_at dksX0_text_1 22 rfl rfl)
theorem dX0_text_47 : decode cX0_text 47 = .ok (.ireturn, 1) := dk_172 (dk_at dksX0_text_1 23 rfl rfl)
theorem dX0_text_48 : decode cX0_text 48 = .ok (.astore_n 2, 1) := dk_77 (dk_at dksX0_text_2 0 rfl rfl)
theorem dX0_text_49 : decode cX0_text 49 = .ok (.aload_n 0, 1) := dk_42 (dk_at dksX0_text_2 1 rfl rfl)
theorem dX0_text_50 : decode cX0_text 50 = .ok (.aload_n 2, 1) := dk_44 (dk_at dksX0_text_2 2 rfl rfl)
theorem dX0_text_51 : decode cX0_text 51 = .ok (.getfield 146, 3) := dk_180 0 146 (dk_at dksX0_text_2 3 rfl rfl)
theorem dX0_text_54 : decode cX0_text 54 = .ok (.putfield 122, 3) := dk_181 0 122 (dk_at dksX0_text_2 6 rfl rfl)
theorem dX0_text_57 : decode cX0_text 57 = .ok (.bipush (-10), 2) := dk_16 246 (dk_at dksX0_text_2 9 rfl rfl)
theorem dX0_text_59 : decode cX0_text 59 = .ok (.aload_n 2, 1) := dk_44 (dk_at dksX0_text_2 11 rfl rfl)
theorem dX0_text_60 : decode cX0_text 60 = .ok (.getfield 149, 3) := dk_180 0 149 (dk_at dksX0_text_2 12 rfl rfl)
theorem dX0_text_63 : decode cX0_text 63 = .ok (.isub, 1) := dk_100 (dk_at dksX0_text_2 15 rfl rfl)
theorem dX0_text_64 : decode cX0_text 64 = .ok (.ireturn, 1) := dk_172 (dk_at dksX0_text_2 16 rfl rfl)
abbrev cX0_fault : ByteArray := prog_1_method_19_code
def yX0_fault : MethodName := ⟨RX0, "fault", "()I"⟩
theorem dX0_fault_0 : decode cX0_fault 0 = .ok (.aload_n 0, 1) := by decide +kernel
theorem dX0_fault_1 : decode cX0_fault 1 = .ok (.getfield 122, 3) := by decide +kernel
theorem dX0_fault_4 : decode cX0_fault 4 = .ok (.ireturn, 1) := by decide +kernel
abbrev cX0_size : ByteArray := prog_1_method_21_code
def yX0_size : MethodName := ⟨RX0, "size", "(I)I"⟩
def dkwX0_size_4 : List UInt8 := [172]
abbrev dktX0_size_4 : List UInt8 := dkwX0_size_4 ++ []
def dkwX0_size_3 : List UInt8 := [180, 0, 1, 180, 0, 7, 172, 42, 180, 0, 1, 180, 0, 7, 16, 16, 96, 4, 100, 16, 16, 108, 172, 2]
abbrev dktX0_size_3 : List UInt8 := dkwX0_size_3 ++ dktX0_size_4
def dkwX0_size_2 : List UInt8 := [42, 182, 0, 155, 172, 42, 42, 180, 0, 1, 180, 0, 7, 5, 182, 0, 156, 172, 42, 182, 0, 159, 172, 42]
abbrev dktX0_size_2 : List UInt8 := dkwX0_size_2 ++ dktX0_size_3
def dkwX0_size_1 : List UInt8 := [170, 0, 0, 0, 0, 0, 82, 0, 0, 0, 0, 0, 0, 0, 4, 0, 0, 0, 35, 0, 0, 0, 40, 0, 0, 0, 53, 0, 0, 0, 58, 0, 0, 0, 66]
abbrev dktX0_size_1 : List UInt8 := dkwX0_size_1 ++ dktX0_size_2
def dkwX0_size_0 : List UInt8 := [27]
abbrev dktX0_size_0 : List UInt8 := dkwX0_size_0 ++ dktX0_size_1
theorem dksX0_size_0 : cX0_size.data.toList.drop 0 = dktX0_size_0 := by decide +kernel
theorem dksX0_size_1 : cX0_size.data.toList.drop 1 = dktX0_size_1 := dk_seg dksX0_size_0 1 rfl rfl
theorem dksX0_size_2 : cX0_size.data.toList.drop 36 = dktX0_size_2 := dk_seg dksX0_size_1 35 rfl rfl
theorem dksX0_size_3 : cX0_size.data.toList.drop 60 = dktX0_size_3 := dk_seg dksX0_size_2 24 rfl rfl
theorem dksX0_size_4 : cX0_size.data.toList.drop 84 = dktX0_size_4 := dk_seg dksX0_size_3 24 rfl rfl
theorem dX0_size_0 : decode cX0_size 0 = .ok (.iload_n 1, 1) := dk_27 (dk_at dksX0_size_0 0 rfl rfl)
theorem dX0_size_1 : decode cX0_size 1 = .ok (.tableswitch 82 0 4 #[35, 40, 53, 58, 66], 35) := by decide +kernel
theorem dX0_size_36 : decode cX0_size 36 = .ok (.aload_n 0, 1) := dk_42 (dk_at dksX0_size_2 0 rfl rfl)
theorem dX0_size_37 : decode cX0_size 37 = .ok (.invokevirtual 155, 3) := dk_182 0 155 (dk_at dksX0_size_2 1 rfl rfl)
theorem dX0_size_40 : decode cX0_size 40 = .ok (.ireturn, 1) := dk_172 (dk_at dksX0_size_2 4 rfl rfl)
theorem dX0_size_41 : decode cX0_size 41 = .ok (.aload_n 0, 1) := dk_42 (dk_at dksX0_size_2 5 rfl rfl)
theorem dX0_size_42 : decode cX0_size 42 = .ok (.aload_n 0, 1) := dk_42 (dk_at dksX0_size_2 6 rfl rfl)
theorem dX0_size_43 : decode cX0_size 43 = .ok (.getfield 1, 3) := dk_180 0 1 (dk_at dksX0_size_2 7 rfl rfl)
theorem dX0_size_46 : decode cX0_size 46 = .ok (.getfield 7, 3) := dk_180 0 7 (dk_at dksX0_size_2 10 rfl rfl)
theorem dX0_size_49 : decode cX0_size 49 = .ok (.iconst 2, 1) := dk_5 (dk_at dksX0_size_2 13 rfl rfl)
theorem dX0_size_50 : decode cX0_size 50 = .ok (.invokevirtual 156, 3) := dk_182 0 156 (dk_at dksX0_size_2 14 rfl rfl)
theorem dX0_size_53 : decode cX0_size 53 = .ok (.ireturn, 1) := dk_172 (dk_at dksX0_size_2 17 rfl rfl)
theorem dX0_size_54 : decode cX0_size 54 = .ok (.aload_n 0, 1) := dk_42 (dk_at dksX0_size_2 18 rfl rfl)
theorem dX0_size_55 : decode cX0_size 55 = .ok (.invokevirtual 159, 3) := dk_182 0 159 (dk_at dksX0_size_2 19 rfl rfl)
theorem dX0_size_58 : decode cX0_size 58 = .ok (.ireturn, 1) := dk_172 (dk_at dksX0_size_2 22 rfl rfl)
theorem dX0_size_59 : decode cX0_size 59 = .ok (.aload_n 0, 1) := dk_42 (dk_at dksX0_size_2 23 rfl rfl)
theorem dX0_size_60 : decode cX0_size 60 = .ok (.getfield 1, 3) := dk_180 0 1 (dk_at dksX0_size_3 0 rfl rfl)
theorem dX0_size_63 : decode cX0_size 63 = .ok (.getfield 7, 3) := dk_180 0 7 (dk_at dksX0_size_3 3 rfl rfl)
theorem dX0_size_66 : decode cX0_size 66 = .ok (.ireturn, 1) := dk_172 (dk_at dksX0_size_3 6 rfl rfl)
theorem dX0_size_67 : decode cX0_size 67 = .ok (.aload_n 0, 1) := dk_42 (dk_at dksX0_size_3 7 rfl rfl)
theorem dX0_size_68 : decode cX0_size 68 = .ok (.getfield 1, 3) := dk_180 0 1 (dk_at dksX0_size_3 8 rfl rfl)
theorem dX0_size_71 : decode cX0_size 71 = .ok (.getfield 7, 3) := dk_180 0 7 (dk_at dksX0_size_3 11 rfl rfl)
theorem dX0_size_74 : decode cX0_size 74 = .ok (.bipush 16, 2) := dk_16 16 (dk_at dksX0_size_3 14 rfl rfl)
theorem dX0_size_76 : decode cX0_size 76 = .ok (.iadd, 1) := dk_96 (dk_at dksX0_size_3 16 rfl rfl)
theorem dX0_size_77 : decode cX0_size 77 = .ok (.iconst 1, 1) := dk_4 (dk_at dksX0_size_3 17 rfl rfl)
theorem dX0_size_78 : decode cX0_size 78 = .ok (.isub, 1) := dk_100 (dk_at dksX0_size_3 18 rfl rfl)
theorem dX0_size_79 : decode cX0_size 79 = .ok (.bipush 16, 2) := dk_16 16 (dk_at dksX0_size_3 19 rfl rfl)
theorem dX0_size_81 : decode cX0_size 81 = .ok (.idiv, 1) := dk_108 (dk_at dksX0_size_3 21 rfl rfl)
theorem dX0_size_82 : decode cX0_size 82 = .ok (.ireturn, 1) := dk_172 (dk_at dksX0_size_3 22 rfl rfl)
theorem dX0_size_83 : decode cX0_size 83 = .ok (.iconst (-1), 1) := dk_2 (dk_at dksX0_size_3 23 rfl rfl)
theorem dX0_size_84 : decode cX0_size 84 = .ok (.ireturn, 1) := dk_172 (dk_at dksX0_size_4 0 rfl rfl)
abbrev cX0_nodes : ByteArray := prog_1_method_2_code
def yX0_nodes : MethodName := ⟨RX0, "nodes", "()I"⟩
def dkwX0_nodes_0 : List UInt8 := [42, 180, 0, 1, 180, 0, 7, 5, 108, 172]
abbrev dktX0_nodes_0 : List UInt8 := dkwX0_nodes_0 ++ []
theorem dksX0_nodes_0 : cX0_nodes.data.toList.drop 0 = dktX0_nodes_0 := by decide +kernel
theorem dX0_nodes_0 : decode cX0_nodes 0 = .ok (.aload_n 0, 1) := dk_42 (dk_at dksX0_nodes_0 0 rfl rfl)
theorem dX0_nodes_1 : decode cX0_nodes 1 = .ok (.getfield 1, 3) := dk_180 0 1 (dk_at dksX0_nodes_0 1 rfl rfl)
theorem dX0_nodes_4 : decode cX0_nodes 4 = .ok (.getfield 7, 3) := dk_180 0 7 (dk_at dksX0_nodes_0 4 rfl rfl)
theorem dX0_nodes_7 : decode cX0_nodes 7 = .ok (.iconst 2, 1) := dk_5 (dk_at dksX0_nodes_0 7 rfl rfl)
theorem dX0_nodes_8 : decode cX0_nodes 8 = .ok (.idiv, 1) := dk_108 (dk_at dksX0_nodes_0 8 rfl rfl)
theorem dX0_nodes_9 : decode cX0_nodes 9 = .ok (.ireturn, 1) := dk_172 (dk_at dksX0_nodes_0 9 rfl rfl)
abbrev cX0_ranked : ByteArray := prog_1_method_9_code
def yX0_ranked : MethodName := ⟨RX0, "ranked", "(II)I"⟩
def dkwX0_ranked_3 : List UInt8 := [154, 0, 7, 4, 167, 0, 4, 3, 96, 62, 132, 4, 1, 167, 255, 211, 29, 172]
abbrev dktX0_ranked_3 : List UInt8 := dkwX0_ranked_3 ++ []
def dkwX0_ranked_2 : List UInt8 := [180, 0, 1, 21, 4, 182, 0, 42, 153, 0, 21, 42, 180, 0, 1, 21, 4, 4, 96, 182, 0, 42]
abbrev dktX0_ranked_2 : List UInt8 := dkwX0_ranked_2 ++ dktX0_ranked_3
def dkwX0_ranked_1 : List UInt8 := [180, 0, 1, 27, 182, 0, 52, 100, 172, 3, 62, 3, 54, 4, 21, 4, 4, 96, 27, 162, 0, 43, 29, 42]
abbrev dktX0_ranked_1 : List UInt8 := dkwX0_ranked_1 ++ dktX0_ranked_2
def dkwX0_ranked_0 : List UInt8 := [28, 5, 162, 0, 29, 28, 154, 0, 14, 42, 180, 0, 1, 27, 182, 0, 52, 167, 0, 13, 27, 42]
abbrev dktX0_ranked_0 : List UInt8 := dkwX0_ranked_0 ++ dktX0_ranked_1
theorem dksX0_ranked_0 : cX0_ranked.data.toList.drop 0 = dktX0_ranked_0 := by decide +kernel
theorem dksX0_ranked_1 : cX0_ranked.data.toList.drop 22 = dktX0_ranked_1 := dk_seg dksX0_ranked_0 22 rfl rfl
theorem dksX0_ranked_2 : cX0_ranked.data.toList.drop 46 = dktX0_ranked_2 := dk_seg dksX0_ranked_1 24 rfl rfl
theorem dksX0_ranked_3 : cX0_ranked.data.toList.drop 68 = dktX0_ranked_3 := dk_seg dksX0_ranked_2 22 rfl rfl
theorem dX0_ranked_0 : decode cX0_ranked 0 = .ok (.iload_n 2, 1) := dk_28 (dk_at dksX0_ranked_0 0 rfl rfl)
theorem dX0_ranked_1 : decode cX0_ranked 1 = .ok (.iconst 2, 1) := dk_5 (dk_at dksX0_ranked_0 1 rfl rfl)
theorem dX0_ranked_2 : decode cX0_ranked 2 = .ok (.if_icmp .ge 29, 3) := dk_162 0 29 (dk_at dksX0_ranked_0 2 rfl rfl)
theorem dX0_ranked_5 : decode cX0_ranked 5 = .ok (.iload_n 2, 1) := dk_28 (dk_at dksX0_ranked_0 5 rfl rfl)
theorem dX0_ranked_6 : decode cX0_ranked 6 = .ok (.ifCond .ne 14, 3) := dk_154 0 14 (dk_at dksX0_ranked_0 6 rfl rfl)
theorem dX0_ranked_9 : decode cX0_ranked 9 = .ok (.aload_n 0, 1) := dk_42 (dk_at dksX0_ranked_0 9 rfl rfl)
theorem dX0_ranked_10 : decode cX0_ranked 10 = .ok (.getfield 1, 3) := dk_180 0 1 (dk_at dksX0_ranked_0 10 rfl rfl)
theorem dX0_ranked_13 : decode cX0_ranked 13 = .ok (.iload_n 1, 1) := dk_27 (dk_at dksX0_ranked_0 13 rfl rfl)
theorem dX0_ranked_14 : decode cX0_ranked 14 = .ok (.invokevirtual 52, 3) := dk_182 0 52 (dk_at dksX0_ranked_0 14 rfl rfl)
theorem dX0_ranked_17 : decode cX0_ranked 17 = .ok (.goto 13, 3) := dk_167 0 13 (dk_at dksX0_ranked_0 17 rfl rfl)
theorem dX0_ranked_20 : decode cX0_ranked 20 = .ok (.iload_n 1, 1) := dk_27 (dk_at dksX0_ranked_0 20 rfl rfl)
theorem dX0_ranked_21 : decode cX0_ranked 21 = .ok (.aload_n 0, 1) := dk_42 (dk_at dksX0_ranked_0 21 rfl rfl)
theorem dX0_ranked_22 : decode cX0_ranked 22 = .ok (.getfield 1, 3) := dk_180 0 1 (dk_at dksX0_ranked_1 0 rfl rfl)
theorem dX0_ranked_25 : decode cX0_ranked 25 = .ok (.iload_n 1, 1) := dk_27 (dk_at dksX0_ranked_1 3 rfl rfl)
theorem dX0_ranked_26 : decode cX0_ranked 26 = .ok (.invokevirtual 52, 3) := dk_182 0 52 (dk_at dksX0_ranked_1 4 rfl rfl)
theorem dX0_ranked_29 : decode cX0_ranked 29 = .ok (.isub, 1) := dk_100 (dk_at dksX0_ranked_1 7 rfl rfl)
theorem dX0_ranked_30 : decode cX0_ranked 30 = .ok (.ireturn, 1) := dk_172 (dk_at dksX0_ranked_1 8 rfl rfl)
theorem dX0_ranked_31 : decode cX0_ranked 31 = .ok (.iconst 0, 1) := dk_3 (dk_at dksX0_ranked_1 9 rfl rfl)
theorem dX0_ranked_32 : decode cX0_ranked 32 = .ok (.istore_n 3, 1) := dk_62 (dk_at dksX0_ranked_1 10 rfl rfl)
theorem dX0_ranked_33 : decode cX0_ranked 33 = .ok (.iconst 0, 1) := dk_3 (dk_at dksX0_ranked_1 11 rfl rfl)
theorem dX0_ranked_34 : decode cX0_ranked 34 = .ok (.istore 4, 2) := dk_54 4 (dk_at dksX0_ranked_1 12 rfl rfl)
theorem dX0_ranked_36 : decode cX0_ranked 36 = .ok (.iload 4, 2) := dk_21 4 (dk_at dksX0_ranked_1 14 rfl rfl)
theorem dX0_ranked_38 : decode cX0_ranked 38 = .ok (.iconst 1, 1) := dk_4 (dk_at dksX0_ranked_1 16 rfl rfl)
theorem dX0_ranked_39 : decode cX0_ranked 39 = .ok (.iadd, 1) := dk_96 (dk_at dksX0_ranked_1 17 rfl rfl)
theorem dX0_ranked_40 : decode cX0_ranked 40 = .ok (.iload_n 1, 1) := dk_27 (dk_at dksX0_ranked_1 18 rfl rfl)
theorem dX0_ranked_41 : decode cX0_ranked 41 = .ok (.if_icmp .ge 43, 3) := dk_162 0 43 (dk_at dksX0_ranked_1 19 rfl rfl)
theorem dX0_ranked_44 : decode cX0_ranked 44 = .ok (.iload_n 3, 1) := dk_29 (dk_at dksX0_ranked_1 22 rfl rfl)
theorem dX0_ranked_45 : decode cX0_ranked 45 = .ok (.aload_n 0, 1) := dk_42 (dk_at dksX0_ranked_1 23 rfl rfl)
theorem dX0_ranked_46 : decode cX0_ranked 46 = .ok (.getfield 1, 3) := dk_180 0 1 (dk_at dksX0_ranked_2 0 rfl rfl)
theorem dX0_ranked_49 : decode cX0_ranked 49 = .ok (.iload 4, 2) := dk_21 4 (dk_at dksX0_ranked_2 3 rfl rfl)
theorem dX0_ranked_51 : decode cX0_ranked 51 = .ok (.invokevirtual 42, 3) := dk_182 0 42 (dk_at dksX0_ranked_2 5 rfl rfl)
theorem dX0_ranked_54 : decode cX0_ranked 54 = .ok (.ifCond .eq 21, 3) := dk_153 0 21 (dk_at dksX0_ranked_2 8 rfl rfl)
theorem dX0_ranked_57 : decode cX0_ranked 57 = .ok (.aload_n 0, 1) := dk_42 (dk_at dksX0_ranked_2 11 rfl rfl)
theorem dX0_ranked_58 : decode cX0_ranked 58 = .ok (.getfield 1, 3) := dk_180 0 1 (dk_at dksX0_ranked_2 12 rfl rfl)
theorem dX0_ranked_61 : decode cX0_ranked 61 = .ok (.iload 4, 2) := dk_21 4 (dk_at dksX0_ranked_2 15 rfl rfl)
theorem dX0_ranked_63 : decode cX0_ranked 63 = .ok (.iconst 1, 1) := dk_4 (dk_at dksX0_ranked_2 17 rfl rfl)
theorem dX0_ranked_64 : decode cX0_ranked 64 = .ok (.iadd, 1) := dk_96 (dk_at dksX0_ranked_2 18 rfl rfl)
theorem dX0_ranked_65 : decode cX0_ranked 65 = .ok (.invokevirtual 42, 3) := dk_182 0 42 (dk_at dksX0_ranked_2 19 rfl rfl)
theorem dX0_ranked_68 : decode cX0_ranked 68 = .ok (.ifCond .ne 7, 3) := dk_154 0 7 (dk_at dksX0_ranked_3 0 rfl rfl)
theorem dX0_ranked_71 : decode cX0_ranked 71 = .ok (.iconst 1, 1) := dk_4 (dk_at dksX0_ranked_3 3 rfl rfl)
theorem dX0_ranked_72 : decode cX0_ranked 72 = .ok (.goto 4, 3) := dk_167 0 4 (dk_at dksX0_ranked_3 4 rfl rfl)
theorem dX0_ranked_75 : decode cX0_ranked 75 = .ok (.iconst 0, 1) := dk_3 (dk_at dksX0_ranked_3 7 rfl rfl)
theorem dX0_ranked_76 : decode cX0_ranked 76 = .ok (.iadd, 1) := dk_96 (dk_at dksX0_ranked_3 8 rfl rfl)
theorem dX0_ranked_77 : decode cX0_ranked 77 = .ok (.istore_n 3, 1) := dk_62 (dk_at dksX0_ranked_3 9 rfl rfl)
theorem dX0_ranked_78 : decode cX0_ranked 78 = .ok (.iinc 4 1, 3) := dk_132 4 1 (dk_at dksX0_ranked_3 10 rfl rfl)
theorem dX0_ranked_81 : decode cX0_ranked 81 = .ok (.goto (-45), 3) := dk_167 255 211 (dk_at dksX0_ranked_3 13 rfl rfl)
theorem dX0_ranked_84 : decode cX0_ranked 84 = .ok (.iload_n 3, 1) := dk_29 (dk_at dksX0_ranked_3 16 rfl rfl)
theorem dX0_ranked_85 : decode cX0_ranked 85 = .ok (.ireturn, 1) := dk_172 (dk_at dksX0_ranked_3 17 rfl rfl)
abbrev cX0_deepestOfAll : ByteArray := prog_1_method_20_code
def yX0_deepestOfAll : MethodName := ⟨RX0, "deepestOfAll", "()I"⟩
def dkwX0_deepestOfAll_1 : List UInt8 := [172]
abbrev dktX0_deepestOfAll_1 : List UInt8 := dkwX0_deepestOfAll_1 ++ []
def dkwX0_deepestOfAll_0 : List UInt8 := [42, 180, 0, 1, 180, 0, 7, 154, 0, 6, 16, 252, 172, 42, 180, 0, 1, 180, 0, 152, 4, 53, 4, 100]
abbrev dktX0_deepestOfAll_0 : List UInt8 := dkwX0_deepestOfAll_0 ++ dktX0_deepestOfAll_1
theorem dksX0_deepestOfAll_0 : cX0_deepestOfAll.data.toList.drop 0 = dktX0_deepestOfAll_0 := by decide +kernel
theorem dksX0_deepestOfAll_1 : cX0_deepestOfAll.data.toList.drop 24 = dktX0_deepestOfAll_1 := dk_seg dksX0_deepestOfAll_0 24 rfl rfl
theorem dX0_deepestOfAll_0 : decode cX0_deepestOfAll 0 = .ok (.aload_n 0, 1) := dk_42 (dk_at dksX0_deepestOfAll_0 0 rfl rfl)
theorem dX0_deepestOfAll_1 : decode cX0_deepestOfAll 1 = .ok (.getfield 1, 3) := dk_180 0 1 (dk_at dksX0_deepestOfAll_0 1 rfl rfl)
theorem dX0_deepestOfAll_4 : decode cX0_deepestOfAll 4 = .ok (.getfield 7, 3) := dk_180 0 7 (dk_at dksX0_deepestOfAll_0 4 rfl rfl)
theorem dX0_deepestOfAll_7 : decode cX0_deepestOfAll 7 = .ok (.ifCond .ne 6, 3) := dk_154 0 6 (dk_at dksX0_deepestOfAll_0 7 rfl rfl)
theorem dX0_deepestOfAll_10 : decode cX0_deepestOfAll 10 = .ok (.bipush (-4), 2) := dk_16 252 (dk_at dksX0_deepestOfAll_0 10 rfl rfl)
theorem dX0_deepestOfAll_12 : decode cX0_deepestOfAll 12 = .ok (.ireturn, 1) := dk_172 (dk_at dksX0_deepestOfAll_0 12 rfl rfl)
theorem dX0_deepestOfAll_13 : decode cX0_deepestOfAll 13 = .ok (.aload_n 0, 1) := dk_42 (dk_at dksX0_deepestOfAll_0 13 rfl rfl)
theorem dX0_deepestOfAll_14 : decode cX0_deepestOfAll 14 = .ok (.getfield 1, 3) := dk_180 0 1 (dk_at dksX0_deepestOfAll_0 14 rfl rfl)
theorem dX0_deepestOfAll_17 : decode cX0_deepestOfAll 17 = .ok (.getfield 152, 3) := dk_180 0 152 (dk_at dksX0_deepestOfAll_0 17 rfl rfl)
theorem dX0_deepestOfAll_20 : decode cX0_deepestOfAll 20 = .ok (.iconst 1, 1) := dk_4 (dk_at dksX0_deepestOfAll_0 20 rfl rfl)
theorem dX0_deepestOfAll_21 : decode cX0_deepestOfAll 21 = .ok (.saload, 1) := dk_53 (dk_at dksX0_deepestOfAll_0 21 rfl rfl)
theorem dX0_deepestOfAll_22 : decode cX0_deepestOfAll 22 = .ok (.iconst 1, 1) := dk_4 (dk_at dksX0_deepestOfAll_0 22 rfl rfl)
theorem dX0_deepestOfAll_23 : decode cX0_deepestOfAll 23 = .ok (.isub, 1) := dk_100 (dk_at dksX0_deepestOfAll_0 23 rfl rfl)
theorem dX0_deepestOfAll_24 : decode cX0_deepestOfAll 24 = .ok (.ireturn, 1) := dk_172 (dk_at dksX0_deepestOfAll_1 0 rfl rfl)
abbrev cX0_bit : ByteArray := prog_1_method_24_code
def yX0_bit : MethodName := ⟨RX0, "bit", "(I)I"⟩
def dkwX0_bit_1 : List UInt8 := [167, 0, 4, 2, 172]
abbrev dktX0_bit_1 : List UInt8 := dkwX0_bit_1 ++ []
def dkwX0_bit_0 : List UInt8 := [42, 27, 182, 0, 162, 153, 0, 22, 42, 180, 0, 1, 27, 182, 0, 42, 153, 0, 7, 4, 167, 0, 8, 3]
abbrev dktX0_bit_0 : List UInt8 := dkwX0_bit_0 ++ dktX0_bit_1
theorem dksX0_bit_0 : cX0_bit.data.toList.drop 0 = dktX0_bit_0 := by decide +kernel
theorem dksX0_bit_1 : cX0_bit.data.toList.drop 24 = dktX0_bit_1 := dk_seg dksX0_bit_0 24 rfl rfl
theorem dX0_bit_0 : decode cX0_bit 0 = .ok (.aload_n 0, 1) := dk_42 (dk_at dksX0_bit_0 0 rfl rfl)
theorem dX0_bit_1 : decode cX0_bit 1 = .ok (.iload_n 1, 1) := dk_27 (dk_at dksX0_bit_0 1 rfl rfl)
theorem dX0_bit_2 : decode cX0_bit 2 = .ok (.invokevirtual 162, 3) := dk_182 0 162 (dk_at dksX0_bit_0 2 rfl rfl)
theorem dX0_bit_5 : decode cX0_bit 5 = .ok (.ifCond .eq 22, 3) := dk_153 0 22 (dk_at dksX0_bit_0 5 rfl rfl)
theorem dX0_bit_8 : decode cX0_bit 8 = .ok (.aload_n 0, 1) := dk_42 (dk_at dksX0_bit_0 8 rfl rfl)
theorem dX0_bit_9 : decode cX0_bit 9 = .ok (.getfield 1, 3) := dk_180 0 1 (dk_at dksX0_bit_0 9 rfl rfl)
theorem dX0_bit_12 : decode cX0_bit 12 = .ok (.iload_n 1, 1) := dk_27 (dk_at dksX0_bit_0 12 rfl rfl)
theorem dX0_bit_13 : decode cX0_bit 13 = .ok (.invokevirtual 42, 3) := dk_182 0 42 (dk_at dksX0_bit_0 13 rfl rfl)
theorem dX0_bit_16 : decode cX0_bit 16 = .ok (.ifCond .eq 7, 3) := dk_153 0 7 (dk_at dksX0_bit_0 16 rfl rfl)
theorem dX0_bit_19 : decode cX0_bit 19 = .ok (.iconst 1, 1) := dk_4 (dk_at dksX0_bit_0 19 rfl rfl)
theorem dX0_bit_20 : decode cX0_bit 20 = .ok (.goto 8, 3) := dk_167 0 8 (dk_at dksX0_bit_0 20 rfl rfl)
theorem dX0_bit_23 : decode cX0_bit 23 = .ok (.iconst 0, 1) := dk_3 (dk_at dksX0_bit_0 23 rfl rfl)
theorem dX0_bit_24 : decode cX0_bit 24 = .ok (.goto 4, 3) := dk_167 0 4 (dk_at dksX0_bit_1 0 rfl rfl)
theorem dX0_bit_27 : decode cX0_bit 27 = .ok (.iconst (-1), 1) := dk_2 (dk_at dksX0_bit_1 3 rfl rfl)
theorem dX0_bit_28 : decode cX0_bit 28 = .ok (.ireturn, 1) := dk_172 (dk_at dksX0_bit_1 4 rfl rfl)
abbrev cX0_isPlace : ByteArray := prog_1_method_22_code
def yX0_isPlace : MethodName := ⟨RX0, "isPlace", "(I)Z"⟩
def dkwX0_isPlace_0 : List UInt8 := [27, 133, 9, 42, 180, 0, 1, 180, 0, 7, 4, 100, 133, 184, 0, 115, 172]
abbrev dktX0_isPlace_0 : List UInt8 := dkwX0_isPlace_0 ++ []
theorem dksX0_isPlace_0 : cX0_isPlace.data.toList.drop 0 = dktX0_isPlace_0 := by decide +kernel
theorem dX0_isPlace_0 : decode cX0_isPlace 0 = .ok (.iload_n 1, 1) := dk_27 (dk_at dksX0_isPlace_0 0 rfl rfl)
theorem dX0_isPlace_1 : decode cX0_isPlace 1 = .ok (.i2l, 1) := dk_133 (dk_at dksX0_isPlace_0 1 rfl rfl)
theorem dX0_isPlace_2 : decode cX0_isPlace 2 = .ok (.lconst 0, 1) := dk_9 (dk_at dksX0_isPlace_0 2 rfl rfl)
theorem dX0_isPlace_3 : decode cX0_isPlace 3 = .ok (.aload_n 0, 1) := dk_42 (dk_at dksX0_isPlace_0 3 rfl rfl)
theorem dX0_isPlace_4 : decode cX0_isPlace 4 = .ok (.getfield 1, 3) := dk_180 0 1 (dk_at dksX0_isPlace_0 4 rfl rfl)
theorem dX0_isPlace_7 : decode cX0_isPlace 7 = .ok (.getfield 7, 3) := dk_180 0 7 (dk_at dksX0_isPlace_0 7 rfl rfl)
theorem dX0_isPlace_10 : decode cX0_isPlace 10 = .ok (.iconst 1, 1) := dk_4 (dk_at dksX0_isPlace_0 10 rfl rfl)
theorem dX0_isPlace_11 : decode cX0_isPlace 11 = .ok (.isub, 1) := dk_100 (dk_at dksX0_isPlace_0 11 rfl rfl)
theorem dX0_isPlace_12 : decode cX0_isPlace 12 = .ok (.i2l, 1) := dk_133 (dk_at dksX0_isPlace_0 12 rfl rfl)
theorem dX0_isPlace_13 : decode cX0_isPlace 13 = .ok (.invokestatic 115, 3) := dk_184 0 115 (dk_at dksX0_isPlace_0 13 rfl rfl)
theorem dX0_isPlace_16 : decode cX0_isPlace 16 = .ok (.ireturn, 1) := dk_172 (dk_at dksX0_isPlace_0 16 rfl rfl)
abbrev cX0_excess : ByteArray := prog_1_method_25_code
def yX0_excess : MethodName := ⟨RX0, "excess", "(I)I"⟩
def dkwX0_excess_0 : List UInt8 := [42, 27, 182, 0, 165, 153, 0, 14, 42, 180, 0, 1, 27, 182, 0, 23, 167, 0, 4, 2, 172]
abbrev dktX0_excess_0 : List UInt8 := dkwX0_excess_0 ++ []
theorem dksX0_excess_0 : cX0_excess.data.toList.drop 0 = dktX0_excess_0 := by decide +kernel
theorem dX0_excess_0 : decode cX0_excess 0 = .ok (.aload_n 0, 1) := dk_42 (dk_at dksX0_excess_0 0 rfl rfl)
theorem dX0_excess_1 : decode cX0_excess 1 = .ok (.iload_n 1, 1) := dk_27 (dk_at dksX0_excess_0 1 rfl rfl)
theorem dX0_excess_2 : decode cX0_excess 2 = .ok (.invokevirtual 165, 3) := dk_182 0 165 (dk_at dksX0_excess_0 2 rfl rfl)
theorem dX0_excess_5 : decode cX0_excess 5 = .ok (.ifCond .eq 14, 3) := dk_153 0 14 (dk_at dksX0_excess_0 5 rfl rfl)
theorem dX0_excess_8 : decode cX0_excess 8 = .ok (.aload_n 0, 1) := dk_42 (dk_at dksX0_excess_0 8 rfl rfl)
theorem dX0_excess_9 : decode cX0_excess 9 = .ok (.getfield 1, 3) := dk_180 0 1 (dk_at dksX0_excess_0 9 rfl rfl)
theorem dX0_excess_12 : decode cX0_excess 12 = .ok (.iload_n 1, 1) := dk_27 (dk_at dksX0_excess_0 12 rfl rfl)
theorem dX0_excess_13 : decode cX0_excess 13 = .ok (.invokevirtual 23, 3) := dk_182 0 23 (dk_at dksX0_excess_0 13 rfl rfl)
theorem dX0_excess_16 : decode cX0_excess 16 = .ok (.goto 4, 3) := dk_167 0 4 (dk_at dksX0_excess_0 16 rfl rfl)
theorem dX0_excess_19 : decode cX0_excess 19 = .ok (.iconst (-1), 1) := dk_2 (dk_at dksX0_excess_0 19 rfl rfl)
theorem dX0_excess_20 : decode cX0_excess 20 = .ok (.ireturn, 1) := dk_172 (dk_at dksX0_excess_0 20 rfl rfl)
abbrev cX0_isBetween : ByteArray := prog_1_method_23_code
def yX0_isBetween : MethodName := ⟨RX0, "isBetween", "(I)Z"⟩
def dkwX0_isBetween_0 : List UInt8 := [27, 133, 9, 42, 180, 0, 1, 180, 0, 7, 133, 184, 0, 115, 172]
abbrev dktX0_isBetween_0 : List UInt8 := dkwX0_isBetween_0 ++ []
theorem dksX0_isBetween_0 : cX0_isBetween.data.toList.drop 0 = dktX0_isBetween_0 := by decide +kernel
theorem dX0_isBetween_0 : decode cX0_isBetween 0 = .ok (.iload_n 1, 1) := dk_27 (dk_at dksX0_isBetween_0 0 rfl rfl)
theorem dX0_isBetween_1 : decode cX0_isBetween 1 = .ok (.i2l, 1) := dk_133 (dk_at dksX0_isBetween_0 1 rfl rfl)
theorem dX0_isBetween_2 : decode cX0_isBetween 2 = .ok (.lconst 0, 1) := dk_9 (dk_at dksX0_isBetween_0 2 rfl rfl)
theorem dX0_isBetween_3 : decode cX0_isBetween 3 = .ok (.aload_n 0, 1) := dk_42 (dk_at dksX0_isBetween_0 3 rfl rfl)
theorem dX0_isBetween_4 : decode cX0_isBetween 4 = .ok (.getfield 1, 3) := dk_180 0 1 (dk_at dksX0_isBetween_0 4 rfl rfl)
theorem dX0_isBetween_7 : decode cX0_isBetween 7 = .ok (.getfield 7, 3) := dk_180 0 7 (dk_at dksX0_isBetween_0 7 rfl rfl)
theorem dX0_isBetween_10 : decode cX0_isBetween 10 = .ok (.i2l, 1) := dk_133 (dk_at dksX0_isBetween_0 10 rfl rfl)
theorem dX0_isBetween_11 : decode cX0_isBetween 11 = .ok (.invokestatic 115, 3) := dk_184 0 115 (dk_at dksX0_isBetween_0 11 rfl rfl)
theorem dX0_isBetween_14 : decode cX0_isBetween 14 = .ok (.ireturn, 1) := dk_172 (dk_at dksX0_isBetween_0 14 rfl rfl)
abbrev cX0_rank : ByteArray := prog_1_method_26_code
def yX0_rank : MethodName := ⟨RX0, "rank", "(II)I"⟩
def dkwX0_rank_1 : List UInt8 := [182, 0, 156, 167, 0, 4, 2, 172]
abbrev dktX0_rank_1 : List UInt8 := dkwX0_rank_1 ++ []
def dkwX0_rank_0 : List UInt8 := [42, 27, 182, 0, 165, 153, 0, 24, 28, 133, 9, 20, 0, 168, 184, 0, 115, 153, 0, 12, 42, 27, 28]
abbrev dktX0_rank_0 : List UInt8 := dkwX0_rank_0 ++ dktX0_rank_1
theorem dksX0_rank_0 : cX0_rank.data.toList.drop 0 = dktX0_rank_0 := by decide +kernel
theorem dksX0_rank_1 : cX0_rank.data.toList.drop 23 = dktX0_rank_1 := dk_seg dksX0_rank_0 23 rfl rfl
theorem dX0_rank_0 : decode cX0_rank 0 = .ok (.aload_n 0, 1) := dk_42 (dk_at dksX0_rank_0 0 rfl rfl)
theorem dX0_rank_1 : decode cX0_rank 1 = .ok (.iload_n 1, 1) := dk_27 (dk_at dksX0_rank_0 1 rfl rfl)
theorem dX0_rank_2 : decode cX0_rank 2 = .ok (.invokevirtual 165, 3) := dk_182 0 165 (dk_at dksX0_rank_0 2 rfl rfl)
theorem dX0_rank_5 : decode cX0_rank 5 = .ok (.ifCond .eq 24, 3) := dk_153 0 24 (dk_at dksX0_rank_0 5 rfl rfl)
theorem dX0_rank_8 : decode cX0_rank 8 = .ok (.iload_n 2, 1) := dk_28 (dk_at dksX0_rank_0 8 rfl rfl)
theorem dX0_rank_9 : decode cX0_rank 9 = .ok (.i2l, 1) := dk_133 (dk_at dksX0_rank_0 9 rfl rfl)
theorem dX0_rank_10 : decode cX0_rank 10 = .ok (.lconst 0, 1) := dk_9 (dk_at dksX0_rank_0 10 rfl rfl)
theorem dX0_rank_11 : decode cX0_rank 11 = .ok (.ldc2_w 168, 3) := dk_20 0 168 (dk_at dksX0_rank_0 11 rfl rfl)
theorem dX0_rank_14 : decode cX0_rank 14 = .ok (.invokestatic 115, 3) := dk_184 0 115 (dk_at dksX0_rank_0 14 rfl rfl)
theorem dX0_rank_17 : decode cX0_rank 17 = .ok (.ifCond .eq 12, 3) := dk_153 0 12 (dk_at dksX0_rank_0 17 rfl rfl)
theorem dX0_rank_20 : decode cX0_rank 20 = .ok (.aload_n 0, 1) := dk_42 (dk_at dksX0_rank_0 20 rfl rfl)
theorem dX0_rank_21 : decode cX0_rank 21 = .ok (.iload_n 1, 1) := dk_27 (dk_at dksX0_rank_0 21 rfl rfl)
theorem dX0_rank_22 : decode cX0_rank 22 = .ok (.iload_n 2, 1) := dk_28 (dk_at dksX0_rank_0 22 rfl rfl)
theorem dX0_rank_23 : decode cX0_rank 23 = .ok (.invokevirtual 156, 3) := dk_182 0 156 (dk_at dksX0_rank_1 0 rfl rfl)
theorem dX0_rank_26 : decode cX0_rank 26 = .ok (.goto 4, 3) := dk_167 0 4 (dk_at dksX0_rank_1 3 rfl rfl)
theorem dX0_rank_29 : decode cX0_rank 29 = .ok (.iconst (-1), 1) := dk_2 (dk_at dksX0_rank_1 6 rfl rfl)
theorem dX0_rank_30 : decode cX0_rank 30 = .ok (.ireturn, 1) := dk_172 (dk_at dksX0_rank_1 7 rfl rfl)
abbrev cX0_select : ByteArray := prog_1_method_27_code
def yX0_select : MethodName := ⟨RX0, "select", "(II)I"⟩
def dkwX0_select_1 : List UInt8 := [167, 0, 4, 2, 172]
abbrev dktX0_select_1 : List UInt8 := dkwX0_select_1 ++ []
def dkwX0_select_0 : List UInt8 := [27, 155, 0, 24, 28, 133, 9, 20, 0, 168, 184, 0, 115, 153, 0, 12, 42, 27, 28, 182, 0, 55]
abbrev dktX0_select_0 : List UInt8 := dkwX0_select_0 ++ dktX0_select_1
theorem dksX0_select_0 : cX0_select.data.toList.drop 0 = dktX0_select_0 := by decide +kernel
theorem dksX0_select_1 : cX0_select.data.toList.drop 22 = dktX0_select_1 := dk_seg dksX0_select_0 22 rfl rfl
theorem dX0_select_0 : decode cX0_select 0 = .ok (.iload_n 1, 1) := dk_27 (dk_at dksX0_select_0 0 rfl rfl)
theorem dX0_select_1 : decode cX0_select 1 = .ok (.ifCond .lt 24, 3) := dk_155 0 24 (dk_at dksX0_select_0 1 rfl rfl)
theorem dX0_select_4 : decode cX0_select 4 = .ok (.iload_n 2, 1) := dk_28 (dk_at dksX0_select_0 4 rfl rfl)
theorem dX0_select_5 : decode cX0_select 5 = .ok (.i2l, 1) := dk_133 (dk_at dksX0_select_0 5 rfl rfl)
theorem dX0_select_6 : decode cX0_select 6 = .ok (.lconst 0, 1) := dk_9 (dk_at dksX0_select_0 6 rfl rfl)
theorem dX0_select_7 : decode cX0_select 7 = .ok (.ldc2_w 168, 3) := dk_20 0 168 (dk_at dksX0_select_0 7 rfl rfl)
theorem dX0_select_10 : decode cX0_select 10 = .ok (.invokestatic 115, 3) := dk_184 0 115 (dk_at dksX0_select_0 10 rfl rfl)
theorem dX0_select_13 : decode cX0_select 13 = .ok (.ifCond .eq 12, 3) := dk_153 0 12 (dk_at dksX0_select_0 13 rfl rfl)
theorem dX0_select_16 : decode cX0_select 16 = .ok (.aload_n 0, 1) := dk_42 (dk_at dksX0_select_0 16 rfl rfl)
theorem dX0_select_17 : decode cX0_select 17 = .ok (.iload_n 1, 1) := dk_27 (dk_at dksX0_select_0 17 rfl rfl)
theorem dX0_select_18 : decode cX0_select 18 = .ok (.iload_n 2, 1) := dk_28 (dk_at dksX0_select_0 18 rfl rfl)
theorem dX0_select_19 : decode cX0_select 19 = .ok (.invokevirtual 55, 3) := dk_182 0 55 (dk_at dksX0_select_0 19 rfl rfl)
theorem dX0_select_22 : decode cX0_select 22 = .ok (.goto 4, 3) := dk_167 0 4 (dk_at dksX0_select_1 0 rfl rfl)
theorem dX0_select_25 : decode cX0_select 25 = .ok (.iconst (-1), 1) := dk_2 (dk_at dksX0_select_1 3 rfl rfl)
theorem dX0_select_26 : decode cX0_select 26 = .ok (.ireturn, 1) := dk_172 (dk_at dksX0_select_1 4 rfl rfl)
abbrev cX0_selected : ByteArray := prog_1_method_8_code
def yX0_selected : MethodName := ⟨RX0, "selected", "(II)I"⟩
def dkwX0_selected_4 : List UInt8 := [172, 132, 4, 1, 167, 255, 164, 16, 252, 172]
abbrev dktX0_selected_4 : List UInt8 := dkwX0_selected_4 ++ []
def dkwX0_selected_3 : List UInt8 := [154, 0, 7, 4, 167, 0, 4, 3, 54, 5, 21, 5, 153, 0, 13, 29, 132, 3, 255, 154, 0, 6, 21, 4]
abbrev dktX0_selected_3 : List UInt8 := dkwX0_selected_3 ++ dktX0_selected_4
def dkwX0_selected_2 : List UInt8 := [21, 4, 182, 0, 42, 153, 0, 25, 28, 153, 0, 17, 42, 180, 0, 1, 21, 4, 4, 96, 182, 0, 42]
abbrev dktX0_selected_2 : List UInt8 := dkwX0_selected_2 ++ dktX0_selected_3
def dkwX0_selected_1 : List UInt8 := [180, 0, 1, 21, 4, 182, 0, 42, 154, 0, 7, 4, 167, 0, 42, 3, 167, 0, 38, 42, 180, 0, 1]
abbrev dktX0_selected_1 : List UInt8 := dkwX0_selected_1 ++ dktX0_selected_2
def dkwX0_selected_0 : List UInt8 := [27, 62, 3, 54, 4, 21, 4, 42, 180, 0, 1, 180, 0, 7, 162, 0, 86, 28, 4, 160, 0, 23, 42]
abbrev dktX0_selected_0 : List UInt8 := dkwX0_selected_0 ++ dktX0_selected_1
theorem dksX0_selected_0 : cX0_selected.data.toList.drop 0 = dktX0_selected_0 := by decide +kernel
theorem dksX0_selected_1 : cX0_selected.data.toList.drop 23 = dktX0_selected_1 := dk_seg dksX0_selected_0 23 rfl rfl
theorem dksX0_selected_2 : cX0_selected.data.toList.drop 46 = dktX0_selected_2 := dk_seg dksX0_selected_1 23 rfl rfl
theorem dksX0_selected_3 : cX0_selected.data.toList.drop 69 = dktX0_selected_3 := dk_seg dksX0_selected_2 23 rfl rfl
theorem dksX0_selected_4 : cX0_selected.data.toList.drop 93 = dktX0_selected_4 := dk_seg dksX0_selected_3 24 rfl rfl
theorem dX0_selected_0 : decode cX0_selected 0 = .ok (.iload_n 1, 1) := dk_27 (dk_at dksX0_selected_0 0 rfl rfl)
theorem dX0_selected_1 : decode cX0_selected 1 = .ok (.istore_n 3, 1) := dk_62 (dk_at dksX0_selected_0 1 rfl rfl)
theorem dX0_selected_2 : decode cX0_selected 2 = .ok (.iconst 0, 1) := dk_3 (dk_at dksX0_selected_0 2 rfl rfl)
theorem dX0_selected_3 : decode cX0_selected 3 = .ok (.istore 4, 2) := dk_54 4 (dk_at dksX0_selected_0 3 rfl rfl)
theorem dX0_selected_5 : decode cX0_selected 5 = .ok (.iload 4, 2) := dk_21 4 (dk_at dksX0_selected_0 5 rfl rfl)
theorem dX0_selected_7 : decode cX0_selected 7 = .ok (.aload_n 0, 1) := dk_42 (dk_at dksX0_selected_0 7 rfl rfl)
theorem dX0_selected_8 : decode cX0_selected 8 = .ok (.getfield 1, 3) := dk_180 0 1 (dk_at dksX0_selected_0 8 rfl rfl)
theorem dX0_selected_11 : decode cX0_selected 11 = .ok (.getfield 7, 3) := dk_180 0 7 (dk_at dksX0_selected_0 11 rfl rfl)
theorem dX0_selected_14 : decode cX0_selected 14 = .ok (.if_icmp .ge 86, 3) := dk_162 0 86 (dk_at dksX0_selected_0 14 rfl rfl)
theorem dX0_selected_17 : decode cX0_selected 17 = .ok (.iload_n 2, 1) := dk_28 (dk_at dksX0_selected_0 17 rfl rfl)
theorem dX0_selected_18 : decode cX0_selected 18 = .ok (.iconst 1, 1) := dk_4 (dk_at dksX0_selected_0 18 rfl rfl)
theorem dX0_selected_19 : decode cX0_selected 19 = .ok (.if_icmp .ne 23, 3) := dk_160 0 23 (dk_at dksX0_selected_0 19 rfl rfl)
theorem dX0_selected_22 : decode cX0_selected 22 = .ok (.aload_n 0, 1) := dk_42 (dk_at dksX0_selected_0 22 rfl rfl)
theorem dX0_selected_23 : decode cX0_selected 23 = .ok (.getfield 1, 3) := dk_180 0 1 (dk_at dksX0_selected_1 0 rfl rfl)
theorem dX0_selected_26 : decode cX0_selected 26 = .ok (.iload 4, 2) := dk_21 4 (dk_at dksX0_selected_1 3 rfl rfl)
theorem dX0_selected_28 : decode cX0_selected 28 = .ok (.invokevirtual 42, 3) := dk_182 0 42 (dk_at dksX0_selected_1 5 rfl rfl)
theorem dX0_selected_31 : decode cX0_selected 31 = .ok (.ifCond .ne 7, 3) := dk_154 0 7 (dk_at dksX0_selected_1 8 rfl rfl)
theorem dX0_selected_34 : decode cX0_selected 34 = .ok (.iconst 1, 1) := dk_4 (dk_at dksX0_selected_1 11 rfl rfl)
theorem dX0_selected_35 : decode cX0_selected 35 = .ok (.goto 42, 3) := dk_167 0 42 (dk_at dksX0_selected_1 12 rfl rfl)
theorem dX0_selected_38 : decode cX0_selected 38 = .ok (.iconst 0, 1) := dk_3 (dk_at dksX0_selected_1 15 rfl rfl)
theorem dX0_selected_39 : decode cX0_selected 39 = .ok (.goto 38, 3) := dk_167 0 38 (dk_at dksX0_selected_1 16 rfl rfl)
theorem dX0_selected_42 : decode cX0_selected 42 = .ok (.aload_n 0, 1) := dk_42 (dk_at dksX0_selected_1 19 rfl rfl)
theorem dX0_selected_43 : decode cX0_selected 43 = .ok (.getfield 1, 3) := dk_180 0 1 (dk_at dksX0_selected_1 20 rfl rfl)
theorem dX0_selected_46 : decode cX0_selected 46 = .ok (.iload 4, 2) := dk_21 4 (dk_at dksX0_selected_2 0 rfl rfl)
theorem dX0_selected_48 : decode cX0_selected 48 = .ok (.invokevirtual 42, 3) := dk_182 0 42 (dk_at dksX0_selected_2 2 rfl rfl)
theorem dX0_selected_51 : decode cX0_selected 51 = .ok (.ifCond .eq 25, 3) := dk_153 0 25 (dk_at dksX0_selected_2 5 rfl rfl)
theorem dX0_selected_54 : decode cX0_selected 54 = .ok (.iload_n 2, 1) := dk_28 (dk_at dksX0_selected_2 8 rfl rfl)
theorem dX0_selected_55 : decode cX0_selected 55 = .ok (.ifCond .eq 17, 3) := dk_153 0 17 (dk_at dksX0_selected_2 9 rfl rfl)
theorem dX0_selected_58 : decode cX0_selected 58 = .ok (.aload_n 0, 1) := dk_42 (dk_at dksX0_selected_2 12 rfl rfl)
theorem dX0_selected_59 : decode cX0_selected 59 = .ok (.getfield 1, 3) := dk_180 0 1 (dk_at dksX0_selected_2 13 rfl rfl)
theorem dX0_selected_62 : decode cX0_selected 62 = .ok (.iload 4, 2) := dk_21 4 (dk_at dksX0_selected_2 16 rfl rfl)
theorem dX0_selected_64 : decode cX0_selected 64 = .ok (.iconst 1, 1) := dk_4 (dk_at dksX0_selected_2 18 rfl rfl)
theorem dX0_selected_65 : decode cX0_selected 65 = .ok (.iadd, 1) := dk_96 (dk_at dksX0_selected_2 19 rfl rfl)
theorem dX0_selected_66 : decode cX0_selected 66 = .ok (.invokevirtual 42, 3) := dk_182 0 42 (dk_at dksX0_selected_2 20 rfl rfl)
theorem dX0_selected_69 : decode cX0_selected 69 = .ok (.ifCond .ne 7, 3) := dk_154 0 7 (dk_at dksX0_selected_3 0 rfl rfl)
theorem dX0_selected_72 : decode cX0_selected 72 = .ok (.iconst 1, 1) := dk_4 (dk_at dksX0_selected_3 3 rfl rfl)
theorem dX0_selected_73 : decode cX0_selected 73 = .ok (.goto 4, 3) := dk_167 0 4 (dk_at dksX0_selected_3 4 rfl rfl)
theorem dX0_selected_76 : decode cX0_selected 76 = .ok (.iconst 0, 1) := dk_3 (dk_at dksX0_selected_3 7 rfl rfl)
theorem dX0_selected_77 : decode cX0_selected 77 = .ok (.istore 5, 2) := dk_54 5 (dk_at dksX0_selected_3 8 rfl rfl)
theorem dX0_selected_79 : decode cX0_selected 79 = .ok (.iload 5, 2) := dk_21 5 (dk_at dksX0_selected_3 10 rfl rfl)
theorem dX0_selected_81 : decode cX0_selected 81 = .ok (.ifCond .eq 13, 3) := dk_153 0 13 (dk_at dksX0_selected_3 12 rfl rfl)
theorem dX0_selected_84 : decode cX0_selected 84 = .ok (.iload_n 3, 1) := dk_29 (dk_at dksX0_selected_3 15 rfl rfl)
theorem dX0_selected_85 : decode cX0_selected 85 = .ok (.iinc 3 (-1), 3) := dk_132 3 255 (dk_at dksX0_selected_3 16 rfl rfl)
theorem dX0_selected_88 : decode cX0_selected 88 = .ok (.ifCond .ne 6, 3) := dk_154 0 6 (dk_at dksX0_selected_3 19 rfl rfl)
theorem dX0_selected_91 : decode cX0_selected 91 = .ok (.iload 4, 2) := dk_21 4 (dk_at dksX0_selected_3 22 rfl rfl)
theorem dX0_selected_93 : decode cX0_selected 93 = .ok (.ireturn, 1) := dk_172 (dk_at dksX0_selected_4 0 rfl rfl)
theorem dX0_selected_94 : decode cX0_selected 94 = .ok (.iinc 4 1, 3) := dk_132 4 1 (dk_at dksX0_selected_4 1 rfl rfl)
theorem dX0_selected_97 : decode cX0_selected 97 = .ok (.goto (-92), 3) := dk_167 255 164 (dk_at dksX0_selected_4 4 rfl rfl)
theorem dX0_selected_100 : decode cX0_selected 100 = .ok (.bipush (-4), 2) := dk_16 252 (dk_at dksX0_selected_4 7 rfl rfl)
theorem dX0_selected_102 : decode cX0_selected 102 = .ok (.ireturn, 1) := dk_172 (dk_at dksX0_selected_4 9 rfl rfl)
abbrev cX0_forward : ByteArray := prog_1_method_28_code
def yX0_forward : MethodName := ⟨RX0, "forward", "(II)I"⟩
def dkwX0_forward_0 : List UInt8 := [42, 27, 182, 0, 165, 153, 0, 12, 42, 27, 28, 182, 0, 46, 167, 0, 4, 2, 172]
abbrev dktX0_forward_0 : List UInt8 := dkwX0_forward_0 ++ []
theorem dksX0_forward_0 : cX0_forward.data.toList.drop 0 = dktX0_forward_0 := by decide +kernel
theorem dX0_forward_0 : decode cX0_forward 0 = .ok (.aload_n 0, 1) := dk_42 (dk_at dksX0_forward_0 0 rfl rfl)
theorem dX0_forward_1 : decode cX0_forward 1 = .ok (.iload_n 1, 1) := dk_27 (dk_at dksX0_forward_0 1 rfl rfl)
theorem dX0_forward_2 : decode cX0_forward 2 = .ok (.invokevirtual 165, 3) := dk_182 0 165 (dk_at dksX0_forward_0 2 rfl rfl)
theorem dX0_forward_5 : decode cX0_forward 5 = .ok (.ifCond .eq 12, 3) := dk_153 0 12 (dk_at dksX0_forward_0 5 rfl rfl)
theorem dX0_forward_8 : decode cX0_forward 8 = .ok (.aload_n 0, 1) := dk_42 (dk_at dksX0_forward_0 8 rfl rfl)
theorem dX0_forward_9 : decode cX0_forward 9 = .ok (.iload_n 1, 1) := dk_27 (dk_at dksX0_forward_0 9 rfl rfl)
theorem dX0_forward_10 : decode cX0_forward 10 = .ok (.iload_n 2, 1) := dk_28 (dk_at dksX0_forward_0 10 rfl rfl)
theorem dX0_forward_11 : decode cX0_forward 11 = .ok (.invokevirtual 46, 3) := dk_182 0 46 (dk_at dksX0_forward_0 11 rfl rfl)
theorem dX0_forward_14 : decode cX0_forward 14 = .ok (.goto 4, 3) := dk_167 0 4 (dk_at dksX0_forward_0 14 rfl rfl)
theorem dX0_forward_17 : decode cX0_forward 17 = .ok (.iconst (-1), 1) := dk_2 (dk_at dksX0_forward_0 17 rfl rfl)
theorem dX0_forward_18 : decode cX0_forward 18 = .ok (.ireturn, 1) := dk_172 (dk_at dksX0_forward_0 18 rfl rfl)
abbrev cX0_searchOn : ByteArray := prog_1_method_4_code
def yX0_searchOn : MethodName := ⟨RX0, "searchOn", "(II)I"⟩
def dkwX0_searchOn_8 : List UInt8 := [167, 255, 210, 42, 16, 16, 21, 6, 16, 8, 100, 104, 21, 5, 28, 182, 0, 26, 172]
abbrev dktX0_searchOn_8 : List UInt8 := dkwX0_searchOn_8 ++ []
def dkwX0_searchOn_7 : List UInt8 := [182, 0, 30, 154, 255, 231, 21, 5, 42, 180, 0, 1, 180, 0, 34, 21, 6, 53, 96, 54, 5, 132, 6, 1]
abbrev dktX0_searchOn_7 : List UInt8 := dkwX0_searchOn_7 ++ dktX0_searchOn_8
def dkwX0_searchOn_6 : List UInt8 := [21, 6, 16, 8, 162, 0, 45, 21, 6, 5, 104, 54, 6, 42, 180, 0, 1, 21, 6, 21, 5, 28]
abbrev dktX0_searchOn_6 : List UInt8 := dkwX0_searchOn_6 ++ dktX0_searchOn_7
def dkwX0_searchOn_5 : List UInt8 := [42, 180, 0, 1, 180, 0, 34, 21, 6, 4, 96, 53, 96, 54, 5, 21, 6, 5, 108, 54, 6, 167, 255, 194]
abbrev dktX0_searchOn_5 : List UInt8 := dkwX0_searchOn_5 ++ dktX0_searchOn_6
def dkwX0_searchOn_4 : List UInt8 := [180, 0, 1, 21, 6, 4, 96, 21, 5, 28, 182, 0, 30, 153, 0, 9, 132, 6, 1, 167, 0, 29, 21, 5]
abbrev dktX0_searchOn_4 : List UInt8 := dkwX0_searchOn_4 ++ dktX0_searchOn_5
def dkwX0_searchOn_3 : List UInt8 := [16, 16, 108, 96, 54, 6, 21, 6, 4, 160, 0, 6, 16, 252, 172, 21, 6, 5, 112, 154, 0, 43, 42]
abbrev dktX0_searchOn_3 : List UInt8 := dkwX0_searchOn_3 ++ dktX0_searchOn_4
def dkwX0_searchOn_2 : List UInt8 := [4, 96, 16, 16, 104, 184, 0, 13, 54, 4, 42, 180, 0, 1, 21, 4, 182, 0, 23, 54, 5, 16, 8, 27]
abbrev dktX0_searchOn_2 : List UInt8 := dkwX0_searchOn_2 ++ dktX0_searchOn_3
def dkwX0_searchOn_1 : List UInt8 := [28, 182, 0, 26, 62, 29, 16, 252, 159, 0, 5, 29, 172, 42, 180, 0, 1, 180, 0, 7, 27, 16, 16, 108]
abbrev dktX0_searchOn_1 : List UInt8 := dkwX0_searchOn_1 ++ dktX0_searchOn_2
def dkwX0_searchOn_0 : List UInt8 := [27, 42, 180, 0, 1, 180, 0, 7, 161, 0, 6, 16, 252, 172, 42, 27, 42, 180, 0, 1, 27, 182, 0, 23]
abbrev dktX0_searchOn_0 : List UInt8 := dkwX0_searchOn_0 ++ dktX0_searchOn_1
theorem dksX0_searchOn_0 : cX0_searchOn.data.toList.drop 0 = dktX0_searchOn_0 := by decide +kernel
theorem dksX0_searchOn_1 : cX0_searchOn.data.toList.drop 24 = dktX0_searchOn_1 := dk_seg dksX0_searchOn_0 24 rfl rfl
theorem dksX0_searchOn_2 : cX0_searchOn.data.toList.drop 48 = dktX0_searchOn_2 := dk_seg dksX0_searchOn_1 24 rfl rfl
theorem dksX0_searchOn_3 : cX0_searchOn.data.toList.drop 72 = dktX0_searchOn_3 := dk_seg dksX0_searchOn_2 24 rfl rfl
theorem dksX0_searchOn_4 : cX0_searchOn.data.toList.drop 95 = dktX0_searchOn_4 := dk_seg dksX0_searchOn_3 23 rfl rfl
theorem dksX0_searchOn_5 : cX0_searchOn.data.toList.drop 119 = dktX0_searchOn_5 := dk_seg dksX0_searchOn_4 24 rfl rfl
theorem dksX0_searchOn_6 : cX0_searchOn.data.toList.drop 143 = dktX0_searchOn_6 := dk_seg dksX0_searchOn_5 24 rfl rfl
theorem dksX0_searchOn_7 : cX0_searchOn.data.toList.drop 165 = dktX0_searchOn_7 := dk_seg dksX0_searchOn_6 22 rfl rfl
theorem dksX0_searchOn_8 : cX0_searchOn.data.toList.drop 189 = dktX0_searchOn_8 := dk_seg dksX0_searchOn_7 24 rfl rfl
theorem dX0_searchOn_0 : decode cX0_searchOn 0 = .ok (.iload_n 1, 1) := dk_27 (dk_at dksX0_searchOn_0 0 rfl rfl)
theorem dX0_searchOn_1 : decode cX0_searchOn 1 = .ok (.aload_n 0, 1) := dk_42 (dk_at dksX0_searchOn_0 1 rfl rfl)
theorem dX0_searchOn_2 : decode cX0_searchOn 2 = .ok (.getfield 1, 3) := dk_180 0 1 (dk_at dksX0_searchOn_0 2 rfl rfl)
theorem dX0_searchOn_5 : decode cX0_searchOn 5 = .ok (.getfield 7, 3) := dk_180 0 7 (dk_at dksX0_searchOn_0 5 rfl rfl)
theorem dX0_searchOn_8 : decode cX0_searchOn 8 = .ok (.if_icmp .lt 6, 3) := dk_161 0 6 (dk_at dksX0_searchOn_0 8 rfl rfl)
theorem dX0_searchOn_11 : decode cX0_searchOn 11 = .ok (.bipush (-4), 2) := dk_16 252 (dk_at dksX0_searchOn_0 11 rfl rfl)
theorem dX0_searchOn_13 : decode cX0_searchOn 13 = .ok (.ireturn, 1) := dk_172 (dk_at dksX0_searchOn_0 13 rfl rfl)
theorem dX0_searchOn_14 : decode cX0_searchOn 14 = .ok (.aload_n 0, 1) := dk_42 (dk_at dksX0_searchOn_0 14 rfl rfl)
theorem dX0_searchOn_15 : decode cX0_searchOn 15 = .ok (.iload_n 1, 1) := dk_27 (dk_at dksX0_searchOn_0 15 rfl rfl)
theorem dX0_searchOn_16 : decode cX0_searchOn 16 = .ok (.aload_n 0, 1) := dk_42 (dk_at dksX0_searchOn_0 16 rfl rfl)
theorem dX0_searchOn_17 : decode cX0_searchOn 17 = .ok (.getfield 1, 3) := dk_180 0 1 (dk_at dksX0_searchOn_0 17 rfl rfl)
theorem dX0_searchOn_20 : decode cX0_searchOn 20 = .ok (.iload_n 1, 1) := dk_27 (dk_at dksX0_searchOn_0 20 rfl rfl)
theorem dX0_searchOn_21 : decode cX0_searchOn 21 = .ok (.invokevirtual 23, 3) := dk_182 0 23 (dk_at dksX0_searchOn_0 21 rfl rfl)
theorem dX0_searchOn_24 : decode cX0_searchOn 24 = .ok (.iload_n 2, 1) := dk_28 (dk_at dksX0_searchOn_1 0 rfl rfl)
theorem dX0_searchOn_25 : decode cX0_searchOn 25 = .ok (.invokevirtual 26, 3) := dk_182 0 26 (dk_at dksX0_searchOn_1 1 rfl rfl)
theorem dX0_searchOn_28 : decode cX0_searchOn 28 = .ok (.istore_n 3, 1) := dk_62 (dk_at dksX0_searchOn_1 4 rfl rfl)
theorem dX0_searchOn_29 : decode cX0_searchOn 29 = .ok (.iload_n 3, 1) := dk_29 (dk_at dksX0_searchOn_1 5 rfl rfl)
theorem dX0_searchOn_30 : decode cX0_searchOn 30 = .ok (.bipush (-4), 2) := dk_16 252 (dk_at dksX0_searchOn_1 6 rfl rfl)
theorem dX0_searchOn_32 : decode cX0_searchOn 32 = .ok (.if_icmp .eq 5, 3) := dk_159 0 5 (dk_at dksX0_searchOn_1 8 rfl rfl)
theorem dX0_searchOn_35 : decode cX0_searchOn 35 = .ok (.iload_n 3, 1) := dk_29 (dk_at dksX0_searchOn_1 11 rfl rfl)
theorem dX0_searchOn_36 : decode cX0_searchOn 36 = .ok (.ireturn, 1) := dk_172 (dk_at dksX0_searchOn_1 12 rfl rfl)
theorem dX0_searchOn_37 : decode cX0_searchOn 37 = .ok (.aload_n 0, 1) := dk_42 (dk_at dksX0_searchOn_1 13 rfl rfl)
theorem dX0_searchOn_38 : decode cX0_searchOn 38 = .ok (.getfield 1, 3) := dk_180 0 1 (dk_at dksX0_searchOn_1 14 rfl rfl)
theorem dX0_searchOn_41 : decode cX0_searchOn 41 = .ok (.getfield 7, 3) := dk_180 0 7 (dk_at dksX0_searchOn_1 17 rfl rfl)
theorem dX0_searchOn_44 : decode cX0_searchOn 44 = .ok (.iload_n 1, 1) := dk_27 (dk_at dksX0_searchOn_1 20 rfl rfl)
theorem dX0_searchOn_45 : decode cX0_searchOn 45 = .ok (.bipush 16, 2) := dk_16 16 (dk_at dksX0_searchOn_1 21 rfl rfl)
theorem dX0_searchOn_47 : decode cX0_searchOn 47 = .ok (.idiv, 1) := dk_108 (dk_at dksX0_searchOn_1 23 rfl rfl)
theorem dX0_searchOn_48 : decode cX0_searchOn 48 = .ok (.iconst 1, 1) := dk_4 (dk_at dksX0_searchOn_2 0 rfl rfl)
theorem dX0_searchOn_49 : decode cX0_searchOn 49 = .ok (.iadd, 1) := dk_96 (dk_at dksX0_searchOn_2 1 rfl rfl)
theorem dX0_searchOn_50 : decode cX0_searchOn 50 = .ok (.bipush 16, 2) := dk_16 16 (dk_at dksX0_searchOn_2 2 rfl rfl)
theorem dX0_searchOn_52 : decode cX0_searchOn 52 = .ok (.imul, 1) := dk_104 (dk_at dksX0_searchOn_2 4 rfl rfl)
theorem dX0_searchOn_53 : decode cX0_searchOn 53 = .ok (.invokestatic 13, 3) := dk_184 0 13 (dk_at dksX0_searchOn_2 5 rfl rfl)
theorem dX0_searchOn_56 : decode cX0_searchOn 56 = .ok (.istore 4, 2) := dk_54 4 (dk_at dksX0_searchOn_2 8 rfl rfl)
theorem dX0_searchOn_58 : decode cX0_searchOn 58 = .ok (.aload_n 0, 1) := dk_42 (dk_at dksX0_searchOn_2 10 rfl rfl)
theorem dX0_searchOn_59 : decode cX0_searchOn 59 = .ok (.getfield 1, 3) := dk_180 0 1 (dk_at dksX0_searchOn_2 11 rfl rfl)
theorem dX0_searchOn_62 : decode cX0_searchOn 62 = .ok (.iload 4, 2) := dk_21 4 (dk_at dksX0_searchOn_2 14 rfl rfl)
theorem dX0_searchOn_64 : decode cX0_searchOn 64 = .ok (.invokevirtual 23, 3) := dk_182 0 23 (dk_at dksX0_searchOn_2 16 rfl rfl)
theorem dX0_searchOn_67 : decode cX0_searchOn 67 = .ok (.istore 5, 2) := dk_54 5 (dk_at dksX0_searchOn_2 19 rfl rfl)
theorem dX0_searchOn_69 : decode cX0_searchOn 69 = .ok (.bipush 8, 2) := dk_16 8 (dk_at dksX0_searchOn_2 21 rfl rfl)
theorem dX0_searchOn_71 : decode cX0_searchOn 71 = .ok (.iload_n 1, 1) := dk_27 (dk_at dksX0_searchOn_2 23 rfl rfl)
theorem dX0_searchOn_72 : decode cX0_searchOn 72 = .ok (.bipush 16, 2) := dk_16 16 (dk_at dksX0_searchOn_3 0 rfl rfl)
theorem dX0_searchOn_74 : decode cX0_searchOn 74 = .ok (.idiv, 1) := dk_108 (dk_at dksX0_searchOn_3 2 rfl rfl)
theorem dX0_searchOn_75 : decode cX0_searchOn 75 = .ok (.iadd, 1) := dk_96 (dk_at dksX0_searchOn_3 3 rfl rfl)
theorem dX0_searchOn_76 : decode cX0_searchOn 76 = .ok (.istore 6, 2) := dk_54 6 (dk_at dksX0_searchOn_3 4 rfl rfl)
theorem dX0_searchOn_78 : decode cX0_searchOn 78 = .ok (.iload 6, 2) := dk_21 6 (dk_at dksX0_searchOn_3 6 rfl rfl)
theorem dX0_searchOn_80 : decode cX0_searchOn 80 = .ok (.iconst 1, 1) := dk_4 (dk_at dksX0_searchOn_3 8 rfl rfl)
theorem dX0_searchOn_81 : decode cX0_searchOn 81 = .ok (.if_icmp .ne 6, 3) := dk_160 0 6 (dk_at dksX0_searchOn_3 9 rfl rfl)
theorem dX0_searchOn_84 : decode cX0_searchOn 84 = .ok (.bipush (-4), 2) := dk_16 252 (dk_at dksX0_searchOn_3 12 rfl rfl)
theorem dX0_searchOn_86 : decode cX0_searchOn 86 = .ok (.ireturn, 1) := dk_172 (dk_at dksX0_searchOn_3 14 rfl rfl)
theorem dX0_searchOn_87 : decode cX0_searchOn 87 = .ok (.iload 6, 2) := dk_21 6 (dk_at dksX0_searchOn_3 15 rfl rfl)
theorem dX0_searchOn_89 : decode cX0_searchOn 89 = .ok (.iconst 2, 1) := dk_5 (dk_at dksX0_searchOn_3 17 rfl rfl)
theorem dX0_searchOn_90 : decode cX0_searchOn 90 = .ok (.irem, 1) := dk_112 (dk_at dksX0_searchOn_3 18 rfl rfl)
theorem dX0_searchOn_91 : decode cX0_searchOn 91 = .ok (.ifCond .ne 43, 3) := dk_154 0 43 (dk_at dksX0_searchOn_3 19 rfl rfl)
theorem dX0_searchOn_94 : decode cX0_searchOn 94 = .ok (.aload_n 0, 1) := dk_42 (dk_at dksX0_searchOn_3 22 rfl rfl)
theorem dX0_searchOn_95 : decode cX0_searchOn 95 = .ok (.getfield 1, 3) := dk_180 0 1 (dk_at dksX0_searchOn_4 0 rfl rfl)
theorem dX0_searchOn_98 : decode cX0_searchOn 98 = .ok (.iload 6, 2) := dk_21 6 (dk_at dksX0_searchOn_4 3 rfl rfl)
theorem dX0_searchOn_100 : decode cX0_searchOn 100 = .ok (.iconst 1, 1) := dk_4 (dk_at dksX0_searchOn_4 5 rfl rfl)
theorem dX0_searchOn_101 : decode cX0_searchOn 101 = .ok (.iadd, 1) := dk_96 (dk_at dksX0_searchOn_4 6 rfl rfl)
theorem dX0_searchOn_102 : decode cX0_searchOn 102 = .ok (.iload 5, 2) := dk_21 5 (dk_at dksX0_searchOn_4 7 rfl rfl)
theorem dX0_searchOn_104 : decode cX0_searchOn 104 = .ok (.iload_n 2, 1) := dk_28 (dk_at dksX0_searchOn_4 9 rfl rfl)
theorem dX0_searchOn_105 : decode cX0_searchOn 105 = .ok (.invokevirtual 30, 3) := dk_182 0 30 (dk_at dksX0_searchOn_4 10 rfl rfl)
theorem dX0_searchOn_108 : decode cX0_searchOn 108 = .ok (.ifCond .eq 9, 3) := dk_153 0 9 (dk_at dksX0_searchOn_4 13 rfl rfl)
theorem dX0_searchOn_111 : decode cX0_searchOn 111 = .ok (.iinc 6 1, 3) := dk_132 6 1 (dk_at dksX0_searchOn_4 16 rfl rfl)
theorem dX0_searchOn_114 : decode cX0_searchOn 114 = .ok (.goto 29, 3) := dk_167 0 29 (dk_at dksX0_searchOn_4 19 rfl rfl)
theorem dX0_searchOn_117 : decode cX0_searchOn 117 = .ok (.iload 5, 2) := dk_21 5 (dk_at dksX0_searchOn_4 22 rfl rfl)
theorem dX0_searchOn_119 : decode cX0_searchOn 119 = .ok (.aload_n 0, 1) := dk_42 (dk_at dksX0_searchOn_5 0 rfl rfl)
theorem dX0_searchOn_120 : decode cX0_searchOn 120 = .ok (.getfield 1, 3) := dk_180 0 1 (dk_at dksX0_searchOn_5 1 rfl rfl)
theorem dX0_searchOn_123 : decode cX0_searchOn 123 = .ok (.getfield 34, 3) := dk_180 0 34 (dk_at dksX0_searchOn_5 4 rfl rfl)
theorem dX0_searchOn_126 : decode cX0_searchOn 126 = .ok (.iload 6, 2) := dk_21 6 (dk_at dksX0_searchOn_5 7 rfl rfl)
theorem dX0_searchOn_128 : decode cX0_searchOn 128 = .ok (.iconst 1, 1) := dk_4 (dk_at dksX0_searchOn_5 9 rfl rfl)
theorem dX0_searchOn_129 : decode cX0_searchOn 129 = .ok (.iadd, 1) := dk_96 (dk_at dksX0_searchOn_5 10 rfl rfl)
theorem dX0_searchOn_130 : decode cX0_searchOn 130 = .ok (.saload, 1) := dk_53 (dk_at dksX0_searchOn_5 11 rfl rfl)
theorem dX0_searchOn_131 : decode cX0_searchOn 131 = .ok (.iadd, 1) := dk_96 (dk_at dksX0_searchOn_5 12 rfl rfl)
theorem dX0_searchOn_132 : decode cX0_searchOn 132 = .ok (.istore 5, 2) := dk_54 5 (dk_at dksX0_searchOn_5 13 rfl rfl)
theorem dX0_searchOn_134 : decode cX0_searchOn 134 = .ok (.iload 6, 2) := dk_21 6 (dk_at dksX0_searchOn_5 15 rfl rfl)
theorem dX0_searchOn_136 : decode cX0_searchOn 136 = .ok (.iconst 2, 1) := dk_5 (dk_at dksX0_searchOn_5 17 rfl rfl)
theorem dX0_searchOn_137 : decode cX0_searchOn 137 = .ok (.idiv, 1) := dk_108 (dk_at dksX0_searchOn_5 18 rfl rfl)
theorem dX0_searchOn_138 : decode cX0_searchOn 138 = .ok (.istore 6, 2) := dk_54 6 (dk_at dksX0_searchOn_5 19 rfl rfl)
theorem dX0_searchOn_140 : decode cX0_searchOn 140 = .ok (.goto (-62), 3) := dk_167 255 194 (dk_at dksX0_searchOn_5 21 rfl rfl)
theorem dX0_searchOn_143 : decode cX0_searchOn 143 = .ok (.iload 6, 2) := dk_21 6 (dk_at dksX0_searchOn_6 0 rfl rfl)
theorem dX0_searchOn_145 : decode cX0_searchOn 145 = .ok (.bipush 8, 2) := dk_16 8 (dk_at dksX0_searchOn_6 2 rfl rfl)
theorem dX0_searchOn_147 : decode cX0_searchOn 147 = .ok (.if_icmp .ge 45, 3) := dk_162 0 45 (dk_at dksX0_searchOn_6 4 rfl rfl)
theorem dX0_searchOn_150 : decode cX0_searchOn 150 = .ok (.iload 6, 2) := dk_21 6 (dk_at dksX0_searchOn_6 7 rfl rfl)
theorem dX0_searchOn_152 : decode cX0_searchOn 152 = .ok (.iconst 2, 1) := dk_5 (dk_at dksX0_searchOn_6 9 rfl rfl)
theorem dX0_searchOn_153 : decode cX0_searchOn 153 = .ok (.imul, 1) := dk_104 (dk_at dksX0_searchOn_6 10 rfl rfl)
theorem dX0_searchOn_154 : decode cX0_searchOn 154 = .ok (.istore 6, 2) := dk_54 6 (dk_at dksX0_searchOn_6 11 rfl rfl)
theorem dX0_searchOn_156 : decode cX0_searchOn 156 = .ok (.aload_n 0, 1) := dk_42 (dk_at dksX0_searchOn_6 13 rfl rfl)
theorem dX0_searchOn_157 : decode cX0_searchOn 157 = .ok (.getfield 1, 3) := dk_180 0 1 (dk_at dksX0_searchOn_6 14 rfl rfl)
theorem dX0_searchOn_160 : decode cX0_searchOn 160 = .ok (.iload 6, 2) := dk_21 6 (dk_at dksX0_searchOn_6 17 rfl rfl)
theorem dX0_searchOn_162 : decode cX0_searchOn 162 = .ok (.iload 5, 2) := dk_21 5 (dk_at dksX0_searchOn_6 19 rfl rfl)
theorem dX0_searchOn_164 : decode cX0_searchOn 164 = .ok (.iload_n 2, 1) := dk_28 (dk_at dksX0_searchOn_6 21 rfl rfl)
theorem dX0_searchOn_165 : decode cX0_searchOn 165 = .ok (.invokevirtual 30, 3) := dk_182 0 30 (dk_at dksX0_searchOn_7 0 rfl rfl)
theorem dX0_searchOn_168 : decode cX0_searchOn 168 = .ok (.ifCond .ne (-25), 3) := dk_154 255 231 (dk_at dksX0_searchOn_7 3 rfl rfl)
theorem dX0_searchOn_171 : decode cX0_searchOn 171 = .ok (.iload 5, 2) := dk_21 5 (dk_at dksX0_searchOn_7 6 rfl rfl)
theorem dX0_searchOn_173 : decode cX0_searchOn 173 = .ok (.aload_n 0, 1) := dk_42 (dk_at dksX0_searchOn_7 8 rfl rfl)
theorem dX0_searchOn_174 : decode cX0_searchOn 174 = .ok (.getfield 1, 3) := dk_180 0 1 (dk_at dksX0_searchOn_7 9 rfl rfl)
theorem dX0_searchOn_177 : decode cX0_searchOn 177 = .ok (.getfield 34, 3) := dk_180 0 34 (dk_at dksX0_searchOn_7 12 rfl rfl)
theorem dX0_searchOn_180 : decode cX0_searchOn 180 = .ok (.iload 6, 2) := dk_21 6 (dk_at dksX0_searchOn_7 15 rfl rfl)
theorem dX0_searchOn_182 : decode cX0_searchOn 182 = .ok (.saload, 1) := dk_53 (dk_at dksX0_searchOn_7 17 rfl rfl)
theorem dX0_searchOn_183 : decode cX0_searchOn 183 = .ok (.iadd, 1) := dk_96 (dk_at dksX0_searchOn_7 18 rfl rfl)
theorem dX0_searchOn_184 : decode cX0_searchOn 184 = .ok (.istore 5, 2) := dk_54 5 (dk_at dksX0_searchOn_7 19 rfl rfl)
theorem dX0_searchOn_186 : decode cX0_searchOn 186 = .ok (.iinc 6 1, 3) := dk_132 6 1 (dk_at dksX0_searchOn_7 21 rfl rfl)
theorem dX0_searchOn_189 : decode cX0_searchOn 189 = .ok (.goto (-46), 3) := dk_167 255 210 (dk_at dksX0_searchOn_8 0 rfl rfl)
theorem dX0_searchOn_192 : decode cX0_searchOn 192 = .ok (.aload_n 0, 1) := dk_42 (dk_at dksX0_searchOn_8 3 rfl rfl)
theorem dX0_searchOn_193 : decode cX0_searchOn 193 = .ok (.bipush 16, 2) := dk_16 16 (dk_at dksX0_searchOn_8 4 rfl rfl)
theorem dX0_searchOn_195 : decode cX0_searchOn 195 = .ok (.iload 6, 2) := dk_21 6 (dk_at dksX0_searchOn_8 6 rfl rfl)
theorem dX0_searchOn_197 : decode cX0_searchOn 197 = .ok (.bipush 8, 2) := dk_16 8 (dk_at dksX0_searchOn_8 8 rfl rfl)
theorem dX0_searchOn_199 : decode cX0_searchOn 199 = .ok (.isub, 1) := dk_100 (dk_at dksX0_searchOn_8 10 rfl rfl)
theorem dX0_searchOn_200 : decode cX0_searchOn 200 = .ok (.imul, 1) := dk_104 (dk_at dksX0_searchOn_8 11 rfl rfl)
theorem dX0_searchOn_201 : decode cX0_searchOn 201 = .ok (.iload 5, 2) := dk_21 5 (dk_at dksX0_searchOn_8 12 rfl rfl)
theorem dX0_searchOn_203 : decode cX0_searchOn 203 = .ok (.iload_n 2, 1) := dk_28 (dk_at dksX0_searchOn_8 14 rfl rfl)
theorem dX0_searchOn_204 : decode cX0_searchOn 204 = .ok (.invokevirtual 26, 3) := dk_182 0 26 (dk_at dksX0_searchOn_8 15 rfl rfl)
theorem dX0_searchOn_207 : decode cX0_searchOn 207 = .ok (.ireturn, 1) := dk_172 (dk_at dksX0_searchOn_8 18 rfl rfl)
abbrev cX0_onInBlock : ByteArray := prog_1_method_3_code
def yX0_onInBlock : MethodName := ⟨RX0, "onInBlock", "(III)I"⟩
def dkwX0_onInBlock_2 : List UInt8 := [54, 5, 132, 4, 1, 21, 5, 29, 160, 255, 229, 21, 4, 172, 16, 252, 172]
abbrev dktX0_onInBlock_2 : List UInt8 := dkwX0_onInBlock_2 ++ []
def dkwX0_onInBlock_1 : List UInt8 := [184, 0, 13, 54, 6, 21, 4, 21, 6, 162, 0, 29, 21, 5, 42, 180, 0, 1, 21, 4, 182, 0, 19, 96]
abbrev dktX0_onInBlock_1 : List UInt8 := dkwX0_onInBlock_1 ++ dktX0_onInBlock_2
def dkwX0_onInBlock_0 : List UInt8 := [27, 54, 4, 28, 54, 5, 42, 180, 0, 1, 180, 0, 7, 27, 16, 16, 108, 4, 96, 16, 16, 104]
abbrev dktX0_onInBlock_0 : List UInt8 := dkwX0_onInBlock_0 ++ dktX0_onInBlock_1
theorem dksX0_onInBlock_0 : cX0_onInBlock.data.toList.drop 0 = dktX0_onInBlock_0 := by decide +kernel
theorem dksX0_onInBlock_1 : cX0_onInBlock.data.toList.drop 22 = dktX0_onInBlock_1 := dk_seg dksX0_onInBlock_0 22 rfl rfl
theorem dksX0_onInBlock_2 : cX0_onInBlock.data.toList.drop 46 = dktX0_onInBlock_2 := dk_seg dksX0_onInBlock_1 24 rfl rfl
theorem dX0_onInBlock_0 : decode cX0_onInBlock 0 = .ok (.iload_n 1, 1) := dk_27 (dk_at dksX0_onInBlock_0 0 rfl rfl)
theorem dX0_onInBlock_1 : decode cX0_onInBlock 1 = .ok (.istore 4, 2) := dk_54 4 (dk_at dksX0_onInBlock_0 1 rfl rfl)
theorem dX0_onInBlock_3 : decode cX0_onInBlock 3 = .ok (.iload_n 2, 1) := dk_28 (dk_at dksX0_onInBlock_0 3 rfl rfl)
theorem dX0_onInBlock_4 : decode cX0_onInBlock 4 = .ok (.istore 5, 2) := dk_54 5 (dk_at dksX0_onInBlock_0 4 rfl rfl)
theorem dX0_onInBlock_6 : decode cX0_onInBlock 6 = .ok (.aload_n 0, 1) := dk_42 (dk_at dksX0_onInBlock_0 6 rfl rfl)
theorem dX0_onInBlock_7 : decode cX0_onInBlock 7 = .ok (.getfield 1, 3) := dk_180 0 1 (dk_at dksX0_onInBlock_0 7 rfl rfl)
theorem dX0_onInBlock_10 : decode cX0_onInBlock 10 = .ok (.getfield 7, 3) := dk_180 0 7 (dk_at dksX0_onInBlock_0 10 rfl rfl)
theorem dX0_onInBlock_13 : decode cX0_onInBlock 13 = .ok (.iload_n 1, 1) := dk_27 (dk_at dksX0_onInBlock_0 13 rfl rfl)
theorem dX0_onInBlock_14 : decode cX0_onInBlock 14 = .ok (.bipush 16, 2) := dk_16 16 (dk_at dksX0_onInBlock_0 14 rfl rfl)
theorem dX0_onInBlock_16 : decode cX0_onInBlock 16 = .ok (.idiv, 1) := dk_108 (dk_at dksX0_onInBlock_0 16 rfl rfl)
theorem dX0_onInBlock_17 : decode cX0_onInBlock 17 = .ok (.iconst 1, 1) := dk_4 (dk_at dksX0_onInBlock_0 17 rfl rfl)
theorem dX0_onInBlock_18 : decode cX0_onInBlock 18 = .ok (.iadd, 1) := dk_96 (dk_at dksX0_onInBlock_0 18 rfl rfl)
theorem dX0_onInBlock_19 : decode cX0_onInBlock 19 = .ok (.bipush 16, 2) := dk_16 16 (dk_at dksX0_onInBlock_0 19 rfl rfl)
theorem dX0_onInBlock_21 : decode cX0_onInBlock 21 = .ok (.imul, 1) := dk_104 (dk_at dksX0_onInBlock_0 21 rfl rfl)
theorem dX0_onInBlock_22 : decode cX0_onInBlock 22 = .ok (.invokestatic 13, 3) := dk_184 0 13 (dk_at dksX0_onInBlock_1 0 rfl rfl)
theorem dX0_onInBlock_25 : decode cX0_onInBlock 25 = .ok (.istore 6, 2) := dk_54 6 (dk_at dksX0_onInBlock_1 3 rfl rfl)
theorem dX0_onInBlock_27 : decode cX0_onInBlock 27 = .ok (.iload 4, 2) := dk_21 4 (dk_at dksX0_onInBlock_1 5 rfl rfl)
theorem dX0_onInBlock_29 : decode cX0_onInBlock 29 = .ok (.iload 6, 2) := dk_21 6 (dk_at dksX0_onInBlock_1 7 rfl rfl)
theorem dX0_onInBlock_31 : decode cX0_onInBlock 31 = .ok (.if_icmp .ge 29, 3) := dk_162 0 29 (dk_at dksX0_onInBlock_1 9 rfl rfl)
theorem dX0_onInBlock_34 : decode cX0_onInBlock 34 = .ok (.iload 5, 2) := dk_21 5 (dk_at dksX0_onInBlock_1 12 rfl rfl)
theorem dX0_onInBlock_36 : decode cX0_onInBlock 36 = .ok (.aload_n 0, 1) := dk_42 (dk_at dksX0_onInBlock_1 14 rfl rfl)
theorem dX0_onInBlock_37 : decode cX0_onInBlock 37 = .ok (.getfield 1, 3) := dk_180 0 1 (dk_at dksX0_onInBlock_1 15 rfl rfl)
theorem dX0_onInBlock_40 : decode cX0_onInBlock 40 = .ok (.iload 4, 2) := dk_21 4 (dk_at dksX0_onInBlock_1 18 rfl rfl)
theorem dX0_onInBlock_42 : decode cX0_onInBlock 42 = .ok (.invokevirtual 19, 3) := dk_182 0 19 (dk_at dksX0_onInBlock_1 20 rfl rfl)
theorem dX0_onInBlock_45 : decode cX0_onInBlock 45 = .ok (.iadd, 1) := dk_96 (dk_at dksX0_onInBlock_1 23 rfl rfl)
theorem dX0_onInBlock_46 : decode cX0_onInBlock 46 = .ok (.istore 5, 2) := dk_54 5 (dk_at dksX0_onInBlock_2 0 rfl rfl)
theorem dX0_onInBlock_48 : decode cX0_onInBlock 48 = .ok (.iinc 4 1, 3) := dk_132 4 1 (dk_at dksX0_onInBlock_2 2 rfl rfl)
theorem dX0_onInBlock_51 : decode cX0_onInBlock 51 = .ok (.iload 5, 2) := dk_21 5 (dk_at dksX0_onInBlock_2 5 rfl rfl)
theorem dX0_onInBlock_53 : decode cX0_onInBlock 53 = .ok (.iload_n 3, 1) := dk_29 (dk_at dksX0_onInBlock_2 7 rfl rfl)
theorem dX0_onInBlock_54 : decode cX0_onInBlock 54 = .ok (.if_icmp .ne (-27), 3) := dk_160 255 229 (dk_at dksX0_onInBlock_2 8 rfl rfl)
theorem dX0_onInBlock_57 : decode cX0_onInBlock 57 = .ok (.iload 4, 2) := dk_21 4 (dk_at dksX0_onInBlock_2 11 rfl rfl)
theorem dX0_onInBlock_59 : decode cX0_onInBlock 59 = .ok (.ireturn, 1) := dk_172 (dk_at dksX0_onInBlock_2 13 rfl rfl)
theorem dX0_onInBlock_60 : decode cX0_onInBlock 60 = .ok (.bipush (-4), 2) := dk_16 252 (dk_at dksX0_onInBlock_2 14 rfl rfl)
theorem dX0_onInBlock_62 : decode cX0_onInBlock 62 = .ok (.ireturn, 1) := dk_172 (dk_at dksX0_onInBlock_2 16 rfl rfl)
abbrev cX0_backward : ByteArray := prog_1_method_29_code
def yX0_backward : MethodName := ⟨RX0, "backward", "(II)I"⟩
def dkwX0_backward_0 : List UInt8 := [42, 27, 182, 0, 165, 153, 0, 12, 42, 27, 28, 182, 0, 49, 167, 0, 4, 2, 172]
abbrev dktX0_backward_0 : List UInt8 := dkwX0_backward_0 ++ []
theorem dksX0_backward_0 : cX0_backward.data.toList.drop 0 = dktX0_backward_0 := by decide +kernel
theorem dX0_backward_0 : decode cX0_backward 0 = .ok (.aload_n 0, 1) := dk_42 (dk_at dksX0_backward_0 0 rfl rfl)
theorem dX0_backward_1 : decode cX0_backward 1 = .ok (.iload_n 1, 1) := dk_27 (dk_at dksX0_backward_0 1 rfl rfl)
theorem dX0_backward_2 : decode cX0_backward 2 = .ok (.invokevirtual 165, 3) := dk_182 0 165 (dk_at dksX0_backward_0 2 rfl rfl)
theorem dX0_backward_5 : decode cX0_backward 5 = .ok (.ifCond .eq 12, 3) := dk_153 0 12 (dk_at dksX0_backward_0 5 rfl rfl)
theorem dX0_backward_8 : decode cX0_backward 8 = .ok (.aload_n 0, 1) := dk_42 (dk_at dksX0_backward_0 8 rfl rfl)
theorem dX0_backward_9 : decode cX0_backward 9 = .ok (.iload_n 1, 1) := dk_27 (dk_at dksX0_backward_0 9 rfl rfl)
theorem dX0_backward_10 : decode cX0_backward 10 = .ok (.iload_n 2, 1) := dk_28 (dk_at dksX0_backward_0 10 rfl rfl)
theorem dX0_backward_11 : decode cX0_backward 11 = .ok (.invokevirtual 49, 3) := dk_182 0 49 (dk_at dksX0_backward_0 11 rfl rfl)
theorem dX0_backward_14 : decode cX0_backward 14 = .ok (.goto 4, 3) := dk_167 0 4 (dk_at dksX0_backward_0 14 rfl rfl)
theorem dX0_backward_17 : decode cX0_backward 17 = .ok (.iconst (-1), 1) := dk_2 (dk_at dksX0_backward_0 17 rfl rfl)
theorem dX0_backward_18 : decode cX0_backward 18 = .ok (.ireturn, 1) := dk_172 (dk_at dksX0_backward_0 18 rfl rfl)
abbrev cX0_searchBack : ByteArray := prog_1_method_6_code
def yX0_searchBack : MethodName := ⟨RX0, "searchBack", "(II)I"⟩
def dkwX0_searchBack_10 : List UInt8 := [21, 7, 167, 0, 17, 42, 21, 7, 21, 5, 28, 21, 7, 16, 16, 100, 182, 0, 38, 172]
abbrev dktX0_searchBack_10 : List UInt8 := dkwX0_searchBack_10 ++ []
def dkwX0_searchBack_9 : List UInt8 := [132, 6, 255, 167, 255, 197, 16, 16, 21, 6, 16, 8, 100, 4, 96, 104, 54, 7, 21, 5, 28, 160, 0, 8]
abbrev dktX0_searchBack_9 : List UInt8 := dkwX0_searchBack_9 ++ dktX0_searchBack_10
def dkwX0_searchBack_8 : List UInt8 := [28, 182, 0, 30, 154, 255, 218, 21, 5, 42, 180, 0, 1, 180, 0, 34, 21, 6, 53, 100, 54, 5]
abbrev dktX0_searchBack_8 : List UInt8 := dkwX0_searchBack_8 ++ dktX0_searchBack_9
def dkwX0_searchBack_7 : List UInt8 := [104, 4, 96, 54, 6, 42, 180, 0, 1, 21, 6, 21, 5, 42, 180, 0, 1, 180, 0, 34, 21, 6, 53, 100]
abbrev dktX0_searchBack_7 : List UInt8 := dkwX0_searchBack_7 ++ dktX0_searchBack_8
def dkwX0_searchBack_6 : List UInt8 := [100, 53, 100, 54, 5, 21, 6, 5, 108, 54, 6, 167, 255, 172, 21, 6, 16, 8, 162, 0, 58, 5, 21, 6]
abbrev dktX0_searchBack_6 : List UInt8 := dkwX0_searchBack_6 ++ dktX0_searchBack_7
def dkwX0_searchBack_5 : List UInt8 := [182, 0, 30, 153, 0, 9, 132, 6, 255, 167, 0, 29, 21, 5, 42, 180, 0, 1, 180, 0, 34, 21, 6, 4]
abbrev dktX0_searchBack_5 : List UInt8 := dkwX0_searchBack_5 ++ dktX0_searchBack_6
def dkwX0_searchBack_4 : List UInt8 := [180, 0, 1, 21, 6, 4, 100, 21, 5, 42, 180, 0, 1, 180, 0, 34, 21, 6, 4, 100, 53, 100, 28]
abbrev dktX0_searchBack_4 : List UInt8 := dkwX0_searchBack_4 ++ dktX0_searchBack_5
def dkwX0_searchBack_3 : List UInt8 := [160, 0, 14, 28, 154, 0, 7, 3, 167, 0, 5, 16, 252, 172, 21, 6, 5, 112, 4, 160, 0, 56, 42]
abbrev dktX0_searchBack_3 : List UInt8 := dkwX0_searchBack_3 ++ dktX0_searchBack_4
def dkwX0_searchBack_2 : List UInt8 := [42, 180, 0, 1, 16, 16, 29, 104, 182, 0, 23, 54, 5, 16, 8, 29, 96, 54, 6, 21, 6, 4]
abbrev dktX0_searchBack_2 : List UInt8 := dkwX0_searchBack_2 ++ dktX0_searchBack_3
def dkwX0_searchBack_1 : List UInt8 := [28, 16, 16, 29, 104, 182, 0, 38, 54, 4, 21, 4, 16, 252, 160, 0, 7, 29, 154, 0, 6, 21, 4, 172]
abbrev dktX0_searchBack_1 : List UInt8 := dkwX0_searchBack_1 ++ dktX0_searchBack_2
def dkwX0_searchBack_0 : List UInt8 := [27, 154, 0, 6, 16, 252, 172, 27, 4, 100, 16, 16, 108, 62, 42, 27, 42, 180, 0, 1, 27, 182, 0, 23]
abbrev dktX0_searchBack_0 : List UInt8 := dkwX0_searchBack_0 ++ dktX0_searchBack_1
theorem dksX0_searchBack_0 : cX0_searchBack.data.toList.drop 0 = dktX0_searchBack_0 := by decide +kernel
theorem dksX0_searchBack_1 : cX0_searchBack.data.toList.drop 24 = dktX0_searchBack_1 := dk_seg dksX0_searchBack_0 24 rfl rfl
theorem dksX0_searchBack_2 : cX0_searchBack.data.toList.drop 48 = dktX0_searchBack_2 := dk_seg dksX0_searchBack_1 24 rfl rfl
theorem dksX0_searchBack_3 : cX0_searchBack.data.toList.drop 70 = dktX0_searchBack_3 := dk_seg dksX0_searchBack_2 22 rfl rfl
theorem dksX0_searchBack_4 : cX0_searchBack.data.toList.drop 93 = dktX0_searchBack_4 := dk_seg dksX0_searchBack_3 23 rfl rfl
theorem dksX0_searchBack_5 : cX0_searchBack.data.toList.drop 116 = dktX0_searchBack_5 := dk_seg dksX0_searchBack_4 23 rfl rfl
theorem dksX0_searchBack_6 : cX0_searchBack.data.toList.drop 140 = dktX0_searchBack_6 := dk_seg dksX0_searchBack_5 24 rfl rfl
theorem dksX0_searchBack_7 : cX0_searchBack.data.toList.drop 164 = dktX0_searchBack_7 := dk_seg dksX0_searchBack_6 24 rfl rfl
theorem dksX0_searchBack_8 : cX0_searchBack.data.toList.drop 188 = dktX0_searchBack_8 := dk_seg dksX0_searchBack_7 24 rfl rfl
theorem dksX0_searchBack_9 : cX0_searchBack.data.toList.drop 210 = dktX0_searchBack_9 := dk_seg dksX0_searchBack_8 22 rfl rfl
theorem dksX0_searchBack_10 : cX0_searchBack.data.toList.drop 234 = dktX0_searchBack_10 := dk_seg dksX0_searchBack_9 24 rfl rfl
theorem dX0_searchBack_0 : decode cX0_searchBack 0 = .ok (.iload_n 1, 1) := dk_27 (dk_at dksX0_searchBack_0 0 rfl rfl)
theorem dX0_searchBack_1 : decode cX0_searchBack 1 = .ok (.ifCond .ne 6, 3) := dk_154 0 6 (dk_at dksX0_searchBack_0 1 rfl rfl)
theorem dX0_searchBack_4 : decode cX0_searchBack 4 = .ok (.bipush (-4), 2) := dk_16 252 (dk_at dksX0_searchBack_0 4 rfl rfl)
theorem dX0_searchBack_6 : decode cX0_searchBack 6 = .ok (.ireturn, 1) := dk_172 (dk_at dksX0_searchBack_0 6 rfl rfl)
theorem dX0_searchBack_7 : decode cX0_searchBack 7 = .ok (.iload_n 1, 1) := dk_27 (dk_at dksX0_searchBack_0 7 rfl rfl)
theorem dX0_searchBack_8 : decode cX0_searchBack 8 = .ok (.iconst 1, 1) := dk_4 (dk_at dksX0_searchBack_0 8 rfl rfl)
theorem dX0_searchBack_9 : decode cX0_searchBack 9 = .ok (.isub, 1) := dk_100 (dk_at dksX0_searchBack_0 9 rfl rfl)
theorem dX0_searchBack_10 : decode cX0_searchBack 10 = .ok (.bipush 16, 2) := dk_16 16 (dk_at dksX0_searchBack_0 10 rfl rfl)
theorem dX0_searchBack_12 : decode cX0_searchBack 12 = .ok (.idiv, 1) := dk_108 (dk_at dksX0_searchBack_0 12 rfl rfl)
theorem dX0_searchBack_13 : decode cX0_searchBack 13 = .ok (.istore_n 3, 1) := dk_62 (dk_at dksX0_searchBack_0 13 rfl rfl)
theorem dX0_searchBack_14 : decode cX0_searchBack 14 = .ok (.aload_n 0, 1) := dk_42 (dk_at dksX0_searchBack_0 14 rfl rfl)
theorem dX0_searchBack_15 : decode cX0_searchBack 15 = .ok (.iload_n 1, 1) := dk_27 (dk_at dksX0_searchBack_0 15 rfl rfl)
theorem dX0_searchBack_16 : decode cX0_searchBack 16 = .ok (.aload_n 0, 1) := dk_42 (dk_at dksX0_searchBack_0 16 rfl rfl)
theorem dX0_searchBack_17 : decode cX0_searchBack 17 = .ok (.getfield 1, 3) := dk_180 0 1 (dk_at dksX0_searchBack_0 17 rfl rfl)
theorem dX0_searchBack_20 : decode cX0_searchBack 20 = .ok (.iload_n 1, 1) := dk_27 (dk_at dksX0_searchBack_0 20 rfl rfl)
theorem dX0_searchBack_21 : decode cX0_searchBack 21 = .ok (.invokevirtual 23, 3) := dk_182 0 23 (dk_at dksX0_searchBack_0 21 rfl rfl)
theorem dX0_searchBack_24 : decode cX0_searchBack 24 = .ok (.iload_n 2, 1) := dk_28 (dk_at dksX0_searchBack_1 0 rfl rfl)
theorem dX0_searchBack_25 : decode cX0_searchBack 25 = .ok (.bipush 16, 2) := dk_16 16 (dk_at dksX0_searchBack_1 1 rfl rfl)
theorem dX0_searchBack_27 : decode cX0_searchBack 27 = .ok (.iload_n 3, 1) := dk_29 (dk_at dksX0_searchBack_1 3 rfl rfl)
theorem dX0_searchBack_28 : decode cX0_searchBack 28 = .ok (.imul, 1) := dk_104 (dk_at dksX0_searchBack_1 4 rfl rfl)
theorem dX0_searchBack_29 : decode cX0_searchBack 29 = .ok (.invokevirtual 38, 3) := dk_182 0 38 (dk_at dksX0_searchBack_1 5 rfl rfl)
theorem dX0_searchBack_32 : decode cX0_searchBack 32 = .ok (.istore 4, 2) := dk_54 4 (dk_at dksX0_searchBack_1 8 rfl rfl)
theorem dX0_searchBack_34 : decode cX0_searchBack 34 = .ok (.iload 4, 2) := dk_21 4 (dk_at dksX0_searchBack_1 10 rfl rfl)
theorem dX0_searchBack_36 : decode cX0_searchBack 36 = .ok (.bipush (-4), 2) := dk_16 252 (dk_at dksX0_searchBack_1 12 rfl rfl)
theorem dX0_searchBack_38 : decode cX0_searchBack 38 = .ok (.if_icmp .ne 7, 3) := dk_160 0 7 (dk_at dksX0_searchBack_1 14 rfl rfl)
theorem dX0_searchBack_41 : decode cX0_searchBack 41 = .ok (.iload_n 3, 1) := dk_29 (dk_at dksX0_searchBack_1 17 rfl rfl)
theorem dX0_searchBack_42 : decode cX0_searchBack 42 = .ok (.ifCond .ne 6, 3) := dk_154 0 6 (dk_at dksX0_searchBack_1 18 rfl rfl)
theorem dX0_searchBack_45 : decode cX0_searchBack 45 = .ok (.iload 4, 2) := dk_21 4 (dk_at dksX0_searchBack_1 21 rfl rfl)
theorem dX0_searchBack_47 : decode cX0_searchBack 47 = .ok (.ireturn, 1) := dk_172 (dk_at dksX0_searchBack_1 23 rfl rfl)
theorem dX0_searchBack_48 : decode cX0_searchBack 48 = .ok (.aload_n 0, 1) := dk_42 (dk_at dksX0_searchBack_2 0 rfl rfl)
theorem dX0_searchBack_49 : decode cX0_searchBack 49 = .ok (.getfield 1, 3) := dk_180 0 1 (dk_at dksX0_searchBack_2 1 rfl rfl)
theorem dX0_searchBack_52 : decode cX0_searchBack 52 = .ok (.bipush 16, 2) := dk_16 16 (dk_at dksX0_searchBack_2 4 rfl rfl)
theorem dX0_searchBack_54 : decode cX0_searchBack 54 = .ok (.iload_n 3, 1) := dk_29 (dk_at dksX0_searchBack_2 6 rfl rfl)
theorem dX0_searchBack_55 : decode cX0_searchBack 55 = .ok (.imul, 1) := dk_104 (dk_at dksX0_searchBack_2 7 rfl rfl)
theorem dX0_searchBack_56 : decode cX0_searchBack 56 = .ok (.invokevirtual 23, 3) := dk_182 0 23 (dk_at dksX0_searchBack_2 8 rfl rfl)
theorem dX0_searchBack_59 : decode cX0_searchBack 59 = .ok (.istore 5, 2) := dk_54 5 (dk_at dksX0_searchBack_2 11 rfl rfl)
theorem dX0_searchBack_61 : decode cX0_searchBack 61 = .ok (.bipush 8, 2) := dk_16 8 (dk_at dksX0_searchBack_2 13 rfl rfl)
theorem dX0_searchBack_63 : decode cX0_searchBack 63 = .ok (.iload_n 3, 1) := dk_29 (dk_at dksX0_searchBack_2 15 rfl rfl)
theorem dX0_searchBack_64 : decode cX0_searchBack 64 = .ok (.iadd, 1) := dk_96 (dk_at dksX0_searchBack_2 16 rfl rfl)
theorem dX0_searchBack_65 : decode cX0_searchBack 65 = .ok (.istore 6, 2) := dk_54 6 (dk_at dksX0_searchBack_2 17 rfl rfl)
theorem dX0_searchBack_67 : decode cX0_searchBack 67 = .ok (.iload 6, 2) := dk_21 6 (dk_at dksX0_searchBack_2 19 rfl rfl)
theorem dX0_searchBack_69 : decode cX0_searchBack 69 = .ok (.iconst 1, 1) := dk_4 (dk_at dksX0_searchBack_2 21 rfl rfl)
theorem dX0_searchBack_70 : decode cX0_searchBack 70 = .ok (.if_icmp .ne 14, 3) := dk_160 0 14 (dk_at dksX0_searchBack_3 0 rfl rfl)
theorem dX0_searchBack_73 : decode cX0_searchBack 73 = .ok (.iload_n 2, 1) := dk_28 (dk_at dksX0_searchBack_3 3 rfl rfl)
theorem dX0_searchBack_74 : decode cX0_searchBack 74 = .ok (.ifCond .ne 7, 3) := dk_154 0 7 (dk_at dksX0_searchBack_3 4 rfl rfl)
theorem dX0_searchBack_77 : decode cX0_searchBack 77 = .ok (.iconst 0, 1) := dk_3 (dk_at dksX0_searchBack_3 7 rfl rfl)
theorem dX0_searchBack_78 : decode cX0_searchBack 78 = .ok (.goto 5, 3) := dk_167 0 5 (dk_at dksX0_searchBack_3 8 rfl rfl)
theorem dX0_searchBack_81 : decode cX0_searchBack 81 = .ok (.bipush (-4), 2) := dk_16 252 (dk_at dksX0_searchBack_3 11 rfl rfl)
theorem dX0_searchBack_83 : decode cX0_searchBack 83 = .ok (.ireturn, 1) := dk_172 (dk_at dksX0_searchBack_3 13 rfl rfl)
theorem dX0_searchBack_84 : decode cX0_searchBack 84 = .ok (.iload 6, 2) := dk_21 6 (dk_at dksX0_searchBack_3 14 rfl rfl)
theorem dX0_searchBack_86 : decode cX0_searchBack 86 = .ok (.iconst 2, 1) := dk_5 (dk_at dksX0_searchBack_3 16 rfl rfl)
theorem dX0_searchBack_87 : decode cX0_searchBack 87 = .ok (.irem, 1) := dk_112 (dk_at dksX0_searchBack_3 17 rfl rfl)
theorem dX0_searchBack_88 : decode cX0_searchBack 88 = .ok (.iconst 1, 1) := dk_4 (dk_at dksX0_searchBack_3 18 rfl rfl)
theorem dX0_searchBack_89 : decode cX0_searchBack 89 = .ok (.if_icmp .ne 56, 3) := dk_160 0 56 (dk_at dksX0_searchBack_3 19 rfl rfl)
theorem dX0_searchBack_92 : decode cX0_searchBack 92 = .ok (.aload_n 0, 1) := dk_42 (dk_at dksX0_searchBack_3 22 rfl rfl)
theorem dX0_searchBack_93 : decode cX0_searchBack 93 = .ok (.getfield 1, 3) := dk_180 0 1 (dk_at dksX0_searchBack_4 0 rfl rfl)
theorem dX0_searchBack_96 : decode cX0_searchBack 96 = .ok (.iload 6, 2) := dk_21 6 (dk_at dksX0_searchBack_4 3 rfl rfl)
theorem dX0_searchBack_98 : decode cX0_searchBack 98 = .ok (.iconst 1, 1) := dk_4 (dk_at dksX0_searchBack_4 5 rfl rfl)
theorem dX0_searchBack_99 : decode cX0_searchBack 99 = .ok (.isub, 1) := dk_100 (dk_at dksX0_searchBack_4 6 rfl rfl)
theorem dX0_searchBack_100 : decode cX0_searchBack 100 = .ok (.iload 5, 2) := dk_21 5 (dk_at dksX0_searchBack_4 7 rfl rfl)
theorem dX0_searchBack_102 : decode cX0_searchBack 102 = .ok (.aload_n 0, 1) := dk_42 (dk_at dksX0_searchBack_4 9 rfl rfl)
theorem dX0_searchBack_103 : decode cX0_searchBack 103 = .ok (.getfield 1, 3) := dk_180 0 1 (dk_at dksX0_searchBack_4 10 rfl rfl)
theorem dX0_searchBack_106 : decode cX0_searchBack 106 = .ok (.getfield 34, 3) := dk_180 0 34 (dk_at dksX0_searchBack_4 13 rfl rfl)
theorem dX0_searchBack_109 : decode cX0_searchBack 109 = .ok (.iload 6, 2) := dk_21 6 (dk_at dksX0_searchBack_4 16 rfl rfl)
theorem dX0_searchBack_111 : decode cX0_searchBack 111 = .ok (.iconst 1, 1) := dk_4 (dk_at dksX0_searchBack_4 18 rfl rfl)
theorem dX0_searchBack_112 : decode cX0_searchBack 112 = .ok (.isub, 1) := dk_100 (dk_at dksX0_searchBack_4 19 rfl rfl)
theorem dX0_searchBack_113 : decode cX0_searchBack 113 = .ok (.saload, 1) := dk_53 (dk_at dksX0_searchBack_4 20 rfl rfl)
theorem dX0_searchBack_114 : decode cX0_searchBack 114 = .ok (.isub, 1) := dk_100 (dk_at dksX0_searchBack_4 21 rfl rfl)
theorem dX0_searchBack_115 : decode cX0_searchBack 115 = .ok (.iload_n 2, 1) := dk_28 (dk_at dksX0_searchBack_4 22 rfl rfl)
theorem dX0_searchBack_116 : decode cX0_searchBack 116 = .ok (.invokevirtual 30, 3) := dk_182 0 30 (dk_at dksX0_searchBack_5 0 rfl rfl)
theorem dX0_searchBack_119 : decode cX0_searchBack 119 = .ok (.ifCond .eq 9, 3) := dk_153 0 9 (dk_at dksX0_searchBack_5 3 rfl rfl)
theorem dX0_searchBack_122 : decode cX0_searchBack 122 = .ok (.iinc 6 (-1), 3) := dk_132 6 255 (dk_at dksX0_searchBack_5 6 rfl rfl)
theorem dX0_searchBack_125 : decode cX0_searchBack 125 = .ok (.goto 29, 3) := dk_167 0 29 (dk_at dksX0_searchBack_5 9 rfl rfl)
theorem dX0_searchBack_128 : decode cX0_searchBack 128 = .ok (.iload 5, 2) := dk_21 5 (dk_at dksX0_searchBack_5 12 rfl rfl)
theorem dX0_searchBack_130 : decode cX0_searchBack 130 = .ok (.aload_n 0, 1) := dk_42 (dk_at dksX0_searchBack_5 14 rfl rfl)
theorem dX0_searchBack_131 : decode cX0_searchBack 131 = .ok (.getfield 1, 3) := dk_180 0 1 (dk_at dksX0_searchBack_5 15 rfl rfl)
theorem dX0_searchBack_134 : decode cX0_searchBack 134 = .ok (.getfield 34, 3) := dk_180 0 34 (dk_at dksX0_searchBack_5 18 rfl rfl)
theorem dX0_searchBack_137 : decode cX0_searchBack 137 = .ok (.iload 6, 2) := dk_21 6 (dk_at dksX0_searchBack_5 21 rfl rfl)
theorem dX0_searchBack_139 : decode cX0_searchBack 139 = .ok (.iconst 1, 1) := dk_4 (dk_at dksX0_searchBack_5 23 rfl rfl)
theorem dX0_searchBack_140 : decode cX0_searchBack 140 = .ok (.isub, 1) := dk_100 (dk_at dksX0_searchBack_6 0 rfl rfl)
theorem dX0_searchBack_141 : decode cX0_searchBack 141 = .ok (.saload, 1) := dk_53 (dk_at dksX0_searchBack_6 1 rfl rfl)
theorem dX0_searchBack_142 : decode cX0_searchBack 142 = .ok (.isub, 1) := dk_100 (dk_at dksX0_searchBack_6 2 rfl rfl)
theorem dX0_searchBack_143 : decode cX0_searchBack 143 = .ok (.istore 5, 2) := dk_54 5 (dk_at dksX0_searchBack_6 3 rfl rfl)
theorem dX0_searchBack_145 : decode cX0_searchBack 145 = .ok (.iload 6, 2) := dk_21 6 (dk_at dksX0_searchBack_6 5 rfl rfl)
theorem dX0_searchBack_147 : decode cX0_searchBack 147 = .ok (.iconst 2, 1) := dk_5 (dk_at dksX0_searchBack_6 7 rfl rfl)
theorem dX0_searchBack_148 : decode cX0_searchBack 148 = .ok (.idiv, 1) := dk_108 (dk_at dksX0_searchBack_6 8 rfl rfl)
theorem dX0_searchBack_149 : decode cX0_searchBack 149 = .ok (.istore 6, 2) := dk_54 6 (dk_at dksX0_searchBack_6 9 rfl rfl)
theorem dX0_searchBack_151 : decode cX0_searchBack 151 = .ok (.goto (-84), 3) := dk_167 255 172 (dk_at dksX0_searchBack_6 11 rfl rfl)
theorem dX0_searchBack_154 : decode cX0_searchBack 154 = .ok (.iload 6, 2) := dk_21 6 (dk_at dksX0_searchBack_6 14 rfl rfl)
theorem dX0_searchBack_156 : decode cX0_searchBack 156 = .ok (.bipush 8, 2) := dk_16 8 (dk_at dksX0_searchBack_6 16 rfl rfl)
theorem dX0_searchBack_158 : decode cX0_searchBack 158 = .ok (.if_icmp .ge 58, 3) := dk_162 0 58 (dk_at dksX0_searchBack_6 18 rfl rfl)
theorem dX0_searchBack_161 : decode cX0_searchBack 161 = .ok (.iconst 2, 1) := dk_5 (dk_at dksX0_searchBack_6 21 rfl rfl)
theorem dX0_searchBack_162 : decode cX0_searchBack 162 = .ok (.iload 6, 2) := dk_21 6 (dk_at dksX0_searchBack_6 22 rfl rfl)
theorem dX0_searchBack_164 : decode cX0_searchBack 164 = .ok (.imul, 1) := dk_104 (dk_at dksX0_searchBack_7 0 rfl rfl)
theorem dX0_searchBack_165 : decode cX0_searchBack 165 = .ok (.iconst 1, 1) := dk_4 (dk_at dksX0_searchBack_7 1 rfl rfl)
theorem dX0_searchBack_166 : decode cX0_searchBack 166 = .ok (.iadd, 1) := dk_96 (dk_at dksX0_searchBack_7 2 rfl rfl)
theorem dX0_searchBack_167 : decode cX0_searchBack 167 = .ok (.istore 6, 2) := dk_54 6 (dk_at dksX0_searchBack_7 3 rfl rfl)
theorem dX0_searchBack_169 : decode cX0_searchBack 169 = .ok (.aload_n 0, 1) := dk_42 (dk_at dksX0_searchBack_7 5 rfl rfl)
theorem dX0_searchBack_170 : decode cX0_searchBack 170 = .ok (.getfield 1, 3) := dk_180 0 1 (dk_at dksX0_searchBack_7 6 rfl rfl)
theorem dX0_searchBack_173 : decode cX0_searchBack 173 = .ok (.iload 6, 2) := dk_21 6 (dk_at dksX0_searchBack_7 9 rfl rfl)
theorem dX0_searchBack_175 : decode cX0_searchBack 175 = .ok (.iload 5, 2) := dk_21 5 (dk_at dksX0_searchBack_7 11 rfl rfl)
theorem dX0_searchBack_177 : decode cX0_searchBack 177 = .ok (.aload_n 0, 1) := dk_42 (dk_at dksX0_searchBack_7 13 rfl rfl)
theorem dX0_searchBack_178 : decode cX0_searchBack 178 = .ok (.getfield 1, 3) := dk_180 0 1 (dk_at dksX0_searchBack_7 14 rfl rfl)
theorem dX0_searchBack_181 : decode cX0_searchBack 181 = .ok (.getfield 34, 3) := dk_180 0 34 (dk_at dksX0_searchBack_7 17 rfl rfl)
theorem dX0_searchBack_184 : decode cX0_searchBack 184 = .ok (.iload 6, 2) := dk_21 6 (dk_at dksX0_searchBack_7 20 rfl rfl)
theorem dX0_searchBack_186 : decode cX0_searchBack 186 = .ok (.saload, 1) := dk_53 (dk_at dksX0_searchBack_7 22 rfl rfl)
theorem dX0_searchBack_187 : decode cX0_searchBack 187 = .ok (.isub, 1) := dk_100 (dk_at dksX0_searchBack_7 23 rfl rfl)
theorem dX0_searchBack_188 : decode cX0_searchBack 188 = .ok (.iload_n 2, 1) := dk_28 (dk_at dksX0_searchBack_8 0 rfl rfl)
theorem dX0_searchBack_189 : decode cX0_searchBack 189 = .ok (.invokevirtual 30, 3) := dk_182 0 30 (dk_at dksX0_searchBack_8 1 rfl rfl)
theorem dX0_searchBack_192 : decode cX0_searchBack 192 = .ok (.ifCond .ne (-38), 3) := dk_154 255 218 (dk_at dksX0_searchBack_8 4 rfl rfl)
theorem dX0_searchBack_195 : decode cX0_searchBack 195 = .ok (.iload 5, 2) := dk_21 5 (dk_at dksX0_searchBack_8 7 rfl rfl)
theorem dX0_searchBack_197 : decode cX0_searchBack 197 = .ok (.aload_n 0, 1) := dk_42 (dk_at dksX0_searchBack_8 9 rfl rfl)
theorem dX0_searchBack_198 : decode cX0_searchBack 198 = .ok (.getfield 1, 3) := dk_180 0 1 (dk_at dksX0_searchBack_8 10 rfl rfl)
theorem dX0_searchBack_201 : decode cX0_searchBack 201 = .ok (.getfield 34, 3) := dk_180 0 34 (dk_at dksX0_searchBack_8 13 rfl rfl)
theorem dX0_searchBack_204 : decode cX0_searchBack 204 = .ok (.iload 6, 2) := dk_21 6 (dk_at dksX0_searchBack_8 16 rfl rfl)
theorem dX0_searchBack_206 : decode cX0_searchBack 206 = .ok (.saload, 1) := dk_53 (dk_at dksX0_searchBack_8 18 rfl rfl)
theorem dX0_searchBack_207 : decode cX0_searchBack 207 = .ok (.isub, 1) := dk_100 (dk_at dksX0_searchBack_8 19 rfl rfl)
theorem dX0_searchBack_208 : decode cX0_searchBack 208 = .ok (.istore 5, 2) := dk_54 5 (dk_at dksX0_searchBack_8 20 rfl rfl)
theorem dX0_searchBack_210 : decode cX0_searchBack 210 = .ok (.iinc 6 (-1), 3) := dk_132 6 255 (dk_at dksX0_searchBack_9 0 rfl rfl)
theorem dX0_searchBack_213 : decode cX0_searchBack 213 = .ok (.goto (-59), 3) := dk_167 255 197 (dk_at dksX0_searchBack_9 3 rfl rfl)
theorem dX0_searchBack_216 : decode cX0_searchBack 216 = .ok (.bipush 16, 2) := dk_16 16 (dk_at dksX0_searchBack_9 6 rfl rfl)
theorem dX0_searchBack_218 : decode cX0_searchBack 218 = .ok (.iload 6, 2) := dk_21 6 (dk_at dksX0_searchBack_9 8 rfl rfl)
theorem dX0_searchBack_220 : decode cX0_searchBack 220 = .ok (.bipush 8, 2) := dk_16 8 (dk_at dksX0_searchBack_9 10 rfl rfl)
theorem dX0_searchBack_222 : decode cX0_searchBack 222 = .ok (.isub, 1) := dk_100 (dk_at dksX0_searchBack_9 12 rfl rfl)
theorem dX0_searchBack_223 : decode cX0_searchBack 223 = .ok (.iconst 1, 1) := dk_4 (dk_at dksX0_searchBack_9 13 rfl rfl)
theorem dX0_searchBack_224 : decode cX0_searchBack 224 = .ok (.iadd, 1) := dk_96 (dk_at dksX0_searchBack_9 14 rfl rfl)
theorem dX0_searchBack_225 : decode cX0_searchBack 225 = .ok (.imul, 1) := dk_104 (dk_at dksX0_searchBack_9 15 rfl rfl)
theorem dX0_searchBack_226 : decode cX0_searchBack 226 = .ok (.istore 7, 2) := dk_54 7 (dk_at dksX0_searchBack_9 16 rfl rfl)
theorem dX0_searchBack_228 : decode cX0_searchBack 228 = .ok (.iload 5, 2) := dk_21 5 (dk_at dksX0_searchBack_9 18 rfl rfl)
theorem dX0_searchBack_230 : decode cX0_searchBack 230 = .ok (.iload_n 2, 1) := dk_28 (dk_at dksX0_searchBack_9 20 rfl rfl)
theorem dX0_searchBack_231 : decode cX0_searchBack 231 = .ok (.if_icmp .ne 8, 3) := dk_160 0 8 (dk_at dksX0_searchBack_9 21 rfl rfl)
theorem dX0_searchBack_234 : decode cX0_searchBack 234 = .ok (.iload 7, 2) := dk_21 7 (dk_at dksX0_searchBack_10 0 rfl rfl)
theorem dX0_searchBack_236 : decode cX0_searchBack 236 = .ok (.goto 17, 3) := dk_167 0 17 (dk_at dksX0_searchBack_10 2 rfl rfl)
theorem dX0_searchBack_239 : decode cX0_searchBack 239 = .ok (.aload_n 0, 1) := dk_42 (dk_at dksX0_searchBack_10 5 rfl rfl)
theorem dX0_searchBack_240 : decode cX0_searchBack 240 = .ok (.iload 7, 2) := dk_21 7 (dk_at dksX0_searchBack_10 6 rfl rfl)
theorem dX0_searchBack_242 : decode cX0_searchBack 242 = .ok (.iload 5, 2) := dk_21 5 (dk_at dksX0_searchBack_10 8 rfl rfl)
theorem dX0_searchBack_244 : decode cX0_searchBack 244 = .ok (.iload_n 2, 1) := dk_28 (dk_at dksX0_searchBack_10 10 rfl rfl)
theorem dX0_searchBack_245 : decode cX0_searchBack 245 = .ok (.iload 7, 2) := dk_21 7 (dk_at dksX0_searchBack_10 11 rfl rfl)
theorem dX0_searchBack_247 : decode cX0_searchBack 247 = .ok (.bipush 16, 2) := dk_16 16 (dk_at dksX0_searchBack_10 13 rfl rfl)
theorem dX0_searchBack_249 : decode cX0_searchBack 249 = .ok (.isub, 1) := dk_100 (dk_at dksX0_searchBack_10 15 rfl rfl)
theorem dX0_searchBack_250 : decode cX0_searchBack 250 = .ok (.invokevirtual 38, 3) := dk_182 0 38 (dk_at dksX0_searchBack_10 16 rfl rfl)
theorem dX0_searchBack_253 : decode cX0_searchBack 253 = .ok (.ireturn, 1) := dk_172 (dk_at dksX0_searchBack_10 19 rfl rfl)
abbrev cX0_backInBlock : ByteArray := prog_1_method_5_code
def yX0_backInBlock : MethodName := ⟨RX0, "backInBlock", "(IIII)I"⟩
def dkwX0_backInBlock_2 : List UInt8 := [21, 5, 172, 16, 252, 172]
abbrev dktX0_backInBlock_2 : List UInt8 := dkwX0_backInBlock_2 ++ []
def dkwX0_backInBlock_1 : List UInt8 := [182, 0, 19, 100, 54, 6, 21, 6, 29, 160, 255, 229, 21, 5, 21, 4, 163, 0, 8, 21, 5, 154, 255, 217]
abbrev dktX0_backInBlock_1 : List UInt8 := dkwX0_backInBlock_1 ++ dktX0_backInBlock_2
def dkwX0_backInBlock_0 : List UInt8 := [27, 54, 5, 28, 54, 6, 21, 5, 21, 4, 164, 0, 41, 132, 5, 255, 21, 6, 42, 180, 0, 1, 21, 5]
abbrev dktX0_backInBlock_0 : List UInt8 := dkwX0_backInBlock_0 ++ dktX0_backInBlock_1
theorem dksX0_backInBlock_0 : cX0_backInBlock.data.toList.drop 0 = dktX0_backInBlock_0 := by decide +kernel
theorem dksX0_backInBlock_1 : cX0_backInBlock.data.toList.drop 24 = dktX0_backInBlock_1 := dk_seg dksX0_backInBlock_0 24 rfl rfl
theorem dksX0_backInBlock_2 : cX0_backInBlock.data.toList.drop 48 = dktX0_backInBlock_2 := dk_seg dksX0_backInBlock_1 24 rfl rfl
theorem dX0_backInBlock_0 : decode cX0_backInBlock 0 = .ok (.iload_n 1, 1) := dk_27 (dk_at dksX0_backInBlock_0 0 rfl rfl)
theorem dX0_backInBlock_1 : decode cX0_backInBlock 1 = .ok (.istore 5, 2) := dk_54 5 (dk_at dksX0_backInBlock_0 1 rfl rfl)
theorem dX0_backInBlock_3 : decode cX0_backInBlock 3 = .ok (.iload_n 2, 1) := dk_28 (dk_at dksX0_backInBlock_0 3 rfl rfl)
theorem dX0_backInBlock_4 : decode cX0_backInBlock 4 = .ok (.istore 6, 2) := dk_54 6 (dk_at dksX0_backInBlock_0 4 rfl rfl)
theorem dX0_backInBlock_6 : decode cX0_backInBlock 6 = .ok (.iload 5, 2) := dk_21 5 (dk_at dksX0_backInBlock_0 6 rfl rfl)
theorem dX0_backInBlock_8 : decode cX0_backInBlock 8 = .ok (.iload 4, 2) := dk_21 4 (dk_at dksX0_backInBlock_0 8 rfl rfl)
theorem dX0_backInBlock_10 : decode cX0_backInBlock 10 = .ok (.if_icmp .le 41, 3) := dk_164 0 41 (dk_at dksX0_backInBlock_0 10 rfl rfl)
theorem dX0_backInBlock_13 : decode cX0_backInBlock 13 = .ok (.iinc 5 (-1), 3) := dk_132 5 255 (dk_at dksX0_backInBlock_0 13 rfl rfl)
theorem dX0_backInBlock_16 : decode cX0_backInBlock 16 = .ok (.iload 6, 2) := dk_21 6 (dk_at dksX0_backInBlock_0 16 rfl rfl)
theorem dX0_backInBlock_18 : decode cX0_backInBlock 18 = .ok (.aload_n 0, 1) := dk_42 (dk_at dksX0_backInBlock_0 18 rfl rfl)
theorem dX0_backInBlock_19 : decode cX0_backInBlock 19 = .ok (.getfield 1, 3) := dk_180 0 1 (dk_at dksX0_backInBlock_0 19 rfl rfl)
theorem dX0_backInBlock_22 : decode cX0_backInBlock 22 = .ok (.iload 5, 2) := dk_21 5 (dk_at dksX0_backInBlock_0 22 rfl rfl)
theorem dX0_backInBlock_24 : decode cX0_backInBlock 24 = .ok (.invokevirtual 19, 3) := dk_182 0 19 (dk_at dksX0_backInBlock_1 0 rfl rfl)
theorem dX0_backInBlock_27 : decode cX0_backInBlock 27 = .ok (.isub, 1) := dk_100 (dk_at dksX0_backInBlock_1 3 rfl rfl)
theorem dX0_backInBlock_28 : decode cX0_backInBlock 28 = .ok (.istore 6, 2) := dk_54 6 (dk_at dksX0_backInBlock_1 4 rfl rfl)
theorem dX0_backInBlock_30 : decode cX0_backInBlock 30 = .ok (.iload 6, 2) := dk_21 6 (dk_at dksX0_backInBlock_1 6 rfl rfl)
theorem dX0_backInBlock_32 : decode cX0_backInBlock 32 = .ok (.iload_n 3, 1) := dk_29 (dk_at dksX0_backInBlock_1 8 rfl rfl)
theorem dX0_backInBlock_33 : decode cX0_backInBlock 33 = .ok (.if_icmp .ne (-27), 3) := dk_160 255 229 (dk_at dksX0_backInBlock_1 9 rfl rfl)
theorem dX0_backInBlock_36 : decode cX0_backInBlock 36 = .ok (.iload 5, 2) := dk_21 5 (dk_at dksX0_backInBlock_1 12 rfl rfl)
theorem dX0_backInBlock_38 : decode cX0_backInBlock 38 = .ok (.iload 4, 2) := dk_21 4 (dk_at dksX0_backInBlock_1 14 rfl rfl)
theorem dX0_backInBlock_40 : decode cX0_backInBlock 40 = .ok (.if_icmp .gt 8, 3) := dk_163 0 8 (dk_at dksX0_backInBlock_1 16 rfl rfl)
theorem dX0_backInBlock_43 : decode cX0_backInBlock 43 = .ok (.iload 5, 2) := dk_21 5 (dk_at dksX0_backInBlock_1 19 rfl rfl)
theorem dX0_backInBlock_45 : decode cX0_backInBlock 45 = .ok (.ifCond .ne (-39), 3) := dk_154 255 217 (dk_at dksX0_backInBlock_1 21 rfl rfl)
theorem dX0_backInBlock_48 : decode cX0_backInBlock 48 = .ok (.iload 5, 2) := dk_21 5 (dk_at dksX0_backInBlock_2 0 rfl rfl)
theorem dX0_backInBlock_50 : decode cX0_backInBlock 50 = .ok (.ireturn, 1) := dk_172 (dk_at dksX0_backInBlock_2 2 rfl rfl)
theorem dX0_backInBlock_51 : decode cX0_backInBlock 51 = .ok (.bipush (-4), 2) := dk_16 252 (dk_at dksX0_backInBlock_2 3 rfl rfl)
theorem dX0_backInBlock_53 : decode cX0_backInBlock 53 = .ok (.ireturn, 1) := dk_172 (dk_at dksX0_backInBlock_2 5 rfl rfl)
abbrev cX0_match : ByteArray := prog_1_method_30_code
def yX0_match : MethodName := ⟨RX0, "match", "(I)I"⟩
def dkwX0_match_0 : List UInt8 := [42, 27, 182, 0, 162, 153, 0, 11, 42, 27, 182, 0, 61, 167, 0, 4, 2, 172]
abbrev dktX0_match_0 : List UInt8 := dkwX0_match_0 ++ []
theorem dksX0_match_0 : cX0_match.data.toList.drop 0 = dktX0_match_0 := by decide +kernel
theorem dX0_match_0 : decode cX0_match 0 = .ok (.aload_n 0, 1) := dk_42 (dk_at dksX0_match_0 0 rfl rfl)
theorem dX0_match_1 : decode cX0_match 1 = .ok (.iload_n 1, 1) := dk_27 (dk_at dksX0_match_0 1 rfl rfl)
theorem dX0_match_2 : decode cX0_match 2 = .ok (.invokevirtual 162, 3) := dk_182 0 162 (dk_at dksX0_match_0 2 rfl rfl)
theorem dX0_match_5 : decode cX0_match 5 = .ok (.ifCond .eq 11, 3) := dk_153 0 11 (dk_at dksX0_match_0 5 rfl rfl)
theorem dX0_match_8 : decode cX0_match 8 = .ok (.aload_n 0, 1) := dk_42 (dk_at dksX0_match_0 8 rfl rfl)
theorem dX0_match_9 : decode cX0_match 9 = .ok (.iload_n 1, 1) := dk_27 (dk_at dksX0_match_0 9 rfl rfl)
theorem dX0_match_10 : decode cX0_match 10 = .ok (.invokevirtual 61, 3) := dk_182 0 61 (dk_at dksX0_match_0 10 rfl rfl)
theorem dX0_match_13 : decode cX0_match 13 = .ok (.goto 4, 3) := dk_167 0 4 (dk_at dksX0_match_0 13 rfl rfl)
theorem dX0_match_16 : decode cX0_match 16 = .ok (.iconst (-1), 1) := dk_2 (dk_at dksX0_match_0 16 rfl rfl)
theorem dX0_match_17 : decode cX0_match 17 = .ok (.ireturn, 1) := dk_172 (dk_at dksX0_match_0 17 rfl rfl)
abbrev cX0_partner : ByteArray := prog_1_method_7_code
def yX0_partner : MethodName := ⟨RX0, "partner", "(I)I"⟩
def dkwX0_partner_1 : List UInt8 := [4, 100, 167, 0, 20, 42, 27, 4, 96, 42, 180, 0, 1, 27, 4, 96, 182, 0, 23, 182, 0, 49, 172]
abbrev dktX0_partner_1 : List UInt8 := dkwX0_partner_1 ++ []
def dkwX0_partner_0 : List UInt8 := [42, 180, 0, 1, 27, 182, 0, 42, 153, 0, 21, 42, 27, 42, 180, 0, 1, 27, 182, 0, 23, 182, 0, 46]
abbrev dktX0_partner_0 : List UInt8 := dkwX0_partner_0 ++ dktX0_partner_1
theorem dksX0_partner_0 : cX0_partner.data.toList.drop 0 = dktX0_partner_0 := by decide +kernel
theorem dksX0_partner_1 : cX0_partner.data.toList.drop 24 = dktX0_partner_1 := dk_seg dksX0_partner_0 24 rfl rfl
theorem dX0_partner_0 : decode cX0_partner 0 = .ok (.aload_n 0, 1) := dk_42 (dk_at dksX0_partner_0 0 rfl rfl)
theorem dX0_partner_1 : decode cX0_partner 1 = .ok (.getfield 1, 3) := dk_180 0 1 (dk_at dksX0_partner_0 1 rfl rfl)
theorem dX0_partner_4 : decode cX0_partner 4 = .ok (.iload_n 1, 1) := dk_27 (dk_at dksX0_partner_0 4 rfl rfl)
theorem dX0_partner_5 : decode cX0_partner 5 = .ok (.invokevirtual 42, 3) := dk_182 0 42 (dk_at dksX0_partner_0 5 rfl rfl)
theorem dX0_partner_8 : decode cX0_partner 8 = .ok (.ifCond .eq 21, 3) := dk_153 0 21 (dk_at dksX0_partner_0 8 rfl rfl)
theorem dX0_partner_11 : decode cX0_partner 11 = .ok (.aload_n 0, 1) := dk_42 (dk_at dksX0_partner_0 11 rfl rfl)
theorem dX0_partner_12 : decode cX0_partner 12 = .ok (.iload_n 1, 1) := dk_27 (dk_at dksX0_partner_0 12 rfl rfl)
theorem dX0_partner_13 : decode cX0_partner 13 = .ok (.aload_n 0, 1) := dk_42 (dk_at dksX0_partner_0 13 rfl rfl)
theorem dX0_partner_14 : decode cX0_partner 14 = .ok (.getfield 1, 3) := dk_180 0 1 (dk_at dksX0_partner_0 14 rfl rfl)
theorem dX0_partner_17 : decode cX0_partner 17 = .ok (.iload_n 1, 1) := dk_27 (dk_at dksX0_partner_0 17 rfl rfl)
theorem dX0_partner_18 : decode cX0_partner 18 = .ok (.invokevirtual 23, 3) := dk_182 0 23 (dk_at dksX0_partner_0 18 rfl rfl)
theorem dX0_partner_21 : decode cX0_partner 21 = .ok (.invokevirtual 46, 3) := dk_182 0 46 (dk_at dksX0_partner_0 21 rfl rfl)
theorem dX0_partner_24 : decode cX0_partner 24 = .ok (.iconst 1, 1) := dk_4 (dk_at dksX0_partner_1 0 rfl rfl)
theorem dX0_partner_25 : decode cX0_partner 25 = .ok (.isub, 1) := dk_100 (dk_at dksX0_partner_1 1 rfl rfl)
theorem dX0_partner_26 : decode cX0_partner 26 = .ok (.goto 20, 3) := dk_167 0 20 (dk_at dksX0_partner_1 2 rfl rfl)
theorem dX0_partner_29 : decode cX0_partner 29 = .ok (.aload_n 0, 1) := dk_42 (dk_at dksX0_partner_1 5 rfl rfl)
theorem dX0_partner_30 : decode cX0_partner 30 = .ok (.iload_n 1, 1) := dk_27 (dk_at dksX0_partner_1 6 rfl rfl)
theorem dX0_partner_31 : decode cX0_partner 31 = .ok (.iconst 1, 1) := dk_4 (dk_at dksX0_partner_1 7 rfl rfl)
theorem dX0_partner_32 : decode cX0_partner 32 = .ok (.iadd, 1) := dk_96 (dk_at dksX0_partner_1 8 rfl rfl)
theorem dX0_partner_33 : decode cX0_partner 33 = .ok (.aload_n 0, 1) := dk_42 (dk_at dksX0_partner_1 9 rfl rfl)
theorem dX0_partner_34 : decode cX0_partner 34 = .ok (.getfield 1, 3) := dk_180 0 1 (dk_at dksX0_partner_1 10 rfl rfl)
theorem dX0_partner_37 : decode cX0_partner 37 = .ok (.iload_n 1, 1) := dk_27 (dk_at dksX0_partner_1 13 rfl rfl)
theorem dX0_partner_38 : decode cX0_partner 38 = .ok (.iconst 1, 1) := dk_4 (dk_at dksX0_partner_1 14 rfl rfl)
theorem dX0_partner_39 : decode cX0_partner 39 = .ok (.iadd, 1) := dk_96 (dk_at dksX0_partner_1 15 rfl rfl)
theorem dX0_partner_40 : decode cX0_partner 40 = .ok (.invokevirtual 23, 3) := dk_182 0 23 (dk_at dksX0_partner_1 16 rfl rfl)
theorem dX0_partner_43 : decode cX0_partner 43 = .ok (.invokevirtual 49, 3) := dk_182 0 49 (dk_at dksX0_partner_1 19 rfl rfl)
theorem dX0_partner_46 : decode cX0_partner 46 = .ok (.ireturn, 1) := dk_172 (dk_at dksX0_partner_1 22 rfl rfl)
abbrev cX0_least : ByteArray := prog_1_method_31_code
def yX0_least : MethodName := ⟨RX0, "least", "(III)I"⟩
def dkwX0_least_3 : List UInt8 := [180, 0, 70, 167, 0, 7, 42, 180, 0, 73, 172]
abbrev dktX0_least_3 : List UInt8 := dkwX0_least_3 ++ []
def dkwX0_least_2 : List UInt8 := [180, 0, 64, 167, 0, 31, 29, 4, 160, 0, 10, 42, 180, 0, 67, 167, 0, 19, 29, 5, 160, 0, 10, 42]
abbrev dktX0_least_2 : List UInt8 := dkwX0_least_2 ++ dktX0_least_3
def dkwX0_least_1 : List UInt8 := [20, 0, 170, 184, 0, 115, 154, 0, 5, 2, 172, 42, 27, 28, 182, 0, 172, 29, 154, 0, 10, 42]
abbrev dktX0_least_1 : List UInt8 := dkwX0_least_1 ++ dktX0_least_2
def dkwX0_least_0 : List UInt8 := [42, 27, 182, 0, 165, 153, 0, 28, 42, 28, 182, 0, 165, 153, 0, 20, 27, 28, 163, 0, 15, 29, 133, 9]
abbrev dktX0_least_0 : List UInt8 := dkwX0_least_0 ++ dktX0_least_1
theorem dksX0_least_0 : cX0_least.data.toList.drop 0 = dktX0_least_0 := by decide +kernel
theorem dksX0_least_1 : cX0_least.data.toList.drop 24 = dktX0_least_1 := dk_seg dksX0_least_0 24 rfl rfl
theorem dksX0_least_2 : cX0_least.data.toList.drop 46 = dktX0_least_2 := dk_seg dksX0_least_1 22 rfl rfl
theorem dksX0_least_3 : cX0_least.data.toList.drop 70 = dktX0_least_3 := dk_seg dksX0_least_2 24 rfl rfl
theorem dX0_least_0 : decode cX0_least 0 = .ok (.aload_n 0, 1) := dk_42 (dk_at dksX0_least_0 0 rfl rfl)
theorem dX0_least_1 : decode cX0_least 1 = .ok (.iload_n 1, 1) := dk_27 (dk_at dksX0_least_0 1 rfl rfl)
theorem dX0_least_2 : decode cX0_least 2 = .ok (.invokevirtual 165, 3) := dk_182 0 165 (dk_at dksX0_least_0 2 rfl rfl)
theorem dX0_least_5 : decode cX0_least 5 = .ok (.ifCond .eq 28, 3) := dk_153 0 28 (dk_at dksX0_least_0 5 rfl rfl)
theorem dX0_least_8 : decode cX0_least 8 = .ok (.aload_n 0, 1) := dk_42 (dk_at dksX0_least_0 8 rfl rfl)
theorem dX0_least_9 : decode cX0_least 9 = .ok (.iload_n 2, 1) := dk_28 (dk_at dksX0_least_0 9 rfl rfl)
theorem dX0_least_10 : decode cX0_least 10 = .ok (.invokevirtual 165, 3) := dk_182 0 165 (dk_at dksX0_least_0 10 rfl rfl)
theorem dX0_least_13 : decode cX0_least 13 = .ok (.ifCond .eq 20, 3) := dk_153 0 20 (dk_at dksX0_least_0 13 rfl rfl)
theorem dX0_least_16 : decode cX0_least 16 = .ok (.iload_n 1, 1) := dk_27 (dk_at dksX0_least_0 16 rfl rfl)
theorem dX0_least_17 : decode cX0_least 17 = .ok (.iload_n 2, 1) := dk_28 (dk_at dksX0_least_0 17 rfl rfl)
theorem dX0_least_18 : decode cX0_least 18 = .ok (.if_icmp .gt 15, 3) := dk_163 0 15 (dk_at dksX0_least_0 18 rfl rfl)
theorem dX0_least_21 : decode cX0_least 21 = .ok (.iload_n 3, 1) := dk_29 (dk_at dksX0_least_0 21 rfl rfl)
theorem dX0_least_22 : decode cX0_least 22 = .ok (.i2l, 1) := dk_133 (dk_at dksX0_least_0 22 rfl rfl)
theorem dX0_least_23 : decode cX0_least 23 = .ok (.lconst 0, 1) := dk_9 (dk_at dksX0_least_0 23 rfl rfl)
theorem dX0_least_24 : decode cX0_least 24 = .ok (.ldc2_w 170, 3) := dk_20 0 170 (dk_at dksX0_least_1 0 rfl rfl)
theorem dX0_least_27 : decode cX0_least 27 = .ok (.invokestatic 115, 3) := dk_184 0 115 (dk_at dksX0_least_1 3 rfl rfl)
theorem dX0_least_30 : decode cX0_least 30 = .ok (.ifCond .ne 5, 3) := dk_154 0 5 (dk_at dksX0_least_1 6 rfl rfl)
theorem dX0_least_33 : decode cX0_least 33 = .ok (.iconst (-1), 1) := dk_2 (dk_at dksX0_least_1 9 rfl rfl)
theorem dX0_least_34 : decode cX0_least 34 = .ok (.ireturn, 1) := dk_172 (dk_at dksX0_least_1 10 rfl rfl)
theorem dX0_least_35 : decode cX0_least 35 = .ok (.aload_n 0, 1) := dk_42 (dk_at dksX0_least_1 11 rfl rfl)
theorem dX0_least_36 : decode cX0_least 36 = .ok (.iload_n 1, 1) := dk_27 (dk_at dksX0_least_1 12 rfl rfl)
theorem dX0_least_37 : decode cX0_least 37 = .ok (.iload_n 2, 1) := dk_28 (dk_at dksX0_least_1 13 rfl rfl)
theorem dX0_least_38 : decode cX0_least 38 = .ok (.invokevirtual 172, 3) := dk_182 0 172 (dk_at dksX0_least_1 14 rfl rfl)
theorem dX0_least_41 : decode cX0_least 41 = .ok (.iload_n 3, 1) := dk_29 (dk_at dksX0_least_1 17 rfl rfl)
theorem dX0_least_42 : decode cX0_least 42 = .ok (.ifCond .ne 10, 3) := dk_154 0 10 (dk_at dksX0_least_1 18 rfl rfl)
theorem dX0_least_45 : decode cX0_least 45 = .ok (.aload_n 0, 1) := dk_42 (dk_at dksX0_least_1 21 rfl rfl)
theorem dX0_least_46 : decode cX0_least 46 = .ok (.getfield 64, 3) := dk_180 0 64 (dk_at dksX0_least_2 0 rfl rfl)
theorem dX0_least_49 : decode cX0_least 49 = .ok (.goto 31, 3) := dk_167 0 31 (dk_at dksX0_least_2 3 rfl rfl)
theorem dX0_least_52 : decode cX0_least 52 = .ok (.iload_n 3, 1) := dk_29 (dk_at dksX0_least_2 6 rfl rfl)
theorem dX0_least_53 : decode cX0_least 53 = .ok (.iconst 1, 1) := dk_4 (dk_at dksX0_least_2 7 rfl rfl)
theorem dX0_least_54 : decode cX0_least 54 = .ok (.if_icmp .ne 10, 3) := dk_160 0 10 (dk_at dksX0_least_2 8 rfl rfl)
theorem dX0_least_57 : decode cX0_least 57 = .ok (.aload_n 0, 1) := dk_42 (dk_at dksX0_least_2 11 rfl rfl)
theorem dX0_least_58 : decode cX0_least 58 = .ok (.getfield 67, 3) := dk_180 0 67 (dk_at dksX0_least_2 12 rfl rfl)
theorem dX0_least_61 : decode cX0_least 61 = .ok (.goto 19, 3) := dk_167 0 19 (dk_at dksX0_least_2 15 rfl rfl)
theorem dX0_least_64 : decode cX0_least 64 = .ok (.iload_n 3, 1) := dk_29 (dk_at dksX0_least_2 18 rfl rfl)
theorem dX0_least_65 : decode cX0_least 65 = .ok (.iconst 2, 1) := dk_5 (dk_at dksX0_least_2 19 rfl rfl)
theorem dX0_least_66 : decode cX0_least 66 = .ok (.if_icmp .ne 10, 3) := dk_160 0 10 (dk_at dksX0_least_2 20 rfl rfl)
theorem dX0_least_69 : decode cX0_least 69 = .ok (.aload_n 0, 1) := dk_42 (dk_at dksX0_least_2 23 rfl rfl)
theorem dX0_least_70 : decode cX0_least 70 = .ok (.getfield 70, 3) := dk_180 0 70 (dk_at dksX0_least_3 0 rfl rfl)
theorem dX0_least_73 : decode cX0_least 73 = .ok (.goto 7, 3) := dk_167 0 7 (dk_at dksX0_least_3 3 rfl rfl)
theorem dX0_least_76 : decode cX0_least 76 = .ok (.aload_n 0, 1) := dk_42 (dk_at dksX0_least_3 6 rfl rfl)
theorem dX0_least_77 : decode cX0_least 77 = .ok (.getfield 73, 3) := dk_180 0 73 (dk_at dksX0_least_3 7 rfl rfl)
theorem dX0_least_80 : decode cX0_least 80 = .ok (.ireturn, 1) := dk_172 (dk_at dksX0_least_3 10 rfl rfl)
abbrev cX0_findLeast : ByteArray := prog_1_method_14_code
def yX0_findLeast : MethodName := ⟨RX0, "findLeast", "(II)V"⟩
def dkwX0_findLeast_6 : List UInt8 := [132, 4, 1, 167, 255, 154, 177]
abbrev dktX0_findLeast_6 : List UInt8 := dkwX0_findLeast_6 ++ []
def dkwX0_findLeast_5 : List UInt8 := [167, 0, 7, 42, 180, 0, 76, 181, 0, 76, 42, 42, 180, 0, 73, 29, 184, 0, 79, 181, 0, 73]
abbrev dktX0_findLeast_5 : List UInt8 := dkwX0_findLeast_5 ++ dktX0_findLeast_6
def dkwX0_findLeast_4 : List UInt8 := [160, 0, 7, 4, 167, 0, 4, 3, 96, 181, 0, 70, 42, 29, 42, 180, 0, 73, 164, 0, 8, 21, 4]
abbrev dktX0_findLeast_4 : List UInt8 := dkwX0_findLeast_4 ++ dktX0_findLeast_5
def dkwX0_findLeast_3 : List UInt8 := [181, 0, 64, 42, 21, 4, 181, 0, 67, 42, 3, 181, 0, 70, 42, 89, 180, 0, 70, 29, 42, 180, 0, 64]
abbrev dktX0_findLeast_3 : List UInt8 := dkwX0_findLeast_3 ++ dktX0_findLeast_4
def dkwX0_findLeast_2 : List UInt8 := [180, 0, 1, 21, 4, 4, 100, 182, 0, 19, 96, 62, 29, 42, 180, 0, 64, 162, 0, 19, 42, 29]
abbrev dktX0_findLeast_2 : List UInt8 := dkwX0_findLeast_2 ++ dktX0_findLeast_3
def dkwX0_findLeast_1 : List UInt8 := [42, 29, 181, 0, 73, 42, 27, 181, 0, 76, 27, 4, 96, 54, 4, 21, 4, 28, 163, 0, 102, 29, 42]
abbrev dktX0_findLeast_1 : List UInt8 := dkwX0_findLeast_1 ++ dktX0_findLeast_2
def dkwX0_findLeast_0 : List UInt8 := [42, 180, 0, 1, 27, 182, 0, 23, 62, 42, 29, 181, 0, 64, 42, 27, 181, 0, 67, 42, 4, 181, 0, 70]
abbrev dktX0_findLeast_0 : List UInt8 := dkwX0_findLeast_0 ++ dktX0_findLeast_1
theorem dksX0_findLeast_0 : cX0_findLeast.data.toList.drop 0 = dktX0_findLeast_0 := by decide +kernel
theorem dksX0_findLeast_1 : cX0_findLeast.data.toList.drop 24 = dktX0_findLeast_1 := dk_seg dksX0_findLeast_0 24 rfl rfl
theorem dksX0_findLeast_2 : cX0_findLeast.data.toList.drop 47 = dktX0_findLeast_2 := dk_seg dksX0_findLeast_1 23 rfl rfl
theorem dksX0_findLeast_3 : cX0_findLeast.data.toList.drop 69 = dktX0_findLeast_3 := dk_seg dksX0_findLeast_2 22 rfl rfl
theorem dksX0_findLeast_4 : cX0_findLeast.data.toList.drop 93 = dktX0_findLeast_4 := dk_seg dksX0_findLeast_3 24 rfl rfl
theorem dksX0_findLeast_5 : cX0_findLeast.data.toList.drop 116 = dktX0_findLeast_5 := dk_seg dksX0_findLeast_4 23 rfl rfl
theorem dksX0_findLeast_6 : cX0_findLeast.data.toList.drop 138 = dktX0_findLeast_6 := dk_seg dksX0_findLeast_5 22 rfl rfl
theorem dX0_findLeast_0 : decode cX0_findLeast 0 = .ok (.aload_n 0, 1) := dk_42 (dk_at dksX0_findLeast_0 0 rfl rfl)
theorem dX0_findLeast_1 : decode cX0_findLeast 1 = .ok (.getfield 1, 3) := dk_180 0 1 (dk_at dksX0_findLeast_0 1 rfl rfl)
theorem dX0_findLeast_4 : decode cX0_findLeast 4 = .ok (.iload_n 1, 1) := dk_27 (dk_at dksX0_findLeast_0 4 rfl rfl)
theorem dX0_findLeast_5 : decode cX0_findLeast 5 = .ok (.invokevirtual 23, 3) := dk_182 0 23 (dk_at dksX0_findLeast_0 5 rfl rfl)
theorem dX0_findLeast_8 : decode cX0_findLeast 8 = .ok (.istore_n 3, 1) := dk_62 (dk_at dksX0_findLeast_0 8 rfl rfl)
theorem dX0_findLeast_9 : decode cX0_findLeast 9 = .ok (.aload_n 0, 1) := dk_42 (dk_at dksX0_findLeast_0 9 rfl rfl)
theorem dX0_findLeast_10 : decode cX0_findLeast 10 = .ok (.iload_n 3, 1) := dk_29 (dk_at dksX0_findLeast_0 10 rfl rfl)
theorem dX0_findLeast_11 : decode cX0_findLeast 11 = .ok (.putfield 64, 3) := dk_181 0 64 (dk_at dksX0_findLeast_0 11 rfl rfl)
theorem dX0_findLeast_14 : decode cX0_findLeast 14 = .ok (.aload_n 0, 1) := dk_42 (dk_at dksX0_findLeast_0 14 rfl rfl)
theorem dX0_findLeast_15 : decode cX0_findLeast 15 = .ok (.iload_n 1, 1) := dk_27 (dk_at dksX0_findLeast_0 15 rfl rfl)
theorem dX0_findLeast_16 : decode cX0_findLeast 16 = .ok (.putfield 67, 3) := dk_181 0 67 (dk_at dksX0_findLeast_0 16 rfl rfl)
theorem dX0_findLeast_19 : decode cX0_findLeast 19 = .ok (.aload_n 0, 1) := dk_42 (dk_at dksX0_findLeast_0 19 rfl rfl)
theorem dX0_findLeast_20 : decode cX0_findLeast 20 = .ok (.iconst 1, 1) := dk_4 (dk_at dksX0_findLeast_0 20 rfl rfl)
theorem dX0_findLeast_21 : decode cX0_findLeast 21 = .ok (.putfield 70, 3) := dk_181 0 70 (dk_at dksX0_findLeast_0 21 rfl rfl)
theorem dX0_findLeast_24 : decode cX0_findLeast 24 = .ok (.aload_n 0, 1) := dk_42 (dk_at dksX0_findLeast_1 0 rfl rfl)
theorem dX0_findLeast_25 : decode cX0_findLeast 25 = .ok (.iload_n 3, 1) := dk_29 (dk_at dksX0_findLeast_1 1 rfl rfl)
theorem dX0_findLeast_26 : decode cX0_findLeast 26 = .ok (.putfield 73, 3) := dk_181 0 73 (dk_at dksX0_findLeast_1 2 rfl rfl)
theorem dX0_findLeast_29 : decode cX0_findLeast 29 = .ok (.aload_n 0, 1) := dk_42 (dk_at dksX0_findLeast_1 5 rfl rfl)
theorem dX0_findLeast_30 : decode cX0_findLeast 30 = .ok (.iload_n 1, 1) := dk_27 (dk_at dksX0_findLeast_1 6 rfl rfl)
theorem dX0_findLeast_31 : decode cX0_findLeast 31 = .ok (.putfield 76, 3) := dk_181 0 76 (dk_at dksX0_findLeast_1 7 rfl rfl)
theorem dX0_findLeast_34 : decode cX0_findLeast 34 = .ok (.iload_n 1, 1) := dk_27 (dk_at dksX0_findLeast_1 10 rfl rfl)
theorem dX0_findLeast_35 : decode cX0_findLeast 35 = .ok (.iconst 1, 1) := dk_4 (dk_at dksX0_findLeast_1 11 rfl rfl)
theorem dX0_findLeast_36 : decode cX0_findLeast 36 = .ok (.iadd, 1) := dk_96 (dk_at dksX0_findLeast_1 12 rfl rfl)
theorem dX0_findLeast_37 : decode cX0_findLeast 37 = .ok (.istore 4, 2) := dk_54 4 (dk_at dksX0_findLeast_1 13 rfl rfl)
theorem dX0_findLeast_39 : decode cX0_findLeast 39 = .ok (.iload 4, 2) := dk_21 4 (dk_at dksX0_findLeast_1 15 rfl rfl)
theorem dX0_findLeast_41 : decode cX0_findLeast 41 = .ok (.iload_n 2, 1) := dk_28 (dk_at dksX0_findLeast_1 17 rfl rfl)
theorem dX0_findLeast_42 : decode cX0_findLeast 42 = .ok (.if_icmp .gt 102, 3) := dk_163 0 102 (dk_at dksX0_findLeast_1 18 rfl rfl)
theorem dX0_findLeast_45 : decode cX0_findLeast 45 = .ok (.iload_n 3, 1) := dk_29 (dk_at dksX0_findLeast_1 21 rfl rfl)
theorem dX0_findLeast_46 : decode cX0_findLeast 46 = .ok (.aload_n 0, 1) := dk_42 (dk_at dksX0_findLeast_1 22 rfl rfl)
theorem dX0_findLeast_47 : decode cX0_findLeast 47 = .ok (.getfield 1, 3) := dk_180 0 1 (dk_at dksX0_findLeast_2 0 rfl rfl)
theorem dX0_findLeast_50 : decode cX0_findLeast 50 = .ok (.iload 4, 2) := dk_21 4 (dk_at dksX0_findLeast_2 3 rfl rfl)
theorem dX0_findLeast_52 : decode cX0_findLeast 52 = .ok (.iconst 1, 1) := dk_4 (dk_at dksX0_findLeast_2 5 rfl rfl)
theorem dX0_findLeast_53 : decode cX0_findLeast 53 = .ok (.isub, 1) := dk_100 (dk_at dksX0_findLeast_2 6 rfl rfl)
theorem dX0_findLeast_54 : decode cX0_findLeast 54 = .ok (.invokevirtual 19, 3) := dk_182 0 19 (dk_at dksX0_findLeast_2 7 rfl rfl)
theorem dX0_findLeast_57 : decode cX0_findLeast 57 = .ok (.iadd, 1) := dk_96 (dk_at dksX0_findLeast_2 10 rfl rfl)
theorem dX0_findLeast_58 : decode cX0_findLeast 58 = .ok (.istore_n 3, 1) := dk_62 (dk_at dksX0_findLeast_2 11 rfl rfl)
theorem dX0_findLeast_59 : decode cX0_findLeast 59 = .ok (.iload_n 3, 1) := dk_29 (dk_at dksX0_findLeast_2 12 rfl rfl)
theorem dX0_findLeast_60 : decode cX0_findLeast 60 = .ok (.aload_n 0, 1) := dk_42 (dk_at dksX0_findLeast_2 13 rfl rfl)
theorem dX0_findLeast_61 : decode cX0_findLeast 61 = .ok (.getfield 64, 3) := dk_180 0 64 (dk_at dksX0_findLeast_2 14 rfl rfl)
theorem dX0_findLeast_64 : decode cX0_findLeast 64 = .ok (.if_icmp .ge 19, 3) := dk_162 0 19 (dk_at dksX0_findLeast_2 17 rfl rfl)
theorem dX0_findLeast_67 : decode cX0_findLeast 67 = .ok (.aload_n 0, 1) := dk_42 (dk_at dksX0_findLeast_2 20 rfl rfl)
theorem dX0_findLeast_68 : decode cX0_findLeast 68 = .ok (.iload_n 3, 1) := dk_29 (dk_at dksX0_findLeast_2 21 rfl rfl)
theorem dX0_findLeast_69 : decode cX0_findLeast 69 = .ok (.putfield 64, 3) := dk_181 0 64 (dk_at dksX0_findLeast_3 0 rfl rfl)
theorem dX0_findLeast_72 : decode cX0_findLeast 72 = .ok (.aload_n 0, 1) := dk_42 (dk_at dksX0_findLeast_3 3 rfl rfl)
theorem dX0_findLeast_73 : decode cX0_findLeast 73 = .ok (.iload 4, 2) := dk_21 4 (dk_at dksX0_findLeast_3 4 rfl rfl)
theorem dX0_findLeast_75 : decode cX0_findLeast 75 = .ok (.putfield 67, 3) := dk_181 0 67 (dk_at dksX0_findLeast_3 6 rfl rfl)
theorem dX0_findLeast_78 : decode cX0_findLeast 78 = .ok (.aload_n 0, 1) := dk_42 (dk_at dksX0_findLeast_3 9 rfl rfl)
theorem dX0_findLeast_79 : decode cX0_findLeast 79 = .ok (.iconst 0, 1) := dk_3 (dk_at dksX0_findLeast_3 10 rfl rfl)
theorem dX0_findLeast_80 : decode cX0_findLeast 80 = .ok (.putfield 70, 3) := dk_181 0 70 (dk_at dksX0_findLeast_3 11 rfl rfl)
theorem dX0_findLeast_83 : decode cX0_findLeast 83 = .ok (.aload_n 0, 1) := dk_42 (dk_at dksX0_findLeast_3 14 rfl rfl)
theorem dX0_findLeast_84 : decode cX0_findLeast 84 = .ok (.dup, 1) := dk_89 (dk_at dksX0_findLeast_3 15 rfl rfl)
theorem dX0_findLeast_85 : decode cX0_findLeast 85 = .ok (.getfield 70, 3) := dk_180 0 70 (dk_at dksX0_findLeast_3 16 rfl rfl)
theorem dX0_findLeast_88 : decode cX0_findLeast 88 = .ok (.iload_n 3, 1) := dk_29 (dk_at dksX0_findLeast_3 19 rfl rfl)
theorem dX0_findLeast_89 : decode cX0_findLeast 89 = .ok (.aload_n 0, 1) := dk_42 (dk_at dksX0_findLeast_3 20 rfl rfl)
theorem dX0_findLeast_90 : decode cX0_findLeast 90 = .ok (.getfield 64, 3) := dk_180 0 64 (dk_at dksX0_findLeast_3 21 rfl rfl)
theorem dX0_findLeast_93 : decode cX0_findLeast 93 = .ok (.if_icmp .ne 7, 3) := dk_160 0 7 (dk_at dksX0_findLeast_4 0 rfl rfl)
theorem dX0_findLeast_96 : decode cX0_findLeast 96 = .ok (.iconst 1, 1) := dk_4 (dk_at dksX0_findLeast_4 3 rfl rfl)
theorem dX0_findLeast_97 : decode cX0_findLeast 97 = .ok (.goto 4, 3) := dk_167 0 4 (dk_at dksX0_findLeast_4 4 rfl rfl)
theorem dX0_findLeast_100 : decode cX0_findLeast 100 = .ok (.iconst 0, 1) := dk_3 (dk_at dksX0_findLeast_4 7 rfl rfl)
theorem dX0_findLeast_101 : decode cX0_findLeast 101 = .ok (.iadd, 1) := dk_96 (dk_at dksX0_findLeast_4 8 rfl rfl)
theorem dX0_findLeast_102 : decode cX0_findLeast 102 = .ok (.putfield 70, 3) := dk_181 0 70 (dk_at dksX0_findLeast_4 9 rfl rfl)
theorem dX0_findLeast_105 : decode cX0_findLeast 105 = .ok (.aload_n 0, 1) := dk_42 (dk_at dksX0_findLeast_4 12 rfl rfl)
theorem dX0_findLeast_106 : decode cX0_findLeast 106 = .ok (.iload_n 3, 1) := dk_29 (dk_at dksX0_findLeast_4 13 rfl rfl)
theorem dX0_findLeast_107 : decode cX0_findLeast 107 = .ok (.aload_n 0, 1) := dk_42 (dk_at dksX0_findLeast_4 14 rfl rfl)
theorem dX0_findLeast_108 : decode cX0_findLeast 108 = .ok (.getfield 73, 3) := dk_180 0 73 (dk_at dksX0_findLeast_4 15 rfl rfl)
theorem dX0_findLeast_111 : decode cX0_findLeast 111 = .ok (.if_icmp .le 8, 3) := dk_164 0 8 (dk_at dksX0_findLeast_4 18 rfl rfl)
theorem dX0_findLeast_114 : decode cX0_findLeast 114 = .ok (.iload 4, 2) := dk_21 4 (dk_at dksX0_findLeast_4 21 rfl rfl)
theorem dX0_findLeast_116 : decode cX0_findLeast 116 = .ok (.goto 7, 3) := dk_167 0 7 (dk_at dksX0_findLeast_5 0 rfl rfl)
theorem dX0_findLeast_119 : decode cX0_findLeast 119 = .ok (.aload_n 0, 1) := dk_42 (dk_at dksX0_findLeast_5 3 rfl rfl)
theorem dX0_findLeast_120 : decode cX0_findLeast 120 = .ok (.getfield 76, 3) := dk_180 0 76 (dk_at dksX0_findLeast_5 4 rfl rfl)
theorem dX0_findLeast_123 : decode cX0_findLeast 123 = .ok (.putfield 76, 3) := dk_181 0 76 (dk_at dksX0_findLeast_5 7 rfl rfl)
theorem dX0_findLeast_126 : decode cX0_findLeast 126 = .ok (.aload_n 0, 1) := dk_42 (dk_at dksX0_findLeast_5 10 rfl rfl)
theorem dX0_findLeast_127 : decode cX0_findLeast 127 = .ok (.aload_n 0, 1) := dk_42 (dk_at dksX0_findLeast_5 11 rfl rfl)
theorem dX0_findLeast_128 : decode cX0_findLeast 128 = .ok (.getfield 73, 3) := dk_180 0 73 (dk_at dksX0_findLeast_5 12 rfl rfl)
theorem dX0_findLeast_131 : decode cX0_findLeast 131 = .ok (.iload_n 3, 1) := dk_29 (dk_at dksX0_findLeast_5 15 rfl rfl)
theorem dX0_findLeast_132 : decode cX0_findLeast 132 = .ok (.invokestatic 79, 3) := dk_184 0 79 (dk_at dksX0_findLeast_5 16 rfl rfl)
theorem dX0_findLeast_135 : decode cX0_findLeast 135 = .ok (.putfield 73, 3) := dk_181 0 73 (dk_at dksX0_findLeast_5 19 rfl rfl)
theorem dX0_findLeast_138 : decode cX0_findLeast 138 = .ok (.iinc 4 1, 3) := dk_132 4 1 (dk_at dksX0_findLeast_6 0 rfl rfl)
theorem dX0_findLeast_141 : decode cX0_findLeast 141 = .ok (.goto (-102), 3) := dk_167 255 154 (dk_at dksX0_findLeast_6 3 rfl rfl)
theorem dX0_findLeast_144 : decode cX0_findLeast 144 = .ok (.return_, 1) := dk_177 (dk_at dksX0_findLeast_6 6 rfl rfl)
abbrev cX0_block : ByteArray := prog_1_method_32_code
def yX0_block : MethodName := ⟨RX0, "block", "(II)I"⟩
def dkwX0_block_3 : List UInt8 := [180, 0, 1, 180, 0, 176, 29, 53, 167, 0, 12, 42, 180, 0, 1, 180, 0, 152, 29, 53, 96, 172]
abbrev dktX0_block_3 : List UInt8 := dkwX0_block_3 ++ []
def dkwX0_block_2 : List UInt8 := [28, 154, 0, 15, 42, 180, 0, 1, 180, 0, 34, 29, 53, 167, 0, 29, 28, 4, 160, 0, 15, 42]
abbrev dktX0_block_2 : List UInt8 := dkwX0_block_2 ++ dktX0_block_3
def dkwX0_block_1 : List UInt8 := [153, 0, 15, 28, 133, 9, 20, 0, 168, 184, 0, 115, 154, 0, 5, 2, 172, 16, 8, 27, 96, 62, 16, 100]
abbrev dktX0_block_1 : List UInt8 := dkwX0_block_1 ++ dktX0_block_2
def dkwX0_block_0 : List UInt8 := [27, 133, 9, 42, 180, 0, 1, 180, 0, 7, 16, 16, 96, 4, 100, 16, 16, 108, 4, 100, 133, 184, 0, 115]
abbrev dktX0_block_0 : List UInt8 := dkwX0_block_0 ++ dktX0_block_1
theorem dksX0_block_0 : cX0_block.data.toList.drop 0 = dktX0_block_0 := by decide +kernel
theorem dksX0_block_1 : cX0_block.data.toList.drop 24 = dktX0_block_1 := dk_seg dksX0_block_0 24 rfl rfl
theorem dksX0_block_2 : cX0_block.data.toList.drop 48 = dktX0_block_2 := dk_seg dksX0_block_1 24 rfl rfl
theorem dksX0_block_3 : cX0_block.data.toList.drop 70 = dktX0_block_3 := dk_seg dksX0_block_2 22 rfl rfl
theorem dX0_block_0 : decode cX0_block 0 = .ok (.iload_n 1, 1) := dk_27 (dk_at dksX0_block_0 0 rfl rfl)
theorem dX0_block_1 : decode cX0_block 1 = .ok (.i2l, 1) := dk_133 (dk_at dksX0_block_0 1 rfl rfl)
theorem dX0_block_2 : decode cX0_block 2 = .ok (.lconst 0, 1) := dk_9 (dk_at dksX0_block_0 2 rfl rfl)
theorem dX0_block_3 : decode cX0_block 3 = .ok (.aload_n 0, 1) := dk_42 (dk_at dksX0_block_0 3 rfl rfl)
theorem dX0_block_4 : decode cX0_block 4 = .ok (.getfield 1, 3) := dk_180 0 1 (dk_at dksX0_block_0 4 rfl rfl)
theorem dX0_block_7 : decode cX0_block 7 = .ok (.getfield 7, 3) := dk_180 0 7 (dk_at dksX0_block_0 7 rfl rfl)
theorem dX0_block_10 : decode cX0_block 10 = .ok (.bipush 16, 2) := dk_16 16 (dk_at dksX0_block_0 10 rfl rfl)
theorem dX0_block_12 : decode cX0_block 12 = .ok (.iadd, 1) := dk_96 (dk_at dksX0_block_0 12 rfl rfl)
theorem dX0_block_13 : decode cX0_block 13 = .ok (.iconst 1, 1) := dk_4 (dk_at dksX0_block_0 13 rfl rfl)
theorem dX0_block_14 : decode cX0_block 14 = .ok (.isub, 1) := dk_100 (dk_at dksX0_block_0 14 rfl rfl)
theorem dX0_block_15 : decode cX0_block 15 = .ok (.bipush 16, 2) := dk_16 16 (dk_at dksX0_block_0 15 rfl rfl)
theorem dX0_block_17 : decode cX0_block 17 = .ok (.idiv, 1) := dk_108 (dk_at dksX0_block_0 17 rfl rfl)
theorem dX0_block_18 : decode cX0_block 18 = .ok (.iconst 1, 1) := dk_4 (dk_at dksX0_block_0 18 rfl rfl)
theorem dX0_block_19 : decode cX0_block 19 = .ok (.isub, 1) := dk_100 (dk_at dksX0_block_0 19 rfl rfl)
theorem dX0_block_20 : decode cX0_block 20 = .ok (.i2l, 1) := dk_133 (dk_at dksX0_block_0 20 rfl rfl)
theorem dX0_block_21 : decode cX0_block 21 = .ok (.invokestatic 115, 3) := dk_184 0 115 (dk_at dksX0_block_0 21 rfl rfl)
theorem dX0_block_24 : decode cX0_block 24 = .ok (.ifCond .eq 15, 3) := dk_153 0 15 (dk_at dksX0_block_1 0 rfl rfl)
theorem dX0_block_27 : decode cX0_block 27 = .ok (.iload_n 2, 1) := dk_28 (dk_at dksX0_block_1 3 rfl rfl)
theorem dX0_block_28 : decode cX0_block 28 = .ok (.i2l, 1) := dk_133 (dk_at dksX0_block_1 4 rfl rfl)
theorem dX0_block_29 : decode cX0_block 29 = .ok (.lconst 0, 1) := dk_9 (dk_at dksX0_block_1 5 rfl rfl)
theorem dX0_block_30 : decode cX0_block 30 = .ok (.ldc2_w 168, 3) := dk_20 0 168 (dk_at dksX0_block_1 6 rfl rfl)
theorem dX0_block_33 : decode cX0_block 33 = .ok (.invokestatic 115, 3) := dk_184 0 115 (dk_at dksX0_block_1 9 rfl rfl)
theorem dX0_block_36 : decode cX0_block 36 = .ok (.ifCond .ne 5, 3) := dk_154 0 5 (dk_at dksX0_block_1 12 rfl rfl)
theorem dX0_block_39 : decode cX0_block 39 = .ok (.iconst (-1), 1) := dk_2 (dk_at dksX0_block_1 15 rfl rfl)
theorem dX0_block_40 : decode cX0_block 40 = .ok (.ireturn, 1) := dk_172 (dk_at dksX0_block_1 16 rfl rfl)
theorem dX0_block_41 : decode cX0_block 41 = .ok (.bipush 8, 2) := dk_16 8 (dk_at dksX0_block_1 17 rfl rfl)
theorem dX0_block_43 : decode cX0_block 43 = .ok (.iload_n 1, 1) := dk_27 (dk_at dksX0_block_1 19 rfl rfl)
theorem dX0_block_44 : decode cX0_block 44 = .ok (.iadd, 1) := dk_96 (dk_at dksX0_block_1 20 rfl rfl)
theorem dX0_block_45 : decode cX0_block 45 = .ok (.istore_n 3, 1) := dk_62 (dk_at dksX0_block_1 21 rfl rfl)
theorem dX0_block_46 : decode cX0_block 46 = .ok (.bipush 100, 2) := dk_16 100 (dk_at dksX0_block_1 22 rfl rfl)
theorem dX0_block_48 : decode cX0_block 48 = .ok (.iload_n 2, 1) := dk_28 (dk_at dksX0_block_2 0 rfl rfl)
theorem dX0_block_49 : decode cX0_block 49 = .ok (.ifCond .ne 15, 3) := dk_154 0 15 (dk_at dksX0_block_2 1 rfl rfl)
theorem dX0_block_52 : decode cX0_block 52 = .ok (.aload_n 0, 1) := dk_42 (dk_at dksX0_block_2 4 rfl rfl)
theorem dX0_block_53 : decode cX0_block 53 = .ok (.getfield 1, 3) := dk_180 0 1 (dk_at dksX0_block_2 5 rfl rfl)
theorem dX0_block_56 : decode cX0_block 56 = .ok (.getfield 34, 3) := dk_180 0 34 (dk_at dksX0_block_2 8 rfl rfl)
theorem dX0_block_59 : decode cX0_block 59 = .ok (.iload_n 3, 1) := dk_29 (dk_at dksX0_block_2 11 rfl rfl)
theorem dX0_block_60 : decode cX0_block 60 = .ok (.saload, 1) := dk_53 (dk_at dksX0_block_2 12 rfl rfl)
theorem dX0_block_61 : decode cX0_block 61 = .ok (.goto 29, 3) := dk_167 0 29 (dk_at dksX0_block_2 13 rfl rfl)
theorem dX0_block_64 : decode cX0_block 64 = .ok (.iload_n 2, 1) := dk_28 (dk_at dksX0_block_2 16 rfl rfl)
theorem dX0_block_65 : decode cX0_block 65 = .ok (.iconst 1, 1) := dk_4 (dk_at dksX0_block_2 17 rfl rfl)
theorem dX0_block_66 : decode cX0_block 66 = .ok (.if_icmp .ne 15, 3) := dk_160 0 15 (dk_at dksX0_block_2 18 rfl rfl)
theorem dX0_block_69 : decode cX0_block 69 = .ok (.aload_n 0, 1) := dk_42 (dk_at dksX0_block_2 21 rfl rfl)
theorem dX0_block_70 : decode cX0_block 70 = .ok (.getfield 1, 3) := dk_180 0 1 (dk_at dksX0_block_3 0 rfl rfl)
theorem dX0_block_73 : decode cX0_block 73 = .ok (.getfield 176, 3) := dk_180 0 176 (dk_at dksX0_block_3 3 rfl rfl)
theorem dX0_block_76 : decode cX0_block 76 = .ok (.iload_n 3, 1) := dk_29 (dk_at dksX0_block_3 6 rfl rfl)
theorem dX0_block_77 : decode cX0_block 77 = .ok (.saload, 1) := dk_53 (dk_at dksX0_block_3 7 rfl rfl)
theorem dX0_block_78 : decode cX0_block 78 = .ok (.goto 12, 3) := dk_167 0 12 (dk_at dksX0_block_3 8 rfl rfl)
theorem dX0_block_81 : decode cX0_block 81 = .ok (.aload_n 0, 1) := dk_42 (dk_at dksX0_block_3 11 rfl rfl)
theorem dX0_block_82 : decode cX0_block 82 = .ok (.getfield 1, 3) := dk_180 0 1 (dk_at dksX0_block_3 12 rfl rfl)
theorem dX0_block_85 : decode cX0_block 85 = .ok (.getfield 152, 3) := dk_180 0 152 (dk_at dksX0_block_3 15 rfl rfl)
theorem dX0_block_88 : decode cX0_block 88 = .ok (.iload_n 3, 1) := dk_29 (dk_at dksX0_block_3 18 rfl rfl)
theorem dX0_block_89 : decode cX0_block 89 = .ok (.saload, 1) := dk_53 (dk_at dksX0_block_3 19 rfl rfl)
theorem dX0_block_90 : decode cX0_block 90 = .ok (.iadd, 1) := dk_96 (dk_at dksX0_block_3 20 rfl rfl)
theorem dX0_block_91 : decode cX0_block 91 = .ok (.ireturn, 1) := dk_172 (dk_at dksX0_block_3 21 rfl rfl)
abbrev cX0_node : ByteArray := prog_1_method_45_code
def yX0_node : MethodName := ⟨RX0, "node", "(II)I"⟩
def dkwX0_node_5 : List UInt8 := [42, 42, 27, 182, 0, 182, 4, 182, 0, 156, 172, 42, 27, 182, 0, 218, 172, 2, 172]
abbrev dktX0_node_5 : List UInt8 := dkwX0_node_5 ++ []
def dkwX0_node_4 : List UInt8 := [42, 27, 182, 0, 206, 172, 42, 27, 182, 0, 209, 172, 42, 27, 182, 0, 212, 172, 42, 27, 182, 0, 215, 172]
abbrev dktX0_node_4 : List UInt8 := dkwX0_node_4 ++ dktX0_node_5
def dkwX0_node_3 : List UInt8 := [42, 27, 182, 0, 185, 172, 42, 27, 182, 0, 203, 172, 42, 27, 182, 0, 188, 172, 42, 27, 182, 0, 191, 172]
abbrev dktX0_node_3 : List UInt8 := dkwX0_node_3 ++ dktX0_node_4
def dkwX0_node_2 : List UInt8 := [42, 27, 182, 0, 58, 172, 42, 27, 182, 0, 182, 172, 42, 27, 182, 0, 197, 172, 42, 27, 182, 0, 200, 172]
abbrev dktX0_node_2 : List UInt8 := dkwX0_node_2 ++ dktX0_node_3
def dkwX0_node_1 : List UInt8 := [170, 0, 0, 0, 158, 0, 0, 0, 0, 0, 0, 0, 13, 0, 0, 0, 69, 0, 0, 0, 75, 0, 0, 0, 81, 0, 0, 0, 87, 0, 0, 0, 93, 0, 0, 0, 99, 0, 0, 0, 105, 0, 0, 0, 111, 0, 0, 0, 117, 0, 0, 0, 123, 0, 0, 0, 129, 0, 0, 0, 135, 0, 0, 0, 141, 0, 0, 0, 152]
abbrev dktX0_node_1 : List UInt8 := dkwX0_node_1 ++ dktX0_node_2
def dkwX0_node_0 : List UInt8 := [42, 27, 182, 0, 194, 154, 0, 5, 2, 172, 28]
abbrev dktX0_node_0 : List UInt8 := dkwX0_node_0 ++ dktX0_node_1
theorem dksX0_node_0 : cX0_node.data.toList.drop 0 = dktX0_node_0 := by decide +kernel
theorem dksX0_node_1 : cX0_node.data.toList.drop 11 = dktX0_node_1 := dk_seg dksX0_node_0 11 rfl rfl
theorem dksX0_node_2 : cX0_node.data.toList.drop 80 = dktX0_node_2 := dk_seg dksX0_node_1 69 rfl rfl
theorem dksX0_node_3 : cX0_node.data.toList.drop 104 = dktX0_node_3 := dk_seg dksX0_node_2 24 rfl rfl
theorem dksX0_node_4 : cX0_node.data.toList.drop 128 = dktX0_node_4 := dk_seg dksX0_node_3 24 rfl rfl
theorem dksX0_node_5 : cX0_node.data.toList.drop 152 = dktX0_node_5 := dk_seg dksX0_node_4 24 rfl rfl
theorem dX0_node_0 : decode cX0_node 0 = .ok (.aload_n 0, 1) := dk_42 (dk_at dksX0_node_0 0 rfl rfl)
theorem dX0_node_1 : decode cX0_node 1 = .ok (.iload_n 1, 1) := dk_27 (dk_at dksX0_node_0 1 rfl rfl)
theorem dX0_node_2 : decode cX0_node 2 = .ok (.invokevirtual 194, 3) := dk_182 0 194 (dk_at dksX0_node_0 2 rfl rfl)
theorem dX0_node_5 : decode cX0_node 5 = .ok (.ifCond .ne 5, 3) := dk_154 0 5 (dk_at dksX0_node_0 5 rfl rfl)
theorem dX0_node_8 : decode cX0_node 8 = .ok (.iconst (-1), 1) := dk_2 (dk_at dksX0_node_0 8 rfl rfl)
theorem dX0_node_9 : decode cX0_node 9 = .ok (.ireturn, 1) := dk_172 (dk_at dksX0_node_0 9 rfl rfl)
theorem dX0_node_10 : decode cX0_node 10 = .ok (.iload_n 2, 1) := dk_28 (dk_at dksX0_node_0 10 rfl rfl)
theorem dX0_node_11 : decode cX0_node 11 = .ok (.tableswitch 158 0 13 #[69, 75, 81, 87, 93, 99, 105, 111, 117, 123, 129, 135, 141, 152], 69) := by decide +kernel
theorem dX0_node_80 : decode cX0_node 80 = .ok (.aload_n 0, 1) := dk_42 (dk_at dksX0_node_2 0 rfl rfl)
theorem dX0_node_81 : decode cX0_node 81 = .ok (.iload_n 1, 1) := dk_27 (dk_at dksX0_node_2 1 rfl rfl)
theorem dX0_node_82 : decode cX0_node 82 = .ok (.invokevirtual 58, 3) := dk_182 0 58 (dk_at dksX0_node_2 2 rfl rfl)
theorem dX0_node_85 : decode cX0_node 85 = .ok (.ireturn, 1) := dk_172 (dk_at dksX0_node_2 5 rfl rfl)
theorem dX0_node_86 : decode cX0_node 86 = .ok (.aload_n 0, 1) := dk_42 (dk_at dksX0_node_2 6 rfl rfl)
theorem dX0_node_87 : decode cX0_node 87 = .ok (.iload_n 1, 1) := dk_27 (dk_at dksX0_node_2 7 rfl rfl)
theorem dX0_node_88 : decode cX0_node 88 = .ok (.invokevirtual 182, 3) := dk_182 0 182 (dk_at dksX0_node_2 8 rfl rfl)
theorem dX0_node_91 : decode cX0_node 91 = .ok (.ireturn, 1) := dk_172 (dk_at dksX0_node_2 11 rfl rfl)
theorem dX0_node_92 : decode cX0_node 92 = .ok (.aload_n 0, 1) := dk_42 (dk_at dksX0_node_2 12 rfl rfl)
theorem dX0_node_93 : decode cX0_node 93 = .ok (.iload_n 1, 1) := dk_27 (dk_at dksX0_node_2 13 rfl rfl)
theorem dX0_node_94 : decode cX0_node 94 = .ok (.invokevirtual 197, 3) := dk_182 0 197 (dk_at dksX0_node_2 14 rfl rfl)
theorem dX0_node_97 : decode cX0_node 97 = .ok (.ireturn, 1) := dk_172 (dk_at dksX0_node_2 17 rfl rfl)
theorem dX0_node_98 : decode cX0_node 98 = .ok (.aload_n 0, 1) := dk_42 (dk_at dksX0_node_2 18 rfl rfl)
theorem dX0_node_99 : decode cX0_node 99 = .ok (.iload_n 1, 1) := dk_27 (dk_at dksX0_node_2 19 rfl rfl)
theorem dX0_node_100 : decode cX0_node 100 = .ok (.invokevirtual 200, 3) := dk_182 0 200 (dk_at dksX0_node_2 20 rfl rfl)
theorem dX0_node_103 : decode cX0_node 103 = .ok (.ireturn, 1) := dk_172 (dk_at dksX0_node_2 23 rfl rfl)
theorem dX0_node_104 : decode cX0_node 104 = .ok (.aload_n 0, 1) := dk_42 (dk_at dksX0_node_3 0 rfl rfl)
theorem dX0_node_105 : decode cX0_node 105 = .ok (.iload_n 1, 1) := dk_27 (dk_at dksX0_node_3 1 rfl rfl)
theorem dX0_node_106 : decode cX0_node 106 = .ok (.invokevirtual 185, 3) := dk_182 0 185 (dk_at dksX0_node_3 2 rfl rfl)
theorem dX0_node_109 : decode cX0_node 109 = .ok (.ireturn, 1) := dk_172 (dk_at dksX0_node_3 5 rfl rfl)
theorem dX0_node_110 : decode cX0_node 110 = .ok (.aload_n 0, 1) := dk_42 (dk_at dksX0_node_3 6 rfl rfl)
theorem dX0_node_111 : decode cX0_node 111 = .ok (.iload_n 1, 1) := dk_27 (dk_at dksX0_node_3 7 rfl rfl)
theorem dX0_node_112 : decode cX0_node 112 = .ok (.invokevirtual 203, 3) := dk_182 0 203 (dk_at dksX0_node_3 8 rfl rfl)
theorem dX0_node_115 : decode cX0_node 115 = .ok (.ireturn, 1) := dk_172 (dk_at dksX0_node_3 11 rfl rfl)
theorem dX0_node_116 : decode cX0_node 116 = .ok (.aload_n 0, 1) := dk_42 (dk_at dksX0_node_3 12 rfl rfl)
theorem dX0_node_117 : decode cX0_node 117 = .ok (.iload_n 1, 1) := dk_27 (dk_at dksX0_node_3 13 rfl rfl)
theorem dX0_node_118 : decode cX0_node 118 = .ok (.invokevirtual 188, 3) := dk_182 0 188 (dk_at dksX0_node_3 14 rfl rfl)
theorem dX0_node_121 : decode cX0_node 121 = .ok (.ireturn, 1) := dk_172 (dk_at dksX0_node_3 17 rfl rfl)
theorem dX0_node_122 : decode cX0_node 122 = .ok (.aload_n 0, 1) := dk_42 (dk_at dksX0_node_3 18 rfl rfl)
theorem dX0_node_123 : decode cX0_node 123 = .ok (.iload_n 1, 1) := dk_27 (dk_at dksX0_node_3 19 rfl rfl)
theorem dX0_node_124 : decode cX0_node 124 = .ok (.invokevirtual 191, 3) := dk_182 0 191 (dk_at dksX0_node_3 20 rfl rfl)
theorem dX0_node_127 : decode cX0_node 127 = .ok (.ireturn, 1) := dk_172 (dk_at dksX0_node_3 23 rfl rfl)
theorem dX0_node_128 : decode cX0_node 128 = .ok (.aload_n 0, 1) := dk_42 (dk_at dksX0_node_4 0 rfl rfl)
theorem dX0_node_129 : decode cX0_node 129 = .ok (.iload_n 1, 1) := dk_27 (dk_at dksX0_node_4 1 rfl rfl)
theorem dX0_node_130 : decode cX0_node 130 = .ok (.invokevirtual 206, 3) := dk_182 0 206 (dk_at dksX0_node_4 2 rfl rfl)
theorem dX0_node_133 : decode cX0_node 133 = .ok (.ireturn, 1) := dk_172 (dk_at dksX0_node_4 5 rfl rfl)
theorem dX0_node_134 : decode cX0_node 134 = .ok (.aload_n 0, 1) := dk_42 (dk_at dksX0_node_4 6 rfl rfl)
theorem dX0_node_135 : decode cX0_node 135 = .ok (.iload_n 1, 1) := dk_27 (dk_at dksX0_node_4 7 rfl rfl)
theorem dX0_node_136 : decode cX0_node 136 = .ok (.invokevirtual 209, 3) := dk_182 0 209 (dk_at dksX0_node_4 8 rfl rfl)
theorem dX0_node_139 : decode cX0_node 139 = .ok (.ireturn, 1) := dk_172 (dk_at dksX0_node_4 11 rfl rfl)
theorem dX0_node_140 : decode cX0_node 140 = .ok (.aload_n 0, 1) := dk_42 (dk_at dksX0_node_4 12 rfl rfl)
theorem dX0_node_141 : decode cX0_node 141 = .ok (.iload_n 1, 1) := dk_27 (dk_at dksX0_node_4 13 rfl rfl)
theorem dX0_node_142 : decode cX0_node 142 = .ok (.invokevirtual 212, 3) := dk_182 0 212 (dk_at dksX0_node_4 14 rfl rfl)
theorem dX0_node_145 : decode cX0_node 145 = .ok (.ireturn, 1) := dk_172 (dk_at dksX0_node_4 17 rfl rfl)
theorem dX0_node_146 : decode cX0_node 146 = .ok (.aload_n 0, 1) := dk_42 (dk_at dksX0_node_4 18 rfl rfl)
theorem dX0_node_147 : decode cX0_node 147 = .ok (.iload_n 1, 1) := dk_27 (dk_at dksX0_node_4 19 rfl rfl)
theorem dX0_node_148 : decode cX0_node 148 = .ok (.invokevirtual 215, 3) := dk_182 0 215 (dk_at dksX0_node_4 20 rfl rfl)
theorem dX0_node_151 : decode cX0_node 151 = .ok (.ireturn, 1) := dk_172 (dk_at dksX0_node_4 23 rfl rfl)
theorem dX0_node_152 : decode cX0_node 152 = .ok (.aload_n 0, 1) := dk_42 (dk_at dksX0_node_5 0 rfl rfl)
theorem dX0_node_153 : decode cX0_node 153 = .ok (.aload_n 0, 1) := dk_42 (dk_at dksX0_node_5 1 rfl rfl)
theorem dX0_node_154 : decode cX0_node 154 = .ok (.iload_n 1, 1) := dk_27 (dk_at dksX0_node_5 2 rfl rfl)
theorem dX0_node_155 : decode cX0_node 155 = .ok (.invokevirtual 182, 3) := dk_182 0 182 (dk_at dksX0_node_5 3 rfl rfl)
theorem dX0_node_158 : decode cX0_node 158 = .ok (.iconst 1, 1) := dk_4 (dk_at dksX0_node_5 6 rfl rfl)
theorem dX0_node_159 : decode cX0_node 159 = .ok (.invokevirtual 156, 3) := dk_182 0 156 (dk_at dksX0_node_5 7 rfl rfl)
theorem dX0_node_162 : decode cX0_node 162 = .ok (.ireturn, 1) := dk_172 (dk_at dksX0_node_5 10 rfl rfl)
theorem dX0_node_163 : decode cX0_node 163 = .ok (.aload_n 0, 1) := dk_42 (dk_at dksX0_node_5 11 rfl rfl)
theorem dX0_node_164 : decode cX0_node 164 = .ok (.iload_n 1, 1) := dk_27 (dk_at dksX0_node_5 12 rfl rfl)
theorem dX0_node_165 : decode cX0_node 165 = .ok (.invokevirtual 218, 3) := dk_182 0 218 (dk_at dksX0_node_5 13 rfl rfl)
theorem dX0_node_168 : decode cX0_node 168 = .ok (.ireturn, 1) := dk_172 (dk_at dksX0_node_5 16 rfl rfl)
theorem dX0_node_169 : decode cX0_node 169 = .ok (.iconst (-1), 1) := dk_2 (dk_at dksX0_node_5 17 rfl rfl)
theorem dX0_node_170 : decode cX0_node 170 = .ok (.ireturn, 1) := dk_172 (dk_at dksX0_node_5 18 rfl rfl)
abbrev cX0_isNode : ByteArray := prog_1_method_33_code
def yX0_isNode : MethodName := ⟨RX0, "isNode", "(I)Z"⟩
def dkwX0_isNode_0 : List UInt8 := [27, 133, 9, 42, 182, 0, 155, 4, 100, 133, 184, 0, 115, 172]
abbrev dktX0_isNode_0 : List UInt8 := dkwX0_isNode_0 ++ []
theorem dksX0_isNode_0 : cX0_isNode.data.toList.drop 0 = dktX0_isNode_0 := by decide +kernel
theorem dX0_isNode_0 : decode cX0_isNode 0 = .ok (.iload_n 1, 1) := dk_27 (dk_at dksX0_isNode_0 0 rfl rfl)
theorem dX0_isNode_1 : decode cX0_isNode 1 = .ok (.i2l, 1) := dk_133 (dk_at dksX0_isNode_0 1 rfl rfl)
theorem dX0_isNode_2 : decode cX0_isNode 2 = .ok (.lconst 0, 1) := dk_9 (dk_at dksX0_isNode_0 2 rfl rfl)
theorem dX0_isNode_3 : decode cX0_isNode 3 = .ok (.aload_n 0, 1) := dk_42 (dk_at dksX0_isNode_0 3 rfl rfl)
theorem dX0_isNode_4 : decode cX0_isNode 4 = .ok (.invokevirtual 155, 3) := dk_182 0 155 (dk_at dksX0_isNode_0 4 rfl rfl)
theorem dX0_isNode_7 : decode cX0_isNode 7 = .ok (.iconst 1, 1) := dk_4 (dk_at dksX0_isNode_0 7 rfl rfl)
theorem dX0_isNode_8 : decode cX0_isNode 8 = .ok (.isub, 1) := dk_100 (dk_at dksX0_isNode_0 8 rfl rfl)
theorem dX0_isNode_9 : decode cX0_isNode 9 = .ok (.i2l, 1) := dk_133 (dk_at dksX0_isNode_0 9 rfl rfl)
theorem dX0_isNode_10 : decode cX0_isNode 10 = .ok (.invokestatic 115, 3) := dk_184 0 115 (dk_at dksX0_isNode_0 10 rfl rfl)
theorem dX0_isNode_13 : decode cX0_isNode 13 = .ok (.ireturn, 1) := dk_172 (dk_at dksX0_isNode_0 13 rfl rfl)
abbrev cX0_openOf : ByteArray := prog_1_method_10_code
def yX0_openOf : MethodName := ⟨RX0, "openOf", "(I)I"⟩
def dkwX0_openOf_0 : List UInt8 := [42, 27, 3, 182, 0, 55, 172]
abbrev dktX0_openOf_0 : List UInt8 := dkwX0_openOf_0 ++ []
theorem dksX0_openOf_0 : cX0_openOf.data.toList.drop 0 = dktX0_openOf_0 := by decide +kernel
theorem dX0_openOf_0 : decode cX0_openOf 0 = .ok (.aload_n 0, 1) := dk_42 (dk_at dksX0_openOf_0 0 rfl rfl)
theorem dX0_openOf_1 : decode cX0_openOf 1 = .ok (.iload_n 1, 1) := dk_27 (dk_at dksX0_openOf_0 1 rfl rfl)
theorem dX0_openOf_2 : decode cX0_openOf 2 = .ok (.iconst 0, 1) := dk_3 (dk_at dksX0_openOf_0 2 rfl rfl)
theorem dX0_openOf_3 : decode cX0_openOf 3 = .ok (.invokevirtual 55, 3) := dk_182 0 55 (dk_at dksX0_openOf_0 3 rfl rfl)
theorem dX0_openOf_6 : decode cX0_openOf 6 = .ok (.ireturn, 1) := dk_172 (dk_at dksX0_openOf_0 6 rfl rfl)
abbrev cX0_closeOf : ByteArray := prog_1_method_11_code
def yX0_closeOf : MethodName := ⟨RX0, "closeOf", "(I)I"⟩
def dkwX0_closeOf_0 : List UInt8 := [42, 42, 27, 182, 0, 58, 182, 0, 61, 172]
abbrev dktX0_closeOf_0 : List UInt8 := dkwX0_closeOf_0 ++ []
theorem dksX0_closeOf_0 : cX0_closeOf.data.toList.drop 0 = dktX0_closeOf_0 := by decide +kernel
theorem dX0_closeOf_0 : decode cX0_closeOf 0 = .ok (.aload_n 0, 1) := dk_42 (dk_at dksX0_closeOf_0 0 rfl rfl)
theorem dX0_closeOf_1 : decode cX0_closeOf 1 = .ok (.aload_n 0, 1) := dk_42 (dk_at dksX0_closeOf_0 1 rfl rfl)
theorem dX0_closeOf_2 : decode cX0_closeOf 2 = .ok (.iload_n 1, 1) := dk_27 (dk_at dksX0_closeOf_0 2 rfl rfl)
theorem dX0_closeOf_3 : decode cX0_closeOf 3 = .ok (.invokevirtual 58, 3) := dk_182 0 58 (dk_at dksX0_closeOf_0 3 rfl rfl)
theorem dX0_closeOf_6 : decode cX0_closeOf 6 = .ok (.invokevirtual 61, 3) := dk_182 0 61 (dk_at dksX0_closeOf_0 6 rfl rfl)
theorem dX0_closeOf_9 : decode cX0_closeOf 9 = .ok (.ireturn, 1) := dk_172 (dk_at dksX0_closeOf_0 9 rfl rfl)
abbrev cX0_depthOf : ByteArray := prog_1_method_13_code
def yX0_depthOf : MethodName := ⟨RX0, "depthOf", "(I)I"⟩
def dkwX0_depthOf_0 : List UInt8 := [42, 180, 0, 1, 42, 27, 182, 0, 58, 182, 0, 23, 172]
abbrev dktX0_depthOf_0 : List UInt8 := dkwX0_depthOf_0 ++ []
theorem dksX0_depthOf_0 : cX0_depthOf.data.toList.drop 0 = dktX0_depthOf_0 := by decide +kernel
theorem dX0_depthOf_0 : decode cX0_depthOf 0 = .ok (.aload_n 0, 1) := dk_42 (dk_at dksX0_depthOf_0 0 rfl rfl)
theorem dX0_depthOf_1 : decode cX0_depthOf 1 = .ok (.getfield 1, 3) := dk_180 0 1 (dk_at dksX0_depthOf_0 1 rfl rfl)
theorem dX0_depthOf_4 : decode cX0_depthOf 4 = .ok (.aload_n 0, 1) := dk_42 (dk_at dksX0_depthOf_0 4 rfl rfl)
theorem dX0_depthOf_5 : decode cX0_depthOf 5 = .ok (.iload_n 1, 1) := dk_27 (dk_at dksX0_depthOf_0 5 rfl rfl)
theorem dX0_depthOf_6 : decode cX0_depthOf 6 = .ok (.invokevirtual 58, 3) := dk_182 0 58 (dk_at dksX0_depthOf_0 6 rfl rfl)
theorem dX0_depthOf_9 : decode cX0_depthOf 9 = .ok (.invokevirtual 23, 3) := dk_182 0 23 (dk_at dksX0_depthOf_0 9 rfl rfl)
theorem dX0_depthOf_12 : decode cX0_depthOf 12 = .ok (.ireturn, 1) := dk_172 (dk_at dksX0_depthOf_0 12 rfl rfl)
abbrev cX0_parentOf : ByteArray := prog_1_method_34_code
def yX0_parentOf : MethodName := ⟨RX0, "parentOf", "(I)I"⟩
def dkwX0_parentOf_1 : List UInt8 := [42, 42, 28, 29, 4, 100, 182, 0, 49, 182, 0, 179, 172]
abbrev dktX0_parentOf_1 : List UInt8 := dkwX0_parentOf_1 ++ []
def dkwX0_parentOf_0 : List UInt8 := [42, 27, 182, 0, 58, 61, 42, 180, 0, 1, 28, 182, 0, 23, 62, 29, 154, 0, 8, 16, 252, 167, 0, 15]
abbrev dktX0_parentOf_0 : List UInt8 := dkwX0_parentOf_0 ++ dktX0_parentOf_1
theorem dksX0_parentOf_0 : cX0_parentOf.data.toList.drop 0 = dktX0_parentOf_0 := by decide +kernel
theorem dksX0_parentOf_1 : cX0_parentOf.data.toList.drop 24 = dktX0_parentOf_1 := dk_seg dksX0_parentOf_0 24 rfl rfl
theorem dX0_parentOf_0 : decode cX0_parentOf 0 = .ok (.aload_n 0, 1) := dk_42 (dk_at dksX0_parentOf_0 0 rfl rfl)
theorem dX0_parentOf_1 : decode cX0_parentOf 1 = .ok (.iload_n 1, 1) := dk_27 (dk_at dksX0_parentOf_0 1 rfl rfl)
theorem dX0_parentOf_2 : decode cX0_parentOf 2 = .ok (.invokevirtual 58, 3) := dk_182 0 58 (dk_at dksX0_parentOf_0 2 rfl rfl)
theorem dX0_parentOf_5 : decode cX0_parentOf 5 = .ok (.istore_n 2, 1) := dk_61 (dk_at dksX0_parentOf_0 5 rfl rfl)
theorem dX0_parentOf_6 : decode cX0_parentOf 6 = .ok (.aload_n 0, 1) := dk_42 (dk_at dksX0_parentOf_0 6 rfl rfl)
theorem dX0_parentOf_7 : decode cX0_parentOf 7 = .ok (.getfield 1, 3) := dk_180 0 1 (dk_at dksX0_parentOf_0 7 rfl rfl)
theorem dX0_parentOf_10 : decode cX0_parentOf 10 = .ok (.iload_n 2, 1) := dk_28 (dk_at dksX0_parentOf_0 10 rfl rfl)
theorem dX0_parentOf_11 : decode cX0_parentOf 11 = .ok (.invokevirtual 23, 3) := dk_182 0 23 (dk_at dksX0_parentOf_0 11 rfl rfl)
theorem dX0_parentOf_14 : decode cX0_parentOf 14 = .ok (.istore_n 3, 1) := dk_62 (dk_at dksX0_parentOf_0 14 rfl rfl)
theorem dX0_parentOf_15 : decode cX0_parentOf 15 = .ok (.iload_n 3, 1) := dk_29 (dk_at dksX0_parentOf_0 15 rfl rfl)
theorem dX0_parentOf_16 : decode cX0_parentOf 16 = .ok (.ifCond .ne 8, 3) := dk_154 0 8 (dk_at dksX0_parentOf_0 16 rfl rfl)
theorem dX0_parentOf_19 : decode cX0_parentOf 19 = .ok (.bipush (-4), 2) := dk_16 252 (dk_at dksX0_parentOf_0 19 rfl rfl)
theorem dX0_parentOf_21 : decode cX0_parentOf 21 = .ok (.goto 15, 3) := dk_167 0 15 (dk_at dksX0_parentOf_0 21 rfl rfl)
theorem dX0_parentOf_24 : decode cX0_parentOf 24 = .ok (.aload_n 0, 1) := dk_42 (dk_at dksX0_parentOf_1 0 rfl rfl)
theorem dX0_parentOf_25 : decode cX0_parentOf 25 = .ok (.aload_n 0, 1) := dk_42 (dk_at dksX0_parentOf_1 1 rfl rfl)
theorem dX0_parentOf_26 : decode cX0_parentOf 26 = .ok (.iload_n 2, 1) := dk_28 (dk_at dksX0_parentOf_1 2 rfl rfl)
theorem dX0_parentOf_27 : decode cX0_parentOf 27 = .ok (.iload_n 3, 1) := dk_29 (dk_at dksX0_parentOf_1 3 rfl rfl)
theorem dX0_parentOf_28 : decode cX0_parentOf 28 = .ok (.iconst 1, 1) := dk_4 (dk_at dksX0_parentOf_1 4 rfl rfl)
theorem dX0_parentOf_29 : decode cX0_parentOf 29 = .ok (.isub, 1) := dk_100 (dk_at dksX0_parentOf_1 5 rfl rfl)
theorem dX0_parentOf_30 : decode cX0_parentOf 30 = .ok (.invokevirtual 49, 3) := dk_182 0 49 (dk_at dksX0_parentOf_1 6 rfl rfl)
theorem dX0_parentOf_33 : decode cX0_parentOf 33 = .ok (.invokevirtual 179, 3) := dk_182 0 179 (dk_at dksX0_parentOf_1 9 rfl rfl)
theorem dX0_parentOf_36 : decode cX0_parentOf 36 = .ok (.ireturn, 1) := dk_172 (dk_at dksX0_parentOf_1 12 rfl rfl)
abbrev cX0_nodeAt : ByteArray := prog_1_method_12_code
def yX0_nodeAt : MethodName := ⟨RX0, "nodeAt", "(I)I"⟩
def dkwX0_nodeAt_0 : List UInt8 := [42, 180, 0, 1, 27, 182, 0, 52, 172]
abbrev dktX0_nodeAt_0 : List UInt8 := dkwX0_nodeAt_0 ++ []
theorem dksX0_nodeAt_0 : cX0_nodeAt.data.toList.drop 0 = dktX0_nodeAt_0 := by decide +kernel
theorem dX0_nodeAt_0 : decode cX0_nodeAt 0 = .ok (.aload_n 0, 1) := dk_42 (dk_at dksX0_nodeAt_0 0 rfl rfl)
theorem dX0_nodeAt_1 : decode cX0_nodeAt 1 = .ok (.getfield 1, 3) := dk_180 0 1 (dk_at dksX0_nodeAt_0 1 rfl rfl)
theorem dX0_nodeAt_4 : decode cX0_nodeAt 4 = .ok (.iload_n 1, 1) := dk_27 (dk_at dksX0_nodeAt_0 4 rfl rfl)
theorem dX0_nodeAt_5 : decode cX0_nodeAt 5 = .ok (.invokevirtual 52, 3) := dk_182 0 52 (dk_at dksX0_nodeAt_0 5 rfl rfl)
theorem dX0_nodeAt_8 : decode cX0_nodeAt 8 = .ok (.ireturn, 1) := dk_172 (dk_at dksX0_nodeAt_0 8 rfl rfl)
abbrev cX0_firstOf : ByteArray := prog_1_method_35_code
def yX0_firstOf : MethodName := ⟨RX0, "firstOf", "(I)I"⟩
def dkwX0_firstOf_1 : List UInt8 := [167, 0, 5, 16, 252, 172]
abbrev dktX0_firstOf_1 : List UInt8 := dkwX0_firstOf_1 ++ []
def dkwX0_firstOf_0 : List UInt8 := [42, 27, 182, 0, 58, 61, 42, 180, 0, 1, 28, 4, 96, 182, 0, 42, 153, 0, 9, 27, 4, 96]
abbrev dktX0_firstOf_0 : List UInt8 := dkwX0_firstOf_0 ++ dktX0_firstOf_1
theorem dksX0_firstOf_0 : cX0_firstOf.data.toList.drop 0 = dktX0_firstOf_0 := by decide +kernel
theorem dksX0_firstOf_1 : cX0_firstOf.data.toList.drop 22 = dktX0_firstOf_1 := dk_seg dksX0_firstOf_0 22 rfl rfl
theorem dX0_firstOf_0 : decode cX0_firstOf 0 = .ok (.aload_n 0, 1) := dk_42 (dk_at dksX0_firstOf_0 0 rfl rfl)
theorem dX0_firstOf_1 : decode cX0_firstOf 1 = .ok (.iload_n 1, 1) := dk_27 (dk_at dksX0_firstOf_0 1 rfl rfl)
theorem dX0_firstOf_2 : decode cX0_firstOf 2 = .ok (.invokevirtual 58, 3) := dk_182 0 58 (dk_at dksX0_firstOf_0 2 rfl rfl)
theorem dX0_firstOf_5 : decode cX0_firstOf 5 = .ok (.istore_n 2, 1) := dk_61 (dk_at dksX0_firstOf_0 5 rfl rfl)
theorem dX0_firstOf_6 : decode cX0_firstOf 6 = .ok (.aload_n 0, 1) := dk_42 (dk_at dksX0_firstOf_0 6 rfl rfl)
theorem dX0_firstOf_7 : decode cX0_firstOf 7 = .ok (.getfield 1, 3) := dk_180 0 1 (dk_at dksX0_firstOf_0 7 rfl rfl)
theorem dX0_firstOf_10 : decode cX0_firstOf 10 = .ok (.iload_n 2, 1) := dk_28 (dk_at dksX0_firstOf_0 10 rfl rfl)
theorem dX0_firstOf_11 : decode cX0_firstOf 11 = .ok (.iconst 1, 1) := dk_4 (dk_at dksX0_firstOf_0 11 rfl rfl)
theorem dX0_firstOf_12 : decode cX0_firstOf 12 = .ok (.iadd, 1) := dk_96 (dk_at dksX0_firstOf_0 12 rfl rfl)
theorem dX0_firstOf_13 : decode cX0_firstOf 13 = .ok (.invokevirtual 42, 3) := dk_182 0 42 (dk_at dksX0_firstOf_0 13 rfl rfl)
theorem dX0_firstOf_16 : decode cX0_firstOf 16 = .ok (.ifCond .eq 9, 3) := dk_153 0 9 (dk_at dksX0_firstOf_0 16 rfl rfl)
theorem dX0_firstOf_19 : decode cX0_firstOf 19 = .ok (.iload_n 1, 1) := dk_27 (dk_at dksX0_firstOf_0 19 rfl rfl)
theorem dX0_firstOf_20 : decode cX0_firstOf 20 = .ok (.iconst 1, 1) := dk_4 (dk_at dksX0_firstOf_0 20 rfl rfl)
theorem dX0_firstOf_21 : decode cX0_firstOf 21 = .ok (.iadd, 1) := dk_96 (dk_at dksX0_firstOf_0 21 rfl rfl)
theorem dX0_firstOf_22 : decode cX0_firstOf 22 = .ok (.goto 5, 3) := dk_167 0 5 (dk_at dksX0_firstOf_1 0 rfl rfl)
theorem dX0_firstOf_25 : decode cX0_firstOf 25 = .ok (.bipush (-4), 2) := dk_16 252 (dk_at dksX0_firstOf_1 3 rfl rfl)
theorem dX0_firstOf_27 : decode cX0_firstOf 27 = .ok (.ireturn, 1) := dk_172 (dk_at dksX0_firstOf_1 5 rfl rfl)
abbrev cX0_lastOf : ByteArray := prog_1_method_36_code
def yX0_lastOf : MethodName := ⟨RX0, "lastOf", "(I)I"⟩
def dkwX0_lastOf_1 : List UInt8 := [42, 42, 28, 4, 100, 182, 0, 61, 182, 0, 179, 172]
abbrev dktX0_lastOf_1 : List UInt8 := dkwX0_lastOf_1 ++ []
def dkwX0_lastOf_0 : List UInt8 := [42, 27, 182, 0, 182, 61, 42, 180, 0, 1, 28, 4, 100, 182, 0, 42, 153, 0, 8, 16, 252, 167, 0, 14]
abbrev dktX0_lastOf_0 : List UInt8 := dkwX0_lastOf_0 ++ dktX0_lastOf_1
theorem dksX0_lastOf_0 : cX0_lastOf.data.toList.drop 0 = dktX0_lastOf_0 := by decide +kernel
theorem dksX0_lastOf_1 : cX0_lastOf.data.toList.drop 24 = dktX0_lastOf_1 := dk_seg dksX0_lastOf_0 24 rfl rfl
theorem dX0_lastOf_0 : decode cX0_lastOf 0 = .ok (.aload_n 0, 1) := dk_42 (dk_at dksX0_lastOf_0 0 rfl rfl)
theorem dX0_lastOf_1 : decode cX0_lastOf 1 = .ok (.iload_n 1, 1) := dk_27 (dk_at dksX0_lastOf_0 1 rfl rfl)
theorem dX0_lastOf_2 : decode cX0_lastOf 2 = .ok (.invokevirtual 182, 3) := dk_182 0 182 (dk_at dksX0_lastOf_0 2 rfl rfl)
theorem dX0_lastOf_5 : decode cX0_lastOf 5 = .ok (.istore_n 2, 1) := dk_61 (dk_at dksX0_lastOf_0 5 rfl rfl)
theorem dX0_lastOf_6 : decode cX0_lastOf 6 = .ok (.aload_n 0, 1) := dk_42 (dk_at dksX0_lastOf_0 6 rfl rfl)
theorem dX0_lastOf_7 : decode cX0_lastOf 7 = .ok (.getfield 1, 3) := dk_180 0 1 (dk_at dksX0_lastOf_0 7 rfl rfl)
theorem dX0_lastOf_10 : decode cX0_lastOf 10 = .ok (.iload_n 2, 1) := dk_28 (dk_at dksX0_lastOf_0 10 rfl rfl)
theorem dX0_lastOf_11 : decode cX0_lastOf 11 = .ok (.iconst 1, 1) := dk_4 (dk_at dksX0_lastOf_0 11 rfl rfl)
theorem dX0_lastOf_12 : decode cX0_lastOf 12 = .ok (.isub, 1) := dk_100 (dk_at dksX0_lastOf_0 12 rfl rfl)
theorem dX0_lastOf_13 : decode cX0_lastOf 13 = .ok (.invokevirtual 42, 3) := dk_182 0 42 (dk_at dksX0_lastOf_0 13 rfl rfl)
theorem dX0_lastOf_16 : decode cX0_lastOf 16 = .ok (.ifCond .eq 8, 3) := dk_153 0 8 (dk_at dksX0_lastOf_0 16 rfl rfl)
theorem dX0_lastOf_19 : decode cX0_lastOf 19 = .ok (.bipush (-4), 2) := dk_16 252 (dk_at dksX0_lastOf_0 19 rfl rfl)
theorem dX0_lastOf_21 : decode cX0_lastOf 21 = .ok (.goto 14, 3) := dk_167 0 14 (dk_at dksX0_lastOf_0 21 rfl rfl)
theorem dX0_lastOf_24 : decode cX0_lastOf 24 = .ok (.aload_n 0, 1) := dk_42 (dk_at dksX0_lastOf_1 0 rfl rfl)
theorem dX0_lastOf_25 : decode cX0_lastOf 25 = .ok (.aload_n 0, 1) := dk_42 (dk_at dksX0_lastOf_1 1 rfl rfl)
theorem dX0_lastOf_26 : decode cX0_lastOf 26 = .ok (.iload_n 2, 1) := dk_28 (dk_at dksX0_lastOf_1 2 rfl rfl)
theorem dX0_lastOf_27 : decode cX0_lastOf 27 = .ok (.iconst 1, 1) := dk_4 (dk_at dksX0_lastOf_1 3 rfl rfl)
theorem dX0_lastOf_28 : decode cX0_lastOf 28 = .ok (.isub, 1) := dk_100 (dk_at dksX0_lastOf_1 4 rfl rfl)
theorem dX0_lastOf_29 : decode cX0_lastOf 29 = .ok (.invokevirtual 61, 3) := dk_182 0 61 (dk_at dksX0_lastOf_1 5 rfl rfl)
theorem dX0_lastOf_32 : decode cX0_lastOf 32 = .ok (.invokevirtual 179, 3) := dk_182 0 179 (dk_at dksX0_lastOf_1 8 rfl rfl)
theorem dX0_lastOf_35 : decode cX0_lastOf 35 = .ok (.ireturn, 1) := dk_172 (dk_at dksX0_lastOf_1 11 rfl rfl)
abbrev cX0_nextOf : ByteArray := prog_1_method_37_code
def yX0_nextOf : MethodName := ⟨RX0, "nextOf", "(I)I"⟩
def dkwX0_nextOf_1 : List UInt8 := [4, 96, 182, 0, 42, 153, 0, 13, 42, 28, 4, 96, 182, 0, 179, 167, 0, 5, 16, 252, 172]
abbrev dktX0_nextOf_1 : List UInt8 := dkwX0_nextOf_1 ++ []
def dkwX0_nextOf_0 : List UInt8 := [42, 27, 182, 0, 182, 61, 28, 4, 96, 42, 180, 0, 1, 180, 0, 7, 162, 0, 26, 42, 180, 0, 1, 28]
abbrev dktX0_nextOf_0 : List UInt8 := dkwX0_nextOf_0 ++ dktX0_nextOf_1
theorem dksX0_nextOf_0 : cX0_nextOf.data.toList.drop 0 = dktX0_nextOf_0 := by decide +kernel
theorem dksX0_nextOf_1 : cX0_nextOf.data.toList.drop 24 = dktX0_nextOf_1 := dk_seg dksX0_nextOf_0 24 rfl rfl
theorem dX0_nextOf_0 : decode cX0_nextOf 0 = .ok (.aload_n 0, 1) := dk_42 (dk_at dksX0_nextOf_0 0 rfl rfl)
theorem dX0_nextOf_1 : decode cX0_nextOf 1 = .ok (.iload_n 1, 1) := dk_27 (dk_at dksX0_nextOf_0 1 rfl rfl)
theorem dX0_nextOf_2 : decode cX0_nextOf 2 = .ok (.invokevirtual 182, 3) := dk_182 0 182 (dk_at dksX0_nextOf_0 2 rfl rfl)
theorem dX0_nextOf_5 : decode cX0_nextOf 5 = .ok (.istore_n 2, 1) := dk_61 (dk_at dksX0_nextOf_0 5 rfl rfl)
theorem dX0_nextOf_6 : decode cX0_nextOf 6 = .ok (.iload_n 2, 1) := dk_28 (dk_at dksX0_nextOf_0 6 rfl rfl)
theorem dX0_nextOf_7 : decode cX0_nextOf 7 = .ok (.iconst 1, 1) := dk_4 (dk_at dksX0_nextOf_0 7 rfl rfl)
theorem dX0_nextOf_8 : decode cX0_nextOf 8 = .ok (.iadd, 1) := dk_96 (dk_at dksX0_nextOf_0 8 rfl rfl)
theorem dX0_nextOf_9 : decode cX0_nextOf 9 = .ok (.aload_n 0, 1) := dk_42 (dk_at dksX0_nextOf_0 9 rfl rfl)
theorem dX0_nextOf_10 : decode cX0_nextOf 10 = .ok (.getfield 1, 3) := dk_180 0 1 (dk_at dksX0_nextOf_0 10 rfl rfl)
theorem dX0_nextOf_13 : decode cX0_nextOf 13 = .ok (.getfield 7, 3) := dk_180 0 7 (dk_at dksX0_nextOf_0 13 rfl rfl)
theorem dX0_nextOf_16 : decode cX0_nextOf 16 = .ok (.if_icmp .ge 26, 3) := dk_162 0 26 (dk_at dksX0_nextOf_0 16 rfl rfl)
theorem dX0_nextOf_19 : decode cX0_nextOf 19 = .ok (.aload_n 0, 1) := dk_42 (dk_at dksX0_nextOf_0 19 rfl rfl)
theorem dX0_nextOf_20 : decode cX0_nextOf 20 = .ok (.getfield 1, 3) := dk_180 0 1 (dk_at dksX0_nextOf_0 20 rfl rfl)
theorem dX0_nextOf_23 : decode cX0_nextOf 23 = .ok (.iload_n 2, 1) := dk_28 (dk_at dksX0_nextOf_0 23 rfl rfl)
theorem dX0_nextOf_24 : decode cX0_nextOf 24 = .ok (.iconst 1, 1) := dk_4 (dk_at dksX0_nextOf_1 0 rfl rfl)
theorem dX0_nextOf_25 : decode cX0_nextOf 25 = .ok (.iadd, 1) := dk_96 (dk_at dksX0_nextOf_1 1 rfl rfl)
theorem dX0_nextOf_26 : decode cX0_nextOf 26 = .ok (.invokevirtual 42, 3) := dk_182 0 42 (dk_at dksX0_nextOf_1 2 rfl rfl)
theorem dX0_nextOf_29 : decode cX0_nextOf 29 = .ok (.ifCond .eq 13, 3) := dk_153 0 13 (dk_at dksX0_nextOf_1 5 rfl rfl)
theorem dX0_nextOf_32 : decode cX0_nextOf 32 = .ok (.aload_n 0, 1) := dk_42 (dk_at dksX0_nextOf_1 8 rfl rfl)
theorem dX0_nextOf_33 : decode cX0_nextOf 33 = .ok (.iload_n 2, 1) := dk_28 (dk_at dksX0_nextOf_1 9 rfl rfl)
theorem dX0_nextOf_34 : decode cX0_nextOf 34 = .ok (.iconst 1, 1) := dk_4 (dk_at dksX0_nextOf_1 10 rfl rfl)
theorem dX0_nextOf_35 : decode cX0_nextOf 35 = .ok (.iadd, 1) := dk_96 (dk_at dksX0_nextOf_1 11 rfl rfl)
theorem dX0_nextOf_36 : decode cX0_nextOf 36 = .ok (.invokevirtual 179, 3) := dk_182 0 179 (dk_at dksX0_nextOf_1 12 rfl rfl)
theorem dX0_nextOf_39 : decode cX0_nextOf 39 = .ok (.goto 5, 3) := dk_167 0 5 (dk_at dksX0_nextOf_1 15 rfl rfl)
theorem dX0_nextOf_42 : decode cX0_nextOf 42 = .ok (.bipush (-4), 2) := dk_16 252 (dk_at dksX0_nextOf_1 18 rfl rfl)
theorem dX0_nextOf_44 : decode cX0_nextOf 44 = .ok (.ireturn, 1) := dk_172 (dk_at dksX0_nextOf_1 20 rfl rfl)
abbrev cX0_beforeOf : ByteArray := prog_1_method_38_code
def yX0_beforeOf : MethodName := ⟨RX0, "beforeOf", "(I)I"⟩
def dkwX0_beforeOf_1 : List UInt8 := [16, 252, 167, 0, 14, 42, 42, 28, 4, 100, 182, 0, 61, 182, 0, 179, 172]
abbrev dktX0_beforeOf_1 : List UInt8 := dkwX0_beforeOf_1 ++ []
def dkwX0_beforeOf_0 : List UInt8 := [42, 27, 182, 0, 58, 61, 28, 153, 0, 16, 42, 180, 0, 1, 28, 4, 100, 182, 0, 42, 153, 0, 8]
abbrev dktX0_beforeOf_0 : List UInt8 := dkwX0_beforeOf_0 ++ dktX0_beforeOf_1
theorem dksX0_beforeOf_0 : cX0_beforeOf.data.toList.drop 0 = dktX0_beforeOf_0 := by decide +kernel
theorem dksX0_beforeOf_1 : cX0_beforeOf.data.toList.drop 23 = dktX0_beforeOf_1 := dk_seg dksX0_beforeOf_0 23 rfl rfl
theorem dX0_beforeOf_0 : decode cX0_beforeOf 0 = .ok (.aload_n 0, 1) := dk_42 (dk_at dksX0_beforeOf_0 0 rfl rfl)
theorem dX0_beforeOf_1 : decode cX0_beforeOf 1 = .ok (.iload_n 1, 1) := dk_27 (dk_at dksX0_beforeOf_0 1 rfl rfl)
theorem dX0_beforeOf_2 : decode cX0_beforeOf 2 = .ok (.invokevirtual 58, 3) := dk_182 0 58 (dk_at dksX0_beforeOf_0 2 rfl rfl)
theorem dX0_beforeOf_5 : decode cX0_beforeOf 5 = .ok (.istore_n 2, 1) := dk_61 (dk_at dksX0_beforeOf_0 5 rfl rfl)
theorem dX0_beforeOf_6 : decode cX0_beforeOf 6 = .ok (.iload_n 2, 1) := dk_28 (dk_at dksX0_beforeOf_0 6 rfl rfl)
theorem dX0_beforeOf_7 : decode cX0_beforeOf 7 = .ok (.ifCond .eq 16, 3) := dk_153 0 16 (dk_at dksX0_beforeOf_0 7 rfl rfl)
theorem dX0_beforeOf_10 : decode cX0_beforeOf 10 = .ok (.aload_n 0, 1) := dk_42 (dk_at dksX0_beforeOf_0 10 rfl rfl)
theorem dX0_beforeOf_11 : decode cX0_beforeOf 11 = .ok (.getfield 1, 3) := dk_180 0 1 (dk_at dksX0_beforeOf_0 11 rfl rfl)
theorem dX0_beforeOf_14 : decode cX0_beforeOf 14 = .ok (.iload_n 2, 1) := dk_28 (dk_at dksX0_beforeOf_0 14 rfl rfl)
theorem dX0_beforeOf_15 : decode cX0_beforeOf 15 = .ok (.iconst 1, 1) := dk_4 (dk_at dksX0_beforeOf_0 15 rfl rfl)
theorem dX0_beforeOf_16 : decode cX0_beforeOf 16 = .ok (.isub, 1) := dk_100 (dk_at dksX0_beforeOf_0 16 rfl rfl)
theorem dX0_beforeOf_17 : decode cX0_beforeOf 17 = .ok (.invokevirtual 42, 3) := dk_182 0 42 (dk_at dksX0_beforeOf_0 17 rfl rfl)
theorem dX0_beforeOf_20 : decode cX0_beforeOf 20 = .ok (.ifCond .eq 8, 3) := dk_153 0 8 (dk_at dksX0_beforeOf_0 20 rfl rfl)
theorem dX0_beforeOf_23 : decode cX0_beforeOf 23 = .ok (.bipush (-4), 2) := dk_16 252 (dk_at dksX0_beforeOf_1 0 rfl rfl)
theorem dX0_beforeOf_25 : decode cX0_beforeOf 25 = .ok (.goto 14, 3) := dk_167 0 14 (dk_at dksX0_beforeOf_1 2 rfl rfl)
theorem dX0_beforeOf_28 : decode cX0_beforeOf 28 = .ok (.aload_n 0, 1) := dk_42 (dk_at dksX0_beforeOf_1 5 rfl rfl)
theorem dX0_beforeOf_29 : decode cX0_beforeOf 29 = .ok (.aload_n 0, 1) := dk_42 (dk_at dksX0_beforeOf_1 6 rfl rfl)
theorem dX0_beforeOf_30 : decode cX0_beforeOf 30 = .ok (.iload_n 2, 1) := dk_28 (dk_at dksX0_beforeOf_1 7 rfl rfl)
theorem dX0_beforeOf_31 : decode cX0_beforeOf 31 = .ok (.iconst 1, 1) := dk_4 (dk_at dksX0_beforeOf_1 8 rfl rfl)
theorem dX0_beforeOf_32 : decode cX0_beforeOf 32 = .ok (.isub, 1) := dk_100 (dk_at dksX0_beforeOf_1 9 rfl rfl)
theorem dX0_beforeOf_33 : decode cX0_beforeOf 33 = .ok (.invokevirtual 61, 3) := dk_182 0 61 (dk_at dksX0_beforeOf_1 10 rfl rfl)
theorem dX0_beforeOf_36 : decode cX0_beforeOf 36 = .ok (.invokevirtual 179, 3) := dk_182 0 179 (dk_at dksX0_beforeOf_1 13 rfl rfl)
theorem dX0_beforeOf_39 : decode cX0_beforeOf 39 = .ok (.ireturn, 1) := dk_172 (dk_at dksX0_beforeOf_1 16 rfl rfl)
abbrev cX0_childrenOf : ByteArray := prog_1_method_40_code
def yX0_childrenOf : MethodName := ⟨RX0, "childrenOf", "(I)I"⟩
def dkwX0_childrenOf_1 : List UInt8 := [167, 255, 241, 28, 172]
abbrev dktX0_childrenOf_1 : List UInt8 := dkwX0_childrenOf_1 ++ []
def dkwX0_childrenOf_0 : List UInt8 := [3, 61, 42, 27, 182, 0, 185, 62, 29, 16, 252, 159, 0, 15, 132, 2, 1, 42, 29, 182, 0, 188, 62]
abbrev dktX0_childrenOf_0 : List UInt8 := dkwX0_childrenOf_0 ++ dktX0_childrenOf_1
theorem dksX0_childrenOf_0 : cX0_childrenOf.data.toList.drop 0 = dktX0_childrenOf_0 := by decide +kernel
theorem dksX0_childrenOf_1 : cX0_childrenOf.data.toList.drop 23 = dktX0_childrenOf_1 := dk_seg dksX0_childrenOf_0 23 rfl rfl
theorem dX0_childrenOf_0 : decode cX0_childrenOf 0 = .ok (.iconst 0, 1) := dk_3 (dk_at dksX0_childrenOf_0 0 rfl rfl)
theorem dX0_childrenOf_1 : decode cX0_childrenOf 1 = .ok (.istore_n 2, 1) := dk_61 (dk_at dksX0_childrenOf_0 1 rfl rfl)
theorem dX0_childrenOf_2 : decode cX0_childrenOf 2 = .ok (.aload_n 0, 1) := dk_42 (dk_at dksX0_childrenOf_0 2 rfl rfl)
theorem dX0_childrenOf_3 : decode cX0_childrenOf 3 = .ok (.iload_n 1, 1) := dk_27 (dk_at dksX0_childrenOf_0 3 rfl rfl)
theorem dX0_childrenOf_4 : decode cX0_childrenOf 4 = .ok (.invokevirtual 185, 3) := dk_182 0 185 (dk_at dksX0_childrenOf_0 4 rfl rfl)
theorem dX0_childrenOf_7 : decode cX0_childrenOf 7 = .ok (.istore_n 3, 1) := dk_62 (dk_at dksX0_childrenOf_0 7 rfl rfl)
theorem dX0_childrenOf_8 : decode cX0_childrenOf 8 = .ok (.iload_n 3, 1) := dk_29 (dk_at dksX0_childrenOf_0 8 rfl rfl)
theorem dX0_childrenOf_9 : decode cX0_childrenOf 9 = .ok (.bipush (-4), 2) := dk_16 252 (dk_at dksX0_childrenOf_0 9 rfl rfl)
theorem dX0_childrenOf_11 : decode cX0_childrenOf 11 = .ok (.if_icmp .eq 15, 3) := dk_159 0 15 (dk_at dksX0_childrenOf_0 11 rfl rfl)
theorem dX0_childrenOf_14 : decode cX0_childrenOf 14 = .ok (.iinc 2 1, 3) := dk_132 2 1 (dk_at dksX0_childrenOf_0 14 rfl rfl)
theorem dX0_childrenOf_17 : decode cX0_childrenOf 17 = .ok (.aload_n 0, 1) := dk_42 (dk_at dksX0_childrenOf_0 17 rfl rfl)
theorem dX0_childrenOf_18 : decode cX0_childrenOf 18 = .ok (.iload_n 3, 1) := dk_29 (dk_at dksX0_childrenOf_0 18 rfl rfl)
theorem dX0_childrenOf_19 : decode cX0_childrenOf 19 = .ok (.invokevirtual 188, 3) := dk_182 0 188 (dk_at dksX0_childrenOf_0 19 rfl rfl)
theorem dX0_childrenOf_22 : decode cX0_childrenOf 22 = .ok (.istore_n 3, 1) := dk_62 (dk_at dksX0_childrenOf_0 22 rfl rfl)
theorem dX0_childrenOf_23 : decode cX0_childrenOf 23 = .ok (.goto (-15), 3) := dk_167 255 241 (dk_at dksX0_childrenOf_1 0 rfl rfl)
theorem dX0_childrenOf_26 : decode cX0_childrenOf 26 = .ok (.iload_n 2, 1) := dk_28 (dk_at dksX0_childrenOf_1 3 rfl rfl)
theorem dX0_childrenOf_27 : decode cX0_childrenOf 27 = .ok (.ireturn, 1) := dk_172 (dk_at dksX0_childrenOf_1 4 rfl rfl)
abbrev cX0_sizeOf : ByteArray := prog_1_method_42_code
def yX0_sizeOf : MethodName := ⟨RX0, "sizeOf", "(I)I"⟩
def dkwX0_sizeOf_0 : List UInt8 := [42, 27, 182, 0, 182, 42, 27, 182, 0, 58, 100, 4, 96, 5, 108, 172]
abbrev dktX0_sizeOf_0 : List UInt8 := dkwX0_sizeOf_0 ++ []
theorem dksX0_sizeOf_0 : cX0_sizeOf.data.toList.drop 0 = dktX0_sizeOf_0 := by decide +kernel
theorem dX0_sizeOf_0 : decode cX0_sizeOf 0 = .ok (.aload_n 0, 1) := dk_42 (dk_at dksX0_sizeOf_0 0 rfl rfl)
theorem dX0_sizeOf_1 : decode cX0_sizeOf 1 = .ok (.iload_n 1, 1) := dk_27 (dk_at dksX0_sizeOf_0 1 rfl rfl)
theorem dX0_sizeOf_2 : decode cX0_sizeOf 2 = .ok (.invokevirtual 182, 3) := dk_182 0 182 (dk_at dksX0_sizeOf_0 2 rfl rfl)
theorem dX0_sizeOf_5 : decode cX0_sizeOf 5 = .ok (.aload_n 0, 1) := dk_42 (dk_at dksX0_sizeOf_0 5 rfl rfl)
theorem dX0_sizeOf_6 : decode cX0_sizeOf 6 = .ok (.iload_n 1, 1) := dk_27 (dk_at dksX0_sizeOf_0 6 rfl rfl)
theorem dX0_sizeOf_7 : decode cX0_sizeOf 7 = .ok (.invokevirtual 58, 3) := dk_182 0 58 (dk_at dksX0_sizeOf_0 7 rfl rfl)
theorem dX0_sizeOf_10 : decode cX0_sizeOf 10 = .ok (.isub, 1) := dk_100 (dk_at dksX0_sizeOf_0 10 rfl rfl)
theorem dX0_sizeOf_11 : decode cX0_sizeOf 11 = .ok (.iconst 1, 1) := dk_4 (dk_at dksX0_sizeOf_0 11 rfl rfl)
theorem dX0_sizeOf_12 : decode cX0_sizeOf 12 = .ok (.iadd, 1) := dk_96 (dk_at dksX0_sizeOf_0 12 rfl rfl)
theorem dX0_sizeOf_13 : decode cX0_sizeOf 13 = .ok (.iconst 2, 1) := dk_5 (dk_at dksX0_sizeOf_0 13 rfl rfl)
theorem dX0_sizeOf_14 : decode cX0_sizeOf 14 = .ok (.idiv, 1) := dk_108 (dk_at dksX0_sizeOf_0 14 rfl rfl)
theorem dX0_sizeOf_15 : decode cX0_sizeOf 15 = .ok (.ireturn, 1) := dk_172 (dk_at dksX0_sizeOf_0 15 rfl rfl)
abbrev cX0_leavesOf : ByteArray := prog_1_method_43_code
def yX0_leavesOf : MethodName := ⟨RX0, "leavesOf", "(I)I"⟩
def dkwX0_leavesOf_0 : List UInt8 := [42, 42, 27, 182, 0, 182, 4, 96, 5, 182, 0, 156, 42, 42, 27, 182, 0, 58, 5, 182, 0, 156, 100, 172]
abbrev dktX0_leavesOf_0 : List UInt8 := dkwX0_leavesOf_0 ++ []
theorem dksX0_leavesOf_0 : cX0_leavesOf.data.toList.drop 0 = dktX0_leavesOf_0 := by decide +kernel
theorem dX0_leavesOf_0 : decode cX0_leavesOf 0 = .ok (.aload_n 0, 1) := dk_42 (dk_at dksX0_leavesOf_0 0 rfl rfl)
theorem dX0_leavesOf_1 : decode cX0_leavesOf 1 = .ok (.aload_n 0, 1) := dk_42 (dk_at dksX0_leavesOf_0 1 rfl rfl)
theorem dX0_leavesOf_2 : decode cX0_leavesOf 2 = .ok (.iload_n 1, 1) := dk_27 (dk_at dksX0_leavesOf_0 2 rfl rfl)
theorem dX0_leavesOf_3 : decode cX0_leavesOf 3 = .ok (.invokevirtual 182, 3) := dk_182 0 182 (dk_at dksX0_leavesOf_0 3 rfl rfl)
theorem dX0_leavesOf_6 : decode cX0_leavesOf 6 = .ok (.iconst 1, 1) := dk_4 (dk_at dksX0_leavesOf_0 6 rfl rfl)
theorem dX0_leavesOf_7 : decode cX0_leavesOf 7 = .ok (.iadd, 1) := dk_96 (dk_at dksX0_leavesOf_0 7 rfl rfl)
theorem dX0_leavesOf_8 : decode cX0_leavesOf 8 = .ok (.iconst 2, 1) := dk_5 (dk_at dksX0_leavesOf_0 8 rfl rfl)
theorem dX0_leavesOf_9 : decode cX0_leavesOf 9 = .ok (.invokevirtual 156, 3) := dk_182 0 156 (dk_at dksX0_leavesOf_0 9 rfl rfl)
theorem dX0_leavesOf_12 : decode cX0_leavesOf 12 = .ok (.aload_n 0, 1) := dk_42 (dk_at dksX0_leavesOf_0 12 rfl rfl)
theorem dX0_leavesOf_13 : decode cX0_leavesOf 13 = .ok (.aload_n 0, 1) := dk_42 (dk_at dksX0_leavesOf_0 13 rfl rfl)
theorem dX0_leavesOf_14 : decode cX0_leavesOf 14 = .ok (.iload_n 1, 1) := dk_27 (dk_at dksX0_leavesOf_0 14 rfl rfl)
theorem dX0_leavesOf_15 : decode cX0_leavesOf 15 = .ok (.invokevirtual 58, 3) := dk_182 0 58 (dk_at dksX0_leavesOf_0 15 rfl rfl)
theorem dX0_leavesOf_18 : decode cX0_leavesOf 18 = .ok (.iconst 2, 1) := dk_5 (dk_at dksX0_leavesOf_0 18 rfl rfl)
theorem dX0_leavesOf_19 : decode cX0_leavesOf 19 = .ok (.invokevirtual 156, 3) := dk_182 0 156 (dk_at dksX0_leavesOf_0 19 rfl rfl)
theorem dX0_leavesOf_22 : decode cX0_leavesOf 22 = .ok (.isub, 1) := dk_100 (dk_at dksX0_leavesOf_0 22 rfl rfl)
theorem dX0_leavesOf_23 : decode cX0_leavesOf 23 = .ok (.ireturn, 1) := dk_172 (dk_at dksX0_leavesOf_0 23 rfl rfl)
abbrev cX0_deeperOf : ByteArray := prog_1_method_44_code
def yX0_deeperOf : MethodName := ⟨RX0, "deeperOf", "(I)I"⟩
def dkwX0_deeperOf_1 : List UInt8 := [180, 0, 1, 28, 182, 0, 23, 100, 4, 100, 172]
abbrev dktX0_deeperOf_1 : List UInt8 := dkwX0_deeperOf_1 ++ []
def dkwX0_deeperOf_0 : List UInt8 := [42, 27, 182, 0, 58, 61, 42, 28, 4, 96, 42, 28, 182, 0, 61, 182, 0, 172, 42, 180, 0, 73, 42]
abbrev dktX0_deeperOf_0 : List UInt8 := dkwX0_deeperOf_0 ++ dktX0_deeperOf_1
theorem dksX0_deeperOf_0 : cX0_deeperOf.data.toList.drop 0 = dktX0_deeperOf_0 := by decide +kernel
theorem dksX0_deeperOf_1 : cX0_deeperOf.data.toList.drop 23 = dktX0_deeperOf_1 := dk_seg dksX0_deeperOf_0 23 rfl rfl
theorem dX0_deeperOf_0 : decode cX0_deeperOf 0 = .ok (.aload_n 0, 1) := dk_42 (dk_at dksX0_deeperOf_0 0 rfl rfl)
theorem dX0_deeperOf_1 : decode cX0_deeperOf 1 = .ok (.iload_n 1, 1) := dk_27 (dk_at dksX0_deeperOf_0 1 rfl rfl)
theorem dX0_deeperOf_2 : decode cX0_deeperOf 2 = .ok (.invokevirtual 58, 3) := dk_182 0 58 (dk_at dksX0_deeperOf_0 2 rfl rfl)
theorem dX0_deeperOf_5 : decode cX0_deeperOf 5 = .ok (.istore_n 2, 1) := dk_61 (dk_at dksX0_deeperOf_0 5 rfl rfl)
theorem dX0_deeperOf_6 : decode cX0_deeperOf 6 = .ok (.aload_n 0, 1) := dk_42 (dk_at dksX0_deeperOf_0 6 rfl rfl)
theorem dX0_deeperOf_7 : decode cX0_deeperOf 7 = .ok (.iload_n 2, 1) := dk_28 (dk_at dksX0_deeperOf_0 7 rfl rfl)
theorem dX0_deeperOf_8 : decode cX0_deeperOf 8 = .ok (.iconst 1, 1) := dk_4 (dk_at dksX0_deeperOf_0 8 rfl rfl)
theorem dX0_deeperOf_9 : decode cX0_deeperOf 9 = .ok (.iadd, 1) := dk_96 (dk_at dksX0_deeperOf_0 9 rfl rfl)
theorem dX0_deeperOf_10 : decode cX0_deeperOf 10 = .ok (.aload_n 0, 1) := dk_42 (dk_at dksX0_deeperOf_0 10 rfl rfl)
theorem dX0_deeperOf_11 : decode cX0_deeperOf 11 = .ok (.iload_n 2, 1) := dk_28 (dk_at dksX0_deeperOf_0 11 rfl rfl)
theorem dX0_deeperOf_12 : decode cX0_deeperOf 12 = .ok (.invokevirtual 61, 3) := dk_182 0 61 (dk_at dksX0_deeperOf_0 12 rfl rfl)
theorem dX0_deeperOf_15 : decode cX0_deeperOf 15 = .ok (.invokevirtual 172, 3) := dk_182 0 172 (dk_at dksX0_deeperOf_0 15 rfl rfl)
theorem dX0_deeperOf_18 : decode cX0_deeperOf 18 = .ok (.aload_n 0, 1) := dk_42 (dk_at dksX0_deeperOf_0 18 rfl rfl)
theorem dX0_deeperOf_19 : decode cX0_deeperOf 19 = .ok (.getfield 73, 3) := dk_180 0 73 (dk_at dksX0_deeperOf_0 19 rfl rfl)
theorem dX0_deeperOf_22 : decode cX0_deeperOf 22 = .ok (.aload_n 0, 1) := dk_42 (dk_at dksX0_deeperOf_0 22 rfl rfl)
theorem dX0_deeperOf_23 : decode cX0_deeperOf 23 = .ok (.getfield 1, 3) := dk_180 0 1 (dk_at dksX0_deeperOf_1 0 rfl rfl)
theorem dX0_deeperOf_26 : decode cX0_deeperOf 26 = .ok (.iload_n 2, 1) := dk_28 (dk_at dksX0_deeperOf_1 3 rfl rfl)
theorem dX0_deeperOf_27 : decode cX0_deeperOf 27 = .ok (.invokevirtual 23, 3) := dk_182 0 23 (dk_at dksX0_deeperOf_1 4 rfl rfl)
theorem dX0_deeperOf_30 : decode cX0_deeperOf 30 = .ok (.isub, 1) := dk_100 (dk_at dksX0_deeperOf_1 7 rfl rfl)
theorem dX0_deeperOf_31 : decode cX0_deeperOf 31 = .ok (.iconst 1, 1) := dk_4 (dk_at dksX0_deeperOf_1 8 rfl rfl)
theorem dX0_deeperOf_32 : decode cX0_deeperOf 32 = .ok (.isub, 1) := dk_100 (dk_at dksX0_deeperOf_1 9 rfl rfl)
theorem dX0_deeperOf_33 : decode cX0_deeperOf 33 = .ok (.ireturn, 1) := dk_172 (dk_at dksX0_deeperOf_1 10 rfl rfl)
abbrev cX0_whichOf : ByteArray := prog_1_method_41_code
def yX0_whichOf : MethodName := ⟨RX0, "whichOf", "(I)I"⟩
def dkwX0_whichOf_1 : List UInt8 := [167, 255, 241, 28, 172]
abbrev dktX0_whichOf_1 : List UInt8 := dkwX0_whichOf_1 ++ []
def dkwX0_whichOf_0 : List UInt8 := [3, 61, 42, 27, 182, 0, 191, 62, 29, 16, 252, 159, 0, 15, 132, 2, 1, 42, 29, 182, 0, 191, 62]
abbrev dktX0_whichOf_0 : List UInt8 := dkwX0_whichOf_0 ++ dktX0_whichOf_1
theorem dksX0_whichOf_0 : cX0_whichOf.data.toList.drop 0 = dktX0_whichOf_0 := by decide +kernel
theorem dksX0_whichOf_1 : cX0_whichOf.data.toList.drop 23 = dktX0_whichOf_1 := dk_seg dksX0_whichOf_0 23 rfl rfl
theorem dX0_whichOf_0 : decode cX0_whichOf 0 = .ok (.iconst 0, 1) := dk_3 (dk_at dksX0_whichOf_0 0 rfl rfl)
theorem dX0_whichOf_1 : decode cX0_whichOf 1 = .ok (.istore_n 2, 1) := dk_61 (dk_at dksX0_whichOf_0 1 rfl rfl)
theorem dX0_whichOf_2 : decode cX0_whichOf 2 = .ok (.aload_n 0, 1) := dk_42 (dk_at dksX0_whichOf_0 2 rfl rfl)
theorem dX0_whichOf_3 : decode cX0_whichOf 3 = .ok (.iload_n 1, 1) := dk_27 (dk_at dksX0_whichOf_0 3 rfl rfl)
theorem dX0_whichOf_4 : decode cX0_whichOf 4 = .ok (.invokevirtual 191, 3) := dk_182 0 191 (dk_at dksX0_whichOf_0 4 rfl rfl)
theorem dX0_whichOf_7 : decode cX0_whichOf 7 = .ok (.istore_n 3, 1) := dk_62 (dk_at dksX0_whichOf_0 7 rfl rfl)
theorem dX0_whichOf_8 : decode cX0_whichOf 8 = .ok (.iload_n 3, 1) := dk_29 (dk_at dksX0_whichOf_0 8 rfl rfl)
theorem dX0_whichOf_9 : decode cX0_whichOf 9 = .ok (.bipush (-4), 2) := dk_16 252 (dk_at dksX0_whichOf_0 9 rfl rfl)
theorem dX0_whichOf_11 : decode cX0_whichOf 11 = .ok (.if_icmp .eq 15, 3) := dk_159 0 15 (dk_at dksX0_whichOf_0 11 rfl rfl)
theorem dX0_whichOf_14 : decode cX0_whichOf 14 = .ok (.iinc 2 1, 3) := dk_132 2 1 (dk_at dksX0_whichOf_0 14 rfl rfl)
theorem dX0_whichOf_17 : decode cX0_whichOf 17 = .ok (.aload_n 0, 1) := dk_42 (dk_at dksX0_whichOf_0 17 rfl rfl)
theorem dX0_whichOf_18 : decode cX0_whichOf 18 = .ok (.iload_n 3, 1) := dk_29 (dk_at dksX0_whichOf_0 18 rfl rfl)
theorem dX0_whichOf_19 : decode cX0_whichOf 19 = .ok (.invokevirtual 191, 3) := dk_182 0 191 (dk_at dksX0_whichOf_0 19 rfl rfl)
theorem dX0_whichOf_22 : decode cX0_whichOf 22 = .ok (.istore_n 3, 1) := dk_62 (dk_at dksX0_whichOf_0 22 rfl rfl)
theorem dX0_whichOf_23 : decode cX0_whichOf 23 = .ok (.goto (-15), 3) := dk_167 255 241 (dk_at dksX0_whichOf_1 0 rfl rfl)
theorem dX0_whichOf_26 : decode cX0_whichOf 26 = .ok (.iload_n 2, 1) := dk_28 (dk_at dksX0_whichOf_1 3 rfl rfl)
theorem dX0_whichOf_27 : decode cX0_whichOf 27 = .ok (.ireturn, 1) := dk_172 (dk_at dksX0_whichOf_1 4 rfl rfl)
abbrev cX0_child : ByteArray := prog_1_method_46_code
def yX0_child : MethodName := ⟨RX0, "child", "(II)I"⟩
def dkwX0_child_0 : List UInt8 := [42, 27, 182, 0, 194, 153, 0, 16, 28, 155, 0, 12, 42, 27, 28, 182, 0, 221, 167, 0, 4, 2, 172]
abbrev dktX0_child_0 : List UInt8 := dkwX0_child_0 ++ []
theorem dksX0_child_0 : cX0_child.data.toList.drop 0 = dktX0_child_0 := by decide +kernel
theorem dX0_child_0 : decode cX0_child 0 = .ok (.aload_n 0, 1) := dk_42 (dk_at dksX0_child_0 0 rfl rfl)
theorem dX0_child_1 : decode cX0_child 1 = .ok (.iload_n 1, 1) := dk_27 (dk_at dksX0_child_0 1 rfl rfl)
theorem dX0_child_2 : decode cX0_child 2 = .ok (.invokevirtual 194, 3) := dk_182 0 194 (dk_at dksX0_child_0 2 rfl rfl)
theorem dX0_child_5 : decode cX0_child 5 = .ok (.ifCond .eq 16, 3) := dk_153 0 16 (dk_at dksX0_child_0 5 rfl rfl)
theorem dX0_child_8 : decode cX0_child 8 = .ok (.iload_n 2, 1) := dk_28 (dk_at dksX0_child_0 8 rfl rfl)
theorem dX0_child_9 : decode cX0_child 9 = .ok (.ifCond .lt 12, 3) := dk_155 0 12 (dk_at dksX0_child_0 9 rfl rfl)
theorem dX0_child_12 : decode cX0_child 12 = .ok (.aload_n 0, 1) := dk_42 (dk_at dksX0_child_0 12 rfl rfl)
theorem dX0_child_13 : decode cX0_child 13 = .ok (.iload_n 1, 1) := dk_27 (dk_at dksX0_child_0 13 rfl rfl)
theorem dX0_child_14 : decode cX0_child 14 = .ok (.iload_n 2, 1) := dk_28 (dk_at dksX0_child_0 14 rfl rfl)
theorem dX0_child_15 : decode cX0_child 15 = .ok (.invokevirtual 221, 3) := dk_182 0 221 (dk_at dksX0_child_0 15 rfl rfl)
theorem dX0_child_18 : decode cX0_child 18 = .ok (.goto 4, 3) := dk_167 0 4 (dk_at dksX0_child_0 18 rfl rfl)
theorem dX0_child_21 : decode cX0_child 21 = .ok (.iconst (-1), 1) := dk_2 (dk_at dksX0_child_0 21 rfl rfl)
theorem dX0_child_22 : decode cX0_child 22 = .ok (.ireturn, 1) := dk_172 (dk_at dksX0_child_0 22 rfl rfl)
abbrev cX0_childOf : ByteArray := prog_1_method_39_code
def yX0_childOf : MethodName := ⟨RX0, "childOf", "(II)I"⟩
def dkwX0_childOf_1 : List UInt8 := [182, 0, 188, 62, 132, 4, 1, 167, 255, 235, 29, 172]
abbrev dktX0_childOf_1 : List UInt8 := dkwX0_childOf_1 ++ []
def dkwX0_childOf_0 : List UInt8 := [42, 27, 182, 0, 185, 62, 3, 54, 4, 21, 4, 28, 162, 0, 21, 29, 16, 252, 159, 0, 15, 42, 29]
abbrev dktX0_childOf_0 : List UInt8 := dkwX0_childOf_0 ++ dktX0_childOf_1
theorem dksX0_childOf_0 : cX0_childOf.data.toList.drop 0 = dktX0_childOf_0 := by decide +kernel
theorem dksX0_childOf_1 : cX0_childOf.data.toList.drop 23 = dktX0_childOf_1 := dk_seg dksX0_childOf_0 23 rfl rfl
theorem dX0_childOf_0 : decode cX0_childOf 0 = .ok (.aload_n 0, 1) := dk_42 (dk_at dksX0_childOf_0 0 rfl rfl)
theorem dX0_childOf_1 : decode cX0_childOf 1 = .ok (.iload_n 1, 1) := dk_27 (dk_at dksX0_childOf_0 1 rfl rfl)
theorem dX0_childOf_2 : decode cX0_childOf 2 = .ok (.invokevirtual 185, 3) := dk_182 0 185 (dk_at dksX0_childOf_0 2 rfl rfl)
theorem dX0_childOf_5 : decode cX0_childOf 5 = .ok (.istore_n 3, 1) := dk_62 (dk_at dksX0_childOf_0 5 rfl rfl)
theorem dX0_childOf_6 : decode cX0_childOf 6 = .ok (.iconst 0, 1) := dk_3 (dk_at dksX0_childOf_0 6 rfl rfl)
theorem dX0_childOf_7 : decode cX0_childOf 7 = .ok (.istore 4, 2) := dk_54 4 (dk_at dksX0_childOf_0 7 rfl rfl)
theorem dX0_childOf_9 : decode cX0_childOf 9 = .ok (.iload 4, 2) := dk_21 4 (dk_at dksX0_childOf_0 9 rfl rfl)
theorem dX0_childOf_11 : decode cX0_childOf 11 = .ok (.iload_n 2, 1) := dk_28 (dk_at dksX0_childOf_0 11 rfl rfl)
theorem dX0_childOf_12 : decode cX0_childOf 12 = .ok (.if_icmp .ge 21, 3) := dk_162 0 21 (dk_at dksX0_childOf_0 12 rfl rfl)
theorem dX0_childOf_15 : decode cX0_childOf 15 = .ok (.iload_n 3, 1) := dk_29 (dk_at dksX0_childOf_0 15 rfl rfl)
theorem dX0_childOf_16 : decode cX0_childOf 16 = .ok (.bipush (-4), 2) := dk_16 252 (dk_at dksX0_childOf_0 16 rfl rfl)
theorem dX0_childOf_18 : decode cX0_childOf 18 = .ok (.if_icmp .eq 15, 3) := dk_159 0 15 (dk_at dksX0_childOf_0 18 rfl rfl)
theorem dX0_childOf_21 : decode cX0_childOf 21 = .ok (.aload_n 0, 1) := dk_42 (dk_at dksX0_childOf_0 21 rfl rfl)
theorem dX0_childOf_22 : decode cX0_childOf 22 = .ok (.iload_n 3, 1) := dk_29 (dk_at dksX0_childOf_0 22 rfl rfl)
theorem dX0_childOf_23 : decode cX0_childOf 23 = .ok (.invokevirtual 188, 3) := dk_182 0 188 (dk_at dksX0_childOf_1 0 rfl rfl)
theorem dX0_childOf_26 : decode cX0_childOf 26 = .ok (.istore_n 3, 1) := dk_62 (dk_at dksX0_childOf_1 3 rfl rfl)
theorem dX0_childOf_27 : decode cX0_childOf 27 = .ok (.iinc 4 1, 3) := dk_132 4 1 (dk_at dksX0_childOf_1 4 rfl rfl)
theorem dX0_childOf_30 : decode cX0_childOf 30 = .ok (.goto (-21), 3) := dk_167 255 235 (dk_at dksX0_childOf_1 7 rfl rfl)
theorem dX0_childOf_33 : decode cX0_childOf 33 = .ok (.iload_n 3, 1) := dk_29 (dk_at dksX0_childOf_1 10 rfl rfl)
theorem dX0_childOf_34 : decode cX0_childOf 34 = .ok (.ireturn, 1) := dk_172 (dk_at dksX0_childOf_1 11 rfl rfl)
abbrev cX0_below : ByteArray := prog_1_method_47_code
def yX0_below : MethodName := ⟨RX0, "below", "(I)I"⟩
def dkwX0_below_1 : List UInt8 := [167, 0, 4, 2, 172]
abbrev dktX0_below_1 : List UInt8 := dkwX0_below_1 ++ []
def dkwX0_below_0 : List UInt8 := [42, 27, 182, 0, 194, 153, 0, 20, 42, 42, 42, 27, 4, 182, 0, 55, 182, 0, 61, 182, 0, 179]
abbrev dktX0_below_0 : List UInt8 := dkwX0_below_0 ++ dktX0_below_1
theorem dksX0_below_0 : cX0_below.data.toList.drop 0 = dktX0_below_0 := by decide +kernel
theorem dksX0_below_1 : cX0_below.data.toList.drop 22 = dktX0_below_1 := dk_seg dksX0_below_0 22 rfl rfl
theorem dX0_below_0 : decode cX0_below 0 = .ok (.aload_n 0, 1) := dk_42 (dk_at dksX0_below_0 0 rfl rfl)
theorem dX0_below_1 : decode cX0_below 1 = .ok (.iload_n 1, 1) := dk_27 (dk_at dksX0_below_0 1 rfl rfl)
theorem dX0_below_2 : decode cX0_below 2 = .ok (.invokevirtual 194, 3) := dk_182 0 194 (dk_at dksX0_below_0 2 rfl rfl)
theorem dX0_below_5 : decode cX0_below 5 = .ok (.ifCond .eq 20, 3) := dk_153 0 20 (dk_at dksX0_below_0 5 rfl rfl)
theorem dX0_below_8 : decode cX0_below 8 = .ok (.aload_n 0, 1) := dk_42 (dk_at dksX0_below_0 8 rfl rfl)
theorem dX0_below_9 : decode cX0_below 9 = .ok (.aload_n 0, 1) := dk_42 (dk_at dksX0_below_0 9 rfl rfl)
theorem dX0_below_10 : decode cX0_below 10 = .ok (.aload_n 0, 1) := dk_42 (dk_at dksX0_below_0 10 rfl rfl)
theorem dX0_below_11 : decode cX0_below 11 = .ok (.iload_n 1, 1) := dk_27 (dk_at dksX0_below_0 11 rfl rfl)
theorem dX0_below_12 : decode cX0_below 12 = .ok (.iconst 1, 1) := dk_4 (dk_at dksX0_below_0 12 rfl rfl)
theorem dX0_below_13 : decode cX0_below 13 = .ok (.invokevirtual 55, 3) := dk_182 0 55 (dk_at dksX0_below_0 13 rfl rfl)
theorem dX0_below_16 : decode cX0_below 16 = .ok (.invokevirtual 61, 3) := dk_182 0 61 (dk_at dksX0_below_0 16 rfl rfl)
theorem dX0_below_19 : decode cX0_below 19 = .ok (.invokevirtual 179, 3) := dk_182 0 179 (dk_at dksX0_below_0 19 rfl rfl)
theorem dX0_below_22 : decode cX0_below 22 = .ok (.goto 4, 3) := dk_167 0 4 (dk_at dksX0_below_1 0 rfl rfl)
theorem dX0_below_25 : decode cX0_below 25 = .ok (.iconst (-1), 1) := dk_2 (dk_at dksX0_below_1 3 rfl rfl)
theorem dX0_below_26 : decode cX0_below 26 = .ok (.ireturn, 1) := dk_172 (dk_at dksX0_below_1 4 rfl rfl)
abbrev cX0_up : ByteArray := prog_1_method_48_code
def yX0_up : MethodName := ⟨RX0, "up", "(II)I"⟩
def dkwX0_up_2 : List UInt8 := [167, 0, 16, 42, 42, 29, 21, 4, 28, 100, 182, 0, 49, 182, 0, 179, 172]
abbrev dktX0_up_2 : List UInt8 := dkwX0_up_2 ++ []
def dkwX0_up_1 : List UInt8 := [29, 182, 0, 23, 54, 4, 28, 154, 0, 7, 27, 167, 0, 27, 28, 21, 4, 164, 0, 8, 16, 252]
abbrev dktX0_up_1 : List UInt8 := dkwX0_up_1 ++ dktX0_up_2
def dkwX0_up_0 : List UInt8 := [42, 27, 182, 0, 194, 153, 0, 7, 28, 156, 0, 5, 2, 172, 42, 27, 182, 0, 58, 62, 42, 180, 0, 1]
abbrev dktX0_up_0 : List UInt8 := dkwX0_up_0 ++ dktX0_up_1
theorem dksX0_up_0 : cX0_up.data.toList.drop 0 = dktX0_up_0 := by decide +kernel
theorem dksX0_up_1 : cX0_up.data.toList.drop 24 = dktX0_up_1 := dk_seg dksX0_up_0 24 rfl rfl
theorem dksX0_up_2 : cX0_up.data.toList.drop 46 = dktX0_up_2 := dk_seg dksX0_up_1 22 rfl rfl
theorem dX0_up_0 : decode cX0_up 0 = .ok (.aload_n 0, 1) := dk_42 (dk_at dksX0_up_0 0 rfl rfl)
theorem dX0_up_1 : decode cX0_up 1 = .ok (.iload_n 1, 1) := dk_27 (dk_at dksX0_up_0 1 rfl rfl)
theorem dX0_up_2 : decode cX0_up 2 = .ok (.invokevirtual 194, 3) := dk_182 0 194 (dk_at dksX0_up_0 2 rfl rfl)
theorem dX0_up_5 : decode cX0_up 5 = .ok (.ifCond .eq 7, 3) := dk_153 0 7 (dk_at dksX0_up_0 5 rfl rfl)
theorem dX0_up_8 : decode cX0_up 8 = .ok (.iload_n 2, 1) := dk_28 (dk_at dksX0_up_0 8 rfl rfl)
theorem dX0_up_9 : decode cX0_up 9 = .ok (.ifCond .ge 5, 3) := dk_156 0 5 (dk_at dksX0_up_0 9 rfl rfl)
theorem dX0_up_12 : decode cX0_up 12 = .ok (.iconst (-1), 1) := dk_2 (dk_at dksX0_up_0 12 rfl rfl)
theorem dX0_up_13 : decode cX0_up 13 = .ok (.ireturn, 1) := dk_172 (dk_at dksX0_up_0 13 rfl rfl)
theorem dX0_up_14 : decode cX0_up 14 = .ok (.aload_n 0, 1) := dk_42 (dk_at dksX0_up_0 14 rfl rfl)
theorem dX0_up_15 : decode cX0_up 15 = .ok (.iload_n 1, 1) := dk_27 (dk_at dksX0_up_0 15 rfl rfl)
theorem dX0_up_16 : decode cX0_up 16 = .ok (.invokevirtual 58, 3) := dk_182 0 58 (dk_at dksX0_up_0 16 rfl rfl)
theorem dX0_up_19 : decode cX0_up 19 = .ok (.istore_n 3, 1) := dk_62 (dk_at dksX0_up_0 19 rfl rfl)
theorem dX0_up_20 : decode cX0_up 20 = .ok (.aload_n 0, 1) := dk_42 (dk_at dksX0_up_0 20 rfl rfl)
theorem dX0_up_21 : decode cX0_up 21 = .ok (.getfield 1, 3) := dk_180 0 1 (dk_at dksX0_up_0 21 rfl rfl)
theorem dX0_up_24 : decode cX0_up 24 = .ok (.iload_n 3, 1) := dk_29 (dk_at dksX0_up_1 0 rfl rfl)
theorem dX0_up_25 : decode cX0_up 25 = .ok (.invokevirtual 23, 3) := dk_182 0 23 (dk_at dksX0_up_1 1 rfl rfl)
theorem dX0_up_28 : decode cX0_up 28 = .ok (.istore 4, 2) := dk_54 4 (dk_at dksX0_up_1 4 rfl rfl)
theorem dX0_up_30 : decode cX0_up 30 = .ok (.iload_n 2, 1) := dk_28 (dk_at dksX0_up_1 6 rfl rfl)
theorem dX0_up_31 : decode cX0_up 31 = .ok (.ifCond .ne 7, 3) := dk_154 0 7 (dk_at dksX0_up_1 7 rfl rfl)
theorem dX0_up_34 : decode cX0_up 34 = .ok (.iload_n 1, 1) := dk_27 (dk_at dksX0_up_1 10 rfl rfl)
theorem dX0_up_35 : decode cX0_up 35 = .ok (.goto 27, 3) := dk_167 0 27 (dk_at dksX0_up_1 11 rfl rfl)
theorem dX0_up_38 : decode cX0_up 38 = .ok (.iload_n 2, 1) := dk_28 (dk_at dksX0_up_1 14 rfl rfl)
theorem dX0_up_39 : decode cX0_up 39 = .ok (.iload 4, 2) := dk_21 4 (dk_at dksX0_up_1 15 rfl rfl)
theorem dX0_up_41 : decode cX0_up 41 = .ok (.if_icmp .le 8, 3) := dk_164 0 8 (dk_at dksX0_up_1 17 rfl rfl)
theorem dX0_up_44 : decode cX0_up 44 = .ok (.bipush (-4), 2) := dk_16 252 (dk_at dksX0_up_1 20 rfl rfl)
theorem dX0_up_46 : decode cX0_up 46 = .ok (.goto 16, 3) := dk_167 0 16 (dk_at dksX0_up_2 0 rfl rfl)
theorem dX0_up_49 : decode cX0_up 49 = .ok (.aload_n 0, 1) := dk_42 (dk_at dksX0_up_2 3 rfl rfl)
theorem dX0_up_50 : decode cX0_up 50 = .ok (.aload_n 0, 1) := dk_42 (dk_at dksX0_up_2 4 rfl rfl)
theorem dX0_up_51 : decode cX0_up 51 = .ok (.iload_n 3, 1) := dk_29 (dk_at dksX0_up_2 5 rfl rfl)
theorem dX0_up_52 : decode cX0_up 52 = .ok (.iload 4, 2) := dk_21 4 (dk_at dksX0_up_2 6 rfl rfl)
theorem dX0_up_54 : decode cX0_up 54 = .ok (.iload_n 2, 1) := dk_28 (dk_at dksX0_up_2 8 rfl rfl)
theorem dX0_up_55 : decode cX0_up 55 = .ok (.isub, 1) := dk_100 (dk_at dksX0_up_2 9 rfl rfl)
theorem dX0_up_56 : decode cX0_up 56 = .ok (.invokevirtual 49, 3) := dk_182 0 49 (dk_at dksX0_up_2 10 rfl rfl)
theorem dX0_up_59 : decode cX0_up 59 = .ok (.invokevirtual 179, 3) := dk_182 0 179 (dk_at dksX0_up_2 13 rfl rfl)
theorem dX0_up_62 : decode cX0_up 62 = .ok (.ireturn, 1) := dk_172 (dk_at dksX0_up_2 16 rfl rfl)
abbrev cX0_meet : ByteArray := prog_1_method_51_code
def yX0_meet : MethodName := ⟨RX0, "meet", "(II)I"⟩
def dkwX0_meet_1 : List UInt8 := [167, 0, 4, 2, 172]
abbrev dktX0_meet_1 : List UInt8 := dkwX0_meet_1 ++ []
def dkwX0_meet_0 : List UInt8 := [42, 27, 182, 0, 194, 153, 0, 20, 42, 28, 182, 0, 194, 153, 0, 12, 42, 27, 28, 182, 0, 228]
abbrev dktX0_meet_0 : List UInt8 := dkwX0_meet_0 ++ dktX0_meet_1
theorem dksX0_meet_0 : cX0_meet.data.toList.drop 0 = dktX0_meet_0 := by decide +kernel
theorem dksX0_meet_1 : cX0_meet.data.toList.drop 22 = dktX0_meet_1 := dk_seg dksX0_meet_0 22 rfl rfl
theorem dX0_meet_0 : decode cX0_meet 0 = .ok (.aload_n 0, 1) := dk_42 (dk_at dksX0_meet_0 0 rfl rfl)
theorem dX0_meet_1 : decode cX0_meet 1 = .ok (.iload_n 1, 1) := dk_27 (dk_at dksX0_meet_0 1 rfl rfl)
theorem dX0_meet_2 : decode cX0_meet 2 = .ok (.invokevirtual 194, 3) := dk_182 0 194 (dk_at dksX0_meet_0 2 rfl rfl)
theorem dX0_meet_5 : decode cX0_meet 5 = .ok (.ifCond .eq 20, 3) := dk_153 0 20 (dk_at dksX0_meet_0 5 rfl rfl)
theorem dX0_meet_8 : decode cX0_meet 8 = .ok (.aload_n 0, 1) := dk_42 (dk_at dksX0_meet_0 8 rfl rfl)
theorem dX0_meet_9 : decode cX0_meet 9 = .ok (.iload_n 2, 1) := dk_28 (dk_at dksX0_meet_0 9 rfl rfl)
theorem dX0_meet_10 : decode cX0_meet 10 = .ok (.invokevirtual 194, 3) := dk_182 0 194 (dk_at dksX0_meet_0 10 rfl rfl)
theorem dX0_meet_13 : decode cX0_meet 13 = .ok (.ifCond .eq 12, 3) := dk_153 0 12 (dk_at dksX0_meet_0 13 rfl rfl)
theorem dX0_meet_16 : decode cX0_meet 16 = .ok (.aload_n 0, 1) := dk_42 (dk_at dksX0_meet_0 16 rfl rfl)
theorem dX0_meet_17 : decode cX0_meet 17 = .ok (.iload_n 1, 1) := dk_27 (dk_at dksX0_meet_0 17 rfl rfl)
theorem dX0_meet_18 : decode cX0_meet 18 = .ok (.iload_n 2, 1) := dk_28 (dk_at dksX0_meet_0 18 rfl rfl)
theorem dX0_meet_19 : decode cX0_meet 19 = .ok (.invokevirtual 228, 3) := dk_182 0 228 (dk_at dksX0_meet_0 19 rfl rfl)
theorem dX0_meet_22 : decode cX0_meet 22 = .ok (.goto 4, 3) := dk_167 0 4 (dk_at dksX0_meet_1 0 rfl rfl)
theorem dX0_meet_25 : decode cX0_meet 25 = .ok (.iconst (-1), 1) := dk_2 (dk_at dksX0_meet_1 3 rfl rfl)
theorem dX0_meet_26 : decode cX0_meet 26 = .ok (.ireturn, 1) := dk_172 (dk_at dksX0_meet_1 4 rfl rfl)
abbrev cX0_metOf : ByteArray := prog_1_method_50_code
def yX0_metOf : MethodName := ⟨RX0, "metOf", "(II)I"⟩
def dkwX0_metOf_2 : List UInt8 := [42, 180, 0, 64, 4, 100, 182, 0, 49, 182, 0, 179, 172]
abbrev dktX0_metOf_2 : List UInt8 := dkwX0_metOf_2 ++ []
def dkwX0_metOf_1 : List UInt8 := [172, 42, 29, 182, 0, 58, 54, 5, 42, 21, 5, 42, 21, 4, 182, 0, 58, 182, 0, 172, 42, 42, 21, 5]
abbrev dktX0_metOf_1 : List UInt8 := dkwX0_metOf_1 ++ dktX0_metOf_2
def dkwX0_metOf_0 : List UInt8 := [27, 28, 184, 0, 13, 62, 27, 28, 184, 0, 79, 54, 4, 42, 29, 21, 4, 182, 0, 224, 153, 0, 5, 29]
abbrev dktX0_metOf_0 : List UInt8 := dkwX0_metOf_0 ++ dktX0_metOf_1
theorem dksX0_metOf_0 : cX0_metOf.data.toList.drop 0 = dktX0_metOf_0 := by decide +kernel
theorem dksX0_metOf_1 : cX0_metOf.data.toList.drop 24 = dktX0_metOf_1 := dk_seg dksX0_metOf_0 24 rfl rfl
theorem dksX0_metOf_2 : cX0_metOf.data.toList.drop 48 = dktX0_metOf_2 := dk_seg dksX0_metOf_1 24 rfl rfl
theorem dX0_metOf_0 : decode cX0_metOf 0 = .ok (.iload_n 1, 1) := dk_27 (dk_at dksX0_metOf_0 0 rfl rfl)
theorem dX0_metOf_1 : decode cX0_metOf 1 = .ok (.iload_n 2, 1) := dk_28 (dk_at dksX0_metOf_0 1 rfl rfl)
theorem dX0_metOf_2 : decode cX0_metOf 2 = .ok (.invokestatic 13, 3) := dk_184 0 13 (dk_at dksX0_metOf_0 2 rfl rfl)
theorem dX0_metOf_5 : decode cX0_metOf 5 = .ok (.istore_n 3, 1) := dk_62 (dk_at dksX0_metOf_0 5 rfl rfl)
theorem dX0_metOf_6 : decode cX0_metOf 6 = .ok (.iload_n 1, 1) := dk_27 (dk_at dksX0_metOf_0 6 rfl rfl)
theorem dX0_metOf_7 : decode cX0_metOf 7 = .ok (.iload_n 2, 1) := dk_28 (dk_at dksX0_metOf_0 7 rfl rfl)
theorem dX0_metOf_8 : decode cX0_metOf 8 = .ok (.invokestatic 79, 3) := dk_184 0 79 (dk_at dksX0_metOf_0 8 rfl rfl)
theorem dX0_metOf_11 : decode cX0_metOf 11 = .ok (.istore 4, 2) := dk_54 4 (dk_at dksX0_metOf_0 11 rfl rfl)
theorem dX0_metOf_13 : decode cX0_metOf 13 = .ok (.aload_n 0, 1) := dk_42 (dk_at dksX0_metOf_0 13 rfl rfl)
theorem dX0_metOf_14 : decode cX0_metOf 14 = .ok (.iload_n 3, 1) := dk_29 (dk_at dksX0_metOf_0 14 rfl rfl)
theorem dX0_metOf_15 : decode cX0_metOf 15 = .ok (.iload 4, 2) := dk_21 4 (dk_at dksX0_metOf_0 15 rfl rfl)
theorem dX0_metOf_17 : decode cX0_metOf 17 = .ok (.invokevirtual 224, 3) := dk_182 0 224 (dk_at dksX0_metOf_0 17 rfl rfl)
theorem dX0_metOf_20 : decode cX0_metOf 20 = .ok (.ifCond .eq 5, 3) := dk_153 0 5 (dk_at dksX0_metOf_0 20 rfl rfl)
theorem dX0_metOf_23 : decode cX0_metOf 23 = .ok (.iload_n 3, 1) := dk_29 (dk_at dksX0_metOf_0 23 rfl rfl)
theorem dX0_metOf_24 : decode cX0_metOf 24 = .ok (.ireturn, 1) := dk_172 (dk_at dksX0_metOf_1 0 rfl rfl)
theorem dX0_metOf_25 : decode cX0_metOf 25 = .ok (.aload_n 0, 1) := dk_42 (dk_at dksX0_metOf_1 1 rfl rfl)
theorem dX0_metOf_26 : decode cX0_metOf 26 = .ok (.iload_n 3, 1) := dk_29 (dk_at dksX0_metOf_1 2 rfl rfl)
theorem dX0_metOf_27 : decode cX0_metOf 27 = .ok (.invokevirtual 58, 3) := dk_182 0 58 (dk_at dksX0_metOf_1 3 rfl rfl)
theorem dX0_metOf_30 : decode cX0_metOf 30 = .ok (.istore 5, 2) := dk_54 5 (dk_at dksX0_metOf_1 6 rfl rfl)
theorem dX0_metOf_32 : decode cX0_metOf 32 = .ok (.aload_n 0, 1) := dk_42 (dk_at dksX0_metOf_1 8 rfl rfl)
theorem dX0_metOf_33 : decode cX0_metOf 33 = .ok (.iload 5, 2) := dk_21 5 (dk_at dksX0_metOf_1 9 rfl rfl)
theorem dX0_metOf_35 : decode cX0_metOf 35 = .ok (.aload_n 0, 1) := dk_42 (dk_at dksX0_metOf_1 11 rfl rfl)
theorem dX0_metOf_36 : decode cX0_metOf 36 = .ok (.iload 4, 2) := dk_21 4 (dk_at dksX0_metOf_1 12 rfl rfl)
theorem dX0_metOf_38 : decode cX0_metOf 38 = .ok (.invokevirtual 58, 3) := dk_182 0 58 (dk_at dksX0_metOf_1 14 rfl rfl)
theorem dX0_metOf_41 : decode cX0_metOf 41 = .ok (.invokevirtual 172, 3) := dk_182 0 172 (dk_at dksX0_metOf_1 17 rfl rfl)
theorem dX0_metOf_44 : decode cX0_metOf 44 = .ok (.aload_n 0, 1) := dk_42 (dk_at dksX0_metOf_1 20 rfl rfl)
theorem dX0_metOf_45 : decode cX0_metOf 45 = .ok (.aload_n 0, 1) := dk_42 (dk_at dksX0_metOf_1 21 rfl rfl)
theorem dX0_metOf_46 : decode cX0_metOf 46 = .ok (.iload 5, 2) := dk_21 5 (dk_at dksX0_metOf_1 22 rfl rfl)
theorem dX0_metOf_48 : decode cX0_metOf 48 = .ok (.aload_n 0, 1) := dk_42 (dk_at dksX0_metOf_2 0 rfl rfl)
theorem dX0_metOf_49 : decode cX0_metOf 49 = .ok (.getfield 64, 3) := dk_180 0 64 (dk_at dksX0_metOf_2 1 rfl rfl)
theorem dX0_metOf_52 : decode cX0_metOf 52 = .ok (.iconst 1, 1) := dk_4 (dk_at dksX0_metOf_2 4 rfl rfl)
theorem dX0_metOf_53 : decode cX0_metOf 53 = .ok (.isub, 1) := dk_100 (dk_at dksX0_metOf_2 5 rfl rfl)
theorem dX0_metOf_54 : decode cX0_metOf 54 = .ok (.invokevirtual 49, 3) := dk_182 0 49 (dk_at dksX0_metOf_2 6 rfl rfl)
theorem dX0_metOf_57 : decode cX0_metOf 57 = .ok (.invokevirtual 179, 3) := dk_182 0 179 (dk_at dksX0_metOf_2 9 rfl rfl)
theorem dX0_metOf_60 : decode cX0_metOf 60 = .ok (.ireturn, 1) := dk_172 (dk_at dksX0_metOf_2 12 rfl rfl)
abbrev cX0_isAbove : ByteArray := prog_1_method_49_code
def yX0_isAbove : MethodName := ⟨RX0, "isAbove", "(II)Z"⟩
def dkwX0_isAbove_1 : List UInt8 := [4, 167, 0, 4, 3, 172]
abbrev dktX0_isAbove_1 : List UInt8 := dkwX0_isAbove_1 ++ []
def dkwX0_isAbove_0 : List UInt8 := [42, 28, 182, 0, 58, 62, 42, 27, 182, 0, 58, 29, 163, 0, 16, 29, 42, 27, 182, 0, 182, 163, 0, 7]
abbrev dktX0_isAbove_0 : List UInt8 := dkwX0_isAbove_0 ++ dktX0_isAbove_1
theorem dksX0_isAbove_0 : cX0_isAbove.data.toList.drop 0 = dktX0_isAbove_0 := by decide +kernel
theorem dksX0_isAbove_1 : cX0_isAbove.data.toList.drop 24 = dktX0_isAbove_1 := dk_seg dksX0_isAbove_0 24 rfl rfl
theorem dX0_isAbove_0 : decode cX0_isAbove 0 = .ok (.aload_n 0, 1) := dk_42 (dk_at dksX0_isAbove_0 0 rfl rfl)
theorem dX0_isAbove_1 : decode cX0_isAbove 1 = .ok (.iload_n 2, 1) := dk_28 (dk_at dksX0_isAbove_0 1 rfl rfl)
theorem dX0_isAbove_2 : decode cX0_isAbove 2 = .ok (.invokevirtual 58, 3) := dk_182 0 58 (dk_at dksX0_isAbove_0 2 rfl rfl)
theorem dX0_isAbove_5 : decode cX0_isAbove 5 = .ok (.istore_n 3, 1) := dk_62 (dk_at dksX0_isAbove_0 5 rfl rfl)
theorem dX0_isAbove_6 : decode cX0_isAbove 6 = .ok (.aload_n 0, 1) := dk_42 (dk_at dksX0_isAbove_0 6 rfl rfl)
theorem dX0_isAbove_7 : decode cX0_isAbove 7 = .ok (.iload_n 1, 1) := dk_27 (dk_at dksX0_isAbove_0 7 rfl rfl)
theorem dX0_isAbove_8 : decode cX0_isAbove 8 = .ok (.invokevirtual 58, 3) := dk_182 0 58 (dk_at dksX0_isAbove_0 8 rfl rfl)
theorem dX0_isAbove_11 : decode cX0_isAbove 11 = .ok (.iload_n 3, 1) := dk_29 (dk_at dksX0_isAbove_0 11 rfl rfl)
theorem dX0_isAbove_12 : decode cX0_isAbove 12 = .ok (.if_icmp .gt 16, 3) := dk_163 0 16 (dk_at dksX0_isAbove_0 12 rfl rfl)
theorem dX0_isAbove_15 : decode cX0_isAbove 15 = .ok (.iload_n 3, 1) := dk_29 (dk_at dksX0_isAbove_0 15 rfl rfl)
theorem dX0_isAbove_16 : decode cX0_isAbove 16 = .ok (.aload_n 0, 1) := dk_42 (dk_at dksX0_isAbove_0 16 rfl rfl)
theorem dX0_isAbove_17 : decode cX0_isAbove 17 = .ok (.iload_n 1, 1) := dk_27 (dk_at dksX0_isAbove_0 17 rfl rfl)
theorem dX0_isAbove_18 : decode cX0_isAbove 18 = .ok (.invokevirtual 182, 3) := dk_182 0 182 (dk_at dksX0_isAbove_0 18 rfl rfl)
theorem dX0_isAbove_21 : decode cX0_isAbove 21 = .ok (.if_icmp .gt 7, 3) := dk_163 0 7 (dk_at dksX0_isAbove_0 21 rfl rfl)
theorem dX0_isAbove_24 : decode cX0_isAbove 24 = .ok (.iconst 1, 1) := dk_4 (dk_at dksX0_isAbove_1 0 rfl rfl)
theorem dX0_isAbove_25 : decode cX0_isAbove 25 = .ok (.goto 4, 3) := dk_167 0 4 (dk_at dksX0_isAbove_1 1 rfl rfl)
theorem dX0_isAbove_28 : decode cX0_isAbove 28 = .ok (.iconst 0, 1) := dk_3 (dk_at dksX0_isAbove_1 4 rfl rfl)
theorem dX0_isAbove_29 : decode cX0_isAbove 29 = .ok (.ireturn, 1) := dk_172 (dk_at dksX0_isAbove_1 5 rfl rfl)
abbrev cX0_way : ByteArray := prog_1_method_52_code
def yX0_way : MethodName := ⟨RX0, "way", "(II)I"⟩
def dkwX0_way_1 : List UInt8 := [182, 0, 197, 96, 5, 42, 42, 27, 28, 182, 0, 228, 182, 0, 197, 104, 100, 167, 0, 4, 2, 172]
abbrev dktX0_way_1 : List UInt8 := dkwX0_way_1 ++ []
def dkwX0_way_0 : List UInt8 := [42, 27, 182, 0, 194, 153, 0, 38, 42, 28, 182, 0, 194, 153, 0, 30, 42, 27, 182, 0, 197, 42, 28]
abbrev dktX0_way_0 : List UInt8 := dkwX0_way_0 ++ dktX0_way_1
theorem dksX0_way_0 : cX0_way.data.toList.drop 0 = dktX0_way_0 := by decide +kernel
theorem dksX0_way_1 : cX0_way.data.toList.drop 23 = dktX0_way_1 := dk_seg dksX0_way_0 23 rfl rfl
theorem dX0_way_0 : decode cX0_way 0 = .ok (.aload_n 0, 1) := dk_42 (dk_at dksX0_way_0 0 rfl rfl)
theorem dX0_way_1 : decode cX0_way 1 = .ok (.iload_n 1, 1) := dk_27 (dk_at dksX0_way_0 1 rfl rfl)
theorem dX0_way_2 : decode cX0_way 2 = .ok (.invokevirtual 194, 3) := dk_182 0 194 (dk_at dksX0_way_0 2 rfl rfl)
theorem dX0_way_5 : decode cX0_way 5 = .ok (.ifCond .eq 38, 3) := dk_153 0 38 (dk_at dksX0_way_0 5 rfl rfl)
theorem dX0_way_8 : decode cX0_way 8 = .ok (.aload_n 0, 1) := dk_42 (dk_at dksX0_way_0 8 rfl rfl)
theorem dX0_way_9 : decode cX0_way 9 = .ok (.iload_n 2, 1) := dk_28 (dk_at dksX0_way_0 9 rfl rfl)
theorem dX0_way_10 : decode cX0_way 10 = .ok (.invokevirtual 194, 3) := dk_182 0 194 (dk_at dksX0_way_0 10 rfl rfl)
theorem dX0_way_13 : decode cX0_way 13 = .ok (.ifCond .eq 30, 3) := dk_153 0 30 (dk_at dksX0_way_0 13 rfl rfl)
theorem dX0_way_16 : decode cX0_way 16 = .ok (.aload_n 0, 1) := dk_42 (dk_at dksX0_way_0 16 rfl rfl)
theorem dX0_way_17 : decode cX0_way 17 = .ok (.iload_n 1, 1) := dk_27 (dk_at dksX0_way_0 17 rfl rfl)
theorem dX0_way_18 : decode cX0_way 18 = .ok (.invokevirtual 197, 3) := dk_182 0 197 (dk_at dksX0_way_0 18 rfl rfl)
theorem dX0_way_21 : decode cX0_way 21 = .ok (.aload_n 0, 1) := dk_42 (dk_at dksX0_way_0 21 rfl rfl)
theorem dX0_way_22 : decode cX0_way 22 = .ok (.iload_n 2, 1) := dk_28 (dk_at dksX0_way_0 22 rfl rfl)
theorem dX0_way_23 : decode cX0_way 23 = .ok (.invokevirtual 197, 3) := dk_182 0 197 (dk_at dksX0_way_1 0 rfl rfl)
theorem dX0_way_26 : decode cX0_way 26 = .ok (.iadd, 1) := dk_96 (dk_at dksX0_way_1 3 rfl rfl)
theorem dX0_way_27 : decode cX0_way 27 = .ok (.iconst 2, 1) := dk_5 (dk_at dksX0_way_1 4 rfl rfl)
theorem dX0_way_28 : decode cX0_way 28 = .ok (.aload_n 0, 1) := dk_42 (dk_at dksX0_way_1 5 rfl rfl)
theorem dX0_way_29 : decode cX0_way 29 = .ok (.aload_n 0, 1) := dk_42 (dk_at dksX0_way_1 6 rfl rfl)
theorem dX0_way_30 : decode cX0_way 30 = .ok (.iload_n 1, 1) := dk_27 (dk_at dksX0_way_1 7 rfl rfl)
theorem dX0_way_31 : decode cX0_way 31 = .ok (.iload_n 2, 1) := dk_28 (dk_at dksX0_way_1 8 rfl rfl)
theorem dX0_way_32 : decode cX0_way 32 = .ok (.invokevirtual 228, 3) := dk_182 0 228 (dk_at dksX0_way_1 9 rfl rfl)
theorem dX0_way_35 : decode cX0_way 35 = .ok (.invokevirtual 197, 3) := dk_182 0 197 (dk_at dksX0_way_1 12 rfl rfl)
theorem dX0_way_38 : decode cX0_way 38 = .ok (.imul, 1) := dk_104 (dk_at dksX0_way_1 15 rfl rfl)
theorem dX0_way_39 : decode cX0_way 39 = .ok (.isub, 1) := dk_100 (dk_at dksX0_way_1 16 rfl rfl)
theorem dX0_way_40 : decode cX0_way 40 = .ok (.goto 4, 3) := dk_167 0 4 (dk_at dksX0_way_1 17 rfl rfl)
theorem dX0_way_43 : decode cX0_way 43 = .ok (.iconst (-1), 1) := dk_2 (dk_at dksX0_way_1 20 rfl rfl)
theorem dX0_way_44 : decode cX0_way 44 = .ok (.ireturn, 1) := dk_172 (dk_at dksX0_way_1 21 rfl rfl)
abbrev cX0_level : ByteArray := prog_1_method_57_code
def yX0_level : MethodName := ⟨RX0, "level", "(II)I"⟩
def dkwX0_level_4 : List UInt8 := [54, 4, 167, 255, 238, 29, 172]
abbrev dktX0_level_4 : List UInt8 := dkwX0_level_4 ++ []
def dkwX0_level_3 : List UInt8 := [42, 27, 182, 0, 231, 54, 4, 21, 4, 16, 252, 159, 0, 17, 132, 3, 1, 42, 21, 4, 182, 0, 237]
abbrev dktX0_level_3 : List UInt8 := dkwX0_level_3 ++ dktX0_level_4
def dkwX0_level_2 : List UInt8 := [5, 162, 0, 21, 28, 154, 0, 11, 42, 27, 182, 0, 231, 167, 0, 8, 42, 27, 182, 0, 234, 172, 3, 62]
abbrev dktX0_level_2 : List UInt8 := dkwX0_level_2 ++ dktX0_level_3
def dkwX0_level_1 : List UInt8 := [154, 0, 5, 2, 172, 27, 16, 64, 161, 0, 15, 28, 5, 160, 0, 7, 3, 167, 0, 5, 16, 252, 172, 28]
abbrev dktX0_level_1 : List UInt8 := dkwX0_level_1 ++ dktX0_level_2
def dkwX0_level_0 : List UInt8 := [27, 155, 0, 25, 27, 16, 64, 164, 0, 7, 28, 155, 0, 15, 28, 133, 9, 20, 0, 168, 184, 0, 115]
abbrev dktX0_level_0 : List UInt8 := dkwX0_level_0 ++ dktX0_level_1
theorem dksX0_level_0 : cX0_level.data.toList.drop 0 = dktX0_level_0 := by decide +kernel
theorem dksX0_level_1 : cX0_level.data.toList.drop 23 = dktX0_level_1 := dk_seg dksX0_level_0 23 rfl rfl
theorem dksX0_level_2 : cX0_level.data.toList.drop 47 = dktX0_level_2 := dk_seg dksX0_level_1 24 rfl rfl
theorem dksX0_level_3 : cX0_level.data.toList.drop 71 = dktX0_level_3 := dk_seg dksX0_level_2 24 rfl rfl
theorem dksX0_level_4 : cX0_level.data.toList.drop 94 = dktX0_level_4 := dk_seg dksX0_level_3 23 rfl rfl
theorem dX0_level_0 : decode cX0_level 0 = .ok (.iload_n 1, 1) := dk_27 (dk_at dksX0_level_0 0 rfl rfl)
theorem dX0_level_1 : decode cX0_level 1 = .ok (.ifCond .lt 25, 3) := dk_155 0 25 (dk_at dksX0_level_0 1 rfl rfl)
theorem dX0_level_4 : decode cX0_level 4 = .ok (.iload_n 1, 1) := dk_27 (dk_at dksX0_level_0 4 rfl rfl)
theorem dX0_level_5 : decode cX0_level 5 = .ok (.bipush 64, 2) := dk_16 64 (dk_at dksX0_level_0 5 rfl rfl)
theorem dX0_level_7 : decode cX0_level 7 = .ok (.if_icmp .le 7, 3) := dk_164 0 7 (dk_at dksX0_level_0 7 rfl rfl)
theorem dX0_level_10 : decode cX0_level 10 = .ok (.iload_n 2, 1) := dk_28 (dk_at dksX0_level_0 10 rfl rfl)
theorem dX0_level_11 : decode cX0_level 11 = .ok (.ifCond .lt 15, 3) := dk_155 0 15 (dk_at dksX0_level_0 11 rfl rfl)
theorem dX0_level_14 : decode cX0_level 14 = .ok (.iload_n 2, 1) := dk_28 (dk_at dksX0_level_0 14 rfl rfl)
theorem dX0_level_15 : decode cX0_level 15 = .ok (.i2l, 1) := dk_133 (dk_at dksX0_level_0 15 rfl rfl)
theorem dX0_level_16 : decode cX0_level 16 = .ok (.lconst 0, 1) := dk_9 (dk_at dksX0_level_0 16 rfl rfl)
theorem dX0_level_17 : decode cX0_level 17 = .ok (.ldc2_w 168, 3) := dk_20 0 168 (dk_at dksX0_level_0 17 rfl rfl)
theorem dX0_level_20 : decode cX0_level 20 = .ok (.invokestatic 115, 3) := dk_184 0 115 (dk_at dksX0_level_0 20 rfl rfl)
theorem dX0_level_23 : decode cX0_level 23 = .ok (.ifCond .ne 5, 3) := dk_154 0 5 (dk_at dksX0_level_1 0 rfl rfl)
theorem dX0_level_26 : decode cX0_level 26 = .ok (.iconst (-1), 1) := dk_2 (dk_at dksX0_level_1 3 rfl rfl)
theorem dX0_level_27 : decode cX0_level 27 = .ok (.ireturn, 1) := dk_172 (dk_at dksX0_level_1 4 rfl rfl)
theorem dX0_level_28 : decode cX0_level 28 = .ok (.iload_n 1, 1) := dk_27 (dk_at dksX0_level_1 5 rfl rfl)
theorem dX0_level_29 : decode cX0_level 29 = .ok (.bipush 64, 2) := dk_16 64 (dk_at dksX0_level_1 6 rfl rfl)
theorem dX0_level_31 : decode cX0_level 31 = .ok (.if_icmp .lt 15, 3) := dk_161 0 15 (dk_at dksX0_level_1 8 rfl rfl)
theorem dX0_level_34 : decode cX0_level 34 = .ok (.iload_n 2, 1) := dk_28 (dk_at dksX0_level_1 11 rfl rfl)
theorem dX0_level_35 : decode cX0_level 35 = .ok (.iconst 2, 1) := dk_5 (dk_at dksX0_level_1 12 rfl rfl)
theorem dX0_level_36 : decode cX0_level 36 = .ok (.if_icmp .ne 7, 3) := dk_160 0 7 (dk_at dksX0_level_1 13 rfl rfl)
theorem dX0_level_39 : decode cX0_level 39 = .ok (.iconst 0, 1) := dk_3 (dk_at dksX0_level_1 16 rfl rfl)
theorem dX0_level_40 : decode cX0_level 40 = .ok (.goto 5, 3) := dk_167 0 5 (dk_at dksX0_level_1 17 rfl rfl)
theorem dX0_level_43 : decode cX0_level 43 = .ok (.bipush (-4), 2) := dk_16 252 (dk_at dksX0_level_1 20 rfl rfl)
theorem dX0_level_45 : decode cX0_level 45 = .ok (.ireturn, 1) := dk_172 (dk_at dksX0_level_1 22 rfl rfl)
theorem dX0_level_46 : decode cX0_level 46 = .ok (.iload_n 2, 1) := dk_28 (dk_at dksX0_level_1 23 rfl rfl)
theorem dX0_level_47 : decode cX0_level 47 = .ok (.iconst 2, 1) := dk_5 (dk_at dksX0_level_2 0 rfl rfl)
theorem dX0_level_48 : decode cX0_level 48 = .ok (.if_icmp .ge 21, 3) := dk_162 0 21 (dk_at dksX0_level_2 1 rfl rfl)
theorem dX0_level_51 : decode cX0_level 51 = .ok (.iload_n 2, 1) := dk_28 (dk_at dksX0_level_2 4 rfl rfl)
theorem dX0_level_52 : decode cX0_level 52 = .ok (.ifCond .ne 11, 3) := dk_154 0 11 (dk_at dksX0_level_2 5 rfl rfl)
theorem dX0_level_55 : decode cX0_level 55 = .ok (.aload_n 0, 1) := dk_42 (dk_at dksX0_level_2 8 rfl rfl)
theorem dX0_level_56 : decode cX0_level 56 = .ok (.iload_n 1, 1) := dk_27 (dk_at dksX0_level_2 9 rfl rfl)
theorem dX0_level_57 : decode cX0_level 57 = .ok (.invokevirtual 231, 3) := dk_182 0 231 (dk_at dksX0_level_2 10 rfl rfl)
theorem dX0_level_60 : decode cX0_level 60 = .ok (.goto 8, 3) := dk_167 0 8 (dk_at dksX0_level_2 13 rfl rfl)
theorem dX0_level_63 : decode cX0_level 63 = .ok (.aload_n 0, 1) := dk_42 (dk_at dksX0_level_2 16 rfl rfl)
theorem dX0_level_64 : decode cX0_level 64 = .ok (.iload_n 1, 1) := dk_27 (dk_at dksX0_level_2 17 rfl rfl)
theorem dX0_level_65 : decode cX0_level 65 = .ok (.invokevirtual 234, 3) := dk_182 0 234 (dk_at dksX0_level_2 18 rfl rfl)
theorem dX0_level_68 : decode cX0_level 68 = .ok (.ireturn, 1) := dk_172 (dk_at dksX0_level_2 21 rfl rfl)
theorem dX0_level_69 : decode cX0_level 69 = .ok (.iconst 0, 1) := dk_3 (dk_at dksX0_level_2 22 rfl rfl)
theorem dX0_level_70 : decode cX0_level 70 = .ok (.istore_n 3, 1) := dk_62 (dk_at dksX0_level_2 23 rfl rfl)
theorem dX0_level_71 : decode cX0_level 71 = .ok (.aload_n 0, 1) := dk_42 (dk_at dksX0_level_3 0 rfl rfl)
theorem dX0_level_72 : decode cX0_level 72 = .ok (.iload_n 1, 1) := dk_27 (dk_at dksX0_level_3 1 rfl rfl)
theorem dX0_level_73 : decode cX0_level 73 = .ok (.invokevirtual 231, 3) := dk_182 0 231 (dk_at dksX0_level_3 2 rfl rfl)
theorem dX0_level_76 : decode cX0_level 76 = .ok (.istore 4, 2) := dk_54 4 (dk_at dksX0_level_3 5 rfl rfl)
theorem dX0_level_78 : decode cX0_level 78 = .ok (.iload 4, 2) := dk_21 4 (dk_at dksX0_level_3 7 rfl rfl)
theorem dX0_level_80 : decode cX0_level 80 = .ok (.bipush (-4), 2) := dk_16 252 (dk_at dksX0_level_3 9 rfl rfl)
theorem dX0_level_82 : decode cX0_level 82 = .ok (.if_icmp .eq 17, 3) := dk_159 0 17 (dk_at dksX0_level_3 11 rfl rfl)
theorem dX0_level_85 : decode cX0_level 85 = .ok (.iinc 3 1, 3) := dk_132 3 1 (dk_at dksX0_level_3 14 rfl rfl)
theorem dX0_level_88 : decode cX0_level 88 = .ok (.aload_n 0, 1) := dk_42 (dk_at dksX0_level_3 17 rfl rfl)
theorem dX0_level_89 : decode cX0_level 89 = .ok (.iload 4, 2) := dk_21 4 (dk_at dksX0_level_3 18 rfl rfl)
theorem dX0_level_91 : decode cX0_level 91 = .ok (.invokevirtual 237, 3) := dk_182 0 237 (dk_at dksX0_level_3 20 rfl rfl)
theorem dX0_level_94 : decode cX0_level 94 = .ok (.istore 4, 2) := dk_54 4 (dk_at dksX0_level_4 0 rfl rfl)
theorem dX0_level_96 : decode cX0_level 96 = .ok (.goto (-18), 3) := dk_167 255 238 (dk_at dksX0_level_4 2 rfl rfl)
theorem dX0_level_99 : decode cX0_level 99 = .ok (.iload_n 3, 1) := dk_29 (dk_at dksX0_level_4 5 rfl rfl)
theorem dX0_level_100 : decode cX0_level 100 = .ok (.ireturn, 1) := dk_172 (dk_at dksX0_level_4 6 rfl rfl)
abbrev cX0_firstDeep : ByteArray := prog_1_method_55_code
def yX0_firstDeep : MethodName := ⟨RX0, "firstDeep", "(I)I"⟩
def dkwX0_firstDeep_1 : List UInt8 := [182, 0, 179, 172]
abbrev dktX0_firstDeep_1 : List UInt8 := dkwX0_firstDeep_1 ++ []
def dkwX0_firstDeep_0 : List UInt8 := [42, 3, 27, 4, 96, 182, 0, 46, 61, 28, 16, 252, 160, 0, 8, 16, 252, 167, 0, 10, 42, 28, 4, 100]
abbrev dktX0_firstDeep_0 : List UInt8 := dkwX0_firstDeep_0 ++ dktX0_firstDeep_1
theorem dksX0_firstDeep_0 : cX0_firstDeep.data.toList.drop 0 = dktX0_firstDeep_0 := by decide +kernel
theorem dksX0_firstDeep_1 : cX0_firstDeep.data.toList.drop 24 = dktX0_firstDeep_1 := dk_seg dksX0_firstDeep_0 24 rfl rfl
theorem dX0_firstDeep_0 : decode cX0_firstDeep 0 = .ok (.aload_n 0, 1) := dk_42 (dk_at dksX0_firstDeep_0 0 rfl rfl)
theorem dX0_firstDeep_1 : decode cX0_firstDeep 1 = .ok (.iconst 0, 1) := dk_3 (dk_at dksX0_firstDeep_0 1 rfl rfl)
theorem dX0_firstDeep_2 : decode cX0_firstDeep 2 = .ok (.iload_n 1, 1) := dk_27 (dk_at dksX0_firstDeep_0 2 rfl rfl)
theorem dX0_firstDeep_3 : decode cX0_firstDeep 3 = .ok (.iconst 1, 1) := dk_4 (dk_at dksX0_firstDeep_0 3 rfl rfl)
theorem dX0_firstDeep_4 : decode cX0_firstDeep 4 = .ok (.iadd, 1) := dk_96 (dk_at dksX0_firstDeep_0 4 rfl rfl)
theorem dX0_firstDeep_5 : decode cX0_firstDeep 5 = .ok (.invokevirtual 46, 3) := dk_182 0 46 (dk_at dksX0_firstDeep_0 5 rfl rfl)
theorem dX0_firstDeep_8 : decode cX0_firstDeep 8 = .ok (.istore_n 2, 1) := dk_61 (dk_at dksX0_firstDeep_0 8 rfl rfl)
theorem dX0_firstDeep_9 : decode cX0_firstDeep 9 = .ok (.iload_n 2, 1) := dk_28 (dk_at dksX0_firstDeep_0 9 rfl rfl)
theorem dX0_firstDeep_10 : decode cX0_firstDeep 10 = .ok (.bipush (-4), 2) := dk_16 252 (dk_at dksX0_firstDeep_0 10 rfl rfl)
theorem dX0_firstDeep_12 : decode cX0_firstDeep 12 = .ok (.if_icmp .ne 8, 3) := dk_160 0 8 (dk_at dksX0_firstDeep_0 12 rfl rfl)
theorem dX0_firstDeep_15 : decode cX0_firstDeep 15 = .ok (.bipush (-4), 2) := dk_16 252 (dk_at dksX0_firstDeep_0 15 rfl rfl)
theorem dX0_firstDeep_17 : decode cX0_firstDeep 17 = .ok (.goto 10, 3) := dk_167 0 10 (dk_at dksX0_firstDeep_0 17 rfl rfl)
theorem dX0_firstDeep_20 : decode cX0_firstDeep 20 = .ok (.aload_n 0, 1) := dk_42 (dk_at dksX0_firstDeep_0 20 rfl rfl)
theorem dX0_firstDeep_21 : decode cX0_firstDeep 21 = .ok (.iload_n 2, 1) := dk_28 (dk_at dksX0_firstDeep_0 21 rfl rfl)
theorem dX0_firstDeep_22 : decode cX0_firstDeep 22 = .ok (.iconst 1, 1) := dk_4 (dk_at dksX0_firstDeep_0 22 rfl rfl)
theorem dX0_firstDeep_23 : decode cX0_firstDeep 23 = .ok (.isub, 1) := dk_100 (dk_at dksX0_firstDeep_0 23 rfl rfl)
theorem dX0_firstDeep_24 : decode cX0_firstDeep 24 = .ok (.invokevirtual 179, 3) := dk_182 0 179 (dk_at dksX0_firstDeep_1 0 rfl rfl)
theorem dX0_firstDeep_27 : decode cX0_firstDeep 27 = .ok (.ireturn, 1) := dk_172 (dk_at dksX0_firstDeep_1 3 rfl rfl)
abbrev cX0_lastDeep : ByteArray := prog_1_method_56_code
def yX0_lastDeep : MethodName := ⟨RX0, "lastDeep", "(I)I"⟩
def dkwX0_lastDeep_1 : List UInt8 := [167, 0, 12, 42, 42, 28, 182, 0, 61, 182, 0, 179, 172]
abbrev dktX0_lastDeep_1 : List UInt8 := dkwX0_lastDeep_1 ++ []
def dkwX0_lastDeep_0 : List UInt8 := [42, 42, 180, 0, 1, 180, 0, 7, 27, 4, 96, 182, 0, 49, 61, 28, 16, 252, 160, 0, 8, 16, 252]
abbrev dktX0_lastDeep_0 : List UInt8 := dkwX0_lastDeep_0 ++ dktX0_lastDeep_1
theorem dksX0_lastDeep_0 : cX0_lastDeep.data.toList.drop 0 = dktX0_lastDeep_0 := by decide +kernel
theorem dksX0_lastDeep_1 : cX0_lastDeep.data.toList.drop 23 = dktX0_lastDeep_1 := dk_seg dksX0_lastDeep_0 23 rfl rfl
theorem dX0_lastDeep_0 : decode cX0_lastDeep 0 = .ok (.aload_n 0, 1) := dk_42 (dk_at dksX0_lastDeep_0 0 rfl rfl)
theorem dX0_lastDeep_1 : decode cX0_lastDeep 1 = .ok (.aload_n 0, 1) := dk_42 (dk_at dksX0_lastDeep_0 1 rfl rfl)
theorem dX0_lastDeep_2 : decode cX0_lastDeep 2 = .ok (.getfield 1, 3) := dk_180 0 1 (dk_at dksX0_lastDeep_0 2 rfl rfl)
theorem dX0_lastDeep_5 : decode cX0_lastDeep 5 = .ok (.getfield 7, 3) := dk_180 0 7 (dk_at dksX0_lastDeep_0 5 rfl rfl)
theorem dX0_lastDeep_8 : decode cX0_lastDeep 8 = .ok (.iload_n 1, 1) := dk_27 (dk_at dksX0_lastDeep_0 8 rfl rfl)
theorem dX0_lastDeep_9 : decode cX0_lastDeep 9 = .ok (.iconst 1, 1) := dk_4 (dk_at dksX0_lastDeep_0 9 rfl rfl)
theorem dX0_lastDeep_10 : decode cX0_lastDeep 10 = .ok (.iadd, 1) := dk_96 (dk_at dksX0_lastDeep_0 10 rfl rfl)
theorem dX0_lastDeep_11 : decode cX0_lastDeep 11 = .ok (.invokevirtual 49, 3) := dk_182 0 49 (dk_at dksX0_lastDeep_0 11 rfl rfl)
theorem dX0_lastDeep_14 : decode cX0_lastDeep 14 = .ok (.istore_n 2, 1) := dk_61 (dk_at dksX0_lastDeep_0 14 rfl rfl)
theorem dX0_lastDeep_15 : decode cX0_lastDeep 15 = .ok (.iload_n 2, 1) := dk_28 (dk_at dksX0_lastDeep_0 15 rfl rfl)
theorem dX0_lastDeep_16 : decode cX0_lastDeep 16 = .ok (.bipush (-4), 2) := dk_16 252 (dk_at dksX0_lastDeep_0 16 rfl rfl)
theorem dX0_lastDeep_18 : decode cX0_lastDeep 18 = .ok (.if_icmp .ne 8, 3) := dk_160 0 8 (dk_at dksX0_lastDeep_0 18 rfl rfl)
theorem dX0_lastDeep_21 : decode cX0_lastDeep 21 = .ok (.bipush (-4), 2) := dk_16 252 (dk_at dksX0_lastDeep_0 21 rfl rfl)
theorem dX0_lastDeep_23 : decode cX0_lastDeep 23 = .ok (.goto 12, 3) := dk_167 0 12 (dk_at dksX0_lastDeep_1 0 rfl rfl)
theorem dX0_lastDeep_26 : decode cX0_lastDeep 26 = .ok (.aload_n 0, 1) := dk_42 (dk_at dksX0_lastDeep_1 3 rfl rfl)
theorem dX0_lastDeep_27 : decode cX0_lastDeep 27 = .ok (.aload_n 0, 1) := dk_42 (dk_at dksX0_lastDeep_1 4 rfl rfl)
theorem dX0_lastDeep_28 : decode cX0_lastDeep 28 = .ok (.iload_n 2, 1) := dk_28 (dk_at dksX0_lastDeep_1 5 rfl rfl)
theorem dX0_lastDeep_29 : decode cX0_lastDeep 29 = .ok (.invokevirtual 61, 3) := dk_182 0 61 (dk_at dksX0_lastDeep_1 6 rfl rfl)
theorem dX0_lastDeep_32 : decode cX0_lastDeep 32 = .ok (.invokevirtual 179, 3) := dk_182 0 179 (dk_at dksX0_lastDeep_1 9 rfl rfl)
theorem dX0_lastDeep_35 : decode cX0_lastDeep 35 = .ok (.ireturn, 1) := dk_172 (dk_at dksX0_lastDeep_1 12 rfl rfl)
abbrev cX0_onOf : ByteArray := prog_1_method_53_code
def yX0_onOf : MethodName := ⟨RX0, "onOf", "(I)I"⟩
def dkwX0_onOf_1 : List UInt8 := [182, 0, 46, 62, 29, 16, 252, 160, 0, 8, 16, 252, 167, 0, 10, 42, 29, 4, 100, 182, 0, 179, 172]
abbrev dktX0_onOf_1 : List UInt8 := dkwX0_onOf_1 ++ []
def dkwX0_onOf_0 : List UInt8 := [42, 27, 182, 0, 182, 61, 42, 28, 4, 96, 42, 180, 0, 1, 28, 4, 96, 182, 0, 23, 4, 96]
abbrev dktX0_onOf_0 : List UInt8 := dkwX0_onOf_0 ++ dktX0_onOf_1
theorem dksX0_onOf_0 : cX0_onOf.data.toList.drop 0 = dktX0_onOf_0 := by decide +kernel
theorem dksX0_onOf_1 : cX0_onOf.data.toList.drop 22 = dktX0_onOf_1 := dk_seg dksX0_onOf_0 22 rfl rfl
theorem dX0_onOf_0 : decode cX0_onOf 0 = .ok (.aload_n 0, 1) := dk_42 (dk_at dksX0_onOf_0 0 rfl rfl)
theorem dX0_onOf_1 : decode cX0_onOf 1 = .ok (.iload_n 1, 1) := dk_27 (dk_at dksX0_onOf_0 1 rfl rfl)
theorem dX0_onOf_2 : decode cX0_onOf 2 = .ok (.invokevirtual 182, 3) := dk_182 0 182 (dk_at dksX0_onOf_0 2 rfl rfl)
theorem dX0_onOf_5 : decode cX0_onOf 5 = .ok (.istore_n 2, 1) := dk_61 (dk_at dksX0_onOf_0 5 rfl rfl)
theorem dX0_onOf_6 : decode cX0_onOf 6 = .ok (.aload_n 0, 1) := dk_42 (dk_at dksX0_onOf_0 6 rfl rfl)
theorem dX0_onOf_7 : decode cX0_onOf 7 = .ok (.iload_n 2, 1) := dk_28 (dk_at dksX0_onOf_0 7 rfl rfl)
theorem dX0_onOf_8 : decode cX0_onOf 8 = .ok (.iconst 1, 1) := dk_4 (dk_at dksX0_onOf_0 8 rfl rfl)
theorem dX0_onOf_9 : decode cX0_onOf 9 = .ok (.iadd, 1) := dk_96 (dk_at dksX0_onOf_0 9 rfl rfl)
theorem dX0_onOf_10 : decode cX0_onOf 10 = .ok (.aload_n 0, 1) := dk_42 (dk_at dksX0_onOf_0 10 rfl rfl)
theorem dX0_onOf_11 : decode cX0_onOf 11 = .ok (.getfield 1, 3) := dk_180 0 1 (dk_at dksX0_onOf_0 11 rfl rfl)
theorem dX0_onOf_14 : decode cX0_onOf 14 = .ok (.iload_n 2, 1) := dk_28 (dk_at dksX0_onOf_0 14 rfl rfl)
theorem dX0_onOf_15 : decode cX0_onOf 15 = .ok (.iconst 1, 1) := dk_4 (dk_at dksX0_onOf_0 15 rfl rfl)
theorem dX0_onOf_16 : decode cX0_onOf 16 = .ok (.iadd, 1) := dk_96 (dk_at dksX0_onOf_0 16 rfl rfl)
theorem dX0_onOf_17 : decode cX0_onOf 17 = .ok (.invokevirtual 23, 3) := dk_182 0 23 (dk_at dksX0_onOf_0 17 rfl rfl)
theorem dX0_onOf_20 : decode cX0_onOf 20 = .ok (.iconst 1, 1) := dk_4 (dk_at dksX0_onOf_0 20 rfl rfl)
theorem dX0_onOf_21 : decode cX0_onOf 21 = .ok (.iadd, 1) := dk_96 (dk_at dksX0_onOf_0 21 rfl rfl)
theorem dX0_onOf_22 : decode cX0_onOf 22 = .ok (.invokevirtual 46, 3) := dk_182 0 46 (dk_at dksX0_onOf_1 0 rfl rfl)
theorem dX0_onOf_25 : decode cX0_onOf 25 = .ok (.istore_n 3, 1) := dk_62 (dk_at dksX0_onOf_1 3 rfl rfl)
theorem dX0_onOf_26 : decode cX0_onOf 26 = .ok (.iload_n 3, 1) := dk_29 (dk_at dksX0_onOf_1 4 rfl rfl)
theorem dX0_onOf_27 : decode cX0_onOf 27 = .ok (.bipush (-4), 2) := dk_16 252 (dk_at dksX0_onOf_1 5 rfl rfl)
theorem dX0_onOf_29 : decode cX0_onOf 29 = .ok (.if_icmp .ne 8, 3) := dk_160 0 8 (dk_at dksX0_onOf_1 7 rfl rfl)
theorem dX0_onOf_32 : decode cX0_onOf 32 = .ok (.bipush (-4), 2) := dk_16 252 (dk_at dksX0_onOf_1 10 rfl rfl)
theorem dX0_onOf_34 : decode cX0_onOf 34 = .ok (.goto 10, 3) := dk_167 0 10 (dk_at dksX0_onOf_1 12 rfl rfl)
theorem dX0_onOf_37 : decode cX0_onOf 37 = .ok (.aload_n 0, 1) := dk_42 (dk_at dksX0_onOf_1 15 rfl rfl)
theorem dX0_onOf_38 : decode cX0_onOf 38 = .ok (.iload_n 3, 1) := dk_29 (dk_at dksX0_onOf_1 16 rfl rfl)
theorem dX0_onOf_39 : decode cX0_onOf 39 = .ok (.iconst 1, 1) := dk_4 (dk_at dksX0_onOf_1 17 rfl rfl)
theorem dX0_onOf_40 : decode cX0_onOf 40 = .ok (.isub, 1) := dk_100 (dk_at dksX0_onOf_1 18 rfl rfl)
theorem dX0_onOf_41 : decode cX0_onOf 41 = .ok (.invokevirtual 179, 3) := dk_182 0 179 (dk_at dksX0_onOf_1 19 rfl rfl)
theorem dX0_onOf_44 : decode cX0_onOf 44 = .ok (.ireturn, 1) := dk_172 (dk_at dksX0_onOf_1 22 rfl rfl)
abbrev cX0_beside : ByteArray := prog_1_method_58_code
def yX0_beside : MethodName := ⟨RX0, "beside", "(II)I"⟩
def dkwX0_beside_1 : List UInt8 := [182, 0, 237, 167, 0, 12, 42, 27, 182, 0, 240, 167, 0, 4, 2, 172]
abbrev dktX0_beside_1 : List UInt8 := dkwX0_beside_1 ++ []
def dkwX0_beside_0 : List UInt8 := [42, 27, 182, 0, 194, 153, 0, 33, 28, 133, 9, 10, 184, 0, 115, 153, 0, 23, 28, 154, 0, 11, 42, 27]
abbrev dktX0_beside_0 : List UInt8 := dkwX0_beside_0 ++ dktX0_beside_1
theorem dksX0_beside_0 : cX0_beside.data.toList.drop 0 = dktX0_beside_0 := by decide +kernel
theorem dksX0_beside_1 : cX0_beside.data.toList.drop 24 = dktX0_beside_1 := dk_seg dksX0_beside_0 24 rfl rfl
theorem dX0_beside_0 : decode cX0_beside 0 = .ok (.aload_n 0, 1) := dk_42 (dk_at dksX0_beside_0 0 rfl rfl)
theorem dX0_beside_1 : decode cX0_beside 1 = .ok (.iload_n 1, 1) := dk_27 (dk_at dksX0_beside_0 1 rfl rfl)
theorem dX0_beside_2 : decode cX0_beside 2 = .ok (.invokevirtual 194, 3) := dk_182 0 194 (dk_at dksX0_beside_0 2 rfl rfl)
theorem dX0_beside_5 : decode cX0_beside 5 = .ok (.ifCond .eq 33, 3) := dk_153 0 33 (dk_at dksX0_beside_0 5 rfl rfl)
theorem dX0_beside_8 : decode cX0_beside 8 = .ok (.iload_n 2, 1) := dk_28 (dk_at dksX0_beside_0 8 rfl rfl)
theorem dX0_beside_9 : decode cX0_beside 9 = .ok (.i2l, 1) := dk_133 (dk_at dksX0_beside_0 9 rfl rfl)
theorem dX0_beside_10 : decode cX0_beside 10 = .ok (.lconst 0, 1) := dk_9 (dk_at dksX0_beside_0 10 rfl rfl)
theorem dX0_beside_11 : decode cX0_beside 11 = .ok (.lconst 1, 1) := dk_10 (dk_at dksX0_beside_0 11 rfl rfl)
theorem dX0_beside_12 : decode cX0_beside 12 = .ok (.invokestatic 115, 3) := dk_184 0 115 (dk_at dksX0_beside_0 12 rfl rfl)
theorem dX0_beside_15 : decode cX0_beside 15 = .ok (.ifCond .eq 23, 3) := dk_153 0 23 (dk_at dksX0_beside_0 15 rfl rfl)
theorem dX0_beside_18 : decode cX0_beside 18 = .ok (.iload_n 2, 1) := dk_28 (dk_at dksX0_beside_0 18 rfl rfl)
theorem dX0_beside_19 : decode cX0_beside 19 = .ok (.ifCond .ne 11, 3) := dk_154 0 11 (dk_at dksX0_beside_0 19 rfl rfl)
theorem dX0_beside_22 : decode cX0_beside 22 = .ok (.aload_n 0, 1) := dk_42 (dk_at dksX0_beside_0 22 rfl rfl)
theorem dX0_beside_23 : decode cX0_beside 23 = .ok (.iload_n 1, 1) := dk_27 (dk_at dksX0_beside_0 23 rfl rfl)
theorem dX0_beside_24 : decode cX0_beside 24 = .ok (.invokevirtual 237, 3) := dk_182 0 237 (dk_at dksX0_beside_1 0 rfl rfl)
theorem dX0_beside_27 : decode cX0_beside 27 = .ok (.goto 12, 3) := dk_167 0 12 (dk_at dksX0_beside_1 3 rfl rfl)
theorem dX0_beside_30 : decode cX0_beside 30 = .ok (.aload_n 0, 1) := dk_42 (dk_at dksX0_beside_1 6 rfl rfl)
theorem dX0_beside_31 : decode cX0_beside 31 = .ok (.iload_n 1, 1) := dk_27 (dk_at dksX0_beside_1 7 rfl rfl)
theorem dX0_beside_32 : decode cX0_beside 32 = .ok (.invokevirtual 240, 3) := dk_182 0 240 (dk_at dksX0_beside_1 8 rfl rfl)
theorem dX0_beside_35 : decode cX0_beside 35 = .ok (.goto 4, 3) := dk_167 0 4 (dk_at dksX0_beside_1 11 rfl rfl)
theorem dX0_beside_38 : decode cX0_beside 38 = .ok (.iconst (-1), 1) := dk_2 (dk_at dksX0_beside_1 14 rfl rfl)
theorem dX0_beside_39 : decode cX0_beside 39 = .ok (.ireturn, 1) := dk_172 (dk_at dksX0_beside_1 15 rfl rfl)
abbrev cX0_backOf : ByteArray := prog_1_method_54_code
def yX0_backOf : MethodName := ⟨RX0, "backOf", "(I)I"⟩
def dkwX0_backOf_1 : List UInt8 := [16, 252, 160, 0, 8, 16, 252, 167, 0, 12, 42, 42, 29, 182, 0, 61, 182, 0, 179, 172]
abbrev dktX0_backOf_1 : List UInt8 := dkwX0_backOf_1 ++ []
def dkwX0_backOf_0 : List UInt8 := [42, 27, 182, 0, 58, 61, 42, 28, 42, 180, 0, 1, 28, 182, 0, 23, 4, 96, 182, 0, 49, 62, 29]
abbrev dktX0_backOf_0 : List UInt8 := dkwX0_backOf_0 ++ dktX0_backOf_1
theorem dksX0_backOf_0 : cX0_backOf.data.toList.drop 0 = dktX0_backOf_0 := by decide +kernel
theorem dksX0_backOf_1 : cX0_backOf.data.toList.drop 23 = dktX0_backOf_1 := dk_seg dksX0_backOf_0 23 rfl rfl
theorem dX0_backOf_0 : decode cX0_backOf 0 = .ok (.aload_n 0, 1) := dk_42 (dk_at dksX0_backOf_0 0 rfl rfl)
theorem dX0_backOf_1 : decode cX0_backOf 1 = .ok (.iload_n 1, 1) := dk_27 (dk_at dksX0_backOf_0 1 rfl rfl)
theorem dX0_backOf_2 : decode cX0_backOf 2 = .ok (.invokevirtual 58, 3) := dk_182 0 58 (dk_at dksX0_backOf_0 2 rfl rfl)
theorem dX0_backOf_5 : decode cX0_backOf 5 = .ok (.istore_n 2, 1) := dk_61 (dk_at dksX0_backOf_0 5 rfl rfl)
theorem dX0_backOf_6 : decode cX0_backOf 6 = .ok (.aload_n 0, 1) := dk_42 (dk_at dksX0_backOf_0 6 rfl rfl)
theorem dX0_backOf_7 : decode cX0_backOf 7 = .ok (.iload_n 2, 1) := dk_28 (dk_at dksX0_backOf_0 7 rfl rfl)
theorem dX0_backOf_8 : decode cX0_backOf 8 = .ok (.aload_n 0, 1) := dk_42 (dk_at dksX0_backOf_0 8 rfl rfl)
theorem dX0_backOf_9 : decode cX0_backOf 9 = .ok (.getfield 1, 3) := dk_180 0 1 (dk_at dksX0_backOf_0 9 rfl rfl)
theorem dX0_backOf_12 : decode cX0_backOf 12 = .ok (.iload_n 2, 1) := dk_28 (dk_at dksX0_backOf_0 12 rfl rfl)
theorem dX0_backOf_13 : decode cX0_backOf 13 = .ok (.invokevirtual 23, 3) := dk_182 0 23 (dk_at dksX0_backOf_0 13 rfl rfl)
theorem dX0_backOf_16 : decode cX0_backOf 16 = .ok (.iconst 1, 1) := dk_4 (dk_at dksX0_backOf_0 16 rfl rfl)
theorem dX0_backOf_17 : decode cX0_backOf 17 = .ok (.iadd, 1) := dk_96 (dk_at dksX0_backOf_0 17 rfl rfl)
theorem dX0_backOf_18 : decode cX0_backOf 18 = .ok (.invokevirtual 49, 3) := dk_182 0 49 (dk_at dksX0_backOf_0 18 rfl rfl)
theorem dX0_backOf_21 : decode cX0_backOf 21 = .ok (.istore_n 3, 1) := dk_62 (dk_at dksX0_backOf_0 21 rfl rfl)
theorem dX0_backOf_22 : decode cX0_backOf 22 = .ok (.iload_n 3, 1) := dk_29 (dk_at dksX0_backOf_0 22 rfl rfl)
theorem dX0_backOf_23 : decode cX0_backOf 23 = .ok (.bipush (-4), 2) := dk_16 252 (dk_at dksX0_backOf_1 0 rfl rfl)
theorem dX0_backOf_25 : decode cX0_backOf 25 = .ok (.if_icmp .ne 8, 3) := dk_160 0 8 (dk_at dksX0_backOf_1 2 rfl rfl)
theorem dX0_backOf_28 : decode cX0_backOf 28 = .ok (.bipush (-4), 2) := dk_16 252 (dk_at dksX0_backOf_1 5 rfl rfl)
theorem dX0_backOf_30 : decode cX0_backOf 30 = .ok (.goto 12, 3) := dk_167 0 12 (dk_at dksX0_backOf_1 7 rfl rfl)
theorem dX0_backOf_33 : decode cX0_backOf 33 = .ok (.aload_n 0, 1) := dk_42 (dk_at dksX0_backOf_1 10 rfl rfl)
theorem dX0_backOf_34 : decode cX0_backOf 34 = .ok (.aload_n 0, 1) := dk_42 (dk_at dksX0_backOf_1 11 rfl rfl)
theorem dX0_backOf_35 : decode cX0_backOf 35 = .ok (.iload_n 3, 1) := dk_29 (dk_at dksX0_backOf_1 12 rfl rfl)
theorem dX0_backOf_36 : decode cX0_backOf 36 = .ok (.invokevirtual 61, 3) := dk_182 0 61 (dk_at dksX0_backOf_1 13 rfl rfl)
theorem dX0_backOf_39 : decode cX0_backOf 39 = .ok (.invokevirtual 179, 3) := dk_182 0 179 (dk_at dksX0_backOf_1 16 rfl rfl)
theorem dX0_backOf_42 : decode cX0_backOf 42 = .ok (.ireturn, 1) := dk_172 (dk_at dksX0_backOf_1 19 rfl rfl)
abbrev cX0_deepest : ByteArray := prog_1_method_59_code
def yX0_deepest : MethodName := ⟨RX0, "deepest", "(I)I"⟩
def dkwX0_deepest_1 : List UInt8 := [182, 0, 61, 182, 0, 172, 42, 42, 180, 0, 76, 4, 100, 182, 0, 179, 172]
abbrev dktX0_deepest_1 : List UInt8 := dkwX0_deepest_1 ++ []
def dkwX0_deepest_0 : List UInt8 := [42, 27, 182, 0, 194, 154, 0, 5, 2, 172, 42, 27, 182, 0, 58, 61, 42, 28, 4, 96, 42, 28]
abbrev dktX0_deepest_0 : List UInt8 := dkwX0_deepest_0 ++ dktX0_deepest_1
theorem dksX0_deepest_0 : cX0_deepest.data.toList.drop 0 = dktX0_deepest_0 := by decide +kernel
theorem dksX0_deepest_1 : cX0_deepest.data.toList.drop 22 = dktX0_deepest_1 := dk_seg dksX0_deepest_0 22 rfl rfl
theorem dX0_deepest_0 : decode cX0_deepest 0 = .ok (.aload_n 0, 1) := dk_42 (dk_at dksX0_deepest_0 0 rfl rfl)
theorem dX0_deepest_1 : decode cX0_deepest 1 = .ok (.iload_n 1, 1) := dk_27 (dk_at dksX0_deepest_0 1 rfl rfl)
theorem dX0_deepest_2 : decode cX0_deepest 2 = .ok (.invokevirtual 194, 3) := dk_182 0 194 (dk_at dksX0_deepest_0 2 rfl rfl)
theorem dX0_deepest_5 : decode cX0_deepest 5 = .ok (.ifCond .ne 5, 3) := dk_154 0 5 (dk_at dksX0_deepest_0 5 rfl rfl)
theorem dX0_deepest_8 : decode cX0_deepest 8 = .ok (.iconst (-1), 1) := dk_2 (dk_at dksX0_deepest_0 8 rfl rfl)
theorem dX0_deepest_9 : decode cX0_deepest 9 = .ok (.ireturn, 1) := dk_172 (dk_at dksX0_deepest_0 9 rfl rfl)
theorem dX0_deepest_10 : decode cX0_deepest 10 = .ok (.aload_n 0, 1) := dk_42 (dk_at dksX0_deepest_0 10 rfl rfl)
theorem dX0_deepest_11 : decode cX0_deepest 11 = .ok (.iload_n 1, 1) := dk_27 (dk_at dksX0_deepest_0 11 rfl rfl)
theorem dX0_deepest_12 : decode cX0_deepest 12 = .ok (.invokevirtual 58, 3) := dk_182 0 58 (dk_at dksX0_deepest_0 12 rfl rfl)
theorem dX0_deepest_15 : decode cX0_deepest 15 = .ok (.istore_n 2, 1) := dk_61 (dk_at dksX0_deepest_0 15 rfl rfl)
theorem dX0_deepest_16 : decode cX0_deepest 16 = .ok (.aload_n 0, 1) := dk_42 (dk_at dksX0_deepest_0 16 rfl rfl)
theorem dX0_deepest_17 : decode cX0_deepest 17 = .ok (.iload_n 2, 1) := dk_28 (dk_at dksX0_deepest_0 17 rfl rfl)
theorem dX0_deepest_18 : decode cX0_deepest 18 = .ok (.iconst 1, 1) := dk_4 (dk_at dksX0_deepest_0 18 rfl rfl)
theorem dX0_deepest_19 : decode cX0_deepest 19 = .ok (.iadd, 1) := dk_96 (dk_at dksX0_deepest_0 19 rfl rfl)
theorem dX0_deepest_20 : decode cX0_deepest 20 = .ok (.aload_n 0, 1) := dk_42 (dk_at dksX0_deepest_0 20 rfl rfl)
theorem dX0_deepest_21 : decode cX0_deepest 21 = .ok (.iload_n 2, 1) := dk_28 (dk_at dksX0_deepest_0 21 rfl rfl)
theorem dX0_deepest_22 : decode cX0_deepest 22 = .ok (.invokevirtual 61, 3) := dk_182 0 61 (dk_at dksX0_deepest_1 0 rfl rfl)
theorem dX0_deepest_25 : decode cX0_deepest 25 = .ok (.invokevirtual 172, 3) := dk_182 0 172 (dk_at dksX0_deepest_1 3 rfl rfl)
theorem dX0_deepest_28 : decode cX0_deepest 28 = .ok (.aload_n 0, 1) := dk_42 (dk_at dksX0_deepest_1 6 rfl rfl)
theorem dX0_deepest_29 : decode cX0_deepest 29 = .ok (.aload_n 0, 1) := dk_42 (dk_at dksX0_deepest_1 7 rfl rfl)
theorem dX0_deepest_30 : decode cX0_deepest 30 = .ok (.getfield 76, 3) := dk_180 0 76 (dk_at dksX0_deepest_1 8 rfl rfl)
theorem dX0_deepest_33 : decode cX0_deepest 33 = .ok (.iconst 1, 1) := dk_4 (dk_at dksX0_deepest_1 11 rfl rfl)
theorem dX0_deepest_34 : decode cX0_deepest 34 = .ok (.isub, 1) := dk_100 (dk_at dksX0_deepest_1 12 rfl rfl)
theorem dX0_deepest_35 : decode cX0_deepest 35 = .ok (.invokevirtual 179, 3) := dk_182 0 179 (dk_at dksX0_deepest_1 13 rfl rfl)
theorem dX0_deepest_38 : decode cX0_deepest 38 = .ok (.ireturn, 1) := dk_172 (dk_at dksX0_deepest_1 16 rfl rfl)
abbrev cX0_alike : ByteArray := prog_1_method_60_code
def yX0_alike : MethodName := ⟨RX0, "alike", "(II)I"⟩
def dkwX0_alike_5 : List UInt8 := [4, 167, 0, 4, 3, 172]
abbrev dktX0_alike_5 : List UInt8 := dkwX0_alike_5 ++ []
def dkwX0_alike_4 : List UInt8 := [182, 0, 42, 160, 0, 7, 4, 167, 0, 4, 3, 54, 6, 132, 7, 1, 167, 255, 208, 21, 6, 153, 0, 7]
abbrev dktX0_alike_4 : List UInt8 := dkwX0_alike_4 ++ dktX0_alike_5
def dkwX0_alike_3 : List UInt8 := [162, 0, 42, 42, 180, 0, 1, 29, 21, 7, 96, 182, 0, 42, 42, 180, 0, 1, 21, 4, 21, 7, 96]
abbrev dktX0_alike_3 : List UInt8 := dkwX0_alike_3 ++ dktX0_alike_4
def dkwX0_alike_2 : List UInt8 := [104, 160, 0, 7, 4, 167, 0, 4, 3, 54, 6, 3, 54, 7, 21, 6, 153, 0, 49, 21, 7, 21, 5]
abbrev dktX0_alike_2 : List UInt8 := dkwX0_alike_2 ++ dktX0_alike_3
def dkwX0_alike_1 : List UInt8 := [42, 28, 182, 0, 58, 54, 4, 5, 42, 27, 182, 0, 209, 104, 54, 5, 21, 5, 5, 42, 28, 182, 0, 209]
abbrev dktX0_alike_1 : List UInt8 := dkwX0_alike_1 ++ dktX0_alike_2
def dkwX0_alike_0 : List UInt8 := [42, 27, 182, 0, 194, 153, 0, 11, 42, 28, 182, 0, 194, 154, 0, 5, 2, 172, 42, 27, 182, 0, 58, 62]
abbrev dktX0_alike_0 : List UInt8 := dkwX0_alike_0 ++ dktX0_alike_1
theorem dksX0_alike_0 : cX0_alike.data.toList.drop 0 = dktX0_alike_0 := by decide +kernel
theorem dksX0_alike_1 : cX0_alike.data.toList.drop 24 = dktX0_alike_1 := dk_seg dksX0_alike_0 24 rfl rfl
theorem dksX0_alike_2 : cX0_alike.data.toList.drop 48 = dktX0_alike_2 := dk_seg dksX0_alike_1 24 rfl rfl
theorem dksX0_alike_3 : cX0_alike.data.toList.drop 71 = dktX0_alike_3 := dk_seg dksX0_alike_2 23 rfl rfl
theorem dksX0_alike_4 : cX0_alike.data.toList.drop 94 = dktX0_alike_4 := dk_seg dksX0_alike_3 23 rfl rfl
theorem dksX0_alike_5 : cX0_alike.data.toList.drop 118 = dktX0_alike_5 := dk_seg dksX0_alike_4 24 rfl rfl
theorem dX0_alike_0 : decode cX0_alike 0 = .ok (.aload_n 0, 1) := dk_42 (dk_at dksX0_alike_0 0 rfl rfl)
theorem dX0_alike_1 : decode cX0_alike 1 = .ok (.iload_n 1, 1) := dk_27 (dk_at dksX0_alike_0 1 rfl rfl)
theorem dX0_alike_2 : decode cX0_alike 2 = .ok (.invokevirtual 194, 3) := dk_182 0 194 (dk_at dksX0_alike_0 2 rfl rfl)
theorem dX0_alike_5 : decode cX0_alike 5 = .ok (.ifCond .eq 11, 3) := dk_153 0 11 (dk_at dksX0_alike_0 5 rfl rfl)
theorem dX0_alike_8 : decode cX0_alike 8 = .ok (.aload_n 0, 1) := dk_42 (dk_at dksX0_alike_0 8 rfl rfl)
theorem dX0_alike_9 : decode cX0_alike 9 = .ok (.iload_n 2, 1) := dk_28 (dk_at dksX0_alike_0 9 rfl rfl)
theorem dX0_alike_10 : decode cX0_alike 10 = .ok (.invokevirtual 194, 3) := dk_182 0 194 (dk_at dksX0_alike_0 10 rfl rfl)
theorem dX0_alike_13 : decode cX0_alike 13 = .ok (.ifCond .ne 5, 3) := dk_154 0 5 (dk_at dksX0_alike_0 13 rfl rfl)
theorem dX0_alike_16 : decode cX0_alike 16 = .ok (.iconst (-1), 1) := dk_2 (dk_at dksX0_alike_0 16 rfl rfl)
theorem dX0_alike_17 : decode cX0_alike 17 = .ok (.ireturn, 1) := dk_172 (dk_at dksX0_alike_0 17 rfl rfl)
theorem dX0_alike_18 : decode cX0_alike 18 = .ok (.aload_n 0, 1) := dk_42 (dk_at dksX0_alike_0 18 rfl rfl)
theorem dX0_alike_19 : decode cX0_alike 19 = .ok (.iload_n 1, 1) := dk_27 (dk_at dksX0_alike_0 19 rfl rfl)
theorem dX0_alike_20 : decode cX0_alike 20 = .ok (.invokevirtual 58, 3) := dk_182 0 58 (dk_at dksX0_alike_0 20 rfl rfl)
theorem dX0_alike_23 : decode cX0_alike 23 = .ok (.istore_n 3, 1) := dk_62 (dk_at dksX0_alike_0 23 rfl rfl)
theorem dX0_alike_24 : decode cX0_alike 24 = .ok (.aload_n 0, 1) := dk_42 (dk_at dksX0_alike_1 0 rfl rfl)
theorem dX0_alike_25 : decode cX0_alike 25 = .ok (.iload_n 2, 1) := dk_28 (dk_at dksX0_alike_1 1 rfl rfl)
theorem dX0_alike_26 : decode cX0_alike 26 = .ok (.invokevirtual 58, 3) := dk_182 0 58 (dk_at dksX0_alike_1 2 rfl rfl)
theorem dX0_alike_29 : decode cX0_alike 29 = .ok (.istore 4, 2) := dk_54 4 (dk_at dksX0_alike_1 5 rfl rfl)
theorem dX0_alike_31 : decode cX0_alike 31 = .ok (.iconst 2, 1) := dk_5 (dk_at dksX0_alike_1 7 rfl rfl)
theorem dX0_alike_32 : decode cX0_alike 32 = .ok (.aload_n 0, 1) := dk_42 (dk_at dksX0_alike_1 8 rfl rfl)
theorem dX0_alike_33 : decode cX0_alike 33 = .ok (.iload_n 1, 1) := dk_27 (dk_at dksX0_alike_1 9 rfl rfl)
theorem dX0_alike_34 : decode cX0_alike 34 = .ok (.invokevirtual 209, 3) := dk_182 0 209 (dk_at dksX0_alike_1 10 rfl rfl)
theorem dX0_alike_37 : decode cX0_alike 37 = .ok (.imul, 1) := dk_104 (dk_at dksX0_alike_1 13 rfl rfl)
theorem dX0_alike_38 : decode cX0_alike 38 = .ok (.istore 5, 2) := dk_54 5 (dk_at dksX0_alike_1 14 rfl rfl)
theorem dX0_alike_40 : decode cX0_alike 40 = .ok (.iload 5, 2) := dk_21 5 (dk_at dksX0_alike_1 16 rfl rfl)
theorem dX0_alike_42 : decode cX0_alike 42 = .ok (.iconst 2, 1) := dk_5 (dk_at dksX0_alike_1 18 rfl rfl)
theorem dX0_alike_43 : decode cX0_alike 43 = .ok (.aload_n 0, 1) := dk_42 (dk_at dksX0_alike_1 19 rfl rfl)
theorem dX0_alike_44 : decode cX0_alike 44 = .ok (.iload_n 2, 1) := dk_28 (dk_at dksX0_alike_1 20 rfl rfl)
theorem dX0_alike_45 : decode cX0_alike 45 = .ok (.invokevirtual 209, 3) := dk_182 0 209 (dk_at dksX0_alike_1 21 rfl rfl)
theorem dX0_alike_48 : decode cX0_alike 48 = .ok (.imul, 1) := dk_104 (dk_at dksX0_alike_2 0 rfl rfl)
theorem dX0_alike_49 : decode cX0_alike 49 = .ok (.if_icmp .ne 7, 3) := dk_160 0 7 (dk_at dksX0_alike_2 1 rfl rfl)
theorem dX0_alike_52 : decode cX0_alike 52 = .ok (.iconst 1, 1) := dk_4 (dk_at dksX0_alike_2 4 rfl rfl)
theorem dX0_alike_53 : decode cX0_alike 53 = .ok (.goto 4, 3) := dk_167 0 4 (dk_at dksX0_alike_2 5 rfl rfl)
theorem dX0_alike_56 : decode cX0_alike 56 = .ok (.iconst 0, 1) := dk_3 (dk_at dksX0_alike_2 8 rfl rfl)
theorem dX0_alike_57 : decode cX0_alike 57 = .ok (.istore 6, 2) := dk_54 6 (dk_at dksX0_alike_2 9 rfl rfl)
theorem dX0_alike_59 : decode cX0_alike 59 = .ok (.iconst 0, 1) := dk_3 (dk_at dksX0_alike_2 11 rfl rfl)
theorem dX0_alike_60 : decode cX0_alike 60 = .ok (.istore 7, 2) := dk_54 7 (dk_at dksX0_alike_2 12 rfl rfl)
theorem dX0_alike_62 : decode cX0_alike 62 = .ok (.iload 6, 2) := dk_21 6 (dk_at dksX0_alike_2 14 rfl rfl)
theorem dX0_alike_64 : decode cX0_alike 64 = .ok (.ifCond .eq 49, 3) := dk_153 0 49 (dk_at dksX0_alike_2 16 rfl rfl)
theorem dX0_alike_67 : decode cX0_alike 67 = .ok (.iload 7, 2) := dk_21 7 (dk_at dksX0_alike_2 19 rfl rfl)
theorem dX0_alike_69 : decode cX0_alike 69 = .ok (.iload 5, 2) := dk_21 5 (dk_at dksX0_alike_2 21 rfl rfl)
theorem dX0_alike_71 : decode cX0_alike 71 = .ok (.if_icmp .ge 42, 3) := dk_162 0 42 (dk_at dksX0_alike_3 0 rfl rfl)
theorem dX0_alike_74 : decode cX0_alike 74 = .ok (.aload_n 0, 1) := dk_42 (dk_at dksX0_alike_3 3 rfl rfl)
theorem dX0_alike_75 : decode cX0_alike 75 = .ok (.getfield 1, 3) := dk_180 0 1 (dk_at dksX0_alike_3 4 rfl rfl)
theorem dX0_alike_78 : decode cX0_alike 78 = .ok (.iload_n 3, 1) := dk_29 (dk_at dksX0_alike_3 7 rfl rfl)
theorem dX0_alike_79 : decode cX0_alike 79 = .ok (.iload 7, 2) := dk_21 7 (dk_at dksX0_alike_3 8 rfl rfl)
theorem dX0_alike_81 : decode cX0_alike 81 = .ok (.iadd, 1) := dk_96 (dk_at dksX0_alike_3 10 rfl rfl)
theorem dX0_alike_82 : decode cX0_alike 82 = .ok (.invokevirtual 42, 3) := dk_182 0 42 (dk_at dksX0_alike_3 11 rfl rfl)
theorem dX0_alike_85 : decode cX0_alike 85 = .ok (.aload_n 0, 1) := dk_42 (dk_at dksX0_alike_3 14 rfl rfl)
theorem dX0_alike_86 : decode cX0_alike 86 = .ok (.getfield 1, 3) := dk_180 0 1 (dk_at dksX0_alike_3 15 rfl rfl)
theorem dX0_alike_89 : decode cX0_alike 89 = .ok (.iload 4, 2) := dk_21 4 (dk_at dksX0_alike_3 18 rfl rfl)
theorem dX0_alike_91 : decode cX0_alike 91 = .ok (.iload 7, 2) := dk_21 7 (dk_at dksX0_alike_3 20 rfl rfl)
theorem dX0_alike_93 : decode cX0_alike 93 = .ok (.iadd, 1) := dk_96 (dk_at dksX0_alike_3 22 rfl rfl)
theorem dX0_alike_94 : decode cX0_alike 94 = .ok (.invokevirtual 42, 3) := dk_182 0 42 (dk_at dksX0_alike_4 0 rfl rfl)
theorem dX0_alike_97 : decode cX0_alike 97 = .ok (.if_icmp .ne 7, 3) := dk_160 0 7 (dk_at dksX0_alike_4 3 rfl rfl)
theorem dX0_alike_100 : decode cX0_alike 100 = .ok (.iconst 1, 1) := dk_4 (dk_at dksX0_alike_4 6 rfl rfl)
theorem dX0_alike_101 : decode cX0_alike 101 = .ok (.goto 4, 3) := dk_167 0 4 (dk_at dksX0_alike_4 7 rfl rfl)
theorem dX0_alike_104 : decode cX0_alike 104 = .ok (.iconst 0, 1) := dk_3 (dk_at dksX0_alike_4 10 rfl rfl)
theorem dX0_alike_105 : decode cX0_alike 105 = .ok (.istore 6, 2) := dk_54 6 (dk_at dksX0_alike_4 11 rfl rfl)
theorem dX0_alike_107 : decode cX0_alike 107 = .ok (.iinc 7 1, 3) := dk_132 7 1 (dk_at dksX0_alike_4 13 rfl rfl)
theorem dX0_alike_110 : decode cX0_alike 110 = .ok (.goto (-48), 3) := dk_167 255 208 (dk_at dksX0_alike_4 16 rfl rfl)
theorem dX0_alike_113 : decode cX0_alike 113 = .ok (.iload 6, 2) := dk_21 6 (dk_at dksX0_alike_4 19 rfl rfl)
theorem dX0_alike_115 : decode cX0_alike 115 = .ok (.ifCond .eq 7, 3) := dk_153 0 7 (dk_at dksX0_alike_4 21 rfl rfl)
theorem dX0_alike_118 : decode cX0_alike 118 = .ok (.iconst 1, 1) := dk_4 (dk_at dksX0_alike_5 0 rfl rfl)
theorem dX0_alike_119 : decode cX0_alike 119 = .ok (.goto 4, 3) := dk_167 0 4 (dk_at dksX0_alike_5 1 rfl rfl)
theorem dX0_alike_122 : decode cX0_alike 122 = .ok (.iconst 0, 1) := dk_3 (dk_at dksX0_alike_5 4 rfl rfl)
theorem dX0_alike_123 : decode cX0_alike 123 = .ok (.ireturn, 1) := dk_172 (dk_at dksX0_alike_5 5 rfl rfl)
abbrev cX0_weight : ByteArray := prog_1_method_61_code
def yX0_weight : MethodName := ⟨RX0, "weight", "(I)I"⟩
def dkwX0_weight_0 : List UInt8 := [42, 27, 182, 0, 194, 153, 0, 15, 42, 180, 0, 1, 180, 0, 243, 27, 46, 167, 0, 4, 2, 172]
abbrev dktX0_weight_0 : List UInt8 := dkwX0_weight_0 ++ []
theorem dksX0_weight_0 : cX0_weight.data.toList.drop 0 = dktX0_weight_0 := by decide +kernel
theorem dX0_weight_0 : decode cX0_weight 0 = .ok (.aload_n 0, 1) := dk_42 (dk_at dksX0_weight_0 0 rfl rfl)
theorem dX0_weight_1 : decode cX0_weight 1 = .ok (.iload_n 1, 1) := dk_27 (dk_at dksX0_weight_0 1 rfl rfl)
theorem dX0_weight_2 : decode cX0_weight 2 = .ok (.invokevirtual 194, 3) := dk_182 0 194 (dk_at dksX0_weight_0 2 rfl rfl)
theorem dX0_weight_5 : decode cX0_weight 5 = .ok (.ifCond .eq 15, 3) := dk_153 0 15 (dk_at dksX0_weight_0 5 rfl rfl)
theorem dX0_weight_8 : decode cX0_weight 8 = .ok (.aload_n 0, 1) := dk_42 (dk_at dksX0_weight_0 8 rfl rfl)
theorem dX0_weight_9 : decode cX0_weight 9 = .ok (.getfield 1, 3) := dk_180 0 1 (dk_at dksX0_weight_0 9 rfl rfl)
theorem dX0_weight_12 : decode cX0_weight 12 = .ok (.getfield 243, 3) := dk_180 0 243 (dk_at dksX0_weight_0 12 rfl rfl)
theorem dX0_weight_15 : decode cX0_weight 15 = .ok (.iload_n 1, 1) := dk_27 (dk_at dksX0_weight_0 15 rfl rfl)
theorem dX0_weight_16 : decode cX0_weight 16 = .ok (.iaload, 1) := dk_46 (dk_at dksX0_weight_0 16 rfl rfl)
theorem dX0_weight_17 : decode cX0_weight 17 = .ok (.goto 4, 3) := dk_167 0 4 (dk_at dksX0_weight_0 17 rfl rfl)
theorem dX0_weight_20 : decode cX0_weight 20 = .ok (.iconst (-1), 1) := dk_2 (dk_at dksX0_weight_0 20 rfl rfl)
theorem dX0_weight_21 : decode cX0_weight 21 = .ok (.ireturn, 1) := dk_172 (dk_at dksX0_weight_0 21 rfl rfl)
abbrev cX0_set : ByteArray := prog_1_method_62_code
def yX0_set : MethodName := ⟨RX0, "set", "(II)I"⟩
def dkwX0_set_1 : List UInt8 := [42, 180, 0, 1, 180, 0, 243, 27, 28, 79, 29, 172]
abbrev dktX0_set_1 : List UInt8 := dkwX0_set_1 ++ []
def dkwX0_set_0 : List UInt8 := [42, 27, 182, 0, 194, 153, 0, 7, 28, 156, 0, 5, 2, 172, 42, 180, 0, 1, 180, 0, 243, 27, 46, 62]
abbrev dktX0_set_0 : List UInt8 := dkwX0_set_0 ++ dktX0_set_1
theorem dksX0_set_0 : cX0_set.data.toList.drop 0 = dktX0_set_0 := by decide +kernel
theorem dksX0_set_1 : cX0_set.data.toList.drop 24 = dktX0_set_1 := dk_seg dksX0_set_0 24 rfl rfl
theorem dX0_set_0 : decode cX0_set 0 = .ok (.aload_n 0, 1) := dk_42 (dk_at dksX0_set_0 0 rfl rfl)
theorem dX0_set_1 : decode cX0_set 1 = .ok (.iload_n 1, 1) := dk_27 (dk_at dksX0_set_0 1 rfl rfl)
theorem dX0_set_2 : decode cX0_set 2 = .ok (.invokevirtual 194, 3) := dk_182 0 194 (dk_at dksX0_set_0 2 rfl rfl)
theorem dX0_set_5 : decode cX0_set 5 = .ok (.ifCond .eq 7, 3) := dk_153 0 7 (dk_at dksX0_set_0 5 rfl rfl)
theorem dX0_set_8 : decode cX0_set 8 = .ok (.iload_n 2, 1) := dk_28 (dk_at dksX0_set_0 8 rfl rfl)
theorem dX0_set_9 : decode cX0_set 9 = .ok (.ifCond .ge 5, 3) := dk_156 0 5 (dk_at dksX0_set_0 9 rfl rfl)
theorem dX0_set_12 : decode cX0_set 12 = .ok (.iconst (-1), 1) := dk_2 (dk_at dksX0_set_0 12 rfl rfl)
theorem dX0_set_13 : decode cX0_set 13 = .ok (.ireturn, 1) := dk_172 (dk_at dksX0_set_0 13 rfl rfl)
theorem dX0_set_14 : decode cX0_set 14 = .ok (.aload_n 0, 1) := dk_42 (dk_at dksX0_set_0 14 rfl rfl)
theorem dX0_set_15 : decode cX0_set 15 = .ok (.getfield 1, 3) := dk_180 0 1 (dk_at dksX0_set_0 15 rfl rfl)
theorem dX0_set_18 : decode cX0_set 18 = .ok (.getfield 243, 3) := dk_180 0 243 (dk_at dksX0_set_0 18 rfl rfl)
theorem dX0_set_21 : decode cX0_set 21 = .ok (.iload_n 1, 1) := dk_27 (dk_at dksX0_set_0 21 rfl rfl)
theorem dX0_set_22 : decode cX0_set 22 = .ok (.iaload, 1) := dk_46 (dk_at dksX0_set_0 22 rfl rfl)
theorem dX0_set_23 : decode cX0_set 23 = .ok (.istore_n 3, 1) := dk_62 (dk_at dksX0_set_0 23 rfl rfl)
theorem dX0_set_24 : decode cX0_set 24 = .ok (.aload_n 0, 1) := dk_42 (dk_at dksX0_set_1 0 rfl rfl)
theorem dX0_set_25 : decode cX0_set 25 = .ok (.getfield 1, 3) := dk_180 0 1 (dk_at dksX0_set_1 1 rfl rfl)
theorem dX0_set_28 : decode cX0_set 28 = .ok (.getfield 243, 3) := dk_180 0 243 (dk_at dksX0_set_1 4 rfl rfl)
theorem dX0_set_31 : decode cX0_set 31 = .ok (.iload_n 1, 1) := dk_27 (dk_at dksX0_set_1 7 rfl rfl)
theorem dX0_set_32 : decode cX0_set 32 = .ok (.iload_n 2, 1) := dk_28 (dk_at dksX0_set_1 8 rfl rfl)
theorem dX0_set_33 : decode cX0_set 33 = .ok (.iastore, 1) := dk_79 (dk_at dksX0_set_1 9 rfl rfl)
theorem dX0_set_34 : decode cX0_set 34 = .ok (.iload_n 3, 1) := dk_29 (dk_at dksX0_set_1 10 rfl rfl)
theorem dX0_set_35 : decode cX0_set 35 = .ok (.ireturn, 1) := dk_172 (dk_at dksX0_set_1 11 rfl rfl)
abbrev cX0_sum : ByteArray := prog_1_method_65_code
def yX0_sum : MethodName := ⟨RX0, "sum", "(II)I"⟩
def dkwX0_sum_1 : List UInt8 := [42, 27, 182, 0, 250, 167, 0, 8, 42, 27, 182, 0, 253, 172, 78, 16, 251, 172]
abbrev dktX0_sum_1 : List UInt8 := dkwX0_sum_1 ++ []
def dkwX0_sum_0 : List UInt8 := [42, 27, 182, 0, 194, 153, 0, 13, 28, 133, 9, 10, 184, 0, 115, 154, 0, 5, 2, 172, 28, 154, 0, 11]
abbrev dktX0_sum_0 : List UInt8 := dkwX0_sum_0 ++ dktX0_sum_1
theorem dksX0_sum_0 : cX0_sum.data.toList.drop 0 = dktX0_sum_0 := by decide +kernel
theorem dksX0_sum_1 : cX0_sum.data.toList.drop 24 = dktX0_sum_1 := dk_seg dksX0_sum_0 24 rfl rfl
theorem dX0_sum_0 : decode cX0_sum 0 = .ok (.aload_n 0, 1) := dk_42 (dk_at dksX0_sum_0 0 rfl rfl)
theorem dX0_sum_1 : decode cX0_sum 1 = .ok (.iload_n 1, 1) := dk_27 (dk_at dksX0_sum_0 1 rfl rfl)
theorem dX0_sum_2 : decode cX0_sum 2 = .ok (.invokevirtual 194, 3) := dk_182 0 194 (dk_at dksX0_sum_0 2 rfl rfl)
theorem dX0_sum_5 : decode cX0_sum 5 = .ok (.ifCond .eq 13, 3) := dk_153 0 13 (dk_at dksX0_sum_0 5 rfl rfl)
theorem dX0_sum_8 : decode cX0_sum 8 = .ok (.iload_n 2, 1) := dk_28 (dk_at dksX0_sum_0 8 rfl rfl)
theorem dX0_sum_9 : decode cX0_sum 9 = .ok (.i2l, 1) := dk_133 (dk_at dksX0_sum_0 9 rfl rfl)
theorem dX0_sum_10 : decode cX0_sum 10 = .ok (.lconst 0, 1) := dk_9 (dk_at dksX0_sum_0 10 rfl rfl)
theorem dX0_sum_11 : decode cX0_sum 11 = .ok (.lconst 1, 1) := dk_10 (dk_at dksX0_sum_0 11 rfl rfl)
theorem dX0_sum_12 : decode cX0_sum 12 = .ok (.invokestatic 115, 3) := dk_184 0 115 (dk_at dksX0_sum_0 12 rfl rfl)
theorem dX0_sum_15 : decode cX0_sum 15 = .ok (.ifCond .ne 5, 3) := dk_154 0 5 (dk_at dksX0_sum_0 15 rfl rfl)
theorem dX0_sum_18 : decode cX0_sum 18 = .ok (.iconst (-1), 1) := dk_2 (dk_at dksX0_sum_0 18 rfl rfl)
theorem dX0_sum_19 : decode cX0_sum 19 = .ok (.ireturn, 1) := dk_172 (dk_at dksX0_sum_0 19 rfl rfl)
theorem dX0_sum_20 : decode cX0_sum 20 = .ok (.iload_n 2, 1) := dk_28 (dk_at dksX0_sum_0 20 rfl rfl)
theorem dX0_sum_21 : decode cX0_sum 21 = .ok (.ifCond .ne 11, 3) := dk_154 0 11 (dk_at dksX0_sum_0 21 rfl rfl)
theorem dX0_sum_24 : decode cX0_sum 24 = .ok (.aload_n 0, 1) := dk_42 (dk_at dksX0_sum_1 0 rfl rfl)
theorem dX0_sum_25 : decode cX0_sum 25 = .ok (.iload_n 1, 1) := dk_27 (dk_at dksX0_sum_1 1 rfl rfl)
theorem dX0_sum_26 : decode cX0_sum 26 = .ok (.invokevirtual 250, 3) := dk_182 0 250 (dk_at dksX0_sum_1 2 rfl rfl)
theorem dX0_sum_29 : decode cX0_sum 29 = .ok (.goto 8, 3) := dk_167 0 8 (dk_at dksX0_sum_1 5 rfl rfl)
theorem dX0_sum_32 : decode cX0_sum 32 = .ok (.aload_n 0, 1) := dk_42 (dk_at dksX0_sum_1 8 rfl rfl)
theorem dX0_sum_33 : decode cX0_sum 33 = .ok (.iload_n 1, 1) := dk_27 (dk_at dksX0_sum_1 9 rfl rfl)
theorem dX0_sum_34 : decode cX0_sum 34 = .ok (.invokevirtual 253, 3) := dk_182 0 253 (dk_at dksX0_sum_1 10 rfl rfl)
theorem dX0_sum_37 : decode cX0_sum 37 = .ok (.ireturn, 1) := dk_172 (dk_at dksX0_sum_1 13 rfl rfl)
theorem dX0_sum_38 : decode cX0_sum 38 = .ok (.astore_n 3, 1) := dk_78 (dk_at dksX0_sum_1 14 rfl rfl)
theorem dX0_sum_39 : decode cX0_sum 39 = .ok (.bipush (-5), 2) := dk_16 251 (dk_at dksX0_sum_1 15 rfl rfl)
theorem dX0_sum_41 : decode cX0_sum 41 = .ok (.ireturn, 1) := dk_172 (dk_at dksX0_sum_1 17 rfl rfl)
abbrev cX0_sumBelow : ByteArray := prog_1_method_63_code
def yX0_sumBelow : MethodName := ⟨RX0, "sumBelow", "(I)I"⟩
def dkwX0_sumBelow_1 : List UInt8 := [46, 184, 0, 247, 61, 132, 3, 1, 167, 255, 228, 28, 172]
abbrev dktX0_sumBelow_1 : List UInt8 := dkwX0_sumBelow_1 ++ []
def dkwX0_sumBelow_0 : List UInt8 := [3, 61, 27, 62, 29, 27, 42, 27, 182, 0, 209, 96, 162, 0, 23, 28, 42, 180, 0, 1, 180, 0, 243, 29]
abbrev dktX0_sumBelow_0 : List UInt8 := dkwX0_sumBelow_0 ++ dktX0_sumBelow_1
theorem dksX0_sumBelow_0 : cX0_sumBelow.data.toList.drop 0 = dktX0_sumBelow_0 := by decide +kernel
theorem dksX0_sumBelow_1 : cX0_sumBelow.data.toList.drop 24 = dktX0_sumBelow_1 := dk_seg dksX0_sumBelow_0 24 rfl rfl
theorem dX0_sumBelow_0 : decode cX0_sumBelow 0 = .ok (.iconst 0, 1) := dk_3 (dk_at dksX0_sumBelow_0 0 rfl rfl)
theorem dX0_sumBelow_1 : decode cX0_sumBelow 1 = .ok (.istore_n 2, 1) := dk_61 (dk_at dksX0_sumBelow_0 1 rfl rfl)
theorem dX0_sumBelow_2 : decode cX0_sumBelow 2 = .ok (.iload_n 1, 1) := dk_27 (dk_at dksX0_sumBelow_0 2 rfl rfl)
theorem dX0_sumBelow_3 : decode cX0_sumBelow 3 = .ok (.istore_n 3, 1) := dk_62 (dk_at dksX0_sumBelow_0 3 rfl rfl)
theorem dX0_sumBelow_4 : decode cX0_sumBelow 4 = .ok (.iload_n 3, 1) := dk_29 (dk_at dksX0_sumBelow_0 4 rfl rfl)
theorem dX0_sumBelow_5 : decode cX0_sumBelow 5 = .ok (.iload_n 1, 1) := dk_27 (dk_at dksX0_sumBelow_0 5 rfl rfl)
theorem dX0_sumBelow_6 : decode cX0_sumBelow 6 = .ok (.aload_n 0, 1) := dk_42 (dk_at dksX0_sumBelow_0 6 rfl rfl)
theorem dX0_sumBelow_7 : decode cX0_sumBelow 7 = .ok (.iload_n 1, 1) := dk_27 (dk_at dksX0_sumBelow_0 7 rfl rfl)
theorem dX0_sumBelow_8 : decode cX0_sumBelow 8 = .ok (.invokevirtual 209, 3) := dk_182 0 209 (dk_at dksX0_sumBelow_0 8 rfl rfl)
theorem dX0_sumBelow_11 : decode cX0_sumBelow 11 = .ok (.iadd, 1) := dk_96 (dk_at dksX0_sumBelow_0 11 rfl rfl)
theorem dX0_sumBelow_12 : decode cX0_sumBelow 12 = .ok (.if_icmp .ge 23, 3) := dk_162 0 23 (dk_at dksX0_sumBelow_0 12 rfl rfl)
theorem dX0_sumBelow_15 : decode cX0_sumBelow 15 = .ok (.iload_n 2, 1) := dk_28 (dk_at dksX0_sumBelow_0 15 rfl rfl)
theorem dX0_sumBelow_16 : decode cX0_sumBelow 16 = .ok (.aload_n 0, 1) := dk_42 (dk_at dksX0_sumBelow_0 16 rfl rfl)
theorem dX0_sumBelow_17 : decode cX0_sumBelow 17 = .ok (.getfield 1, 3) := dk_180 0 1 (dk_at dksX0_sumBelow_0 17 rfl rfl)
theorem dX0_sumBelow_20 : decode cX0_sumBelow 20 = .ok (.getfield 243, 3) := dk_180 0 243 (dk_at dksX0_sumBelow_0 20 rfl rfl)
theorem dX0_sumBelow_23 : decode cX0_sumBelow 23 = .ok (.iload_n 3, 1) := dk_29 (dk_at dksX0_sumBelow_0 23 rfl rfl)
theorem dX0_sumBelow_24 : decode cX0_sumBelow 24 = .ok (.iaload, 1) := dk_46 (dk_at dksX0_sumBelow_1 0 rfl rfl)
theorem dX0_sumBelow_25 : decode cX0_sumBelow 25 = .ok (.invokestatic 247, 3) := dk_184 0 247 (dk_at dksX0_sumBelow_1 1 rfl rfl)
theorem dX0_sumBelow_28 : decode cX0_sumBelow 28 = .ok (.istore_n 2, 1) := dk_61 (dk_at dksX0_sumBelow_1 4 rfl rfl)
theorem dX0_sumBelow_29 : decode cX0_sumBelow 29 = .ok (.iinc 3 1, 3) := dk_132 3 1 (dk_at dksX0_sumBelow_1 5 rfl rfl)
theorem dX0_sumBelow_32 : decode cX0_sumBelow 32 = .ok (.goto (-28), 3) := dk_167 255 228 (dk_at dksX0_sumBelow_1 8 rfl rfl)
theorem dX0_sumBelow_35 : decode cX0_sumBelow 35 = .ok (.iload_n 2, 1) := dk_28 (dk_at dksX0_sumBelow_1 11 rfl rfl)
theorem dX0_sumBelow_36 : decode cX0_sumBelow 36 = .ok (.ireturn, 1) := dk_172 (dk_at dksX0_sumBelow_1 12 rfl rfl)
abbrev cX0_sumAbove : ByteArray := prog_1_method_64_code
def yX0_sumAbove : MethodName := ⟨RX0, "sumAbove", "(I)I"⟩
def dkwX0_sumAbove_1 : List UInt8 := [42, 29, 182, 0, 200, 62, 167, 255, 230, 28, 172]
abbrev dktX0_sumAbove_1 : List UInt8 := dkwX0_sumAbove_1 ++ []
def dkwX0_sumAbove_0 : List UInt8 := [3, 61, 27, 62, 29, 16, 252, 159, 0, 26, 28, 42, 180, 0, 1, 180, 0, 243, 29, 46, 184, 0, 247, 61]
abbrev dktX0_sumAbove_0 : List UInt8 := dkwX0_sumAbove_0 ++ dktX0_sumAbove_1
theorem dksX0_sumAbove_0 : cX0_sumAbove.data.toList.drop 0 = dktX0_sumAbove_0 := by decide +kernel
theorem dksX0_sumAbove_1 : cX0_sumAbove.data.toList.drop 24 = dktX0_sumAbove_1 := dk_seg dksX0_sumAbove_0 24 rfl rfl
theorem dX0_sumAbove_0 : decode cX0_sumAbove 0 = .ok (.iconst 0, 1) := dk_3 (dk_at dksX0_sumAbove_0 0 rfl rfl)
theorem dX0_sumAbove_1 : decode cX0_sumAbove 1 = .ok (.istore_n 2, 1) := dk_61 (dk_at dksX0_sumAbove_0 1 rfl rfl)
theorem dX0_sumAbove_2 : decode cX0_sumAbove 2 = .ok (.iload_n 1, 1) := dk_27 (dk_at dksX0_sumAbove_0 2 rfl rfl)
theorem dX0_sumAbove_3 : decode cX0_sumAbove 3 = .ok (.istore_n 3, 1) := dk_62 (dk_at dksX0_sumAbove_0 3 rfl rfl)
theorem dX0_sumAbove_4 : decode cX0_sumAbove 4 = .ok (.iload_n 3, 1) := dk_29 (dk_at dksX0_sumAbove_0 4 rfl rfl)
theorem dX0_sumAbove_5 : decode cX0_sumAbove 5 = .ok (.bipush (-4), 2) := dk_16 252 (dk_at dksX0_sumAbove_0 5 rfl rfl)
theorem dX0_sumAbove_7 : decode cX0_sumAbove 7 = .ok (.if_icmp .eq 26, 3) := dk_159 0 26 (dk_at dksX0_sumAbove_0 7 rfl rfl)
theorem dX0_sumAbove_10 : decode cX0_sumAbove 10 = .ok (.iload_n 2, 1) := dk_28 (dk_at dksX0_sumAbove_0 10 rfl rfl)
theorem dX0_sumAbove_11 : decode cX0_sumAbove 11 = .ok (.aload_n 0, 1) := dk_42 (dk_at dksX0_sumAbove_0 11 rfl rfl)
theorem dX0_sumAbove_12 : decode cX0_sumAbove 12 = .ok (.getfield 1, 3) := dk_180 0 1 (dk_at dksX0_sumAbove_0 12 rfl rfl)
theorem dX0_sumAbove_15 : decode cX0_sumAbove 15 = .ok (.getfield 243, 3) := dk_180 0 243 (dk_at dksX0_sumAbove_0 15 rfl rfl)
theorem dX0_sumAbove_18 : decode cX0_sumAbove 18 = .ok (.iload_n 3, 1) := dk_29 (dk_at dksX0_sumAbove_0 18 rfl rfl)
theorem dX0_sumAbove_19 : decode cX0_sumAbove 19 = .ok (.iaload, 1) := dk_46 (dk_at dksX0_sumAbove_0 19 rfl rfl)
theorem dX0_sumAbove_20 : decode cX0_sumAbove 20 = .ok (.invokestatic 247, 3) := dk_184 0 247 (dk_at dksX0_sumAbove_0 20 rfl rfl)
theorem dX0_sumAbove_23 : decode cX0_sumAbove 23 = .ok (.istore_n 2, 1) := dk_61 (dk_at dksX0_sumAbove_0 23 rfl rfl)
theorem dX0_sumAbove_24 : decode cX0_sumAbove 24 = .ok (.aload_n 0, 1) := dk_42 (dk_at dksX0_sumAbove_1 0 rfl rfl)
theorem dX0_sumAbove_25 : decode cX0_sumAbove 25 = .ok (.iload_n 3, 1) := dk_29 (dk_at dksX0_sumAbove_1 1 rfl rfl)
theorem dX0_sumAbove_26 : decode cX0_sumAbove 26 = .ok (.invokevirtual 200, 3) := dk_182 0 200 (dk_at dksX0_sumAbove_1 2 rfl rfl)
theorem dX0_sumAbove_29 : decode cX0_sumAbove 29 = .ok (.istore_n 3, 1) := dk_62 (dk_at dksX0_sumAbove_1 5 rfl rfl)
theorem dX0_sumAbove_30 : decode cX0_sumAbove 30 = .ok (.goto (-26), 3) := dk_167 255 230 (dk_at dksX0_sumAbove_1 6 rfl rfl)
theorem dX0_sumAbove_33 : decode cX0_sumAbove 33 = .ok (.iload_n 2, 1) := dk_28 (dk_at dksX0_sumAbove_1 9 rfl rfl)
theorem dX0_sumAbove_34 : decode cX0_sumAbove 34 = .ok (.ireturn, 1) := dk_172 (dk_at dksX0_sumAbove_1 10 rfl rfl)
abbrev cX0_heaviest : ByteArray := prog_1_method_66_code
def yX0_heaviest : MethodName := ⟨RX0, "heaviest", "(I)I"⟩
def dkwX0_heaviest_2 : List UInt8 := [29, 167, 0, 4, 28, 61, 132, 3, 1, 167, 255, 215, 28, 172]
abbrev dktX0_heaviest_2 : List UInt8 := dkwX0_heaviest_2 ++ []
def dkwX0_heaviest_1 : List UInt8 := [162, 0, 36, 42, 180, 0, 1, 180, 0, 243, 29, 46, 42, 180, 0, 1, 180, 0, 243, 28, 46, 164, 0, 7]
abbrev dktX0_heaviest_1 : List UInt8 := dkwX0_heaviest_1 ++ dktX0_heaviest_2
def dkwX0_heaviest_0 : List UInt8 := [42, 27, 182, 0, 194, 154, 0, 5, 2, 172, 27, 61, 27, 4, 96, 62, 29, 27, 42, 27, 182, 0, 209, 96]
abbrev dktX0_heaviest_0 : List UInt8 := dkwX0_heaviest_0 ++ dktX0_heaviest_1
theorem dksX0_heaviest_0 : cX0_heaviest.data.toList.drop 0 = dktX0_heaviest_0 := by decide +kernel
theorem dksX0_heaviest_1 : cX0_heaviest.data.toList.drop 24 = dktX0_heaviest_1 := dk_seg dksX0_heaviest_0 24 rfl rfl
theorem dksX0_heaviest_2 : cX0_heaviest.data.toList.drop 48 = dktX0_heaviest_2 := dk_seg dksX0_heaviest_1 24 rfl rfl
theorem dX0_heaviest_0 : decode cX0_heaviest 0 = .ok (.aload_n 0, 1) := dk_42 (dk_at dksX0_heaviest_0 0 rfl rfl)
theorem dX0_heaviest_1 : decode cX0_heaviest 1 = .ok (.iload_n 1, 1) := dk_27 (dk_at dksX0_heaviest_0 1 rfl rfl)
theorem dX0_heaviest_2 : decode cX0_heaviest 2 = .ok (.invokevirtual 194, 3) := dk_182 0 194 (dk_at dksX0_heaviest_0 2 rfl rfl)
theorem dX0_heaviest_5 : decode cX0_heaviest 5 = .ok (.ifCond .ne 5, 3) := dk_154 0 5 (dk_at dksX0_heaviest_0 5 rfl rfl)
theorem dX0_heaviest_8 : decode cX0_heaviest 8 = .ok (.iconst (-1), 1) := dk_2 (dk_at dksX0_heaviest_0 8 rfl rfl)
theorem dX0_heaviest_9 : decode cX0_heaviest 9 = .ok (.ireturn, 1) := dk_172 (dk_at dksX0_heaviest_0 9 rfl rfl)
theorem dX0_heaviest_10 : decode cX0_heaviest 10 = .ok (.iload_n 1, 1) := dk_27 (dk_at dksX0_heaviest_0 10 rfl rfl)
theorem dX0_heaviest_11 : decode cX0_heaviest 11 = .ok (.istore_n 2, 1) := dk_61 (dk_at dksX0_heaviest_0 11 rfl rfl)
theorem dX0_heaviest_12 : decode cX0_heaviest 12 = .ok (.iload_n 1, 1) := dk_27 (dk_at dksX0_heaviest_0 12 rfl rfl)
theorem dX0_heaviest_13 : decode cX0_heaviest 13 = .ok (.iconst 1, 1) := dk_4 (dk_at dksX0_heaviest_0 13 rfl rfl)
theorem dX0_heaviest_14 : decode cX0_heaviest 14 = .ok (.iadd, 1) := dk_96 (dk_at dksX0_heaviest_0 14 rfl rfl)
theorem dX0_heaviest_15 : decode cX0_heaviest 15 = .ok (.istore_n 3, 1) := dk_62 (dk_at dksX0_heaviest_0 15 rfl rfl)
theorem dX0_heaviest_16 : decode cX0_heaviest 16 = .ok (.iload_n 3, 1) := dk_29 (dk_at dksX0_heaviest_0 16 rfl rfl)
theorem dX0_heaviest_17 : decode cX0_heaviest 17 = .ok (.iload_n 1, 1) := dk_27 (dk_at dksX0_heaviest_0 17 rfl rfl)
theorem dX0_heaviest_18 : decode cX0_heaviest 18 = .ok (.aload_n 0, 1) := dk_42 (dk_at dksX0_heaviest_0 18 rfl rfl)
theorem dX0_heaviest_19 : decode cX0_heaviest 19 = .ok (.iload_n 1, 1) := dk_27 (dk_at dksX0_heaviest_0 19 rfl rfl)
theorem dX0_heaviest_20 : decode cX0_heaviest 20 = .ok (.invokevirtual 209, 3) := dk_182 0 209 (dk_at dksX0_heaviest_0 20 rfl rfl)
theorem dX0_heaviest_23 : decode cX0_heaviest 23 = .ok (.iadd, 1) := dk_96 (dk_at dksX0_heaviest_0 23 rfl rfl)
theorem dX0_heaviest_24 : decode cX0_heaviest 24 = .ok (.if_icmp .ge 36, 3) := dk_162 0 36 (dk_at dksX0_heaviest_1 0 rfl rfl)
theorem dX0_heaviest_27 : decode cX0_heaviest 27 = .ok (.aload_n 0, 1) := dk_42 (dk_at dksX0_heaviest_1 3 rfl rfl)
theorem dX0_heaviest_28 : decode cX0_heaviest 28 = .ok (.getfield 1, 3) := dk_180 0 1 (dk_at dksX0_heaviest_1 4 rfl rfl)
theorem dX0_heaviest_31 : decode cX0_heaviest 31 = .ok (.getfield 243, 3) := dk_180 0 243 (dk_at dksX0_heaviest_1 7 rfl rfl)
theorem dX0_heaviest_34 : decode cX0_heaviest 34 = .ok (.iload_n 3, 1) := dk_29 (dk_at dksX0_heaviest_1 10 rfl rfl)
theorem dX0_heaviest_35 : decode cX0_heaviest 35 = .ok (.iaload, 1) := dk_46 (dk_at dksX0_heaviest_1 11 rfl rfl)
theorem dX0_heaviest_36 : decode cX0_heaviest 36 = .ok (.aload_n 0, 1) := dk_42 (dk_at dksX0_heaviest_1 12 rfl rfl)
theorem dX0_heaviest_37 : decode cX0_heaviest 37 = .ok (.getfield 1, 3) := dk_180 0 1 (dk_at dksX0_heaviest_1 13 rfl rfl)
theorem dX0_heaviest_40 : decode cX0_heaviest 40 = .ok (.getfield 243, 3) := dk_180 0 243 (dk_at dksX0_heaviest_1 16 rfl rfl)
theorem dX0_heaviest_43 : decode cX0_heaviest 43 = .ok (.iload_n 2, 1) := dk_28 (dk_at dksX0_heaviest_1 19 rfl rfl)
theorem dX0_heaviest_44 : decode cX0_heaviest 44 = .ok (.iaload, 1) := dk_46 (dk_at dksX0_heaviest_1 20 rfl rfl)
theorem dX0_heaviest_45 : decode cX0_heaviest 45 = .ok (.if_icmp .le 7, 3) := dk_164 0 7 (dk_at dksX0_heaviest_1 21 rfl rfl)
theorem dX0_heaviest_48 : decode cX0_heaviest 48 = .ok (.iload_n 3, 1) := dk_29 (dk_at dksX0_heaviest_2 0 rfl rfl)
theorem dX0_heaviest_49 : decode cX0_heaviest 49 = .ok (.goto 4, 3) := dk_167 0 4 (dk_at dksX0_heaviest_2 1 rfl rfl)
theorem dX0_heaviest_52 : decode cX0_heaviest 52 = .ok (.iload_n 2, 1) := dk_28 (dk_at dksX0_heaviest_2 4 rfl rfl)
theorem dX0_heaviest_53 : decode cX0_heaviest 53 = .ok (.istore_n 2, 1) := dk_61 (dk_at dksX0_heaviest_2 5 rfl rfl)
theorem dX0_heaviest_54 : decode cX0_heaviest 54 = .ok (.iinc 3 1, 3) := dk_132 3 1 (dk_at dksX0_heaviest_2 6 rfl rfl)
theorem dX0_heaviest_57 : decode cX0_heaviest 57 = .ok (.goto (-41), 3) := dk_167 255 215 (dk_at dksX0_heaviest_2 9 rfl rfl)
theorem dX0_heaviest_60 : decode cX0_heaviest 60 = .ok (.iload_n 2, 1) := dk_28 (dk_at dksX0_heaviest_2 12 rfl rfl)
theorem dX0_heaviest_61 : decode cX0_heaviest 61 = .ok (.ireturn, 1) := dk_172 (dk_at dksX0_heaviest_2 13 rfl rfl)
abbrev cX0_plant : ByteArray := prog_1_method_71_code
def yX0_plant : MethodName := ⟨RX0, "plant", "(I)I"⟩
def dkwX0_plant_2 : List UInt8 := [182, 0, 110, 3, 172]
abbrev dktX0_plant_2 : List UInt8 := dkwX0_plant_2 ++ []
def dkwX0_plant_1 : List UInt8 := [182, 1, 12, 42, 4, 3, 182, 1, 12, 42, 180, 0, 1, 180, 0, 243, 3, 27, 79, 42, 180, 0, 1]
abbrev dktX0_plant_1 : List UInt8 := dkwX0_plant_1 ++ dktX0_plant_2
def dkwX0_plant_0 : List UInt8 := [27, 156, 0, 5, 2, 172, 42, 180, 0, 1, 180, 0, 7, 158, 0, 6, 16, 254, 172, 42, 3, 4]
abbrev dktX0_plant_0 : List UInt8 := dkwX0_plant_0 ++ dktX0_plant_1
theorem dksX0_plant_0 : cX0_plant.data.toList.drop 0 = dktX0_plant_0 := by decide +kernel
theorem dksX0_plant_1 : cX0_plant.data.toList.drop 22 = dktX0_plant_1 := dk_seg dksX0_plant_0 22 rfl rfl
theorem dksX0_plant_2 : cX0_plant.data.toList.drop 45 = dktX0_plant_2 := dk_seg dksX0_plant_1 23 rfl rfl
theorem dX0_plant_0 : decode cX0_plant 0 = .ok (.iload_n 1, 1) := dk_27 (dk_at dksX0_plant_0 0 rfl rfl)
theorem dX0_plant_1 : decode cX0_plant 1 = .ok (.ifCond .ge 5, 3) := dk_156 0 5 (dk_at dksX0_plant_0 1 rfl rfl)
theorem dX0_plant_4 : decode cX0_plant 4 = .ok (.iconst (-1), 1) := dk_2 (dk_at dksX0_plant_0 4 rfl rfl)
theorem dX0_plant_5 : decode cX0_plant 5 = .ok (.ireturn, 1) := dk_172 (dk_at dksX0_plant_0 5 rfl rfl)
theorem dX0_plant_6 : decode cX0_plant 6 = .ok (.aload_n 0, 1) := dk_42 (dk_at dksX0_plant_0 6 rfl rfl)
theorem dX0_plant_7 : decode cX0_plant 7 = .ok (.getfield 1, 3) := dk_180 0 1 (dk_at dksX0_plant_0 7 rfl rfl)
theorem dX0_plant_10 : decode cX0_plant 10 = .ok (.getfield 7, 3) := dk_180 0 7 (dk_at dksX0_plant_0 10 rfl rfl)
theorem dX0_plant_13 : decode cX0_plant 13 = .ok (.ifCond .le 6, 3) := dk_158 0 6 (dk_at dksX0_plant_0 13 rfl rfl)
theorem dX0_plant_16 : decode cX0_plant 16 = .ok (.bipush (-2), 2) := dk_16 254 (dk_at dksX0_plant_0 16 rfl rfl)
theorem dX0_plant_18 : decode cX0_plant 18 = .ok (.ireturn, 1) := dk_172 (dk_at dksX0_plant_0 18 rfl rfl)
theorem dX0_plant_19 : decode cX0_plant 19 = .ok (.aload_n 0, 1) := dk_42 (dk_at dksX0_plant_0 19 rfl rfl)
theorem dX0_plant_20 : decode cX0_plant 20 = .ok (.iconst 0, 1) := dk_3 (dk_at dksX0_plant_0 20 rfl rfl)
theorem dX0_plant_21 : decode cX0_plant 21 = .ok (.iconst 1, 1) := dk_4 (dk_at dksX0_plant_0 21 rfl rfl)
theorem dX0_plant_22 : decode cX0_plant 22 = .ok (.invokevirtual 268, 3) := dk_182 1 12 (dk_at dksX0_plant_1 0 rfl rfl)
theorem dX0_plant_25 : decode cX0_plant 25 = .ok (.aload_n 0, 1) := dk_42 (dk_at dksX0_plant_1 3 rfl rfl)
theorem dX0_plant_26 : decode cX0_plant 26 = .ok (.iconst 1, 1) := dk_4 (dk_at dksX0_plant_1 4 rfl rfl)
theorem dX0_plant_27 : decode cX0_plant 27 = .ok (.iconst 0, 1) := dk_3 (dk_at dksX0_plant_1 5 rfl rfl)
theorem dX0_plant_28 : decode cX0_plant 28 = .ok (.invokevirtual 268, 3) := dk_182 1 12 (dk_at dksX0_plant_1 6 rfl rfl)
theorem dX0_plant_31 : decode cX0_plant 31 = .ok (.aload_n 0, 1) := dk_42 (dk_at dksX0_plant_1 9 rfl rfl)
theorem dX0_plant_32 : decode cX0_plant 32 = .ok (.getfield 1, 3) := dk_180 0 1 (dk_at dksX0_plant_1 10 rfl rfl)
theorem dX0_plant_35 : decode cX0_plant 35 = .ok (.getfield 243, 3) := dk_180 0 243 (dk_at dksX0_plant_1 13 rfl rfl)
theorem dX0_plant_38 : decode cX0_plant 38 = .ok (.iconst 0, 1) := dk_3 (dk_at dksX0_plant_1 16 rfl rfl)
theorem dX0_plant_39 : decode cX0_plant 39 = .ok (.iload_n 1, 1) := dk_27 (dk_at dksX0_plant_1 17 rfl rfl)
theorem dX0_plant_40 : decode cX0_plant 40 = .ok (.iastore, 1) := dk_79 (dk_at dksX0_plant_1 18 rfl rfl)
theorem dX0_plant_41 : decode cX0_plant 41 = .ok (.aload_n 0, 1) := dk_42 (dk_at dksX0_plant_1 19 rfl rfl)
theorem dX0_plant_42 : decode cX0_plant 42 = .ok (.getfield 1, 3) := dk_180 0 1 (dk_at dksX0_plant_1 20 rfl rfl)
theorem dX0_plant_45 : decode cX0_plant 45 = .ok (.invokevirtual 110, 3) := dk_182 0 110 (dk_at dksX0_plant_2 0 rfl rfl)
theorem dX0_plant_48 : decode cX0_plant 48 = .ok (.iconst 0, 1) := dk_3 (dk_at dksX0_plant_2 3 rfl rfl)
theorem dX0_plant_49 : decode cX0_plant 49 = .ok (.ireturn, 1) := dk_172 (dk_at dksX0_plant_2 4 rfl rfl)
abbrev cX0_bitComes : ByteArray := prog_1_method_67_code
def yX0_bitComes : MethodName := ⟨RX0, "bitComes", "(IZ)V"⟩
def dkwX0_bitComes_2 : List UInt8 := [180, 0, 1, 89, 180, 0, 7, 4, 96, 181, 0, 7, 177]
abbrev dktX0_bitComes_2 : List UInt8 := dkwX0_bitComes_2 ++ []
def dkwX0_bitComes_1 : List UInt8 := [100, 182, 0, 42, 182, 1, 2, 132, 3, 255, 167, 255, 230, 42, 180, 0, 1, 27, 28, 182, 1, 2, 42]
abbrev dktX0_bitComes_1 : List UInt8 := dkwX0_bitComes_1 ++ dktX0_bitComes_2
def dkwX0_bitComes_0 : List UInt8 := [42, 180, 0, 1, 180, 0, 7, 62, 29, 27, 164, 0, 27, 42, 180, 0, 1, 29, 42, 180, 0, 1, 29, 4]
abbrev dktX0_bitComes_0 : List UInt8 := dkwX0_bitComes_0 ++ dktX0_bitComes_1
theorem dksX0_bitComes_0 : cX0_bitComes.data.toList.drop 0 = dktX0_bitComes_0 := by decide +kernel
theorem dksX0_bitComes_1 : cX0_bitComes.data.toList.drop 24 = dktX0_bitComes_1 := dk_seg dksX0_bitComes_0 24 rfl rfl
theorem dksX0_bitComes_2 : cX0_bitComes.data.toList.drop 47 = dktX0_bitComes_2 := dk_seg dksX0_bitComes_1 23 rfl rfl
theorem dX0_bitComes_0 : decode cX0_bitComes 0 = .ok (.aload_n 0, 1) := dk_42 (dk_at dksX0_bitComes_0 0 rfl rfl)
theorem dX0_bitComes_1 : decode cX0_bitComes 1 = .ok (.getfield 1, 3) := dk_180 0 1 (dk_at dksX0_bitComes_0 1 rfl rfl)
theorem dX0_bitComes_4 : decode cX0_bitComes 4 = .ok (.getfield 7, 3) := dk_180 0 7 (dk_at dksX0_bitComes_0 4 rfl rfl)
theorem dX0_bitComes_7 : decode cX0_bitComes 7 = .ok (.istore_n 3, 1) := dk_62 (dk_at dksX0_bitComes_0 7 rfl rfl)
theorem dX0_bitComes_8 : decode cX0_bitComes 8 = .ok (.iload_n 3, 1) := dk_29 (dk_at dksX0_bitComes_0 8 rfl rfl)
theorem dX0_bitComes_9 : decode cX0_bitComes 9 = .ok (.iload_n 1, 1) := dk_27 (dk_at dksX0_bitComes_0 9 rfl rfl)
theorem dX0_bitComes_10 : decode cX0_bitComes 10 = .ok (.if_icmp .le 27, 3) := dk_164 0 27 (dk_at dksX0_bitComes_0 10 rfl rfl)
theorem dX0_bitComes_13 : decode cX0_bitComes 13 = .ok (.aload_n 0, 1) := dk_42 (dk_at dksX0_bitComes_0 13 rfl rfl)
theorem dX0_bitComes_14 : decode cX0_bitComes 14 = .ok (.getfield 1, 3) := dk_180 0 1 (dk_at dksX0_bitComes_0 14 rfl rfl)
theorem dX0_bitComes_17 : decode cX0_bitComes 17 = .ok (.iload_n 3, 1) := dk_29 (dk_at dksX0_bitComes_0 17 rfl rfl)
theorem dX0_bitComes_18 : decode cX0_bitComes 18 = .ok (.aload_n 0, 1) := dk_42 (dk_at dksX0_bitComes_0 18 rfl rfl)
theorem dX0_bitComes_19 : decode cX0_bitComes 19 = .ok (.getfield 1, 3) := dk_180 0 1 (dk_at dksX0_bitComes_0 19 rfl rfl)
theorem dX0_bitComes_22 : decode cX0_bitComes 22 = .ok (.iload_n 3, 1) := dk_29 (dk_at dksX0_bitComes_0 22 rfl rfl)
theorem dX0_bitComes_23 : decode cX0_bitComes 23 = .ok (.iconst 1, 1) := dk_4 (dk_at dksX0_bitComes_0 23 rfl rfl)
theorem dX0_bitComes_24 : decode cX0_bitComes 24 = .ok (.isub, 1) := dk_100 (dk_at dksX0_bitComes_1 0 rfl rfl)
theorem dX0_bitComes_25 : decode cX0_bitComes 25 = .ok (.invokevirtual 42, 3) := dk_182 0 42 (dk_at dksX0_bitComes_1 1 rfl rfl)
theorem dX0_bitComes_28 : decode cX0_bitComes 28 = .ok (.invokevirtual 258, 3) := dk_182 1 2 (dk_at dksX0_bitComes_1 4 rfl rfl)
theorem dX0_bitComes_31 : decode cX0_bitComes 31 = .ok (.iinc 3 (-1), 3) := dk_132 3 255 (dk_at dksX0_bitComes_1 7 rfl rfl)
theorem dX0_bitComes_34 : decode cX0_bitComes 34 = .ok (.goto (-26), 3) := dk_167 255 230 (dk_at dksX0_bitComes_1 10 rfl rfl)
theorem dX0_bitComes_37 : decode cX0_bitComes 37 = .ok (.aload_n 0, 1) := dk_42 (dk_at dksX0_bitComes_1 13 rfl rfl)
theorem dX0_bitComes_38 : decode cX0_bitComes 38 = .ok (.getfield 1, 3) := dk_180 0 1 (dk_at dksX0_bitComes_1 14 rfl rfl)
theorem dX0_bitComes_41 : decode cX0_bitComes 41 = .ok (.iload_n 1, 1) := dk_27 (dk_at dksX0_bitComes_1 17 rfl rfl)
theorem dX0_bitComes_42 : decode cX0_bitComes 42 = .ok (.iload_n 2, 1) := dk_28 (dk_at dksX0_bitComes_1 18 rfl rfl)
theorem dX0_bitComes_43 : decode cX0_bitComes 43 = .ok (.invokevirtual 258, 3) := dk_182 1 2 (dk_at dksX0_bitComes_1 19 rfl rfl)
theorem dX0_bitComes_46 : decode cX0_bitComes 46 = .ok (.aload_n 0, 1) := dk_42 (dk_at dksX0_bitComes_1 22 rfl rfl)
theorem dX0_bitComes_47 : decode cX0_bitComes 47 = .ok (.getfield 1, 3) := dk_180 0 1 (dk_at dksX0_bitComes_2 0 rfl rfl)
theorem dX0_bitComes_50 : decode cX0_bitComes 50 = .ok (.dup, 1) := dk_89 (dk_at dksX0_bitComes_2 3 rfl rfl)
theorem dX0_bitComes_51 : decode cX0_bitComes 51 = .ok (.getfield 7, 3) := dk_180 0 7 (dk_at dksX0_bitComes_2 4 rfl rfl)
theorem dX0_bitComes_54 : decode cX0_bitComes 54 = .ok (.iconst 1, 1) := dk_4 (dk_at dksX0_bitComes_2 7 rfl rfl)
theorem dX0_bitComes_55 : decode cX0_bitComes 55 = .ok (.iadd, 1) := dk_96 (dk_at dksX0_bitComes_2 8 rfl rfl)
theorem dX0_bitComes_56 : decode cX0_bitComes 56 = .ok (.putfield 7, 3) := dk_181 0 7 (dk_at dksX0_bitComes_2 9 rfl rfl)
theorem dX0_bitComes_59 : decode cX0_bitComes 59 = .ok (.return_, 1) := dk_177 (dk_at dksX0_bitComes_2 12 rfl rfl)
abbrev cX0_leaf : ByteArray := prog_1_method_74_code
def yX0_leaf : MethodName := ⟨RX0, "leaf", "(III)I"⟩
def dkwX0_leaf_2 : List UInt8 := [182, 1, 21, 172]
abbrev dktX0_leaf_2 : List UInt8 := dkwX0_leaf_2 ++ []
def dkwX0_leaf_1 : List UInt8 := [154, 0, 5, 2, 172, 42, 182, 0, 155, 16, 64, 160, 0, 8, 16, 253, 167, 0, 10, 42, 27, 28, 29]
abbrev dktX0_leaf_1 : List UInt8 := dkwX0_leaf_1 ++ dktX0_leaf_2
def dkwX0_leaf_0 : List UInt8 := [42, 27, 182, 0, 194, 153, 0, 22, 29, 155, 0, 18, 28, 133, 9, 42, 27, 182, 0, 206, 133, 184, 0, 115]
abbrev dktX0_leaf_0 : List UInt8 := dkwX0_leaf_0 ++ dktX0_leaf_1
theorem dksX0_leaf_0 : cX0_leaf.data.toList.drop 0 = dktX0_leaf_0 := by decide +kernel
theorem dksX0_leaf_1 : cX0_leaf.data.toList.drop 24 = dktX0_leaf_1 := dk_seg dksX0_leaf_0 24 rfl rfl
theorem dksX0_leaf_2 : cX0_leaf.data.toList.drop 47 = dktX0_leaf_2 := dk_seg dksX0_leaf_1 23 rfl rfl
theorem dX0_leaf_0 : decode cX0_leaf 0 = .ok (.aload_n 0, 1) := dk_42 (dk_at dksX0_leaf_0 0 rfl rfl)
theorem dX0_leaf_1 : decode cX0_leaf 1 = .ok (.iload_n 1, 1) := dk_27 (dk_at dksX0_leaf_0 1 rfl rfl)
theorem dX0_leaf_2 : decode cX0_leaf 2 = .ok (.invokevirtual 194, 3) := dk_182 0 194 (dk_at dksX0_leaf_0 2 rfl rfl)
theorem dX0_leaf_5 : decode cX0_leaf 5 = .ok (.ifCond .eq 22, 3) := dk_153 0 22 (dk_at dksX0_leaf_0 5 rfl rfl)
theorem dX0_leaf_8 : decode cX0_leaf 8 = .ok (.iload_n 3, 1) := dk_29 (dk_at dksX0_leaf_0 8 rfl rfl)
theorem dX0_leaf_9 : decode cX0_leaf 9 = .ok (.ifCond .lt 18, 3) := dk_155 0 18 (dk_at dksX0_leaf_0 9 rfl rfl)
theorem dX0_leaf_12 : decode cX0_leaf 12 = .ok (.iload_n 2, 1) := dk_28 (dk_at dksX0_leaf_0 12 rfl rfl)
theorem dX0_leaf_13 : decode cX0_leaf 13 = .ok (.i2l, 1) := dk_133 (dk_at dksX0_leaf_0 13 rfl rfl)
theorem dX0_leaf_14 : decode cX0_leaf 14 = .ok (.lconst 0, 1) := dk_9 (dk_at dksX0_leaf_0 14 rfl rfl)
theorem dX0_leaf_15 : decode cX0_leaf 15 = .ok (.aload_n 0, 1) := dk_42 (dk_at dksX0_leaf_0 15 rfl rfl)
theorem dX0_leaf_16 : decode cX0_leaf 16 = .ok (.iload_n 1, 1) := dk_27 (dk_at dksX0_leaf_0 16 rfl rfl)
theorem dX0_leaf_17 : decode cX0_leaf 17 = .ok (.invokevirtual 206, 3) := dk_182 0 206 (dk_at dksX0_leaf_0 17 rfl rfl)
theorem dX0_leaf_20 : decode cX0_leaf 20 = .ok (.i2l, 1) := dk_133 (dk_at dksX0_leaf_0 20 rfl rfl)
theorem dX0_leaf_21 : decode cX0_leaf 21 = .ok (.invokestatic 115, 3) := dk_184 0 115 (dk_at dksX0_leaf_0 21 rfl rfl)
theorem dX0_leaf_24 : decode cX0_leaf 24 = .ok (.ifCond .ne 5, 3) := dk_154 0 5 (dk_at dksX0_leaf_1 0 rfl rfl)
theorem dX0_leaf_27 : decode cX0_leaf 27 = .ok (.iconst (-1), 1) := dk_2 (dk_at dksX0_leaf_1 3 rfl rfl)
theorem dX0_leaf_28 : decode cX0_leaf 28 = .ok (.ireturn, 1) := dk_172 (dk_at dksX0_leaf_1 4 rfl rfl)
theorem dX0_leaf_29 : decode cX0_leaf 29 = .ok (.aload_n 0, 1) := dk_42 (dk_at dksX0_leaf_1 5 rfl rfl)
theorem dX0_leaf_30 : decode cX0_leaf 30 = .ok (.invokevirtual 155, 3) := dk_182 0 155 (dk_at dksX0_leaf_1 6 rfl rfl)
theorem dX0_leaf_33 : decode cX0_leaf 33 = .ok (.bipush 64, 2) := dk_16 64 (dk_at dksX0_leaf_1 9 rfl rfl)
theorem dX0_leaf_35 : decode cX0_leaf 35 = .ok (.if_icmp .ne 8, 3) := dk_160 0 8 (dk_at dksX0_leaf_1 11 rfl rfl)
theorem dX0_leaf_38 : decode cX0_leaf 38 = .ok (.bipush (-3), 2) := dk_16 253 (dk_at dksX0_leaf_1 14 rfl rfl)
theorem dX0_leaf_40 : decode cX0_leaf 40 = .ok (.goto 10, 3) := dk_167 0 10 (dk_at dksX0_leaf_1 16 rfl rfl)
theorem dX0_leaf_43 : decode cX0_leaf 43 = .ok (.aload_n 0, 1) := dk_42 (dk_at dksX0_leaf_1 19 rfl rfl)
theorem dX0_leaf_44 : decode cX0_leaf 44 = .ok (.iload_n 1, 1) := dk_27 (dk_at dksX0_leaf_1 20 rfl rfl)
theorem dX0_leaf_45 : decode cX0_leaf 45 = .ok (.iload_n 2, 1) := dk_28 (dk_at dksX0_leaf_1 21 rfl rfl)
theorem dX0_leaf_46 : decode cX0_leaf 46 = .ok (.iload_n 3, 1) := dk_29 (dk_at dksX0_leaf_1 22 rfl rfl)
theorem dX0_leaf_47 : decode cX0_leaf 47 = .ok (.invokevirtual 277, 3) := dk_182 1 21 (dk_at dksX0_leaf_2 0 rfl rfl)
theorem dX0_leaf_50 : decode cX0_leaf 50 = .ok (.ireturn, 1) := dk_172 (dk_at dksX0_leaf_2 3 rfl rfl)
abbrev cX0_leafComes : ByteArray := prog_1_method_73_code
def yX0_leafComes : MethodName := ⟨RX0, "leafComes", "(III)I"⟩
def dkwX0_leafComes_2 : List UInt8 := [172]
abbrev dktX0_leafComes_2 : List UInt8 := dkwX0_leafComes_2 ++ []
def dkwX0_leafComes_1 : List UInt8 := [21, 4, 4, 96, 3, 182, 1, 12, 42, 21, 5, 29, 182, 1, 18, 42, 180, 0, 1, 182, 0, 110, 21, 5]
abbrev dktX0_leafComes_1 : List UInt8 := dkwX0_leafComes_1 ++ dktX0_leafComes_2
def dkwX0_leafComes_0 : List UInt8 := [42, 27, 28, 182, 1, 15, 54, 4, 42, 21, 4, 182, 0, 179, 54, 5, 42, 21, 4, 4, 182, 1, 12, 42]
abbrev dktX0_leafComes_0 : List UInt8 := dkwX0_leafComes_0 ++ dktX0_leafComes_1
theorem dksX0_leafComes_0 : cX0_leafComes.data.toList.drop 0 = dktX0_leafComes_0 := by decide +kernel
theorem dksX0_leafComes_1 : cX0_leafComes.data.toList.drop 24 = dktX0_leafComes_1 := dk_seg dksX0_leafComes_0 24 rfl rfl
theorem dksX0_leafComes_2 : cX0_leafComes.data.toList.drop 48 = dktX0_leafComes_2 := dk_seg dksX0_leafComes_1 24 rfl rfl
theorem dX0_leafComes_0 : decode cX0_leafComes 0 = .ok (.aload_n 0, 1) := dk_42 (dk_at dksX0_leafComes_0 0 rfl rfl)
theorem dX0_leafComes_1 : decode cX0_leafComes 1 = .ok (.iload_n 1, 1) := dk_27 (dk_at dksX0_leafComes_0 1 rfl rfl)
theorem dX0_leafComes_2 : decode cX0_leafComes 2 = .ok (.iload_n 2, 1) := dk_28 (dk_at dksX0_leafComes_0 2 rfl rfl)
theorem dX0_leafComes_3 : decode cX0_leafComes 3 = .ok (.invokevirtual 271, 3) := dk_182 1 15 (dk_at dksX0_leafComes_0 3 rfl rfl)
theorem dX0_leafComes_6 : decode cX0_leafComes 6 = .ok (.istore 4, 2) := dk_54 4 (dk_at dksX0_leafComes_0 6 rfl rfl)
theorem dX0_leafComes_8 : decode cX0_leafComes 8 = .ok (.aload_n 0, 1) := dk_42 (dk_at dksX0_leafComes_0 8 rfl rfl)
theorem dX0_leafComes_9 : decode cX0_leafComes 9 = .ok (.iload 4, 2) := dk_21 4 (dk_at dksX0_leafComes_0 9 rfl rfl)
theorem dX0_leafComes_11 : decode cX0_leafComes 11 = .ok (.invokevirtual 179, 3) := dk_182 0 179 (dk_at dksX0_leafComes_0 11 rfl rfl)
theorem dX0_leafComes_14 : decode cX0_leafComes 14 = .ok (.istore 5, 2) := dk_54 5 (dk_at dksX0_leafComes_0 14 rfl rfl)
theorem dX0_leafComes_16 : decode cX0_leafComes 16 = .ok (.aload_n 0, 1) := dk_42 (dk_at dksX0_leafComes_0 16 rfl rfl)
theorem dX0_leafComes_17 : decode cX0_leafComes 17 = .ok (.iload 4, 2) := dk_21 4 (dk_at dksX0_leafComes_0 17 rfl rfl)
theorem dX0_leafComes_19 : decode cX0_leafComes 19 = .ok (.iconst 1, 1) := dk_4 (dk_at dksX0_leafComes_0 19 rfl rfl)
theorem dX0_leafComes_20 : decode cX0_leafComes 20 = .ok (.invokevirtual 268, 3) := dk_182 1 12 (dk_at dksX0_leafComes_0 20 rfl rfl)
theorem dX0_leafComes_23 : decode cX0_leafComes 23 = .ok (.aload_n 0, 1) := dk_42 (dk_at dksX0_leafComes_0 23 rfl rfl)
theorem dX0_leafComes_24 : decode cX0_leafComes 24 = .ok (.iload 4, 2) := dk_21 4 (dk_at dksX0_leafComes_1 0 rfl rfl)
theorem dX0_leafComes_26 : decode cX0_leafComes 26 = .ok (.iconst 1, 1) := dk_4 (dk_at dksX0_leafComes_1 2 rfl rfl)
theorem dX0_leafComes_27 : decode cX0_leafComes 27 = .ok (.iadd, 1) := dk_96 (dk_at dksX0_leafComes_1 3 rfl rfl)
theorem dX0_leafComes_28 : decode cX0_leafComes 28 = .ok (.iconst 0, 1) := dk_3 (dk_at dksX0_leafComes_1 4 rfl rfl)
theorem dX0_leafComes_29 : decode cX0_leafComes 29 = .ok (.invokevirtual 268, 3) := dk_182 1 12 (dk_at dksX0_leafComes_1 5 rfl rfl)
theorem dX0_leafComes_32 : decode cX0_leafComes 32 = .ok (.aload_n 0, 1) := dk_42 (dk_at dksX0_leafComes_1 8 rfl rfl)
theorem dX0_leafComes_33 : decode cX0_leafComes 33 = .ok (.iload 5, 2) := dk_21 5 (dk_at dksX0_leafComes_1 9 rfl rfl)
theorem dX0_leafComes_35 : decode cX0_leafComes 35 = .ok (.iload_n 3, 1) := dk_29 (dk_at dksX0_leafComes_1 11 rfl rfl)
theorem dX0_leafComes_36 : decode cX0_leafComes 36 = .ok (.invokevirtual 274, 3) := dk_182 1 18 (dk_at dksX0_leafComes_1 12 rfl rfl)
theorem dX0_leafComes_39 : decode cX0_leafComes 39 = .ok (.aload_n 0, 1) := dk_42 (dk_at dksX0_leafComes_1 15 rfl rfl)
theorem dX0_leafComes_40 : decode cX0_leafComes 40 = .ok (.getfield 1, 3) := dk_180 0 1 (dk_at dksX0_leafComes_1 16 rfl rfl)
theorem dX0_leafComes_43 : decode cX0_leafComes 43 = .ok (.invokevirtual 110, 3) := dk_182 0 110 (dk_at dksX0_leafComes_1 19 rfl rfl)
theorem dX0_leafComes_46 : decode cX0_leafComes 46 = .ok (.iload 5, 2) := dk_21 5 (dk_at dksX0_leafComes_1 22 rfl rfl)
theorem dX0_leafComes_48 : decode cX0_leafComes 48 = .ok (.ireturn, 1) := dk_172 (dk_at dksX0_leafComes_2 0 rfl rfl)
abbrev cX0_placeOfChild : ByteArray := prog_1_method_72_code
def yX0_placeOfChild : MethodName := ⟨RX0, "placeOfChild", "(II)I"⟩
def dkwX0_placeOfChild_1 : List UInt8 := [182, 0, 58, 172]
abbrev dktX0_placeOfChild_1 : List UInt8 := dkwX0_placeOfChild_1 ++ []
def dkwX0_placeOfChild_0 : List UInt8 := [42, 27, 28, 182, 0, 221, 62, 29, 16, 252, 160, 0, 11, 42, 27, 182, 0, 182, 167, 0, 8, 42, 29]
abbrev dktX0_placeOfChild_0 : List UInt8 := dkwX0_placeOfChild_0 ++ dktX0_placeOfChild_1
theorem dksX0_placeOfChild_0 : cX0_placeOfChild.data.toList.drop 0 = dktX0_placeOfChild_0 := by decide +kernel
theorem dksX0_placeOfChild_1 : cX0_placeOfChild.data.toList.drop 23 = dktX0_placeOfChild_1 := dk_seg dksX0_placeOfChild_0 23 rfl rfl
theorem dX0_placeOfChild_0 : decode cX0_placeOfChild 0 = .ok (.aload_n 0, 1) := dk_42 (dk_at dksX0_placeOfChild_0 0 rfl rfl)
theorem dX0_placeOfChild_1 : decode cX0_placeOfChild 1 = .ok (.iload_n 1, 1) := dk_27 (dk_at dksX0_placeOfChild_0 1 rfl rfl)
theorem dX0_placeOfChild_2 : decode cX0_placeOfChild 2 = .ok (.iload_n 2, 1) := dk_28 (dk_at dksX0_placeOfChild_0 2 rfl rfl)
theorem dX0_placeOfChild_3 : decode cX0_placeOfChild 3 = .ok (.invokevirtual 221, 3) := dk_182 0 221 (dk_at dksX0_placeOfChild_0 3 rfl rfl)
theorem dX0_placeOfChild_6 : decode cX0_placeOfChild 6 = .ok (.istore_n 3, 1) := dk_62 (dk_at dksX0_placeOfChild_0 6 rfl rfl)
theorem dX0_placeOfChild_7 : decode cX0_placeOfChild 7 = .ok (.iload_n 3, 1) := dk_29 (dk_at dksX0_placeOfChild_0 7 rfl rfl)
theorem dX0_placeOfChild_8 : decode cX0_placeOfChild 8 = .ok (.bipush (-4), 2) := dk_16 252 (dk_at dksX0_placeOfChild_0 8 rfl rfl)
theorem dX0_placeOfChild_10 : decode cX0_placeOfChild 10 = .ok (.if_icmp .ne 11, 3) := dk_160 0 11 (dk_at dksX0_placeOfChild_0 10 rfl rfl)
theorem dX0_placeOfChild_13 : decode cX0_placeOfChild 13 = .ok (.aload_n 0, 1) := dk_42 (dk_at dksX0_placeOfChild_0 13 rfl rfl)
theorem dX0_placeOfChild_14 : decode cX0_placeOfChild 14 = .ok (.iload_n 1, 1) := dk_27 (dk_at dksX0_placeOfChild_0 14 rfl rfl)
theorem dX0_placeOfChild_15 : decode cX0_placeOfChild 15 = .ok (.invokevirtual 182, 3) := dk_182 0 182 (dk_at dksX0_placeOfChild_0 15 rfl rfl)
theorem dX0_placeOfChild_18 : decode cX0_placeOfChild 18 = .ok (.goto 8, 3) := dk_167 0 8 (dk_at dksX0_placeOfChild_0 18 rfl rfl)
theorem dX0_placeOfChild_21 : decode cX0_placeOfChild 21 = .ok (.aload_n 0, 1) := dk_42 (dk_at dksX0_placeOfChild_0 21 rfl rfl)
theorem dX0_placeOfChild_22 : decode cX0_placeOfChild 22 = .ok (.iload_n 3, 1) := dk_29 (dk_at dksX0_placeOfChild_0 22 rfl rfl)
theorem dX0_placeOfChild_23 : decode cX0_placeOfChild 23 = .ok (.invokevirtual 58, 3) := dk_182 0 58 (dk_at dksX0_placeOfChild_1 0 rfl rfl)
theorem dX0_placeOfChild_26 : decode cX0_placeOfChild 26 = .ok (.ireturn, 1) := dk_172 (dk_at dksX0_placeOfChild_1 3 rfl rfl)
abbrev cX0_weightComes : ByteArray := prog_1_method_69_code
def yX0_weightComes : MethodName := ⟨RX0, "weightComes", "(II)V"⟩
def dkwX0_weightComes_1 : List UInt8 := [184, 1, 6, 42, 180, 0, 1, 180, 0, 243, 27, 28, 79, 177]
abbrev dktX0_weightComes_1 : List UInt8 := dkwX0_weightComes_1 ++ []
def dkwX0_weightComes_0 : List UInt8 := [16, 63, 27, 100, 62, 42, 180, 0, 1, 180, 0, 243, 27, 42, 180, 0, 1, 180, 0, 243, 27, 4, 96, 29]
abbrev dktX0_weightComes_0 : List UInt8 := dkwX0_weightComes_0 ++ dktX0_weightComes_1
theorem dksX0_weightComes_0 : cX0_weightComes.data.toList.drop 0 = dktX0_weightComes_0 := by decide +kernel
theorem dksX0_weightComes_1 : cX0_weightComes.data.toList.drop 24 = dktX0_weightComes_1 := dk_seg dksX0_weightComes_0 24 rfl rfl
theorem dX0_weightComes_0 : decode cX0_weightComes 0 = .ok (.bipush 63, 2) := dk_16 63 (dk_at dksX0_weightComes_0 0 rfl rfl)
theorem dX0_weightComes_2 : decode cX0_weightComes 2 = .ok (.iload_n 1, 1) := dk_27 (dk_at dksX0_weightComes_0 2 rfl rfl)
theorem dX0_weightComes_3 : decode cX0_weightComes 3 = .ok (.isub, 1) := dk_100 (dk_at dksX0_weightComes_0 3 rfl rfl)
theorem dX0_weightComes_4 : decode cX0_weightComes 4 = .ok (.istore_n 3, 1) := dk_62 (dk_at dksX0_weightComes_0 4 rfl rfl)
theorem dX0_weightComes_5 : decode cX0_weightComes 5 = .ok (.aload_n 0, 1) := dk_42 (dk_at dksX0_weightComes_0 5 rfl rfl)
theorem dX0_weightComes_6 : decode cX0_weightComes 6 = .ok (.getfield 1, 3) := dk_180 0 1 (dk_at dksX0_weightComes_0 6 rfl rfl)
theorem dX0_weightComes_9 : decode cX0_weightComes 9 = .ok (.getfield 243, 3) := dk_180 0 243 (dk_at dksX0_weightComes_0 9 rfl rfl)
theorem dX0_weightComes_12 : decode cX0_weightComes 12 = .ok (.iload_n 1, 1) := dk_27 (dk_at dksX0_weightComes_0 12 rfl rfl)
theorem dX0_weightComes_13 : decode cX0_weightComes 13 = .ok (.aload_n 0, 1) := dk_42 (dk_at dksX0_weightComes_0 13 rfl rfl)
theorem dX0_weightComes_14 : decode cX0_weightComes 14 = .ok (.getfield 1, 3) := dk_180 0 1 (dk_at dksX0_weightComes_0 14 rfl rfl)
theorem dX0_weightComes_17 : decode cX0_weightComes 17 = .ok (.getfield 243, 3) := dk_180 0 243 (dk_at dksX0_weightComes_0 17 rfl rfl)
theorem dX0_weightComes_20 : decode cX0_weightComes 20 = .ok (.iload_n 1, 1) := dk_27 (dk_at dksX0_weightComes_0 20 rfl rfl)
theorem dX0_weightComes_21 : decode cX0_weightComes 21 = .ok (.iconst 1, 1) := dk_4 (dk_at dksX0_weightComes_0 21 rfl rfl)
theorem dX0_weightComes_22 : decode cX0_weightComes 22 = .ok (.iadd, 1) := dk_96 (dk_at dksX0_weightComes_0 22 rfl rfl)
theorem dX0_weightComes_23 : decode cX0_weightComes 23 = .ok (.iload_n 3, 1) := dk_29 (dk_at dksX0_weightComes_0 23 rfl rfl)
theorem dX0_weightComes_24 : decode cX0_weightComes 24 = .ok (.invokestatic 262, 3) := dk_184 1 6 (dk_at dksX0_weightComes_1 0 rfl rfl)
theorem dX0_weightComes_27 : decode cX0_weightComes 27 = .ok (.aload_n 0, 1) := dk_42 (dk_at dksX0_weightComes_1 3 rfl rfl)
theorem dX0_weightComes_28 : decode cX0_weightComes 28 = .ok (.getfield 1, 3) := dk_180 0 1 (dk_at dksX0_weightComes_1 4 rfl rfl)
theorem dX0_weightComes_31 : decode cX0_weightComes 31 = .ok (.getfield 243, 3) := dk_180 0 243 (dk_at dksX0_weightComes_1 7 rfl rfl)
theorem dX0_weightComes_34 : decode cX0_weightComes 34 = .ok (.iload_n 1, 1) := dk_27 (dk_at dksX0_weightComes_1 10 rfl rfl)
theorem dX0_weightComes_35 : decode cX0_weightComes 35 = .ok (.iload_n 2, 1) := dk_28 (dk_at dksX0_weightComes_1 11 rfl rfl)
theorem dX0_weightComes_36 : decode cX0_weightComes 36 = .ok (.iastore, 1) := dk_79 (dk_at dksX0_weightComes_1 12 rfl rfl)
theorem dX0_weightComes_37 : decode cX0_weightComes 37 = .ok (.return_, 1) := dk_177 (dk_at dksX0_weightComes_1 13 rfl rfl)
abbrev cX0_prune : ByteArray := prog_1_method_76_code
def yX0_prune : MethodName := ⟨RX0, "prune", "(I)I"⟩
def dkwX0_prune_1 : List UInt8 := [27, 182, 1, 31, 42, 182, 0, 155, 172]
abbrev dktX0_prune_1 : List UInt8 := dkwX0_prune_1 ++ []
def dkwX0_prune_0 : List UInt8 := [42, 27, 182, 0, 194, 154, 0, 5, 2, 172, 42, 27, 182, 0, 185, 16, 252, 159, 0, 6, 16, 254, 172, 42]
abbrev dktX0_prune_0 : List UInt8 := dkwX0_prune_0 ++ dktX0_prune_1
theorem dksX0_prune_0 : cX0_prune.data.toList.drop 0 = dktX0_prune_0 := by decide +kernel
theorem dksX0_prune_1 : cX0_prune.data.toList.drop 24 = dktX0_prune_1 := dk_seg dksX0_prune_0 24 rfl rfl
theorem dX0_prune_0 : decode cX0_prune 0 = .ok (.aload_n 0, 1) := dk_42 (dk_at dksX0_prune_0 0 rfl rfl)
theorem dX0_prune_1 : decode cX0_prune 1 = .ok (.iload_n 1, 1) := dk_27 (dk_at dksX0_prune_0 1 rfl rfl)
theorem dX0_prune_2 : decode cX0_prune 2 = .ok (.invokevirtual 194, 3) := dk_182 0 194 (dk_at dksX0_prune_0 2 rfl rfl)
theorem dX0_prune_5 : decode cX0_prune 5 = .ok (.ifCond .ne 5, 3) := dk_154 0 5 (dk_at dksX0_prune_0 5 rfl rfl)
theorem dX0_prune_8 : decode cX0_prune 8 = .ok (.iconst (-1), 1) := dk_2 (dk_at dksX0_prune_0 8 rfl rfl)
theorem dX0_prune_9 : decode cX0_prune 9 = .ok (.ireturn, 1) := dk_172 (dk_at dksX0_prune_0 9 rfl rfl)
theorem dX0_prune_10 : decode cX0_prune 10 = .ok (.aload_n 0, 1) := dk_42 (dk_at dksX0_prune_0 10 rfl rfl)
theorem dX0_prune_11 : decode cX0_prune 11 = .ok (.iload_n 1, 1) := dk_27 (dk_at dksX0_prune_0 11 rfl rfl)
theorem dX0_prune_12 : decode cX0_prune 12 = .ok (.invokevirtual 185, 3) := dk_182 0 185 (dk_at dksX0_prune_0 12 rfl rfl)
theorem dX0_prune_15 : decode cX0_prune 15 = .ok (.bipush (-4), 2) := dk_16 252 (dk_at dksX0_prune_0 15 rfl rfl)
theorem dX0_prune_17 : decode cX0_prune 17 = .ok (.if_icmp .eq 6, 3) := dk_159 0 6 (dk_at dksX0_prune_0 17 rfl rfl)
theorem dX0_prune_20 : decode cX0_prune 20 = .ok (.bipush (-2), 2) := dk_16 254 (dk_at dksX0_prune_0 20 rfl rfl)
theorem dX0_prune_22 : decode cX0_prune 22 = .ok (.ireturn, 1) := dk_172 (dk_at dksX0_prune_0 22 rfl rfl)
theorem dX0_prune_23 : decode cX0_prune 23 = .ok (.aload_n 0, 1) := dk_42 (dk_at dksX0_prune_0 23 rfl rfl)
theorem dX0_prune_24 : decode cX0_prune 24 = .ok (.iload_n 1, 1) := dk_27 (dk_at dksX0_prune_1 0 rfl rfl)
theorem dX0_prune_25 : decode cX0_prune 25 = .ok (.invokevirtual 287, 3) := dk_182 1 31 (dk_at dksX0_prune_1 1 rfl rfl)
theorem dX0_prune_28 : decode cX0_prune 28 = .ok (.aload_n 0, 1) := dk_42 (dk_at dksX0_prune_1 4 rfl rfl)
theorem dX0_prune_29 : decode cX0_prune 29 = .ok (.invokevirtual 155, 3) := dk_182 0 155 (dk_at dksX0_prune_1 5 rfl rfl)
theorem dX0_prune_32 : decode cX0_prune 32 = .ok (.ireturn, 1) := dk_172 (dk_at dksX0_prune_1 8 rfl rfl)
abbrev cX0_falls : ByteArray := prog_1_method_75_code
def yX0_falls : MethodName := ⟨RX0, "falls", "(I)V"⟩
def dkwX0_falls_2 : List UInt8 := [182, 0, 110, 177]
abbrev dktX0_falls_2 : List UInt8 := dkwX0_falls_2 ++ []
def dkwX0_falls_1 : List UInt8 := [28, 182, 1, 24, 132, 4, 1, 167, 255, 242, 42, 27, 29, 5, 108, 182, 1, 28, 42, 180, 0, 1]
abbrev dktX0_falls_1 : List UInt8 := dkwX0_falls_1 ++ dktX0_falls_2
def dkwX0_falls_0 : List UInt8 := [42, 27, 182, 0, 58, 61, 5, 42, 27, 182, 0, 209, 104, 62, 3, 54, 4, 21, 4, 29, 162, 0, 14, 42]
abbrev dktX0_falls_0 : List UInt8 := dkwX0_falls_0 ++ dktX0_falls_1
theorem dksX0_falls_0 : cX0_falls.data.toList.drop 0 = dktX0_falls_0 := by decide +kernel
theorem dksX0_falls_1 : cX0_falls.data.toList.drop 24 = dktX0_falls_1 := dk_seg dksX0_falls_0 24 rfl rfl
theorem dksX0_falls_2 : cX0_falls.data.toList.drop 46 = dktX0_falls_2 := dk_seg dksX0_falls_1 22 rfl rfl
theorem dX0_falls_0 : decode cX0_falls 0 = .ok (.aload_n 0, 1) := dk_42 (dk_at dksX0_falls_0 0 rfl rfl)
theorem dX0_falls_1 : decode cX0_falls 1 = .ok (.iload_n 1, 1) := dk_27 (dk_at dksX0_falls_0 1 rfl rfl)
theorem dX0_falls_2 : decode cX0_falls 2 = .ok (.invokevirtual 58, 3) := dk_182 0 58 (dk_at dksX0_falls_0 2 rfl rfl)
theorem dX0_falls_5 : decode cX0_falls 5 = .ok (.istore_n 2, 1) := dk_61 (dk_at dksX0_falls_0 5 rfl rfl)
theorem dX0_falls_6 : decode cX0_falls 6 = .ok (.iconst 2, 1) := dk_5 (dk_at dksX0_falls_0 6 rfl rfl)
theorem dX0_falls_7 : decode cX0_falls 7 = .ok (.aload_n 0, 1) := dk_42 (dk_at dksX0_falls_0 7 rfl rfl)
theorem dX0_falls_8 : decode cX0_falls 8 = .ok (.iload_n 1, 1) := dk_27 (dk_at dksX0_falls_0 8 rfl rfl)
theorem dX0_falls_9 : decode cX0_falls 9 = .ok (.invokevirtual 209, 3) := dk_182 0 209 (dk_at dksX0_falls_0 9 rfl rfl)
theorem dX0_falls_12 : decode cX0_falls 12 = .ok (.imul, 1) := dk_104 (dk_at dksX0_falls_0 12 rfl rfl)
theorem dX0_falls_13 : decode cX0_falls 13 = .ok (.istore_n 3, 1) := dk_62 (dk_at dksX0_falls_0 13 rfl rfl)
theorem dX0_falls_14 : decode cX0_falls 14 = .ok (.iconst 0, 1) := dk_3 (dk_at dksX0_falls_0 14 rfl rfl)
theorem dX0_falls_15 : decode cX0_falls 15 = .ok (.istore 4, 2) := dk_54 4 (dk_at dksX0_falls_0 15 rfl rfl)
theorem dX0_falls_17 : decode cX0_falls 17 = .ok (.iload 4, 2) := dk_21 4 (dk_at dksX0_falls_0 17 rfl rfl)
theorem dX0_falls_19 : decode cX0_falls 19 = .ok (.iload_n 3, 1) := dk_29 (dk_at dksX0_falls_0 19 rfl rfl)
theorem dX0_falls_20 : decode cX0_falls 20 = .ok (.if_icmp .ge 14, 3) := dk_162 0 14 (dk_at dksX0_falls_0 20 rfl rfl)
theorem dX0_falls_23 : decode cX0_falls 23 = .ok (.aload_n 0, 1) := dk_42 (dk_at dksX0_falls_0 23 rfl rfl)
theorem dX0_falls_24 : decode cX0_falls 24 = .ok (.iload_n 2, 1) := dk_28 (dk_at dksX0_falls_1 0 rfl rfl)
theorem dX0_falls_25 : decode cX0_falls 25 = .ok (.invokevirtual 280, 3) := dk_182 1 24 (dk_at dksX0_falls_1 1 rfl rfl)
theorem dX0_falls_28 : decode cX0_falls 28 = .ok (.iinc 4 1, 3) := dk_132 4 1 (dk_at dksX0_falls_1 4 rfl rfl)
theorem dX0_falls_31 : decode cX0_falls 31 = .ok (.goto (-14), 3) := dk_167 255 242 (dk_at dksX0_falls_1 7 rfl rfl)
theorem dX0_falls_34 : decode cX0_falls 34 = .ok (.aload_n 0, 1) := dk_42 (dk_at dksX0_falls_1 10 rfl rfl)
theorem dX0_falls_35 : decode cX0_falls 35 = .ok (.iload_n 1, 1) := dk_27 (dk_at dksX0_falls_1 11 rfl rfl)
theorem dX0_falls_36 : decode cX0_falls 36 = .ok (.iload_n 3, 1) := dk_29 (dk_at dksX0_falls_1 12 rfl rfl)
theorem dX0_falls_37 : decode cX0_falls 37 = .ok (.iconst 2, 1) := dk_5 (dk_at dksX0_falls_1 13 rfl rfl)
theorem dX0_falls_38 : decode cX0_falls 38 = .ok (.idiv, 1) := dk_108 (dk_at dksX0_falls_1 14 rfl rfl)
theorem dX0_falls_39 : decode cX0_falls 39 = .ok (.invokevirtual 284, 3) := dk_182 1 28 (dk_at dksX0_falls_1 15 rfl rfl)
theorem dX0_falls_42 : decode cX0_falls 42 = .ok (.aload_n 0, 1) := dk_42 (dk_at dksX0_falls_1 18 rfl rfl)
theorem dX0_falls_43 : decode cX0_falls 43 = .ok (.getfield 1, 3) := dk_180 0 1 (dk_at dksX0_falls_1 19 rfl rfl)
theorem dX0_falls_46 : decode cX0_falls 46 = .ok (.invokevirtual 110, 3) := dk_182 0 110 (dk_at dksX0_falls_2 0 rfl rfl)
theorem dX0_falls_49 : decode cX0_falls 49 = .ok (.return_, 1) := dk_177 (dk_at dksX0_falls_2 3 rfl rfl)
abbrev cX0_bitGoes : ByteArray := prog_1_method_68_code
def yX0_bitGoes : MethodName := ⟨RX0, "bitGoes", "(I)V"⟩
def dkwX0_bitGoes_2 : List UInt8 := [167, 255, 224, 42, 180, 0, 1, 42, 180, 0, 1, 180, 0, 7, 3, 182, 1, 2, 177]
abbrev dktX0_bitGoes_2 : List UInt8 := dkwX0_bitGoes_2 ++ []
def dkwX0_bitGoes_1 : List UInt8 := [162, 0, 27, 42, 180, 0, 1, 28, 42, 180, 0, 1, 28, 4, 96, 182, 0, 42, 182, 1, 2, 132, 2, 1]
abbrev dktX0_bitGoes_1 : List UInt8 := dkwX0_bitGoes_1 ++ dktX0_bitGoes_2
def dkwX0_bitGoes_0 : List UInt8 := [42, 180, 0, 1, 89, 180, 0, 7, 4, 100, 181, 0, 7, 27, 61, 28, 42, 180, 0, 1, 180, 0, 7]
abbrev dktX0_bitGoes_0 : List UInt8 := dkwX0_bitGoes_0 ++ dktX0_bitGoes_1
theorem dksX0_bitGoes_0 : cX0_bitGoes.data.toList.drop 0 = dktX0_bitGoes_0 := by decide +kernel
theorem dksX0_bitGoes_1 : cX0_bitGoes.data.toList.drop 23 = dktX0_bitGoes_1 := dk_seg dksX0_bitGoes_0 23 rfl rfl
theorem dksX0_bitGoes_2 : cX0_bitGoes.data.toList.drop 47 = dktX0_bitGoes_2 := dk_seg dksX0_bitGoes_1 24 rfl rfl
theorem dX0_bitGoes_0 : decode cX0_bitGoes 0 = .ok (.aload_n 0, 1) := dk_42 (dk_at dksX0_bitGoes_0 0 rfl rfl)
theorem dX0_bitGoes_1 : decode cX0_bitGoes 1 = .ok (.getfield 1, 3) := dk_180 0 1 (dk_at dksX0_bitGoes_0 1 rfl rfl)
theorem dX0_bitGoes_4 : decode cX0_bitGoes 4 = .ok (.dup, 1) := dk_89 (dk_at dksX0_bitGoes_0 4 rfl rfl)
theorem dX0_bitGoes_5 : decode cX0_bitGoes 5 = .ok (.getfield 7, 3) := dk_180 0 7 (dk_at dksX0_bitGoes_0 5 rfl rfl)
theorem dX0_bitGoes_8 : decode cX0_bitGoes 8 = .ok (.iconst 1, 1) := dk_4 (dk_at dksX0_bitGoes_0 8 rfl rfl)
theorem dX0_bitGoes_9 : decode cX0_bitGoes 9 = .ok (.isub, 1) := dk_100 (dk_at dksX0_bitGoes_0 9 rfl rfl)
theorem dX0_bitGoes_10 : decode cX0_bitGoes 10 = .ok (.putfield 7, 3) := dk_181 0 7 (dk_at dksX0_bitGoes_0 10 rfl rfl)
theorem dX0_bitGoes_13 : decode cX0_bitGoes 13 = .ok (.iload_n 1, 1) := dk_27 (dk_at dksX0_bitGoes_0 13 rfl rfl)
theorem dX0_bitGoes_14 : decode cX0_bitGoes 14 = .ok (.istore_n 2, 1) := dk_61 (dk_at dksX0_bitGoes_0 14 rfl rfl)
theorem dX0_bitGoes_15 : decode cX0_bitGoes 15 = .ok (.iload_n 2, 1) := dk_28 (dk_at dksX0_bitGoes_0 15 rfl rfl)
theorem dX0_bitGoes_16 : decode cX0_bitGoes 16 = .ok (.aload_n 0, 1) := dk_42 (dk_at dksX0_bitGoes_0 16 rfl rfl)
theorem dX0_bitGoes_17 : decode cX0_bitGoes 17 = .ok (.getfield 1, 3) := dk_180 0 1 (dk_at dksX0_bitGoes_0 17 rfl rfl)
theorem dX0_bitGoes_20 : decode cX0_bitGoes 20 = .ok (.getfield 7, 3) := dk_180 0 7 (dk_at dksX0_bitGoes_0 20 rfl rfl)
theorem dX0_bitGoes_23 : decode cX0_bitGoes 23 = .ok (.if_icmp .ge 27, 3) := dk_162 0 27 (dk_at dksX0_bitGoes_1 0 rfl rfl)
theorem dX0_bitGoes_26 : decode cX0_bitGoes 26 = .ok (.aload_n 0, 1) := dk_42 (dk_at dksX0_bitGoes_1 3 rfl rfl)
theorem dX0_bitGoes_27 : decode cX0_bitGoes 27 = .ok (.getfield 1, 3) := dk_180 0 1 (dk_at dksX0_bitGoes_1 4 rfl rfl)
theorem dX0_bitGoes_30 : decode cX0_bitGoes 30 = .ok (.iload_n 2, 1) := dk_28 (dk_at dksX0_bitGoes_1 7 rfl rfl)
theorem dX0_bitGoes_31 : decode cX0_bitGoes 31 = .ok (.aload_n 0, 1) := dk_42 (dk_at dksX0_bitGoes_1 8 rfl rfl)
theorem dX0_bitGoes_32 : decode cX0_bitGoes 32 = .ok (.getfield 1, 3) := dk_180 0 1 (dk_at dksX0_bitGoes_1 9 rfl rfl)
theorem dX0_bitGoes_35 : decode cX0_bitGoes 35 = .ok (.iload_n 2, 1) := dk_28 (dk_at dksX0_bitGoes_1 12 rfl rfl)
theorem dX0_bitGoes_36 : decode cX0_bitGoes 36 = .ok (.iconst 1, 1) := dk_4 (dk_at dksX0_bitGoes_1 13 rfl rfl)
theorem dX0_bitGoes_37 : decode cX0_bitGoes 37 = .ok (.iadd, 1) := dk_96 (dk_at dksX0_bitGoes_1 14 rfl rfl)
theorem dX0_bitGoes_38 : decode cX0_bitGoes 38 = .ok (.invokevirtual 42, 3) := dk_182 0 42 (dk_at dksX0_bitGoes_1 15 rfl rfl)
theorem dX0_bitGoes_41 : decode cX0_bitGoes 41 = .ok (.invokevirtual 258, 3) := dk_182 1 2 (dk_at dksX0_bitGoes_1 18 rfl rfl)
theorem dX0_bitGoes_44 : decode cX0_bitGoes 44 = .ok (.iinc 2 1, 3) := dk_132 2 1 (dk_at dksX0_bitGoes_1 21 rfl rfl)
theorem dX0_bitGoes_47 : decode cX0_bitGoes 47 = .ok (.goto (-32), 3) := dk_167 255 224 (dk_at dksX0_bitGoes_2 0 rfl rfl)
theorem dX0_bitGoes_50 : decode cX0_bitGoes 50 = .ok (.aload_n 0, 1) := dk_42 (dk_at dksX0_bitGoes_2 3 rfl rfl)
theorem dX0_bitGoes_51 : decode cX0_bitGoes 51 = .ok (.getfield 1, 3) := dk_180 0 1 (dk_at dksX0_bitGoes_2 4 rfl rfl)
theorem dX0_bitGoes_54 : decode cX0_bitGoes 54 = .ok (.aload_n 0, 1) := dk_42 (dk_at dksX0_bitGoes_2 7 rfl rfl)
theorem dX0_bitGoes_55 : decode cX0_bitGoes 55 = .ok (.getfield 1, 3) := dk_180 0 1 (dk_at dksX0_bitGoes_2 8 rfl rfl)
theorem dX0_bitGoes_58 : decode cX0_bitGoes 58 = .ok (.getfield 7, 3) := dk_180 0 7 (dk_at dksX0_bitGoes_2 11 rfl rfl)
theorem dX0_bitGoes_61 : decode cX0_bitGoes 61 = .ok (.iconst 0, 1) := dk_3 (dk_at dksX0_bitGoes_2 14 rfl rfl)
theorem dX0_bitGoes_62 : decode cX0_bitGoes 62 = .ok (.invokevirtual 258, 3) := dk_182 1 2 (dk_at dksX0_bitGoes_2 15 rfl rfl)
theorem dX0_bitGoes_65 : decode cX0_bitGoes 65 = .ok (.return_, 1) := dk_177 (dk_at dksX0_bitGoes_2 18 rfl rfl)
abbrev cX0_weightsGo : ByteArray := prog_1_method_70_code
def yX0_weightsGo : MethodName := ⟨RX0, "weightsGo", "(II)V"⟩
def dkwX0_weightsGo_2 : List UInt8 := [132, 3, 1, 167, 255, 237, 177]
abbrev dktX0_weightsGo_2 : List UInt8 := dkwX0_weightsGo_2 ++ []
def dkwX0_weightsGo_1 : List UInt8 := [184, 1, 6, 16, 64, 28, 100, 62, 29, 16, 64, 162, 0, 19, 42, 180, 0, 1, 180, 0, 243, 29, 3, 79]
abbrev dktX0_weightsGo_1 : List UInt8 := dkwX0_weightsGo_1 ++ dktX0_weightsGo_2
def dkwX0_weightsGo_0 : List UInt8 := [42, 180, 0, 1, 180, 0, 243, 27, 28, 96, 42, 180, 0, 1, 180, 0, 243, 27, 16, 64, 27, 100, 28, 100]
abbrev dktX0_weightsGo_0 : List UInt8 := dkwX0_weightsGo_0 ++ dktX0_weightsGo_1
theorem dksX0_weightsGo_0 : cX0_weightsGo.data.toList.drop 0 = dktX0_weightsGo_0 := by decide +kernel
theorem dksX0_weightsGo_1 : cX0_weightsGo.data.toList.drop 24 = dktX0_weightsGo_1 := dk_seg dksX0_weightsGo_0 24 rfl rfl
theorem dksX0_weightsGo_2 : cX0_weightsGo.data.toList.drop 48 = dktX0_weightsGo_2 := dk_seg dksX0_weightsGo_1 24 rfl rfl
theorem dX0_weightsGo_0 : decode cX0_weightsGo 0 = .ok (.aload_n 0, 1) := dk_42 (dk_at dksX0_weightsGo_0 0 rfl rfl)
theorem dX0_weightsGo_1 : decode cX0_weightsGo 1 = .ok (.getfield 1, 3) := dk_180 0 1 (dk_at dksX0_weightsGo_0 1 rfl rfl)
theorem dX0_weightsGo_4 : decode cX0_weightsGo 4 = .ok (.getfield 243, 3) := dk_180 0 243 (dk_at dksX0_weightsGo_0 4 rfl rfl)
theorem dX0_weightsGo_7 : decode cX0_weightsGo 7 = .ok (.iload_n 1, 1) := dk_27 (dk_at dksX0_weightsGo_0 7 rfl rfl)
theorem dX0_weightsGo_8 : decode cX0_weightsGo 8 = .ok (.iload_n 2, 1) := dk_28 (dk_at dksX0_weightsGo_0 8 rfl rfl)
theorem dX0_weightsGo_9 : decode cX0_weightsGo 9 = .ok (.iadd, 1) := dk_96 (dk_at dksX0_weightsGo_0 9 rfl rfl)
theorem dX0_weightsGo_10 : decode cX0_weightsGo 10 = .ok (.aload_n 0, 1) := dk_42 (dk_at dksX0_weightsGo_0 10 rfl rfl)
theorem dX0_weightsGo_11 : decode cX0_weightsGo 11 = .ok (.getfield 1, 3) := dk_180 0 1 (dk_at dksX0_weightsGo_0 11 rfl rfl)
theorem dX0_weightsGo_14 : decode cX0_weightsGo 14 = .ok (.getfield 243, 3) := dk_180 0 243 (dk_at dksX0_weightsGo_0 14 rfl rfl)
theorem dX0_weightsGo_17 : decode cX0_weightsGo 17 = .ok (.iload_n 1, 1) := dk_27 (dk_at dksX0_weightsGo_0 17 rfl rfl)
theorem dX0_weightsGo_18 : decode cX0_weightsGo 18 = .ok (.bipush 64, 2) := dk_16 64 (dk_at dksX0_weightsGo_0 18 rfl rfl)
theorem dX0_weightsGo_20 : decode cX0_weightsGo 20 = .ok (.iload_n 1, 1) := dk_27 (dk_at dksX0_weightsGo_0 20 rfl rfl)
theorem dX0_weightsGo_21 : decode cX0_weightsGo 21 = .ok (.isub, 1) := dk_100 (dk_at dksX0_weightsGo_0 21 rfl rfl)
theorem dX0_weightsGo_22 : decode cX0_weightsGo 22 = .ok (.iload_n 2, 1) := dk_28 (dk_at dksX0_weightsGo_0 22 rfl rfl)
theorem dX0_weightsGo_23 : decode cX0_weightsGo 23 = .ok (.isub, 1) := dk_100 (dk_at dksX0_weightsGo_0 23 rfl rfl)
theorem dX0_weightsGo_24 : decode cX0_weightsGo 24 = .ok (.invokestatic 262, 3) := dk_184 1 6 (dk_at dksX0_weightsGo_1 0 rfl rfl)
theorem dX0_weightsGo_27 : decode cX0_weightsGo 27 = .ok (.bipush 64, 2) := dk_16 64 (dk_at dksX0_weightsGo_1 3 rfl rfl)
theorem dX0_weightsGo_29 : decode cX0_weightsGo 29 = .ok (.iload_n 2, 1) := dk_28 (dk_at dksX0_weightsGo_1 5 rfl rfl)
theorem dX0_weightsGo_30 : decode cX0_weightsGo 30 = .ok (.isub, 1) := dk_100 (dk_at dksX0_weightsGo_1 6 rfl rfl)
theorem dX0_weightsGo_31 : decode cX0_weightsGo 31 = .ok (.istore_n 3, 1) := dk_62 (dk_at dksX0_weightsGo_1 7 rfl rfl)
theorem dX0_weightsGo_32 : decode cX0_weightsGo 32 = .ok (.iload_n 3, 1) := dk_29 (dk_at dksX0_weightsGo_1 8 rfl rfl)
theorem dX0_weightsGo_33 : decode cX0_weightsGo 33 = .ok (.bipush 64, 2) := dk_16 64 (dk_at dksX0_weightsGo_1 9 rfl rfl)
theorem dX0_weightsGo_35 : decode cX0_weightsGo 35 = .ok (.if_icmp .ge 19, 3) := dk_162 0 19 (dk_at dksX0_weightsGo_1 11 rfl rfl)
theorem dX0_weightsGo_38 : decode cX0_weightsGo 38 = .ok (.aload_n 0, 1) := dk_42 (dk_at dksX0_weightsGo_1 14 rfl rfl)
theorem dX0_weightsGo_39 : decode cX0_weightsGo 39 = .ok (.getfield 1, 3) := dk_180 0 1 (dk_at dksX0_weightsGo_1 15 rfl rfl)
theorem dX0_weightsGo_42 : decode cX0_weightsGo 42 = .ok (.getfield 243, 3) := dk_180 0 243 (dk_at dksX0_weightsGo_1 18 rfl rfl)
theorem dX0_weightsGo_45 : decode cX0_weightsGo 45 = .ok (.iload_n 3, 1) := dk_29 (dk_at dksX0_weightsGo_1 21 rfl rfl)
theorem dX0_weightsGo_46 : decode cX0_weightsGo 46 = .ok (.iconst 0, 1) := dk_3 (dk_at dksX0_weightsGo_1 22 rfl rfl)
theorem dX0_weightsGo_47 : decode cX0_weightsGo 47 = .ok (.iastore, 1) := dk_79 (dk_at dksX0_weightsGo_1 23 rfl rfl)
theorem dX0_weightsGo_48 : decode cX0_weightsGo 48 = .ok (.iinc 3 1, 3) := dk_132 3 1 (dk_at dksX0_weightsGo_2 0 rfl rfl)
theorem dX0_weightsGo_51 : decode cX0_weightsGo 51 = .ok (.goto (-19), 3) := dk_167 255 237 (dk_at dksX0_weightsGo_2 3 rfl rfl)
theorem dX0_weightsGo_54 : decode cX0_weightsGo 54 = .ok (.return_, 1) := dk_177 (dk_at dksX0_weightsGo_2 6 rfl rfl)
abbrev cX0_fell : ByteArray := prog_1_method_77_code
def yX0_fell : MethodName := ⟨RX0, "fell", "(I)I"⟩
def dkwX0_fell_0 : List UInt8 := [42, 27, 182, 0, 194, 154, 0, 5, 2, 172, 42, 27, 182, 0, 209, 61, 42, 27, 182, 1, 31, 28, 172]
abbrev dktX0_fell_0 : List UInt8 := dkwX0_fell_0 ++ []
theorem dksX0_fell_0 : cX0_fell.data.toList.drop 0 = dktX0_fell_0 := by decide +kernel
theorem dX0_fell_0 : decode cX0_fell 0 = .ok (.aload_n 0, 1) := dk_42 (dk_at dksX0_fell_0 0 rfl rfl)
theorem dX0_fell_1 : decode cX0_fell 1 = .ok (.iload_n 1, 1) := dk_27 (dk_at dksX0_fell_0 1 rfl rfl)
theorem dX0_fell_2 : decode cX0_fell 2 = .ok (.invokevirtual 194, 3) := dk_182 0 194 (dk_at dksX0_fell_0 2 rfl rfl)
theorem dX0_fell_5 : decode cX0_fell 5 = .ok (.ifCond .ne 5, 3) := dk_154 0 5 (dk_at dksX0_fell_0 5 rfl rfl)
theorem dX0_fell_8 : decode cX0_fell 8 = .ok (.iconst (-1), 1) := dk_2 (dk_at dksX0_fell_0 8 rfl rfl)
theorem dX0_fell_9 : decode cX0_fell 9 = .ok (.ireturn, 1) := dk_172 (dk_at dksX0_fell_0 9 rfl rfl)
theorem dX0_fell_10 : decode cX0_fell 10 = .ok (.aload_n 0, 1) := dk_42 (dk_at dksX0_fell_0 10 rfl rfl)
theorem dX0_fell_11 : decode cX0_fell 11 = .ok (.iload_n 1, 1) := dk_27 (dk_at dksX0_fell_0 11 rfl rfl)
theorem dX0_fell_12 : decode cX0_fell 12 = .ok (.invokevirtual 209, 3) := dk_182 0 209 (dk_at dksX0_fell_0 12 rfl rfl)
theorem dX0_fell_15 : decode cX0_fell 15 = .ok (.istore_n 2, 1) := dk_61 (dk_at dksX0_fell_0 15 rfl rfl)
theorem dX0_fell_16 : decode cX0_fell 16 = .ok (.aload_n 0, 1) := dk_42 (dk_at dksX0_fell_0 16 rfl rfl)
theorem dX0_fell_17 : decode cX0_fell 17 = .ok (.iload_n 1, 1) := dk_27 (dk_at dksX0_fell_0 17 rfl rfl)
theorem dX0_fell_18 : decode cX0_fell 18 = .ok (.invokevirtual 287, 3) := dk_182 1 31 (dk_at dksX0_fell_0 18 rfl rfl)
theorem dX0_fell_21 : decode cX0_fell 21 = .ok (.iload_n 2, 1) := dk_28 (dk_at dksX0_fell_0 21 rfl rfl)
theorem dX0_fell_22 : decode cX0_fell 22 = .ok (.ireturn, 1) := dk_172 (dk_at dksX0_fell_0 22 rfl rfl)
abbrev cX0_wrap : ByteArray := prog_1_method_78_code
def yX0_wrap : MethodName := ⟨RX0, "wrap", "(IIII)I"⟩
def dkwX0_wrap_4 : List UInt8 := [182, 1, 12, 42, 21, 7, 21, 4, 182, 1, 18, 42, 180, 0, 1, 182, 0, 110, 21, 7, 172]
abbrev dktX0_wrap_4 : List UInt8 := dkwX0_wrap_4 ++ []
def dkwX0_wrap_3 : List UInt8 := [182, 1, 15, 54, 6, 42, 21, 5, 182, 0, 179, 54, 7, 42, 21, 6, 3, 182, 1, 12, 42, 21, 5, 4]
abbrev dktX0_wrap_3 : List UInt8 := dkwX0_wrap_3 ++ dktX0_wrap_4
def dkwX0_wrap_2 : List UInt8 := [182, 0, 155, 16, 64, 160, 0, 6, 16, 253, 172, 42, 27, 28, 182, 1, 15, 54, 5, 42, 27, 28, 29, 96]
abbrev dktX0_wrap_2 : List UInt8 := dkwX0_wrap_2 ++ dktX0_wrap_3
def dkwX0_wrap_1 : List UInt8 := [182, 0, 206, 133, 184, 0, 115, 153, 0, 14, 29, 42, 27, 182, 0, 206, 28, 100, 164, 0, 5, 2, 172, 42]
abbrev dktX0_wrap_1 : List UInt8 := dkwX0_wrap_1 ++ dktX0_wrap_2
def dkwX0_wrap_0 : List UInt8 := [42, 27, 182, 0, 194, 153, 0, 38, 21, 4, 155, 0, 33, 29, 155, 0, 29, 28, 133, 9, 42, 27]
abbrev dktX0_wrap_0 : List UInt8 := dkwX0_wrap_0 ++ dktX0_wrap_1
theorem dksX0_wrap_0 : cX0_wrap.data.toList.drop 0 = dktX0_wrap_0 := by decide +kernel
theorem dksX0_wrap_1 : cX0_wrap.data.toList.drop 22 = dktX0_wrap_1 := dk_seg dksX0_wrap_0 22 rfl rfl
theorem dksX0_wrap_2 : cX0_wrap.data.toList.drop 46 = dktX0_wrap_2 := dk_seg dksX0_wrap_1 24 rfl rfl
theorem dksX0_wrap_3 : cX0_wrap.data.toList.drop 70 = dktX0_wrap_3 := dk_seg dksX0_wrap_2 24 rfl rfl
theorem dksX0_wrap_4 : cX0_wrap.data.toList.drop 94 = dktX0_wrap_4 := dk_seg dksX0_wrap_3 24 rfl rfl
theorem dX0_wrap_0 : decode cX0_wrap 0 = .ok (.aload_n 0, 1) := dk_42 (dk_at dksX0_wrap_0 0 rfl rfl)
theorem dX0_wrap_1 : decode cX0_wrap 1 = .ok (.iload_n 1, 1) := dk_27 (dk_at dksX0_wrap_0 1 rfl rfl)
theorem dX0_wrap_2 : decode cX0_wrap 2 = .ok (.invokevirtual 194, 3) := dk_182 0 194 (dk_at dksX0_wrap_0 2 rfl rfl)
theorem dX0_wrap_5 : decode cX0_wrap 5 = .ok (.ifCond .eq 38, 3) := dk_153 0 38 (dk_at dksX0_wrap_0 5 rfl rfl)
theorem dX0_wrap_8 : decode cX0_wrap 8 = .ok (.iload 4, 2) := dk_21 4 (dk_at dksX0_wrap_0 8 rfl rfl)
theorem dX0_wrap_10 : decode cX0_wrap 10 = .ok (.ifCond .lt 33, 3) := dk_155 0 33 (dk_at dksX0_wrap_0 10 rfl rfl)
theorem dX0_wrap_13 : decode cX0_wrap 13 = .ok (.iload_n 3, 1) := dk_29 (dk_at dksX0_wrap_0 13 rfl rfl)
theorem dX0_wrap_14 : decode cX0_wrap 14 = .ok (.ifCond .lt 29, 3) := dk_155 0 29 (dk_at dksX0_wrap_0 14 rfl rfl)
theorem dX0_wrap_17 : decode cX0_wrap 17 = .ok (.iload_n 2, 1) := dk_28 (dk_at dksX0_wrap_0 17 rfl rfl)
theorem dX0_wrap_18 : decode cX0_wrap 18 = .ok (.i2l, 1) := dk_133 (dk_at dksX0_wrap_0 18 rfl rfl)
theorem dX0_wrap_19 : decode cX0_wrap 19 = .ok (.lconst 0, 1) := dk_9 (dk_at dksX0_wrap_0 19 rfl rfl)
theorem dX0_wrap_20 : decode cX0_wrap 20 = .ok (.aload_n 0, 1) := dk_42 (dk_at dksX0_wrap_0 20 rfl rfl)
theorem dX0_wrap_21 : decode cX0_wrap 21 = .ok (.iload_n 1, 1) := dk_27 (dk_at dksX0_wrap_0 21 rfl rfl)
theorem dX0_wrap_22 : decode cX0_wrap 22 = .ok (.invokevirtual 206, 3) := dk_182 0 206 (dk_at dksX0_wrap_1 0 rfl rfl)
theorem dX0_wrap_25 : decode cX0_wrap 25 = .ok (.i2l, 1) := dk_133 (dk_at dksX0_wrap_1 3 rfl rfl)
theorem dX0_wrap_26 : decode cX0_wrap 26 = .ok (.invokestatic 115, 3) := dk_184 0 115 (dk_at dksX0_wrap_1 4 rfl rfl)
theorem dX0_wrap_29 : decode cX0_wrap 29 = .ok (.ifCond .eq 14, 3) := dk_153 0 14 (dk_at dksX0_wrap_1 7 rfl rfl)
theorem dX0_wrap_32 : decode cX0_wrap 32 = .ok (.iload_n 3, 1) := dk_29 (dk_at dksX0_wrap_1 10 rfl rfl)
theorem dX0_wrap_33 : decode cX0_wrap 33 = .ok (.aload_n 0, 1) := dk_42 (dk_at dksX0_wrap_1 11 rfl rfl)
theorem dX0_wrap_34 : decode cX0_wrap 34 = .ok (.iload_n 1, 1) := dk_27 (dk_at dksX0_wrap_1 12 rfl rfl)
theorem dX0_wrap_35 : decode cX0_wrap 35 = .ok (.invokevirtual 206, 3) := dk_182 0 206 (dk_at dksX0_wrap_1 13 rfl rfl)
theorem dX0_wrap_38 : decode cX0_wrap 38 = .ok (.iload_n 2, 1) := dk_28 (dk_at dksX0_wrap_1 16 rfl rfl)
theorem dX0_wrap_39 : decode cX0_wrap 39 = .ok (.isub, 1) := dk_100 (dk_at dksX0_wrap_1 17 rfl rfl)
theorem dX0_wrap_40 : decode cX0_wrap 40 = .ok (.if_icmp .le 5, 3) := dk_164 0 5 (dk_at dksX0_wrap_1 18 rfl rfl)
theorem dX0_wrap_43 : decode cX0_wrap 43 = .ok (.iconst (-1), 1) := dk_2 (dk_at dksX0_wrap_1 21 rfl rfl)
theorem dX0_wrap_44 : decode cX0_wrap 44 = .ok (.ireturn, 1) := dk_172 (dk_at dksX0_wrap_1 22 rfl rfl)
theorem dX0_wrap_45 : decode cX0_wrap 45 = .ok (.aload_n 0, 1) := dk_42 (dk_at dksX0_wrap_1 23 rfl rfl)
theorem dX0_wrap_46 : decode cX0_wrap 46 = .ok (.invokevirtual 155, 3) := dk_182 0 155 (dk_at dksX0_wrap_2 0 rfl rfl)
theorem dX0_wrap_49 : decode cX0_wrap 49 = .ok (.bipush 64, 2) := dk_16 64 (dk_at dksX0_wrap_2 3 rfl rfl)
theorem dX0_wrap_51 : decode cX0_wrap 51 = .ok (.if_icmp .ne 6, 3) := dk_160 0 6 (dk_at dksX0_wrap_2 5 rfl rfl)
theorem dX0_wrap_54 : decode cX0_wrap 54 = .ok (.bipush (-3), 2) := dk_16 253 (dk_at dksX0_wrap_2 8 rfl rfl)
theorem dX0_wrap_56 : decode cX0_wrap 56 = .ok (.ireturn, 1) := dk_172 (dk_at dksX0_wrap_2 10 rfl rfl)
theorem dX0_wrap_57 : decode cX0_wrap 57 = .ok (.aload_n 0, 1) := dk_42 (dk_at dksX0_wrap_2 11 rfl rfl)
theorem dX0_wrap_58 : decode cX0_wrap 58 = .ok (.iload_n 1, 1) := dk_27 (dk_at dksX0_wrap_2 12 rfl rfl)
theorem dX0_wrap_59 : decode cX0_wrap 59 = .ok (.iload_n 2, 1) := dk_28 (dk_at dksX0_wrap_2 13 rfl rfl)
theorem dX0_wrap_60 : decode cX0_wrap 60 = .ok (.invokevirtual 271, 3) := dk_182 1 15 (dk_at dksX0_wrap_2 14 rfl rfl)
theorem dX0_wrap_63 : decode cX0_wrap 63 = .ok (.istore 5, 2) := dk_54 5 (dk_at dksX0_wrap_2 17 rfl rfl)
theorem dX0_wrap_65 : decode cX0_wrap 65 = .ok (.aload_n 0, 1) := dk_42 (dk_at dksX0_wrap_2 19 rfl rfl)
theorem dX0_wrap_66 : decode cX0_wrap 66 = .ok (.iload_n 1, 1) := dk_27 (dk_at dksX0_wrap_2 20 rfl rfl)
theorem dX0_wrap_67 : decode cX0_wrap 67 = .ok (.iload_n 2, 1) := dk_28 (dk_at dksX0_wrap_2 21 rfl rfl)
theorem dX0_wrap_68 : decode cX0_wrap 68 = .ok (.iload_n 3, 1) := dk_29 (dk_at dksX0_wrap_2 22 rfl rfl)
theorem dX0_wrap_69 : decode cX0_wrap 69 = .ok (.iadd, 1) := dk_96 (dk_at dksX0_wrap_2 23 rfl rfl)
theorem dX0_wrap_70 : decode cX0_wrap 70 = .ok (.invokevirtual 271, 3) := dk_182 1 15 (dk_at dksX0_wrap_3 0 rfl rfl)
theorem dX0_wrap_73 : decode cX0_wrap 73 = .ok (.istore 6, 2) := dk_54 6 (dk_at dksX0_wrap_3 3 rfl rfl)
theorem dX0_wrap_75 : decode cX0_wrap 75 = .ok (.aload_n 0, 1) := dk_42 (dk_at dksX0_wrap_3 5 rfl rfl)
theorem dX0_wrap_76 : decode cX0_wrap 76 = .ok (.iload 5, 2) := dk_21 5 (dk_at dksX0_wrap_3 6 rfl rfl)
theorem dX0_wrap_78 : decode cX0_wrap 78 = .ok (.invokevirtual 179, 3) := dk_182 0 179 (dk_at dksX0_wrap_3 8 rfl rfl)
theorem dX0_wrap_81 : decode cX0_wrap 81 = .ok (.istore 7, 2) := dk_54 7 (dk_at dksX0_wrap_3 11 rfl rfl)
theorem dX0_wrap_83 : decode cX0_wrap 83 = .ok (.aload_n 0, 1) := dk_42 (dk_at dksX0_wrap_3 13 rfl rfl)
theorem dX0_wrap_84 : decode cX0_wrap 84 = .ok (.iload 6, 2) := dk_21 6 (dk_at dksX0_wrap_3 14 rfl rfl)
theorem dX0_wrap_86 : decode cX0_wrap 86 = .ok (.iconst 0, 1) := dk_3 (dk_at dksX0_wrap_3 16 rfl rfl)
theorem dX0_wrap_87 : decode cX0_wrap 87 = .ok (.invokevirtual 268, 3) := dk_182 1 12 (dk_at dksX0_wrap_3 17 rfl rfl)
theorem dX0_wrap_90 : decode cX0_wrap 90 = .ok (.aload_n 0, 1) := dk_42 (dk_at dksX0_wrap_3 20 rfl rfl)
theorem dX0_wrap_91 : decode cX0_wrap 91 = .ok (.iload 5, 2) := dk_21 5 (dk_at dksX0_wrap_3 21 rfl rfl)
theorem dX0_wrap_93 : decode cX0_wrap 93 = .ok (.iconst 1, 1) := dk_4 (dk_at dksX0_wrap_3 23 rfl rfl)
theorem dX0_wrap_94 : decode cX0_wrap 94 = .ok (.invokevirtual 268, 3) := dk_182 1 12 (dk_at dksX0_wrap_4 0 rfl rfl)
theorem dX0_wrap_97 : decode cX0_wrap 97 = .ok (.aload_n 0, 1) := dk_42 (dk_at dksX0_wrap_4 3 rfl rfl)
theorem dX0_wrap_98 : decode cX0_wrap 98 = .ok (.iload 7, 2) := dk_21 7 (dk_at dksX0_wrap_4 4 rfl rfl)
theorem dX0_wrap_100 : decode cX0_wrap 100 = .ok (.iload 4, 2) := dk_21 4 (dk_at dksX0_wrap_4 6 rfl rfl)
theorem dX0_wrap_102 : decode cX0_wrap 102 = .ok (.invokevirtual 274, 3) := dk_182 1 18 (dk_at dksX0_wrap_4 8 rfl rfl)
theorem dX0_wrap_105 : decode cX0_wrap 105 = .ok (.aload_n 0, 1) := dk_42 (dk_at dksX0_wrap_4 11 rfl rfl)
theorem dX0_wrap_106 : decode cX0_wrap 106 = .ok (.getfield 1, 3) := dk_180 0 1 (dk_at dksX0_wrap_4 12 rfl rfl)
theorem dX0_wrap_109 : decode cX0_wrap 109 = .ok (.invokevirtual 110, 3) := dk_182 0 110 (dk_at dksX0_wrap_4 15 rfl rfl)
theorem dX0_wrap_112 : decode cX0_wrap 112 = .ok (.iload 7, 2) := dk_21 7 (dk_at dksX0_wrap_4 18 rfl rfl)
theorem dX0_wrap_114 : decode cX0_wrap 114 = .ok (.ireturn, 1) := dk_172 (dk_at dksX0_wrap_4 20 rfl rfl)
abbrev cX0_melt : ByteArray := prog_1_method_79_code
def yX0_melt : MethodName := ⟨RX0, "melt", "(I)I"⟩
def dkwX0_melt_2 : List UInt8 := [27, 4, 182, 1, 28, 42, 180, 0, 1, 182, 0, 110, 42, 182, 0, 155, 172]
abbrev dktX0_melt_2 : List UInt8 := dkwX0_melt_2 ++ []
def dkwX0_melt_1 : List UInt8 := [16, 254, 172, 42, 27, 182, 0, 58, 61, 42, 42, 28, 182, 0, 61, 182, 1, 24, 42, 28, 182, 1, 24, 42]
abbrev dktX0_melt_1 : List UInt8 := dkwX0_melt_1 ++ dktX0_melt_2
def dkwX0_melt_0 : List UInt8 := [42, 27, 182, 0, 194, 154, 0, 5, 2, 172, 27, 154, 0, 15, 42, 3, 182, 0, 206, 4, 159, 0, 6]
abbrev dktX0_melt_0 : List UInt8 := dkwX0_melt_0 ++ dktX0_melt_1
theorem dksX0_melt_0 : cX0_melt.data.toList.drop 0 = dktX0_melt_0 := by decide +kernel
theorem dksX0_melt_1 : cX0_melt.data.toList.drop 23 = dktX0_melt_1 := dk_seg dksX0_melt_0 23 rfl rfl
theorem dksX0_melt_2 : cX0_melt.data.toList.drop 47 = dktX0_melt_2 := dk_seg dksX0_melt_1 24 rfl rfl
theorem dX0_melt_0 : decode cX0_melt 0 = .ok (.aload_n 0, 1) := dk_42 (dk_at dksX0_melt_0 0 rfl rfl)
theorem dX0_melt_1 : decode cX0_melt 1 = .ok (.iload_n 1, 1) := dk_27 (dk_at dksX0_melt_0 1 rfl rfl)
theorem dX0_melt_2 : decode cX0_melt 2 = .ok (.invokevirtual 194, 3) := dk_182 0 194 (dk_at dksX0_melt_0 2 rfl rfl)
theorem dX0_melt_5 : decode cX0_melt 5 = .ok (.ifCond .ne 5, 3) := dk_154 0 5 (dk_at dksX0_melt_0 5 rfl rfl)
theorem dX0_melt_8 : decode cX0_melt 8 = .ok (.iconst (-1), 1) := dk_2 (dk_at dksX0_melt_0 8 rfl rfl)
theorem dX0_melt_9 : decode cX0_melt 9 = .ok (.ireturn, 1) := dk_172 (dk_at dksX0_melt_0 9 rfl rfl)
theorem dX0_melt_10 : decode cX0_melt 10 = .ok (.iload_n 1, 1) := dk_27 (dk_at dksX0_melt_0 10 rfl rfl)
theorem dX0_melt_11 : decode cX0_melt 11 = .ok (.ifCond .ne 15, 3) := dk_154 0 15 (dk_at dksX0_melt_0 11 rfl rfl)
theorem dX0_melt_14 : decode cX0_melt 14 = .ok (.aload_n 0, 1) := dk_42 (dk_at dksX0_melt_0 14 rfl rfl)
theorem dX0_melt_15 : decode cX0_melt 15 = .ok (.iconst 0, 1) := dk_3 (dk_at dksX0_melt_0 15 rfl rfl)
theorem dX0_melt_16 : decode cX0_melt 16 = .ok (.invokevirtual 206, 3) := dk_182 0 206 (dk_at dksX0_melt_0 16 rfl rfl)
theorem dX0_melt_19 : decode cX0_melt 19 = .ok (.iconst 1, 1) := dk_4 (dk_at dksX0_melt_0 19 rfl rfl)
theorem dX0_melt_20 : decode cX0_melt 20 = .ok (.if_icmp .eq 6, 3) := dk_159 0 6 (dk_at dksX0_melt_0 20 rfl rfl)
theorem dX0_melt_23 : decode cX0_melt 23 = .ok (.bipush (-2), 2) := dk_16 254 (dk_at dksX0_melt_1 0 rfl rfl)
theorem dX0_melt_25 : decode cX0_melt 25 = .ok (.ireturn, 1) := dk_172 (dk_at dksX0_melt_1 2 rfl rfl)
theorem dX0_melt_26 : decode cX0_melt 26 = .ok (.aload_n 0, 1) := dk_42 (dk_at dksX0_melt_1 3 rfl rfl)
theorem dX0_melt_27 : decode cX0_melt 27 = .ok (.iload_n 1, 1) := dk_27 (dk_at dksX0_melt_1 4 rfl rfl)
theorem dX0_melt_28 : decode cX0_melt 28 = .ok (.invokevirtual 58, 3) := dk_182 0 58 (dk_at dksX0_melt_1 5 rfl rfl)
theorem dX0_melt_31 : decode cX0_melt 31 = .ok (.istore_n 2, 1) := dk_61 (dk_at dksX0_melt_1 8 rfl rfl)
theorem dX0_melt_32 : decode cX0_melt 32 = .ok (.aload_n 0, 1) := dk_42 (dk_at dksX0_melt_1 9 rfl rfl)
theorem dX0_melt_33 : decode cX0_melt 33 = .ok (.aload_n 0, 1) := dk_42 (dk_at dksX0_melt_1 10 rfl rfl)
theorem dX0_melt_34 : decode cX0_melt 34 = .ok (.iload_n 2, 1) := dk_28 (dk_at dksX0_melt_1 11 rfl rfl)
theorem dX0_melt_35 : decode cX0_melt 35 = .ok (.invokevirtual 61, 3) := dk_182 0 61 (dk_at dksX0_melt_1 12 rfl rfl)
theorem dX0_melt_38 : decode cX0_melt 38 = .ok (.invokevirtual 280, 3) := dk_182 1 24 (dk_at dksX0_melt_1 15 rfl rfl)
theorem dX0_melt_41 : decode cX0_melt 41 = .ok (.aload_n 0, 1) := dk_42 (dk_at dksX0_melt_1 18 rfl rfl)
theorem dX0_melt_42 : decode cX0_melt 42 = .ok (.iload_n 2, 1) := dk_28 (dk_at dksX0_melt_1 19 rfl rfl)
theorem dX0_melt_43 : decode cX0_melt 43 = .ok (.invokevirtual 280, 3) := dk_182 1 24 (dk_at dksX0_melt_1 20 rfl rfl)
theorem dX0_melt_46 : decode cX0_melt 46 = .ok (.aload_n 0, 1) := dk_42 (dk_at dksX0_melt_1 23 rfl rfl)
theorem dX0_melt_47 : decode cX0_melt 47 = .ok (.iload_n 1, 1) := dk_27 (dk_at dksX0_melt_2 0 rfl rfl)
theorem dX0_melt_48 : decode cX0_melt 48 = .ok (.iconst 1, 1) := dk_4 (dk_at dksX0_melt_2 1 rfl rfl)
theorem dX0_melt_49 : decode cX0_melt 49 = .ok (.invokevirtual 284, 3) := dk_182 1 28 (dk_at dksX0_melt_2 2 rfl rfl)
theorem dX0_melt_52 : decode cX0_melt 52 = .ok (.aload_n 0, 1) := dk_42 (dk_at dksX0_melt_2 5 rfl rfl)
theorem dX0_melt_53 : decode cX0_melt 53 = .ok (.getfield 1, 3) := dk_180 0 1 (dk_at dksX0_melt_2 6 rfl rfl)
theorem dX0_melt_56 : decode cX0_melt 56 = .ok (.invokevirtual 110, 3) := dk_182 0 110 (dk_at dksX0_melt_2 9 rfl rfl)
theorem dX0_melt_59 : decode cX0_melt 59 = .ok (.aload_n 0, 1) := dk_42 (dk_at dksX0_melt_2 12 rfl rfl)
theorem dX0_melt_60 : decode cX0_melt 60 = .ok (.invokevirtual 155, 3) := dk_182 0 155 (dk_at dksX0_melt_2 13 rfl rfl)
theorem dX0_melt_63 : decode cX0_melt 63 = .ok (.ireturn, 1) := dk_172 (dk_at dksX0_melt_2 16 rfl rfl)
abbrev cX0_graft : ByteArray := prog_1_method_80_code
def yX0_graft : MethodName := ⟨RX0, "graft", "(III)I"⟩
def dkwX0_graft_9 : List UInt8 := [182, 0, 110, 21, 9, 172]
abbrev dktX0_graft_9 : List UInt8 := dkwX0_graft_9 ++ []
def dkwX0_graft_8 : List UInt8 := [180, 0, 97, 180, 0, 243, 27, 21, 10, 96, 46, 182, 1, 18, 132, 10, 1, 167, 255, 225, 42, 180, 0, 1]
abbrev dktX0_graft_8 : List UInt8 := dkwX0_graft_8 ++ dktX0_graft_9
def dkwX0_graft_7 : List UInt8 := [132, 10, 1, 167, 255, 223, 3, 54, 10, 21, 10, 21, 4, 162, 0, 30, 42, 21, 9, 21, 10, 96, 42]
abbrev dktX0_graft_7 : List UInt8 := dkwX0_graft_7 ++ dktX0_graft_8
def dkwX0_graft_6 : List UInt8 := [162, 0, 30, 42, 21, 8, 21, 10, 96, 42, 180, 0, 97, 21, 6, 21, 10, 96, 182, 0, 42, 182, 1, 12]
abbrev dktX0_graft_6 : List UInt8 := dkwX0_graft_6 ++ dktX0_graft_7
def dkwX0_graft_5 : List UInt8 := [182, 1, 15, 54, 8, 42, 21, 8, 182, 0, 179, 54, 9, 3, 54, 10, 21, 10, 5, 21, 4, 104]
abbrev dktX0_graft_5 : List UInt8 := dkwX0_graft_5 ++ dktX0_graft_6
def dkwX0_graft_4 : List UInt8 := [27, 182, 1, 31, 28, 27, 164, 0, 10, 28, 21, 4, 100, 167, 0, 4, 28, 54, 7, 42, 21, 7, 29]
abbrev dktX0_graft_4 : List UInt8 := dkwX0_graft_4 ++ dktX0_graft_5
def dkwX0_graft_3 : List UInt8 := [154, 0, 5, 2, 172, 42, 180, 0, 97, 42, 180, 0, 1, 182, 0, 137, 42, 27, 182, 0, 58, 54, 6, 42]
abbrev dktX0_graft_3 : List UInt8 := dkwX0_graft_3 ++ dktX0_graft_4
def dkwX0_graft_2 : List UInt8 := [182, 0, 200, 28, 160, 0, 7, 4, 167, 0, 4, 3, 100, 54, 5, 29, 133, 9, 21, 5, 133, 184, 0, 115]
abbrev dktX0_graft_2 : List UInt8 := dkwX0_graft_2 ++ dktX0_graft_3
def dkwX0_graft_1 : List UInt8 := [154, 0, 7, 27, 154, 0, 6, 16, 254, 172, 42, 27, 182, 0, 209, 54, 4, 42, 28, 182, 0, 206, 42, 27]
abbrev dktX0_graft_1 : List UInt8 := dkwX0_graft_1 ++ dktX0_graft_2
def dkwX0_graft_0 : List UInt8 := [42, 27, 182, 0, 194, 153, 0, 11, 42, 28, 182, 0, 194, 154, 0, 5, 2, 172, 42, 27, 28, 182, 0, 224]
abbrev dktX0_graft_0 : List UInt8 := dkwX0_graft_0 ++ dktX0_graft_1
theorem dksX0_graft_0 : cX0_graft.data.toList.drop 0 = dktX0_graft_0 := by decide +kernel
theorem dksX0_graft_1 : cX0_graft.data.toList.drop 24 = dktX0_graft_1 := dk_seg dksX0_graft_0 24 rfl rfl
theorem dksX0_graft_2 : cX0_graft.data.toList.drop 48 = dktX0_graft_2 := dk_seg dksX0_graft_1 24 rfl rfl
theorem dksX0_graft_3 : cX0_graft.data.toList.drop 72 = dktX0_graft_3 := dk_seg dksX0_graft_2 24 rfl rfl
theorem dksX0_graft_4 : cX0_graft.data.toList.drop 96 = dktX0_graft_4 := dk_seg dksX0_graft_3 24 rfl rfl
theorem dksX0_graft_5 : cX0_graft.data.toList.drop 119 = dktX0_graft_5 := dk_seg dksX0_graft_4 23 rfl rfl
theorem dksX0_graft_6 : cX0_graft.data.toList.drop 141 = dktX0_graft_6 := dk_seg dksX0_graft_5 22 rfl rfl
theorem dksX0_graft_7 : cX0_graft.data.toList.drop 165 = dktX0_graft_7 := dk_seg dksX0_graft_6 24 rfl rfl
theorem dksX0_graft_8 : cX0_graft.data.toList.drop 188 = dktX0_graft_8 := dk_seg dksX0_graft_7 23 rfl rfl
theorem dksX0_graft_9 : cX0_graft.data.toList.drop 212 = dktX0_graft_9 := dk_seg dksX0_graft_8 24 rfl rfl
theorem dX0_graft_0 : decode cX0_graft 0 = .ok (.aload_n 0, 1) := dk_42 (dk_at dksX0_graft_0 0 rfl rfl)
theorem dX0_graft_1 : decode cX0_graft 1 = .ok (.iload_n 1, 1) := dk_27 (dk_at dksX0_graft_0 1 rfl rfl)
theorem dX0_graft_2 : decode cX0_graft 2 = .ok (.invokevirtual 194, 3) := dk_182 0 194 (dk_at dksX0_graft_0 2 rfl rfl)
theorem dX0_graft_5 : decode cX0_graft 5 = .ok (.ifCond .eq 11, 3) := dk_153 0 11 (dk_at dksX0_graft_0 5 rfl rfl)
theorem dX0_graft_8 : decode cX0_graft 8 = .ok (.aload_n 0, 1) := dk_42 (dk_at dksX0_graft_0 8 rfl rfl)
theorem dX0_graft_9 : decode cX0_graft 9 = .ok (.iload_n 2, 1) := dk_28 (dk_at dksX0_graft_0 9 rfl rfl)
theorem dX0_graft_10 : decode cX0_graft 10 = .ok (.invokevirtual 194, 3) := dk_182 0 194 (dk_at dksX0_graft_0 10 rfl rfl)
theorem dX0_graft_13 : decode cX0_graft 13 = .ok (.ifCond .ne 5, 3) := dk_154 0 5 (dk_at dksX0_graft_0 13 rfl rfl)
theorem dX0_graft_16 : decode cX0_graft 16 = .ok (.iconst (-1), 1) := dk_2 (dk_at dksX0_graft_0 16 rfl rfl)
theorem dX0_graft_17 : decode cX0_graft 17 = .ok (.ireturn, 1) := dk_172 (dk_at dksX0_graft_0 17 rfl rfl)
theorem dX0_graft_18 : decode cX0_graft 18 = .ok (.aload_n 0, 1) := dk_42 (dk_at dksX0_graft_0 18 rfl rfl)
theorem dX0_graft_19 : decode cX0_graft 19 = .ok (.iload_n 1, 1) := dk_27 (dk_at dksX0_graft_0 19 rfl rfl)
theorem dX0_graft_20 : decode cX0_graft 20 = .ok (.iload_n 2, 1) := dk_28 (dk_at dksX0_graft_0 20 rfl rfl)
theorem dX0_graft_21 : decode cX0_graft 21 = .ok (.invokevirtual 224, 3) := dk_182 0 224 (dk_at dksX0_graft_0 21 rfl rfl)
theorem dX0_graft_24 : decode cX0_graft 24 = .ok (.ifCond .ne 7, 3) := dk_154 0 7 (dk_at dksX0_graft_1 0 rfl rfl)
theorem dX0_graft_27 : decode cX0_graft 27 = .ok (.iload_n 1, 1) := dk_27 (dk_at dksX0_graft_1 3 rfl rfl)
theorem dX0_graft_28 : decode cX0_graft 28 = .ok (.ifCond .ne 6, 3) := dk_154 0 6 (dk_at dksX0_graft_1 4 rfl rfl)
theorem dX0_graft_31 : decode cX0_graft 31 = .ok (.bipush (-2), 2) := dk_16 254 (dk_at dksX0_graft_1 7 rfl rfl)
theorem dX0_graft_33 : decode cX0_graft 33 = .ok (.ireturn, 1) := dk_172 (dk_at dksX0_graft_1 9 rfl rfl)
theorem dX0_graft_34 : decode cX0_graft 34 = .ok (.aload_n 0, 1) := dk_42 (dk_at dksX0_graft_1 10 rfl rfl)
theorem dX0_graft_35 : decode cX0_graft 35 = .ok (.iload_n 1, 1) := dk_27 (dk_at dksX0_graft_1 11 rfl rfl)
theorem dX0_graft_36 : decode cX0_graft 36 = .ok (.invokevirtual 209, 3) := dk_182 0 209 (dk_at dksX0_graft_1 12 rfl rfl)
theorem dX0_graft_39 : decode cX0_graft 39 = .ok (.istore 4, 2) := dk_54 4 (dk_at dksX0_graft_1 15 rfl rfl)
theorem dX0_graft_41 : decode cX0_graft 41 = .ok (.aload_n 0, 1) := dk_42 (dk_at dksX0_graft_1 17 rfl rfl)
theorem dX0_graft_42 : decode cX0_graft 42 = .ok (.iload_n 2, 1) := dk_28 (dk_at dksX0_graft_1 18 rfl rfl)
theorem dX0_graft_43 : decode cX0_graft 43 = .ok (.invokevirtual 206, 3) := dk_182 0 206 (dk_at dksX0_graft_1 19 rfl rfl)
theorem dX0_graft_46 : decode cX0_graft 46 = .ok (.aload_n 0, 1) := dk_42 (dk_at dksX0_graft_1 22 rfl rfl)
theorem dX0_graft_47 : decode cX0_graft 47 = .ok (.iload_n 1, 1) := dk_27 (dk_at dksX0_graft_1 23 rfl rfl)
theorem dX0_graft_48 : decode cX0_graft 48 = .ok (.invokevirtual 200, 3) := dk_182 0 200 (dk_at dksX0_graft_2 0 rfl rfl)
theorem dX0_graft_51 : decode cX0_graft 51 = .ok (.iload_n 2, 1) := dk_28 (dk_at dksX0_graft_2 3 rfl rfl)
theorem dX0_graft_52 : decode cX0_graft 52 = .ok (.if_icmp .ne 7, 3) := dk_160 0 7 (dk_at dksX0_graft_2 4 rfl rfl)
theorem dX0_graft_55 : decode cX0_graft 55 = .ok (.iconst 1, 1) := dk_4 (dk_at dksX0_graft_2 7 rfl rfl)
theorem dX0_graft_56 : decode cX0_graft 56 = .ok (.goto 4, 3) := dk_167 0 4 (dk_at dksX0_graft_2 8 rfl rfl)
theorem dX0_graft_59 : decode cX0_graft 59 = .ok (.iconst 0, 1) := dk_3 (dk_at dksX0_graft_2 11 rfl rfl)
theorem dX0_graft_60 : decode cX0_graft 60 = .ok (.isub, 1) := dk_100 (dk_at dksX0_graft_2 12 rfl rfl)
theorem dX0_graft_61 : decode cX0_graft 61 = .ok (.istore 5, 2) := dk_54 5 (dk_at dksX0_graft_2 13 rfl rfl)
theorem dX0_graft_63 : decode cX0_graft 63 = .ok (.iload_n 3, 1) := dk_29 (dk_at dksX0_graft_2 15 rfl rfl)
theorem dX0_graft_64 : decode cX0_graft 64 = .ok (.i2l, 1) := dk_133 (dk_at dksX0_graft_2 16 rfl rfl)
theorem dX0_graft_65 : decode cX0_graft 65 = .ok (.lconst 0, 1) := dk_9 (dk_at dksX0_graft_2 17 rfl rfl)
theorem dX0_graft_66 : decode cX0_graft 66 = .ok (.iload 5, 2) := dk_21 5 (dk_at dksX0_graft_2 18 rfl rfl)
theorem dX0_graft_68 : decode cX0_graft 68 = .ok (.i2l, 1) := dk_133 (dk_at dksX0_graft_2 20 rfl rfl)
theorem dX0_graft_69 : decode cX0_graft 69 = .ok (.invokestatic 115, 3) := dk_184 0 115 (dk_at dksX0_graft_2 21 rfl rfl)
theorem dX0_graft_72 : decode cX0_graft 72 = .ok (.ifCond .ne 5, 3) := dk_154 0 5 (dk_at dksX0_graft_3 0 rfl rfl)
theorem dX0_graft_75 : decode cX0_graft 75 = .ok (.iconst (-1), 1) := dk_2 (dk_at dksX0_graft_3 3 rfl rfl)
theorem dX0_graft_76 : decode cX0_graft 76 = .ok (.ireturn, 1) := dk_172 (dk_at dksX0_graft_3 4 rfl rfl)
theorem dX0_graft_77 : decode cX0_graft 77 = .ok (.aload_n 0, 1) := dk_42 (dk_at dksX0_graft_3 5 rfl rfl)
theorem dX0_graft_78 : decode cX0_graft 78 = .ok (.getfield 97, 3) := dk_180 0 97 (dk_at dksX0_graft_3 6 rfl rfl)
theorem dX0_graft_81 : decode cX0_graft 81 = .ok (.aload_n 0, 1) := dk_42 (dk_at dksX0_graft_3 9 rfl rfl)
theorem dX0_graft_82 : decode cX0_graft 82 = .ok (.getfield 1, 3) := dk_180 0 1 (dk_at dksX0_graft_3 10 rfl rfl)
theorem dX0_graft_85 : decode cX0_graft 85 = .ok (.invokevirtual 137, 3) := dk_182 0 137 (dk_at dksX0_graft_3 13 rfl rfl)
theorem dX0_graft_88 : decode cX0_graft 88 = .ok (.aload_n 0, 1) := dk_42 (dk_at dksX0_graft_3 16 rfl rfl)
theorem dX0_graft_89 : decode cX0_graft 89 = .ok (.iload_n 1, 1) := dk_27 (dk_at dksX0_graft_3 17 rfl rfl)
theorem dX0_graft_90 : decode cX0_graft 90 = .ok (.invokevirtual 58, 3) := dk_182 0 58 (dk_at dksX0_graft_3 18 rfl rfl)
theorem dX0_graft_93 : decode cX0_graft 93 = .ok (.istore 6, 2) := dk_54 6 (dk_at dksX0_graft_3 21 rfl rfl)
theorem dX0_graft_95 : decode cX0_graft 95 = .ok (.aload_n 0, 1) := dk_42 (dk_at dksX0_graft_3 23 rfl rfl)
theorem dX0_graft_96 : decode cX0_graft 96 = .ok (.iload_n 1, 1) := dk_27 (dk_at dksX0_graft_4 0 rfl rfl)
theorem dX0_graft_97 : decode cX0_graft 97 = .ok (.invokevirtual 287, 3) := dk_182 1 31 (dk_at dksX0_graft_4 1 rfl rfl)
theorem dX0_graft_100 : decode cX0_graft 100 = .ok (.iload_n 2, 1) := dk_28 (dk_at dksX0_graft_4 4 rfl rfl)
theorem dX0_graft_101 : decode cX0_graft 101 = .ok (.iload_n 1, 1) := dk_27 (dk_at dksX0_graft_4 5 rfl rfl)
theorem dX0_graft_102 : decode cX0_graft 102 = .ok (.if_icmp .le 10, 3) := dk_164 0 10 (dk_at dksX0_graft_4 6 rfl rfl)
theorem dX0_graft_105 : decode cX0_graft 105 = .ok (.iload_n 2, 1) := dk_28 (dk_at dksX0_graft_4 9 rfl rfl)
theorem dX0_graft_106 : decode cX0_graft 106 = .ok (.iload 4, 2) := dk_21 4 (dk_at dksX0_graft_4 10 rfl rfl)
theorem dX0_graft_108 : decode cX0_graft 108 = .ok (.isub, 1) := dk_100 (dk_at dksX0_graft_4 12 rfl rfl)
theorem dX0_graft_109 : decode cX0_graft 109 = .ok (.goto 4, 3) := dk_167 0 4 (dk_at dksX0_graft_4 13 rfl rfl)
theorem dX0_graft_112 : decode cX0_graft 112 = .ok (.iload_n 2, 1) := dk_28 (dk_at dksX0_graft_4 16 rfl rfl)
theorem dX0_graft_113 : decode cX0_graft 113 = .ok (.istore 7, 2) := dk_54 7 (dk_at dksX0_graft_4 17 rfl rfl)
theorem dX0_graft_115 : decode cX0_graft 115 = .ok (.aload_n 0, 1) := dk_42 (dk_at dksX0_graft_4 19 rfl rfl)
theorem dX0_graft_116 : decode cX0_graft 116 = .ok (.iload 7, 2) := dk_21 7 (dk_at dksX0_graft_4 20 rfl rfl)
theorem dX0_graft_118 : decode cX0_graft 118 = .ok (.iload_n 3, 1) := dk_29 (dk_at dksX0_graft_4 22 rfl rfl)
theorem dX0_graft_119 : decode cX0_graft 119 = .ok (.invokevirtual 271, 3) := dk_182 1 15 (dk_at dksX0_graft_5 0 rfl rfl)
theorem dX0_graft_122 : decode cX0_graft 122 = .ok (.istore 8, 2) := dk_54 8 (dk_at dksX0_graft_5 3 rfl rfl)
theorem dX0_graft_124 : decode cX0_graft 124 = .ok (.aload_n 0, 1) := dk_42 (dk_at dksX0_graft_5 5 rfl rfl)
theorem dX0_graft_125 : decode cX0_graft 125 = .ok (.iload 8, 2) := dk_21 8 (dk_at dksX0_graft_5 6 rfl rfl)
theorem dX0_graft_127 : decode cX0_graft 127 = .ok (.invokevirtual 179, 3) := dk_182 0 179 (dk_at dksX0_graft_5 8 rfl rfl)
theorem dX0_graft_130 : decode cX0_graft 130 = .ok (.istore 9, 2) := dk_54 9 (dk_at dksX0_graft_5 11 rfl rfl)
theorem dX0_graft_132 : decode cX0_graft 132 = .ok (.iconst 0, 1) := dk_3 (dk_at dksX0_graft_5 13 rfl rfl)
theorem dX0_graft_133 : decode cX0_graft 133 = .ok (.istore 10, 2) := dk_54 10 (dk_at dksX0_graft_5 14 rfl rfl)
theorem dX0_graft_135 : decode cX0_graft 135 = .ok (.iload 10, 2) := dk_21 10 (dk_at dksX0_graft_5 16 rfl rfl)
theorem dX0_graft_137 : decode cX0_graft 137 = .ok (.iconst 2, 1) := dk_5 (dk_at dksX0_graft_5 18 rfl rfl)
theorem dX0_graft_138 : decode cX0_graft 138 = .ok (.iload 4, 2) := dk_21 4 (dk_at dksX0_graft_5 19 rfl rfl)
theorem dX0_graft_140 : decode cX0_graft 140 = .ok (.imul, 1) := dk_104 (dk_at dksX0_graft_5 21 rfl rfl)
theorem dX0_graft_141 : decode cX0_graft 141 = .ok (.if_icmp .ge 30, 3) := dk_162 0 30 (dk_at dksX0_graft_6 0 rfl rfl)
theorem dX0_graft_144 : decode cX0_graft 144 = .ok (.aload_n 0, 1) := dk_42 (dk_at dksX0_graft_6 3 rfl rfl)
theorem dX0_graft_145 : decode cX0_graft 145 = .ok (.iload 8, 2) := dk_21 8 (dk_at dksX0_graft_6 4 rfl rfl)
theorem dX0_graft_147 : decode cX0_graft 147 = .ok (.iload 10, 2) := dk_21 10 (dk_at dksX0_graft_6 6 rfl rfl)
theorem dX0_graft_149 : decode cX0_graft 149 = .ok (.iadd, 1) := dk_96 (dk_at dksX0_graft_6 8 rfl rfl)
theorem dX0_graft_150 : decode cX0_graft 150 = .ok (.aload_n 0, 1) := dk_42 (dk_at dksX0_graft_6 9 rfl rfl)
theorem dX0_graft_151 : decode cX0_graft 151 = .ok (.getfield 97, 3) := dk_180 0 97 (dk_at dksX0_graft_6 10 rfl rfl)
theorem dX0_graft_154 : decode cX0_graft 154 = .ok (.iload 6, 2) := dk_21 6 (dk_at dksX0_graft_6 13 rfl rfl)
theorem dX0_graft_156 : decode cX0_graft 156 = .ok (.iload 10, 2) := dk_21 10 (dk_at dksX0_graft_6 15 rfl rfl)
theorem dX0_graft_158 : decode cX0_graft 158 = .ok (.iadd, 1) := dk_96 (dk_at dksX0_graft_6 17 rfl rfl)
theorem dX0_graft_159 : decode cX0_graft 159 = .ok (.invokevirtual 42, 3) := dk_182 0 42 (dk_at dksX0_graft_6 18 rfl rfl)
theorem dX0_graft_162 : decode cX0_graft 162 = .ok (.invokevirtual 268, 3) := dk_182 1 12 (dk_at dksX0_graft_6 21 rfl rfl)
theorem dX0_graft_165 : decode cX0_graft 165 = .ok (.iinc 10 1, 3) := dk_132 10 1 (dk_at dksX0_graft_7 0 rfl rfl)
theorem dX0_graft_168 : decode cX0_graft 168 = .ok (.goto (-33), 3) := dk_167 255 223 (dk_at dksX0_graft_7 3 rfl rfl)
theorem dX0_graft_171 : decode cX0_graft 171 = .ok (.iconst 0, 1) := dk_3 (dk_at dksX0_graft_7 6 rfl rfl)
theorem dX0_graft_172 : decode cX0_graft 172 = .ok (.istore 10, 2) := dk_54 10 (dk_at dksX0_graft_7 7 rfl rfl)
theorem dX0_graft_174 : decode cX0_graft 174 = .ok (.iload 10, 2) := dk_21 10 (dk_at dksX0_graft_7 9 rfl rfl)
theorem dX0_graft_176 : decode cX0_graft 176 = .ok (.iload 4, 2) := dk_21 4 (dk_at dksX0_graft_7 11 rfl rfl)
theorem dX0_graft_178 : decode cX0_graft 178 = .ok (.if_icmp .ge 30, 3) := dk_162 0 30 (dk_at dksX0_graft_7 13 rfl rfl)
theorem dX0_graft_181 : decode cX0_graft 181 = .ok (.aload_n 0, 1) := dk_42 (dk_at dksX0_graft_7 16 rfl rfl)
theorem dX0_graft_182 : decode cX0_graft 182 = .ok (.iload 9, 2) := dk_21 9 (dk_at dksX0_graft_7 17 rfl rfl)
theorem dX0_graft_184 : decode cX0_graft 184 = .ok (.iload 10, 2) := dk_21 10 (dk_at dksX0_graft_7 19 rfl rfl)
theorem dX0_graft_186 : decode cX0_graft 186 = .ok (.iadd, 1) := dk_96 (dk_at dksX0_graft_7 21 rfl rfl)
theorem dX0_graft_187 : decode cX0_graft 187 = .ok (.aload_n 0, 1) := dk_42 (dk_at dksX0_graft_7 22 rfl rfl)
theorem dX0_graft_188 : decode cX0_graft 188 = .ok (.getfield 97, 3) := dk_180 0 97 (dk_at dksX0_graft_8 0 rfl rfl)
theorem dX0_graft_191 : decode cX0_graft 191 = .ok (.getfield 243, 3) := dk_180 0 243 (dk_at dksX0_graft_8 3 rfl rfl)
theorem dX0_graft_194 : decode cX0_graft 194 = .ok (.iload_n 1, 1) := dk_27 (dk_at dksX0_graft_8 6 rfl rfl)
theorem dX0_graft_195 : decode cX0_graft 195 = .ok (.iload 10, 2) := dk_21 10 (dk_at dksX0_graft_8 7 rfl rfl)
theorem dX0_graft_197 : decode cX0_graft 197 = .ok (.iadd, 1) := dk_96 (dk_at dksX0_graft_8 9 rfl rfl)
theorem dX0_graft_198 : decode cX0_graft 198 = .ok (.iaload, 1) := dk_46 (dk_at dksX0_graft_8 10 rfl rfl)
theorem dX0_graft_199 : decode cX0_graft 199 = .ok (.invokevirtual 274, 3) := dk_182 1 18 (dk_at dksX0_graft_8 11 rfl rfl)
theorem dX0_graft_202 : decode cX0_graft 202 = .ok (.iinc 10 1, 3) := dk_132 10 1 (dk_at dksX0_graft_8 14 rfl rfl)
theorem dX0_graft_205 : decode cX0_graft 205 = .ok (.goto (-31), 3) := dk_167 255 225 (dk_at dksX0_graft_8 17 rfl rfl)
theorem dX0_graft_208 : decode cX0_graft 208 = .ok (.aload_n 0, 1) := dk_42 (dk_at dksX0_graft_8 20 rfl rfl)
theorem dX0_graft_209 : decode cX0_graft 209 = .ok (.getfield 1, 3) := dk_180 0 1 (dk_at dksX0_graft_8 21 rfl rfl)
theorem dX0_graft_212 : decode cX0_graft 212 = .ok (.invokevirtual 110, 3) := dk_182 0 110 (dk_at dksX0_graft_9 0 rfl rfl)
theorem dX0_graft_215 : decode cX0_graft 215 = .ok (.iload 9, 2) := dk_21 9 (dk_at dksX0_graft_9 3 rfl rfl)
theorem dX0_graft_217 : decode cX0_graft 217 = .ok (.ireturn, 1) := dk_172 (dk_at dksX0_graft_9 5 rfl rfl)
abbrev cX0_grow : ByteArray := prog_1_method_82_code
def yX0_grow : MethodName := ⟨RX0, "grow", "(II)I"⟩
def dkwX0_grow_3 : List UInt8 := [182, 1, 21, 87, 132, 4, 1, 167, 255, 208, 42, 182, 0, 159, 172]
abbrev dktX0_grow_3 : List UInt8 := dkwX0_grow_3 ++ []
def dkwX0_grow_2 : List UInt8 := [124, 17, 127, 255, 126, 42, 182, 0, 155, 112, 54, 5, 42, 21, 5, 42, 21, 5, 182, 0, 206, 3]
abbrev dktX0_grow_2 : List UInt8 := dkwX0_grow_2 ++ dktX0_grow_3
def dkwX0_grow_1 : List UInt8 := [27, 62, 4, 54, 4, 21, 4, 28, 162, 0, 48, 29, 19, 1, 55, 104, 17, 48, 57, 96, 62, 29, 16, 16]
abbrev dktX0_grow_1 : List UInt8 := dkwX0_grow_1 ++ dktX0_grow_2
def dkwX0_grow_0 : List UInt8 := [28, 133, 10, 20, 1, 47, 184, 0, 115, 154, 0, 5, 2, 172, 42, 182, 1, 49, 42, 3, 182, 1, 52, 87]
abbrev dktX0_grow_0 : List UInt8 := dkwX0_grow_0 ++ dktX0_grow_1
theorem dksX0_grow_0 : cX0_grow.data.toList.drop 0 = dktX0_grow_0 := by decide +kernel
theorem dksX0_grow_1 : cX0_grow.data.toList.drop 24 = dktX0_grow_1 := dk_seg dksX0_grow_0 24 rfl rfl
theorem dksX0_grow_2 : cX0_grow.data.toList.drop 48 = dktX0_grow_2 := dk_seg dksX0_grow_1 24 rfl rfl
theorem dksX0_grow_3 : cX0_grow.data.toList.drop 70 = dktX0_grow_3 := dk_seg dksX0_grow_2 22 rfl rfl
theorem dX0_grow_0 : decode cX0_grow 0 = .ok (.iload_n 2, 1) := dk_28 (dk_at dksX0_grow_0 0 rfl rfl)
theorem dX0_grow_1 : decode cX0_grow 1 = .ok (.i2l, 1) := dk_133 (dk_at dksX0_grow_0 1 rfl rfl)
theorem dX0_grow_2 : decode cX0_grow 2 = .ok (.lconst 1, 1) := dk_10 (dk_at dksX0_grow_0 2 rfl rfl)
theorem dX0_grow_3 : decode cX0_grow 3 = .ok (.ldc2_w 303, 3) := dk_20 1 47 (dk_at dksX0_grow_0 3 rfl rfl)
theorem dX0_grow_6 : decode cX0_grow 6 = .ok (.invokestatic 115, 3) := dk_184 0 115 (dk_at dksX0_grow_0 6 rfl rfl)
theorem dX0_grow_9 : decode cX0_grow 9 = .ok (.ifCond .ne 5, 3) := dk_154 0 5 (dk_at dksX0_grow_0 9 rfl rfl)
theorem dX0_grow_12 : decode cX0_grow 12 = .ok (.iconst (-1), 1) := dk_2 (dk_at dksX0_grow_0 12 rfl rfl)
theorem dX0_grow_13 : decode cX0_grow 13 = .ok (.ireturn, 1) := dk_172 (dk_at dksX0_grow_0 13 rfl rfl)
theorem dX0_grow_14 : decode cX0_grow 14 = .ok (.aload_n 0, 1) := dk_42 (dk_at dksX0_grow_0 14 rfl rfl)
theorem dX0_grow_15 : decode cX0_grow 15 = .ok (.invokevirtual 305, 3) := dk_182 1 49 (dk_at dksX0_grow_0 15 rfl rfl)
theorem dX0_grow_18 : decode cX0_grow 18 = .ok (.aload_n 0, 1) := dk_42 (dk_at dksX0_grow_0 18 rfl rfl)
theorem dX0_grow_19 : decode cX0_grow 19 = .ok (.iconst 0, 1) := dk_3 (dk_at dksX0_grow_0 19 rfl rfl)
theorem dX0_grow_20 : decode cX0_grow 20 = .ok (.invokevirtual 308, 3) := dk_182 1 52 (dk_at dksX0_grow_0 20 rfl rfl)
theorem dX0_grow_23 : decode cX0_grow 23 = .ok (.pop, 1) := dk_87 (dk_at dksX0_grow_0 23 rfl rfl)
theorem dX0_grow_24 : decode cX0_grow 24 = .ok (.iload_n 1, 1) := dk_27 (dk_at dksX0_grow_1 0 rfl rfl)
theorem dX0_grow_25 : decode cX0_grow 25 = .ok (.istore_n 3, 1) := dk_62 (dk_at dksX0_grow_1 1 rfl rfl)
theorem dX0_grow_26 : decode cX0_grow 26 = .ok (.iconst 1, 1) := dk_4 (dk_at dksX0_grow_1 2 rfl rfl)
theorem dX0_grow_27 : decode cX0_grow 27 = .ok (.istore 4, 2) := dk_54 4 (dk_at dksX0_grow_1 3 rfl rfl)
theorem dX0_grow_29 : decode cX0_grow 29 = .ok (.iload 4, 2) := dk_21 4 (dk_at dksX0_grow_1 5 rfl rfl)
theorem dX0_grow_31 : decode cX0_grow 31 = .ok (.iload_n 2, 1) := dk_28 (dk_at dksX0_grow_1 7 rfl rfl)
theorem dX0_grow_32 : decode cX0_grow 32 = .ok (.if_icmp .ge 48, 3) := dk_162 0 48 (dk_at dksX0_grow_1 8 rfl rfl)
theorem dX0_grow_35 : decode cX0_grow 35 = .ok (.iload_n 3, 1) := dk_29 (dk_at dksX0_grow_1 11 rfl rfl)
theorem dX0_grow_36 : decode cX0_grow 36 = .ok (.ldc_w 311, 3) := dk_19 1 55 (dk_at dksX0_grow_1 12 rfl rfl)
theorem dX0_grow_39 : decode cX0_grow 39 = .ok (.imul, 1) := dk_104 (dk_at dksX0_grow_1 15 rfl rfl)
theorem dX0_grow_40 : decode cX0_grow 40 = .ok (.sipush 12345, 3) := dk_17 48 57 (dk_at dksX0_grow_1 16 rfl rfl)
theorem dX0_grow_43 : decode cX0_grow 43 = .ok (.iadd, 1) := dk_96 (dk_at dksX0_grow_1 19 rfl rfl)
theorem dX0_grow_44 : decode cX0_grow 44 = .ok (.istore_n 3, 1) := dk_62 (dk_at dksX0_grow_1 20 rfl rfl)
theorem dX0_grow_45 : decode cX0_grow 45 = .ok (.iload_n 3, 1) := dk_29 (dk_at dksX0_grow_1 21 rfl rfl)
theorem dX0_grow_46 : decode cX0_grow 46 = .ok (.bipush 16, 2) := dk_16 16 (dk_at dksX0_grow_1 22 rfl rfl)
theorem dX0_grow_48 : decode cX0_grow 48 = .ok (.iushr, 1) := dk_124 (dk_at dksX0_grow_2 0 rfl rfl)
theorem dX0_grow_49 : decode cX0_grow 49 = .ok (.sipush 32767, 3) := dk_17 127 255 (dk_at dksX0_grow_2 1 rfl rfl)
theorem dX0_grow_52 : decode cX0_grow 52 = .ok (.iand, 1) := dk_126 (dk_at dksX0_grow_2 4 rfl rfl)
theorem dX0_grow_53 : decode cX0_grow 53 = .ok (.aload_n 0, 1) := dk_42 (dk_at dksX0_grow_2 5 rfl rfl)
theorem dX0_grow_54 : decode cX0_grow 54 = .ok (.invokevirtual 155, 3) := dk_182 0 155 (dk_at dksX0_grow_2 6 rfl rfl)
theorem dX0_grow_57 : decode cX0_grow 57 = .ok (.irem, 1) := dk_112 (dk_at dksX0_grow_2 9 rfl rfl)
theorem dX0_grow_58 : decode cX0_grow 58 = .ok (.istore 5, 2) := dk_54 5 (dk_at dksX0_grow_2 10 rfl rfl)
theorem dX0_grow_60 : decode cX0_grow 60 = .ok (.aload_n 0, 1) := dk_42 (dk_at dksX0_grow_2 12 rfl rfl)
theorem dX0_grow_61 : decode cX0_grow 61 = .ok (.iload 5, 2) := dk_21 5 (dk_at dksX0_grow_2 13 rfl rfl)
theorem dX0_grow_63 : decode cX0_grow 63 = .ok (.aload_n 0, 1) := dk_42 (dk_at dksX0_grow_2 15 rfl rfl)
theorem dX0_grow_64 : decode cX0_grow 64 = .ok (.iload 5, 2) := dk_21 5 (dk_at dksX0_grow_2 16 rfl rfl)
theorem dX0_grow_66 : decode cX0_grow 66 = .ok (.invokevirtual 206, 3) := dk_182 0 206 (dk_at dksX0_grow_2 18 rfl rfl)
theorem dX0_grow_69 : decode cX0_grow 69 = .ok (.iconst 0, 1) := dk_3 (dk_at dksX0_grow_2 21 rfl rfl)
theorem dX0_grow_70 : decode cX0_grow 70 = .ok (.invokevirtual 277, 3) := dk_182 1 21 (dk_at dksX0_grow_3 0 rfl rfl)
theorem dX0_grow_73 : decode cX0_grow 73 = .ok (.pop, 1) := dk_87 (dk_at dksX0_grow_3 3 rfl rfl)
theorem dX0_grow_74 : decode cX0_grow 74 = .ok (.iinc 4 1, 3) := dk_132 4 1 (dk_at dksX0_grow_3 4 rfl rfl)
theorem dX0_grow_77 : decode cX0_grow 77 = .ok (.goto (-48), 3) := dk_167 255 208 (dk_at dksX0_grow_3 7 rfl rfl)
theorem dX0_grow_80 : decode cX0_grow 80 = .ok (.aload_n 0, 1) := dk_42 (dk_at dksX0_grow_3 10 rfl rfl)
theorem dX0_grow_81 : decode cX0_grow 81 = .ok (.invokevirtual 159, 3) := dk_182 0 159 (dk_at dksX0_grow_3 11 rfl rfl)
theorem dX0_grow_84 : decode cX0_grow 84 = .ok (.ireturn, 1) := dk_172 (dk_at dksX0_grow_3 14 rfl rfl)
abbrev cX0_clears : ByteArray := prog_1_method_81_code
def yX0_clears : MethodName := ⟨RX0, "clears", "()V"⟩
def dkwX0_clears_1 : List UInt8 := [180, 0, 1, 3, 181, 0, 7, 42, 180, 0, 1, 182, 0, 110, 177]
abbrev dktX0_clears_1 : List UInt8 := dkwX0_clears_1 ++ []
def dkwX0_clears_0 : List UInt8 := [42, 180, 0, 1, 180, 1, 34, 9, 184, 1, 38, 42, 180, 0, 1, 180, 0, 243, 3, 184, 1, 44, 42]
abbrev dktX0_clears_0 : List UInt8 := dkwX0_clears_0 ++ dktX0_clears_1
theorem dksX0_clears_0 : cX0_clears.data.toList.drop 0 = dktX0_clears_0 := by decide +kernel
theorem dksX0_clears_1 : cX0_clears.data.toList.drop 23 = dktX0_clears_1 := dk_seg dksX0_clears_0 23 rfl rfl
theorem dX0_clears_0 : decode cX0_clears 0 = .ok (.aload_n 0, 1) := dk_42 (dk_at dksX0_clears_0 0 rfl rfl)
theorem dX0_clears_1 : decode cX0_clears 1 = .ok (.getfield 1, 3) := dk_180 0 1 (dk_at dksX0_clears_0 1 rfl rfl)
theorem dX0_clears_4 : decode cX0_clears 4 = .ok (.getfield 290, 3) := dk_180 1 34 (dk_at dksX0_clears_0 4 rfl rfl)
theorem dX0_clears_7 : decode cX0_clears 7 = .ok (.lconst 0, 1) := dk_9 (dk_at dksX0_clears_0 7 rfl rfl)
theorem dX0_clears_8 : decode cX0_clears 8 = .ok (.invokestatic 294, 3) := dk_184 1 38 (dk_at dksX0_clears_0 8 rfl rfl)
theorem dX0_clears_11 : decode cX0_clears 11 = .ok (.aload_n 0, 1) := dk_42 (dk_at dksX0_clears_0 11 rfl rfl)
theorem dX0_clears_12 : decode cX0_clears 12 = .ok (.getfield 1, 3) := dk_180 0 1 (dk_at dksX0_clears_0 12 rfl rfl)
theorem dX0_clears_15 : decode cX0_clears 15 = .ok (.getfield 243, 3) := dk_180 0 243 (dk_at dksX0_clears_0 15 rfl rfl)
theorem dX0_clears_18 : decode cX0_clears 18 = .ok (.iconst 0, 1) := dk_3 (dk_at dksX0_clears_0 18 rfl rfl)
theorem dX0_clears_19 : decode cX0_clears 19 = .ok (.invokestatic 300, 3) := dk_184 1 44 (dk_at dksX0_clears_0 19 rfl rfl)
theorem dX0_clears_22 : decode cX0_clears 22 = .ok (.aload_n 0, 1) := dk_42 (dk_at dksX0_clears_0 22 rfl rfl)
theorem dX0_clears_23 : decode cX0_clears 23 = .ok (.getfield 1, 3) := dk_180 0 1 (dk_at dksX0_clears_1 0 rfl rfl)
theorem dX0_clears_26 : decode cX0_clears 26 = .ok (.iconst 0, 1) := dk_3 (dk_at dksX0_clears_1 3 rfl rfl)
theorem dX0_clears_27 : decode cX0_clears 27 = .ok (.putfield 7, 3) := dk_181 0 7 (dk_at dksX0_clears_1 4 rfl rfl)
theorem dX0_clears_30 : decode cX0_clears 30 = .ok (.aload_n 0, 1) := dk_42 (dk_at dksX0_clears_1 7 rfl rfl)
theorem dX0_clears_31 : decode cX0_clears 31 = .ok (.getfield 1, 3) := dk_180 0 1 (dk_at dksX0_clears_1 8 rfl rfl)
theorem dX0_clears_34 : decode cX0_clears 34 = .ok (.invokevirtual 110, 3) := dk_182 0 110 (dk_at dksX0_clears_1 11 rfl rfl)
theorem dX0_clears_37 : decode cX0_clears 37 = .ok (.return_, 1) := dk_177 (dk_at dksX0_clears_1 14 rfl rfl)
abbrev cX0_keep : ByteArray := prog_1_method_83_code
def yX0_keep : MethodName := ⟨RX0, "keep", "(I)I"⟩
def dkwX0_keep_2 : List UInt8 := [28, 172]
abbrev dktX0_keep_2 : List UInt8 := dkwX0_keep_2 ++ []
def dkwX0_keep_1 : List UInt8 := [180, 0, 89, 27, 50, 42, 180, 0, 1, 182, 0, 137, 42, 89, 180, 0, 141, 4, 27, 120, 128, 181, 0, 141]
abbrev dktX0_keep_1 : List UInt8 := dkwX0_keep_1 ++ dktX0_keep_2
def dkwX0_keep_0 : List UInt8 := [27, 133, 9, 10, 184, 0, 115, 154, 0, 5, 2, 172, 42, 180, 0, 141, 27, 122, 4, 126, 61, 42]
abbrev dktX0_keep_0 : List UInt8 := dkwX0_keep_0 ++ dktX0_keep_1
theorem dksX0_keep_0 : cX0_keep.data.toList.drop 0 = dktX0_keep_0 := by decide +kernel
theorem dksX0_keep_1 : cX0_keep.data.toList.drop 22 = dktX0_keep_1 := dk_seg dksX0_keep_0 22 rfl rfl
theorem dksX0_keep_2 : cX0_keep.data.toList.drop 46 = dktX0_keep_2 := dk_seg dksX0_keep_1 24 rfl rfl
theorem dX0_keep_0 : decode cX0_keep 0 = .ok (.iload_n 1, 1) := dk_27 (dk_at dksX0_keep_0 0 rfl rfl)
theorem dX0_keep_1 : decode cX0_keep 1 = .ok (.i2l, 1) := dk_133 (dk_at dksX0_keep_0 1 rfl rfl)
theorem dX0_keep_2 : decode cX0_keep 2 = .ok (.lconst 0, 1) := dk_9 (dk_at dksX0_keep_0 2 rfl rfl)
theorem dX0_keep_3 : decode cX0_keep 3 = .ok (.lconst 1, 1) := dk_10 (dk_at dksX0_keep_0 3 rfl rfl)
theorem dX0_keep_4 : decode cX0_keep 4 = .ok (.invokestatic 115, 3) := dk_184 0 115 (dk_at dksX0_keep_0 4 rfl rfl)
theorem dX0_keep_7 : decode cX0_keep 7 = .ok (.ifCond .ne 5, 3) := dk_154 0 5 (dk_at dksX0_keep_0 7 rfl rfl)
theorem dX0_keep_10 : decode cX0_keep 10 = .ok (.iconst (-1), 1) := dk_2 (dk_at dksX0_keep_0 10 rfl rfl)
theorem dX0_keep_11 : decode cX0_keep 11 = .ok (.ireturn, 1) := dk_172 (dk_at dksX0_keep_0 11 rfl rfl)
theorem dX0_keep_12 : decode cX0_keep 12 = .ok (.aload_n 0, 1) := dk_42 (dk_at dksX0_keep_0 12 rfl rfl)
theorem dX0_keep_13 : decode cX0_keep 13 = .ok (.getfield 141, 3) := dk_180 0 141 (dk_at dksX0_keep_0 13 rfl rfl)
theorem dX0_keep_16 : decode cX0_keep 16 = .ok (.iload_n 1, 1) := dk_27 (dk_at dksX0_keep_0 16 rfl rfl)
theorem dX0_keep_17 : decode cX0_keep 17 = .ok (.ishr, 1) := dk_122 (dk_at dksX0_keep_0 17 rfl rfl)
theorem dX0_keep_18 : decode cX0_keep 18 = .ok (.iconst 1, 1) := dk_4 (dk_at dksX0_keep_0 18 rfl rfl)
theorem dX0_keep_19 : decode cX0_keep 19 = .ok (.iand, 1) := dk_126 (dk_at dksX0_keep_0 19 rfl rfl)
theorem dX0_keep_20 : decode cX0_keep 20 = .ok (.istore_n 2, 1) := dk_61 (dk_at dksX0_keep_0 20 rfl rfl)
theorem dX0_keep_21 : decode cX0_keep 21 = .ok (.aload_n 0, 1) := dk_42 (dk_at dksX0_keep_0 21 rfl rfl)
theorem dX0_keep_22 : decode cX0_keep 22 = .ok (.getfield 89, 3) := dk_180 0 89 (dk_at dksX0_keep_1 0 rfl rfl)
theorem dX0_keep_25 : decode cX0_keep 25 = .ok (.iload_n 1, 1) := dk_27 (dk_at dksX0_keep_1 3 rfl rfl)
theorem dX0_keep_26 : decode cX0_keep 26 = .ok (.aaload, 1) := dk_50 (dk_at dksX0_keep_1 4 rfl rfl)
theorem dX0_keep_27 : decode cX0_keep 27 = .ok (.aload_n 0, 1) := dk_42 (dk_at dksX0_keep_1 5 rfl rfl)
theorem dX0_keep_28 : decode cX0_keep 28 = .ok (.getfield 1, 3) := dk_180 0 1 (dk_at dksX0_keep_1 6 rfl rfl)
theorem dX0_keep_31 : decode cX0_keep 31 = .ok (.invokevirtual 137, 3) := dk_182 0 137 (dk_at dksX0_keep_1 9 rfl rfl)
theorem dX0_keep_34 : decode cX0_keep 34 = .ok (.aload_n 0, 1) := dk_42 (dk_at dksX0_keep_1 12 rfl rfl)
theorem dX0_keep_35 : decode cX0_keep 35 = .ok (.dup, 1) := dk_89 (dk_at dksX0_keep_1 13 rfl rfl)
theorem dX0_keep_36 : decode cX0_keep 36 = .ok (.getfield 141, 3) := dk_180 0 141 (dk_at dksX0_keep_1 14 rfl rfl)
theorem dX0_keep_39 : decode cX0_keep 39 = .ok (.iconst 1, 1) := dk_4 (dk_at dksX0_keep_1 17 rfl rfl)
theorem dX0_keep_40 : decode cX0_keep 40 = .ok (.iload_n 1, 1) := dk_27 (dk_at dksX0_keep_1 18 rfl rfl)
theorem dX0_keep_41 : decode cX0_keep 41 = .ok (.ishl, 1) := dk_120 (dk_at dksX0_keep_1 19 rfl rfl)
theorem dX0_keep_42 : decode cX0_keep 42 = .ok (.ior, 1) := dk_128 (dk_at dksX0_keep_1 20 rfl rfl)
theorem dX0_keep_43 : decode cX0_keep 43 = .ok (.putfield 141, 3) := dk_181 0 141 (dk_at dksX0_keep_1 21 rfl rfl)
theorem dX0_keep_46 : decode cX0_keep 46 = .ok (.iload_n 2, 1) := dk_28 (dk_at dksX0_keep_2 0 rfl rfl)
theorem dX0_keep_47 : decode cX0_keep 47 = .ok (.ireturn, 1) := dk_172 (dk_at dksX0_keep_2 1 rfl rfl)
abbrev cX0_back : ByteArray := prog_1_method_84_code
def yX0_back : MethodName := ⟨RX0, "back", "(I)I"⟩
def dkwX0_back_1 : List UInt8 := [16, 254, 172, 42, 180, 0, 1, 42, 180, 0, 89, 27, 50, 182, 0, 137, 42, 182, 0, 155, 172]
abbrev dktX0_back_1 : List UInt8 := dkwX0_back_1 ++ []
def dkwX0_back_0 : List UInt8 := [27, 133, 9, 10, 184, 0, 115, 154, 0, 5, 2, 172, 42, 180, 0, 141, 27, 122, 4, 126, 154, 0, 6]
abbrev dktX0_back_0 : List UInt8 := dkwX0_back_0 ++ dktX0_back_1
theorem dksX0_back_0 : cX0_back.data.toList.drop 0 = dktX0_back_0 := by decide +kernel
theorem dksX0_back_1 : cX0_back.data.toList.drop 23 = dktX0_back_1 := dk_seg dksX0_back_0 23 rfl rfl
theorem dX0_back_0 : decode cX0_back 0 = .ok (.iload_n 1, 1) := dk_27 (dk_at dksX0_back_0 0 rfl rfl)
theorem dX0_back_1 : decode cX0_back 1 = .ok (.i2l, 1) := dk_133 (dk_at dksX0_back_0 1 rfl rfl)
theorem dX0_back_2 : decode cX0_back 2 = .ok (.lconst 0, 1) := dk_9 (dk_at dksX0_back_0 2 rfl rfl)
theorem dX0_back_3 : decode cX0_back 3 = .ok (.lconst 1, 1) := dk_10 (dk_at dksX0_back_0 3 rfl rfl)
theorem dX0_back_4 : decode cX0_back 4 = .ok (.invokestatic 115, 3) := dk_184 0 115 (dk_at dksX0_back_0 4 rfl rfl)
theorem dX0_back_7 : decode cX0_back 7 = .ok (.ifCond .ne 5, 3) := dk_154 0 5 (dk_at dksX0_back_0 7 rfl rfl)
theorem dX0_back_10 : decode cX0_back 10 = .ok (.iconst (-1), 1) := dk_2 (dk_at dksX0_back_0 10 rfl rfl)
theorem dX0_back_11 : decode cX0_back 11 = .ok (.ireturn, 1) := dk_172 (dk_at dksX0_back_0 11 rfl rfl)
theorem dX0_back_12 : decode cX0_back 12 = .ok (.aload_n 0, 1) := dk_42 (dk_at dksX0_back_0 12 rfl rfl)
theorem dX0_back_13 : decode cX0_back 13 = .ok (.getfield 141, 3) := dk_180 0 141 (dk_at dksX0_back_0 13 rfl rfl)
theorem dX0_back_16 : decode cX0_back 16 = .ok (.iload_n 1, 1) := dk_27 (dk_at dksX0_back_0 16 rfl rfl)
theorem dX0_back_17 : decode cX0_back 17 = .ok (.ishr, 1) := dk_122 (dk_at dksX0_back_0 17 rfl rfl)
theorem dX0_back_18 : decode cX0_back 18 = .ok (.iconst 1, 1) := dk_4 (dk_at dksX0_back_0 18 rfl rfl)
theorem dX0_back_19 : decode cX0_back 19 = .ok (.iand, 1) := dk_126 (dk_at dksX0_back_0 19 rfl rfl)
theorem dX0_back_20 : decode cX0_back 20 = .ok (.ifCond .ne 6, 3) := dk_154 0 6 (dk_at dksX0_back_0 20 rfl rfl)
theorem dX0_back_23 : decode cX0_back 23 = .ok (.bipush (-2), 2) := dk_16 254 (dk_at dksX0_back_1 0 rfl rfl)
theorem dX0_back_25 : decode cX0_back 25 = .ok (.ireturn, 1) := dk_172 (dk_at dksX0_back_1 2 rfl rfl)
theorem dX0_back_26 : decode cX0_back 26 = .ok (.aload_n 0, 1) := dk_42 (dk_at dksX0_back_1 3 rfl rfl)
theorem dX0_back_27 : decode cX0_back 27 = .ok (.getfield 1, 3) := dk_180 0 1 (dk_at dksX0_back_1 4 rfl rfl)
theorem dX0_back_30 : decode cX0_back 30 = .ok (.aload_n 0, 1) := dk_42 (dk_at dksX0_back_1 7 rfl rfl)
theorem dX0_back_31 : decode cX0_back 31 = .ok (.getfield 89, 3) := dk_180 0 89 (dk_at dksX0_back_1 8 rfl rfl)
theorem dX0_back_34 : decode cX0_back 34 = .ok (.iload_n 1, 1) := dk_27 (dk_at dksX0_back_1 11 rfl rfl)
theorem dX0_back_35 : decode cX0_back 35 = .ok (.aaload, 1) := dk_50 (dk_at dksX0_back_1 12 rfl rfl)
theorem dX0_back_36 : decode cX0_back 36 = .ok (.invokevirtual 137, 3) := dk_182 0 137 (dk_at dksX0_back_1 13 rfl rfl)
theorem dX0_back_39 : decode cX0_back 39 = .ok (.aload_n 0, 1) := dk_42 (dk_at dksX0_back_1 16 rfl rfl)
theorem dX0_back_40 : decode cX0_back 40 = .ok (.invokevirtual 155, 3) := dk_182 0 155 (dk_at dksX0_back_1 17 rfl rfl)
theorem dX0_back_43 : decode cX0_back 43 = .ok (.ireturn, 1) := dk_172 (dk_at dksX0_back_1 20 rfl rfl)
abbrev cX0_sheet : ByteArray := prog_1_method_86_code
def yX0_sheet : MethodName := ⟨RX0, "sheet", "(III)I"⟩
def dkwX0_sheet_2 : List UInt8 := [181, 1, 59, 4, 172, 58, 4, 16, 242, 172]
abbrev dktX0_sheet_2 : List UInt8 := dkwX0_sheet_2 ++ []
def dkwX0_sheet_1 : List UInt8 := [154, 0, 9, 29, 188, 8, 167, 0, 17, 28, 4, 160, 0, 9, 29, 188, 10, 167, 0, 6, 29, 188, 11]
abbrev dktX0_sheet_1 : List UInt8 := dkwX0_sheet_1 ++ dktX0_sheet_2
def dkwX0_sheet_0 : List UInt8 := [27, 28, 184, 1, 56, 153, 0, 9, 29, 16, 40, 164, 0, 5, 2, 172, 42, 180, 0, 102, 27, 50, 28]
abbrev dktX0_sheet_0 : List UInt8 := dkwX0_sheet_0 ++ dktX0_sheet_1
theorem dksX0_sheet_0 : cX0_sheet.data.toList.drop 0 = dktX0_sheet_0 := by decide +kernel
theorem dksX0_sheet_1 : cX0_sheet.data.toList.drop 23 = dktX0_sheet_1 := dk_seg dksX0_sheet_0 23 rfl rfl
theorem dksX0_sheet_2 : cX0_sheet.data.toList.drop 46 = dktX0_sheet_2 := dk_seg dksX0_sheet_1 23 rfl rfl
theorem dX0_sheet_0 : decode cX0_sheet 0 = .ok (.iload_n 1, 1) := dk_27 (dk_at dksX0_sheet_0 0 rfl rfl)
theorem dX0_sheet_1 : decode cX0_sheet 1 = .ok (.iload_n 2, 1) := dk_28 (dk_at dksX0_sheet_0 1 rfl rfl)
theorem dX0_sheet_2 : decode cX0_sheet 2 = .ok (.invokestatic 312, 3) := dk_184 1 56 (dk_at dksX0_sheet_0 2 rfl rfl)
theorem dX0_sheet_5 : decode cX0_sheet 5 = .ok (.ifCond .eq 9, 3) := dk_153 0 9 (dk_at dksX0_sheet_0 5 rfl rfl)
theorem dX0_sheet_8 : decode cX0_sheet 8 = .ok (.iload_n 3, 1) := dk_29 (dk_at dksX0_sheet_0 8 rfl rfl)
theorem dX0_sheet_9 : decode cX0_sheet 9 = .ok (.bipush 40, 2) := dk_16 40 (dk_at dksX0_sheet_0 9 rfl rfl)
theorem dX0_sheet_11 : decode cX0_sheet 11 = .ok (.if_icmp .le 5, 3) := dk_164 0 5 (dk_at dksX0_sheet_0 11 rfl rfl)
theorem dX0_sheet_14 : decode cX0_sheet 14 = .ok (.iconst (-1), 1) := dk_2 (dk_at dksX0_sheet_0 14 rfl rfl)
theorem dX0_sheet_15 : decode cX0_sheet 15 = .ok (.ireturn, 1) := dk_172 (dk_at dksX0_sheet_0 15 rfl rfl)
theorem dX0_sheet_16 : decode cX0_sheet 16 = .ok (.aload_n 0, 1) := dk_42 (dk_at dksX0_sheet_0 16 rfl rfl)
theorem dX0_sheet_17 : decode cX0_sheet 17 = .ok (.getfield 102, 3) := dk_180 0 102 (dk_at dksX0_sheet_0 17 rfl rfl)
theorem dX0_sheet_20 : decode cX0_sheet 20 = .ok (.iload_n 1, 1) := dk_27 (dk_at dksX0_sheet_0 20 rfl rfl)
theorem dX0_sheet_21 : decode cX0_sheet 21 = .ok (.aaload, 1) := dk_50 (dk_at dksX0_sheet_0 21 rfl rfl)
theorem dX0_sheet_22 : decode cX0_sheet 22 = .ok (.iload_n 2, 1) := dk_28 (dk_at dksX0_sheet_0 22 rfl rfl)
theorem dX0_sheet_23 : decode cX0_sheet 23 = .ok (.ifCond .ne 9, 3) := dk_154 0 9 (dk_at dksX0_sheet_1 0 rfl rfl)
theorem dX0_sheet_26 : decode cX0_sheet 26 = .ok (.iload_n 3, 1) := dk_29 (dk_at dksX0_sheet_1 3 rfl rfl)
theorem dX0_sheet_27 : decode cX0_sheet 27 = .ok (.newarray .byte, 2) := dk_188_8 (dk_at dksX0_sheet_1 4 rfl rfl)
theorem dX0_sheet_29 : decode cX0_sheet 29 = .ok (.goto 17, 3) := dk_167 0 17 (dk_at dksX0_sheet_1 6 rfl rfl)
theorem dX0_sheet_32 : decode cX0_sheet 32 = .ok (.iload_n 2, 1) := dk_28 (dk_at dksX0_sheet_1 9 rfl rfl)
theorem dX0_sheet_33 : decode cX0_sheet 33 = .ok (.iconst 1, 1) := dk_4 (dk_at dksX0_sheet_1 10 rfl rfl)
theorem dX0_sheet_34 : decode cX0_sheet 34 = .ok (.if_icmp .ne 9, 3) := dk_160 0 9 (dk_at dksX0_sheet_1 11 rfl rfl)
theorem dX0_sheet_37 : decode cX0_sheet 37 = .ok (.iload_n 3, 1) := dk_29 (dk_at dksX0_sheet_1 14 rfl rfl)
theorem dX0_sheet_38 : decode cX0_sheet 38 = .ok (.newarray .int, 2) := dk_188_10 (dk_at dksX0_sheet_1 15 rfl rfl)
theorem dX0_sheet_40 : decode cX0_sheet 40 = .ok (.goto 6, 3) := dk_167 0 6 (dk_at dksX0_sheet_1 17 rfl rfl)
theorem dX0_sheet_43 : decode cX0_sheet 43 = .ok (.iload_n 3, 1) := dk_29 (dk_at dksX0_sheet_1 20 rfl rfl)
theorem dX0_sheet_44 : decode cX0_sheet 44 = .ok (.newarray .long, 2) := dk_188_11 (dk_at dksX0_sheet_1 21 rfl rfl)
theorem dX0_sheet_46 : decode cX0_sheet 46 = .ok (.putfield 315, 3) := dk_181 1 59 (dk_at dksX0_sheet_2 0 rfl rfl)
theorem dX0_sheet_49 : decode cX0_sheet 49 = .ok (.iconst 1, 1) := dk_4 (dk_at dksX0_sheet_2 3 rfl rfl)
theorem dX0_sheet_50 : decode cX0_sheet 50 = .ok (.ireturn, 1) := dk_172 (dk_at dksX0_sheet_2 4 rfl rfl)
theorem dX0_sheet_51 : decode cX0_sheet 51 = .ok (.astore 4, 2) := dk_58 4 (dk_at dksX0_sheet_2 5 rfl rfl)
theorem dX0_sheet_53 : decode cX0_sheet 53 = .ok (.bipush (-14), 2) := dk_16 242 (dk_at dksX0_sheet_2 7 rfl rfl)
theorem dX0_sheet_55 : decode cX0_sheet 55 = .ok (.ireturn, 1) := dk_172 (dk_at dksX0_sheet_2 9 rfl rfl)
abbrev cX0_isSheet : ByteArray := prog_1_method_85_code
def yX0_isSheet : MethodName := ⟨RX0, "isSheet", "(II)Z"⟩
def dkwX0_isSheet_1 : List UInt8 := [4, 167, 0, 4, 3, 172]
abbrev dktX0_isSheet_1 : List UInt8 := dkwX0_isSheet_1 ++ []
def dkwX0_isSheet_0 : List UInt8 := [26, 133, 9, 20, 0, 170, 184, 0, 115, 153, 0, 19, 27, 133, 9, 20, 0, 168, 184, 0, 115, 153, 0, 7]
abbrev dktX0_isSheet_0 : List UInt8 := dkwX0_isSheet_0 ++ dktX0_isSheet_1
theorem dksX0_isSheet_0 : cX0_isSheet.data.toList.drop 0 = dktX0_isSheet_0 := by decide +kernel
theorem dksX0_isSheet_1 : cX0_isSheet.data.toList.drop 24 = dktX0_isSheet_1 := dk_seg dksX0_isSheet_0 24 rfl rfl
theorem dX0_isSheet_0 : decode cX0_isSheet 0 = .ok (.iload_n 0, 1) := dk_26 (dk_at dksX0_isSheet_0 0 rfl rfl)
theorem dX0_isSheet_1 : decode cX0_isSheet 1 = .ok (.i2l, 1) := dk_133 (dk_at dksX0_isSheet_0 1 rfl rfl)
theorem dX0_isSheet_2 : decode cX0_isSheet 2 = .ok (.lconst 0, 1) := dk_9 (dk_at dksX0_isSheet_0 2 rfl rfl)
theorem dX0_isSheet_3 : decode cX0_isSheet 3 = .ok (.ldc2_w 170, 3) := dk_20 0 170 (dk_at dksX0_isSheet_0 3 rfl rfl)
theorem dX0_isSheet_6 : decode cX0_isSheet 6 = .ok (.invokestatic 115, 3) := dk_184 0 115 (dk_at dksX0_isSheet_0 6 rfl rfl)
theorem dX0_isSheet_9 : decode cX0_isSheet 9 = .ok (.ifCond .eq 19, 3) := dk_153 0 19 (dk_at dksX0_isSheet_0 9 rfl rfl)
theorem dX0_isSheet_12 : decode cX0_isSheet 12 = .ok (.iload_n 1, 1) := dk_27 (dk_at dksX0_isSheet_0 12 rfl rfl)
theorem dX0_isSheet_13 : decode cX0_isSheet 13 = .ok (.i2l, 1) := dk_133 (dk_at dksX0_isSheet_0 13 rfl rfl)
theorem dX0_isSheet_14 : decode cX0_isSheet 14 = .ok (.lconst 0, 1) := dk_9 (dk_at dksX0_isSheet_0 14 rfl rfl)
theorem dX0_isSheet_15 : decode cX0_isSheet 15 = .ok (.ldc2_w 168, 3) := dk_20 0 168 (dk_at dksX0_isSheet_0 15 rfl rfl)
theorem dX0_isSheet_18 : decode cX0_isSheet 18 = .ok (.invokestatic 115, 3) := dk_184 0 115 (dk_at dksX0_isSheet_0 18 rfl rfl)
theorem dX0_isSheet_21 : decode cX0_isSheet 21 = .ok (.ifCond .eq 7, 3) := dk_153 0 7 (dk_at dksX0_isSheet_0 21 rfl rfl)
theorem dX0_isSheet_24 : decode cX0_isSheet 24 = .ok (.iconst 1, 1) := dk_4 (dk_at dksX0_isSheet_1 0 rfl rfl)
theorem dX0_isSheet_25 : decode cX0_isSheet 25 = .ok (.goto 4, 3) := dk_167 0 4 (dk_at dksX0_isSheet_1 1 rfl rfl)
theorem dX0_isSheet_28 : decode cX0_isSheet 28 = .ok (.iconst 0, 1) := dk_3 (dk_at dksX0_isSheet_1 4 rfl rfl)
theorem dX0_isSheet_29 : decode cX0_isSheet 29 = .ok (.ireturn, 1) := dk_172 (dk_at dksX0_isSheet_1 5 rfl rfl)
abbrev cX0_lay : ByteArray := prog_1_method_87_code
def yX0_lay : MethodName := ⟨RX0, "lay", "(IIJ)I"⟩
def dkwX0_lay_3 : List UInt8 := [192, 1, 67, 28, 33, 80, 4, 172, 58, 6, 16, 245, 172, 58, 6, 16, 244, 172]
abbrev dktX0_lay_3 : List UInt8 := dkwX0_lay_3 ++ []
def dkwX0_lay_2 : List UInt8 := [25, 5, 193, 1, 66, 153, 0, 15, 25, 5, 192, 1, 66, 28, 33, 136, 79, 167, 0, 11, 25, 5]
abbrev dktX0_lay_2 : List UInt8 := dkwX0_lay_2 ++ dktX0_lay_3
def dkwX0_lay_1 : List UInt8 := [58, 5, 25, 5, 193, 1, 65, 153, 0, 16, 25, 5, 192, 1, 65, 28, 33, 136, 145, 84, 167, 0, 31]
abbrev dktX0_lay_1 : List UInt8 := dkwX0_lay_1 ++ dktX0_lay_2
def dkwX0_lay_0 : List UInt8 := [27, 133, 9, 20, 0, 170, 184, 0, 115, 154, 0, 5, 2, 172, 42, 180, 0, 102, 27, 50, 180, 1, 59]
abbrev dktX0_lay_0 : List UInt8 := dkwX0_lay_0 ++ dktX0_lay_1
theorem dksX0_lay_0 : cX0_lay.data.toList.drop 0 = dktX0_lay_0 := by decide +kernel
theorem dksX0_lay_1 : cX0_lay.data.toList.drop 23 = dktX0_lay_1 := dk_seg dksX0_lay_0 23 rfl rfl
theorem dksX0_lay_2 : cX0_lay.data.toList.drop 46 = dktX0_lay_2 := dk_seg dksX0_lay_1 23 rfl rfl
theorem dksX0_lay_3 : cX0_lay.data.toList.drop 68 = dktX0_lay_3 := dk_seg dksX0_lay_2 22 rfl rfl
theorem dX0_lay_0 : decode cX0_lay 0 = .ok (.iload_n 1, 1) := dk_27 (dk_at dksX0_lay_0 0 rfl rfl)
theorem dX0_lay_1 : decode cX0_lay 1 = .ok (.i2l, 1) := dk_133 (dk_at dksX0_lay_0 1 rfl rfl)
theorem dX0_lay_2 : decode cX0_lay 2 = .ok (.lconst 0, 1) := dk_9 (dk_at dksX0_lay_0 2 rfl rfl)
theorem dX0_lay_3 : decode cX0_lay 3 = .ok (.ldc2_w 170, 3) := dk_20 0 170 (dk_at dksX0_lay_0 3 rfl rfl)
theorem dX0_lay_6 : decode cX0_lay 6 = .ok (.invokestatic 115, 3) := dk_184 0 115 (dk_at dksX0_lay_0 6 rfl rfl)
theorem dX0_lay_9 : decode cX0_lay 9 = .ok (.ifCond .ne 5, 3) := dk_154 0 5 (dk_at dksX0_lay_0 9 rfl rfl)
theorem dX0_lay_12 : decode cX0_lay 12 = .ok (.iconst (-1), 1) := dk_2 (dk_at dksX0_lay_0 12 rfl rfl)
theorem dX0_lay_13 : decode cX0_lay 13 = .ok (.ireturn, 1) := dk_172 (dk_at dksX0_lay_0 13 rfl rfl)
theorem dX0_lay_14 : decode cX0_lay 14 = .ok (.aload_n 0, 1) := dk_42 (dk_at dksX0_lay_0 14 rfl rfl)
theorem dX0_lay_15 : decode cX0_lay 15 = .ok (.getfield 102, 3) := dk_180 0 102 (dk_at dksX0_lay_0 15 rfl rfl)
theorem dX0_lay_18 : decode cX0_lay 18 = .ok (.iload_n 1, 1) := dk_27 (dk_at dksX0_lay_0 18 rfl rfl)
theorem dX0_lay_19 : decode cX0_lay 19 = .ok (.aaload, 1) := dk_50 (dk_at dksX0_lay_0 19 rfl rfl)
theorem dX0_lay_20 : decode cX0_lay 20 = .ok (.getfield 315, 3) := dk_180 1 59 (dk_at dksX0_lay_0 20 rfl rfl)
theorem dX0_lay_23 : decode cX0_lay 23 = .ok (.astore 5, 2) := dk_58 5 (dk_at dksX0_lay_1 0 rfl rfl)
theorem dX0_lay_25 : decode cX0_lay 25 = .ok (.aload 5, 2) := dk_25 5 (dk_at dksX0_lay_1 2 rfl rfl)
theorem dX0_lay_27 : decode cX0_lay 27 = .ok (.instanceof 321, 3) := dk_193 1 65 (dk_at dksX0_lay_1 4 rfl rfl)
theorem dX0_lay_30 : decode cX0_lay 30 = .ok (.ifCond .eq 16, 3) := dk_153 0 16 (dk_at dksX0_lay_1 7 rfl rfl)
theorem dX0_lay_33 : decode cX0_lay 33 = .ok (.aload 5, 2) := dk_25 5 (dk_at dksX0_lay_1 10 rfl rfl)
theorem dX0_lay_35 : decode cX0_lay 35 = .ok (.checkcast 321, 3) := dk_192 1 65 (dk_at dksX0_lay_1 12 rfl rfl)
theorem dX0_lay_38 : decode cX0_lay 38 = .ok (.iload_n 2, 1) := dk_28 (dk_at dksX0_lay_1 15 rfl rfl)
theorem dX0_lay_39 : decode cX0_lay 39 = .ok (.lload_n 3, 1) := dk_33 (dk_at dksX0_lay_1 16 rfl rfl)
theorem dX0_lay_40 : decode cX0_lay 40 = .ok (.l2i, 1) := dk_136 (dk_at dksX0_lay_1 17 rfl rfl)
theorem dX0_lay_41 : decode cX0_lay 41 = .ok (.i2b, 1) := dk_145 (dk_at dksX0_lay_1 18 rfl rfl)
theorem dX0_lay_42 : decode cX0_lay 42 = .ok (.bastore, 1) := dk_84 (dk_at dksX0_lay_1 19 rfl rfl)
theorem dX0_lay_43 : decode cX0_lay 43 = .ok (.goto 31, 3) := dk_167 0 31 (dk_at dksX0_lay_1 20 rfl rfl)
theorem dX0_lay_46 : decode cX0_lay 46 = .ok (.aload 5, 2) := dk_25 5 (dk_at dksX0_lay_2 0 rfl rfl)
theorem dX0_lay_48 : decode cX0_lay 48 = .ok (.instanceof 322, 3) := dk_193 1 66 (dk_at dksX0_lay_2 2 rfl rfl)
theorem dX0_lay_51 : decode cX0_lay 51 = .ok (.ifCond .eq 15, 3) := dk_153 0 15 (dk_at dksX0_lay_2 5 rfl rfl)
theorem dX0_lay_54 : decode cX0_lay 54 = .ok (.aload 5, 2) := dk_25 5 (dk_at dksX0_lay_2 8 rfl rfl)
theorem dX0_lay_56 : decode cX0_lay 56 = .ok (.checkcast 322, 3) := dk_192 1 66 (dk_at dksX0_lay_2 10 rfl rfl)
theorem dX0_lay_59 : decode cX0_lay 59 = .ok (.iload_n 2, 1) := dk_28 (dk_at dksX0_lay_2 13 rfl rfl)
theorem dX0_lay_60 : decode cX0_lay 60 = .ok (.lload_n 3, 1) := dk_33 (dk_at dksX0_lay_2 14 rfl rfl)
theorem dX0_lay_61 : decode cX0_lay 61 = .ok (.l2i, 1) := dk_136 (dk_at dksX0_lay_2 15 rfl rfl)
theorem dX0_lay_62 : decode cX0_lay 62 = .ok (.iastore, 1) := dk_79 (dk_at dksX0_lay_2 16 rfl rfl)
theorem dX0_lay_63 : decode cX0_lay 63 = .ok (.goto 11, 3) := dk_167 0 11 (dk_at dksX0_lay_2 17 rfl rfl)
theorem dX0_lay_66 : decode cX0_lay 66 = .ok (.aload 5, 2) := dk_25 5 (dk_at dksX0_lay_2 20 rfl rfl)
theorem dX0_lay_68 : decode cX0_lay 68 = .ok (.checkcast 323, 3) := dk_192 1 67 (dk_at dksX0_lay_3 0 rfl rfl)
theorem dX0_lay_71 : decode cX0_lay 71 = .ok (.iload_n 2, 1) := dk_28 (dk_at dksX0_lay_3 3 rfl rfl)
theorem dX0_lay_72 : decode cX0_lay 72 = .ok (.lload_n 3, 1) := dk_33 (dk_at dksX0_lay_3 4 rfl rfl)
theorem dX0_lay_73 : decode cX0_lay 73 = .ok (.lastore, 1) := dk_80 (dk_at dksX0_lay_3 5 rfl rfl)
theorem dX0_lay_74 : decode cX0_lay 74 = .ok (.iconst 1, 1) := dk_4 (dk_at dksX0_lay_3 6 rfl rfl)
theorem dX0_lay_75 : decode cX0_lay 75 = .ok (.ireturn, 1) := dk_172 (dk_at dksX0_lay_3 7 rfl rfl)
theorem dX0_lay_76 : decode cX0_lay 76 = .ok (.astore 6, 2) := dk_58 6 (dk_at dksX0_lay_3 8 rfl rfl)
theorem dX0_lay_78 : decode cX0_lay 78 = .ok (.bipush (-11), 2) := dk_16 245 (dk_at dksX0_lay_3 10 rfl rfl)
theorem dX0_lay_80 : decode cX0_lay 80 = .ok (.ireturn, 1) := dk_172 (dk_at dksX0_lay_3 12 rfl rfl)
theorem dX0_lay_81 : decode cX0_lay 81 = .ok (.astore 6, 2) := dk_58 6 (dk_at dksX0_lay_3 13 rfl rfl)
theorem dX0_lay_83 : decode cX0_lay 83 = .ok (.bipush (-12), 2) := dk_16 244 (dk_at dksX0_lay_3 15 rfl rfl)
theorem dX0_lay_85 : decode cX0_lay 85 = .ok (.ireturn, 1) := dk_172 (dk_at dksX0_lay_3 17 rfl rfl)
abbrev cX0_look : ByteArray := prog_1_method_88_code
def yX0_look : MethodName := ⟨RX0, "look", "(II)J"⟩
def dkwX0_look_2 : List UInt8 := [45, 192, 1, 66, 28, 46, 133, 167, 0, 9, 45, 192, 1, 67, 28, 47, 173, 58, 4, 9, 173]
abbrev dktX0_look_2 : List UInt8 := dkwX0_look_2 ++ []
def dkwX0_look_1 : List UInt8 := [45, 193, 1, 65, 153, 0, 13, 45, 192, 1, 65, 28, 51, 133, 167, 0, 26, 45, 193, 1, 66, 153, 0, 13]
abbrev dktX0_look_1 : List UInt8 := dkwX0_look_1 ++ dktX0_look_2
def dkwX0_look_0 : List UInt8 := [27, 133, 9, 20, 0, 170, 184, 0, 115, 154, 0, 5, 9, 173, 42, 180, 0, 102, 27, 50, 180, 1, 59, 78]
abbrev dktX0_look_0 : List UInt8 := dkwX0_look_0 ++ dktX0_look_1
theorem dksX0_look_0 : cX0_look.data.toList.drop 0 = dktX0_look_0 := by decide +kernel
theorem dksX0_look_1 : cX0_look.data.toList.drop 24 = dktX0_look_1 := dk_seg dksX0_look_0 24 rfl rfl
theorem dksX0_look_2 : cX0_look.data.toList.drop 48 = dktX0_look_2 := dk_seg dksX0_look_1 24 rfl rfl
theorem dX0_look_0 : decode cX0_look 0 = .ok (.iload_n 1, 1) := dk_27 (dk_at dksX0_look_0 0 rfl rfl)
theorem dX0_look_1 : decode cX0_look 1 = .ok (.i2l, 1) := dk_133 (dk_at dksX0_look_0 1 rfl rfl)
theorem dX0_look_2 : decode cX0_look 2 = .ok (.lconst 0, 1) := dk_9 (dk_at dksX0_look_0 2 rfl rfl)
theorem dX0_look_3 : decode cX0_look 3 = .ok (.ldc2_w 170, 3) := dk_20 0 170 (dk_at dksX0_look_0 3 rfl rfl)
theorem dX0_look_6 : decode cX0_look 6 = .ok (.invokestatic 115, 3) := dk_184 0 115 (dk_at dksX0_look_0 6 rfl rfl)
theorem dX0_look_9 : decode cX0_look 9 = .ok (.ifCond .ne 5, 3) := dk_154 0 5 (dk_at dksX0_look_0 9 rfl rfl)
theorem dX0_look_12 : decode cX0_look 12 = .ok (.lconst 0, 1) := dk_9 (dk_at dksX0_look_0 12 rfl rfl)
theorem dX0_look_13 : decode cX0_look 13 = .ok (.lreturn, 1) := dk_173 (dk_at dksX0_look_0 13 rfl rfl)
theorem dX0_look_14 : decode cX0_look 14 = .ok (.aload_n 0, 1) := dk_42 (dk_at dksX0_look_0 14 rfl rfl)
theorem dX0_look_15 : decode cX0_look 15 = .ok (.getfield 102, 3) := dk_180 0 102 (dk_at dksX0_look_0 15 rfl rfl)
theorem dX0_look_18 : decode cX0_look 18 = .ok (.iload_n 1, 1) := dk_27 (dk_at dksX0_look_0 18 rfl rfl)
theorem dX0_look_19 : decode cX0_look 19 = .ok (.aaload, 1) := dk_50 (dk_at dksX0_look_0 19 rfl rfl)
theorem dX0_look_20 : decode cX0_look 20 = .ok (.getfield 315, 3) := dk_180 1 59 (dk_at dksX0_look_0 20 rfl rfl)
theorem dX0_look_23 : decode cX0_look 23 = .ok (.astore_n 3, 1) := dk_78 (dk_at dksX0_look_0 23 rfl rfl)
theorem dX0_look_24 : decode cX0_look 24 = .ok (.aload_n 3, 1) := dk_45 (dk_at dksX0_look_1 0 rfl rfl)
theorem dX0_look_25 : decode cX0_look 25 = .ok (.instanceof 321, 3) := dk_193 1 65 (dk_at dksX0_look_1 1 rfl rfl)
theorem dX0_look_28 : decode cX0_look 28 = .ok (.ifCond .eq 13, 3) := dk_153 0 13 (dk_at dksX0_look_1 4 rfl rfl)
theorem dX0_look_31 : decode cX0_look 31 = .ok (.aload_n 3, 1) := dk_45 (dk_at dksX0_look_1 7 rfl rfl)
theorem dX0_look_32 : decode cX0_look 32 = .ok (.checkcast 321, 3) := dk_192 1 65 (dk_at dksX0_look_1 8 rfl rfl)
theorem dX0_look_35 : decode cX0_look 35 = .ok (.iload_n 2, 1) := dk_28 (dk_at dksX0_look_1 11 rfl rfl)
theorem dX0_look_36 : decode cX0_look 36 = .ok (.baload, 1) := dk_51 (dk_at dksX0_look_1 12 rfl rfl)
theorem dX0_look_37 : decode cX0_look 37 = .ok (.i2l, 1) := dk_133 (dk_at dksX0_look_1 13 rfl rfl)
theorem dX0_look_38 : decode cX0_look 38 = .ok (.goto 26, 3) := dk_167 0 26 (dk_at dksX0_look_1 14 rfl rfl)
theorem dX0_look_41 : decode cX0_look 41 = .ok (.aload_n 3, 1) := dk_45 (dk_at dksX0_look_1 17 rfl rfl)
theorem dX0_look_42 : decode cX0_look 42 = .ok (.instanceof 322, 3) := dk_193 1 66 (dk_at dksX0_look_1 18 rfl rfl)
theorem dX0_look_45 : decode cX0_look 45 = .ok (.ifCond .eq 13, 3) := dk_153 0 13 (dk_at dksX0_look_1 21 rfl rfl)
theorem dX0_look_48 : decode cX0_look 48 = .ok (.aload_n 3, 1) := dk_45 (dk_at dksX0_look_2 0 rfl rfl)
theorem dX0_look_49 : decode cX0_look 49 = .ok (.checkcast 322, 3) := dk_192 1 66 (dk_at dksX0_look_2 1 rfl rfl)
theorem dX0_look_52 : decode cX0_look 52 = .ok (.iload_n 2, 1) := dk_28 (dk_at dksX0_look_2 4 rfl rfl)
theorem dX0_look_53 : decode cX0_look 53 = .ok (.iaload, 1) := dk_46 (dk_at dksX0_look_2 5 rfl rfl)
theorem dX0_look_54 : decode cX0_look 54 = .ok (.i2l, 1) := dk_133 (dk_at dksX0_look_2 6 rfl rfl)
theorem dX0_look_55 : decode cX0_look 55 = .ok (.goto 9, 3) := dk_167 0 9 (dk_at dksX0_look_2 7 rfl rfl)
theorem dX0_look_58 : decode cX0_look 58 = .ok (.aload_n 3, 1) := dk_45 (dk_at dksX0_look_2 10 rfl rfl)
theorem dX0_look_59 : decode cX0_look 59 = .ok (.checkcast 323, 3) := dk_192 1 67 (dk_at dksX0_look_2 11 rfl rfl)
theorem dX0_look_62 : decode cX0_look 62 = .ok (.iload_n 2, 1) := dk_28 (dk_at dksX0_look_2 14 rfl rfl)
theorem dX0_look_63 : decode cX0_look 63 = .ok (.laload, 1) := dk_47 (dk_at dksX0_look_2 15 rfl rfl)
theorem dX0_look_64 : decode cX0_look 64 = .ok (.lreturn, 1) := dk_173 (dk_at dksX0_look_2 16 rfl rfl)
theorem dX0_look_65 : decode cX0_look 65 = .ok (.astore 4, 2) := dk_58 4 (dk_at dksX0_look_2 17 rfl rfl)
theorem dX0_look_67 : decode cX0_look 67 = .ok (.lconst 0, 1) := dk_9 (dk_at dksX0_look_2 19 rfl rfl)
theorem dX0_look_68 : decode cX0_look 68 = .ok (.lreturn, 1) := dk_173 (dk_at dksX0_look_2 20 rfl rfl)
abbrev cX0_read : ByteArray := prog_1_method_93_code
def yX0_read : MethodName := ⟨RX0, "read", "(IIII)I"⟩
def dkwX0_read_5 : List UInt8 := [182, 0, 110, 42, 180, 0, 1, 42, 180, 0, 106, 182, 0, 137, 42, 182, 0, 155, 172]
abbrev dktX0_read_5 : List UInt8 := dkwX0_read_5 ++ []
def dkwX0_read_4 : List UInt8 := [58, 5, 16, 243, 172, 58, 5, 16, 244, 172, 42, 182, 1, 88, 154, 0, 6, 16, 254, 172, 42, 180, 0, 106]
abbrev dktX0_read_4 : List UInt8 := dkwX0_read_4 ++ dktX0_read_5
def dkwX0_read_3 : List UInt8 := [21, 5, 96, 182, 1, 83, 182, 1, 2, 132, 5, 1, 167, 255, 227, 167, 0, 18, 58, 5, 16, 245, 172]
abbrev dktX0_read_3 : List UInt8 := dkwX0_read_3 ++ dktX0_read_4
def dkwX0_read_2 : List UInt8 := [181, 0, 7, 3, 54, 5, 21, 5, 21, 4, 162, 0, 28, 42, 180, 0, 106, 21, 5, 42, 27, 28, 29]
abbrev dktX0_read_2 : List UInt8 := dkwX0_read_2 ++ dktX0_read_3
def dkwX0_read_1 : List UInt8 := [156, 0, 5, 2, 172, 42, 180, 0, 106, 180, 1, 34, 9, 184, 1, 38, 42, 180, 0, 106, 21, 4]
abbrev dktX0_read_1 : List UInt8 := dkwX0_read_1 ++ dktX0_read_2
def dkwX0_read_0 : List UInt8 := [27, 28, 184, 1, 56, 153, 0, 20, 21, 4, 133, 9, 20, 1, 81, 184, 0, 115, 153, 0, 7, 29]
abbrev dktX0_read_0 : List UInt8 := dkwX0_read_0 ++ dktX0_read_1
theorem dksX0_read_0 : cX0_read.data.toList.drop 0 = dktX0_read_0 := by decide +kernel
theorem dksX0_read_1 : cX0_read.data.toList.drop 22 = dktX0_read_1 := dk_seg dksX0_read_0 22 rfl rfl
theorem dksX0_read_2 : cX0_read.data.toList.drop 44 = dktX0_read_2 := dk_seg dksX0_read_1 22 rfl rfl
theorem dksX0_read_3 : cX0_read.data.toList.drop 67 = dktX0_read_3 := dk_seg dksX0_read_2 23 rfl rfl
theorem dksX0_read_4 : cX0_read.data.toList.drop 90 = dktX0_read_4 := dk_seg dksX0_read_3 23 rfl rfl
theorem dksX0_read_5 : cX0_read.data.toList.drop 114 = dktX0_read_5 := dk_seg dksX0_read_4 24 rfl rfl
theorem dX0_read_0 : decode cX0_read 0 = .ok (.iload_n 1, 1) := dk_27 (dk_at dksX0_read_0 0 rfl rfl)
theorem dX0_read_1 : decode cX0_read 1 = .ok (.iload_n 2, 1) := dk_28 (dk_at dksX0_read_0 1 rfl rfl)
theorem dX0_read_2 : decode cX0_read 2 = .ok (.invokestatic 312, 3) := dk_184 1 56 (dk_at dksX0_read_0 2 rfl rfl)
theorem dX0_read_5 : decode cX0_read 5 = .ok (.ifCond .eq 20, 3) := dk_153 0 20 (dk_at dksX0_read_0 5 rfl rfl)
theorem dX0_read_8 : decode cX0_read 8 = .ok (.iload 4, 2) := dk_21 4 (dk_at dksX0_read_0 8 rfl rfl)
theorem dX0_read_10 : decode cX0_read 10 = .ok (.i2l, 1) := dk_133 (dk_at dksX0_read_0 10 rfl rfl)
theorem dX0_read_11 : decode cX0_read 11 = .ok (.lconst 0, 1) := dk_9 (dk_at dksX0_read_0 11 rfl rfl)
theorem dX0_read_12 : decode cX0_read 12 = .ok (.ldc2_w 337, 3) := dk_20 1 81 (dk_at dksX0_read_0 12 rfl rfl)
theorem dX0_read_15 : decode cX0_read 15 = .ok (.invokestatic 115, 3) := dk_184 0 115 (dk_at dksX0_read_0 15 rfl rfl)
theorem dX0_read_18 : decode cX0_read 18 = .ok (.ifCond .eq 7, 3) := dk_153 0 7 (dk_at dksX0_read_0 18 rfl rfl)
theorem dX0_read_21 : decode cX0_read 21 = .ok (.iload_n 3, 1) := dk_29 (dk_at dksX0_read_0 21 rfl rfl)
theorem dX0_read_22 : decode cX0_read 22 = .ok (.ifCond .ge 5, 3) := dk_156 0 5 (dk_at dksX0_read_1 0 rfl rfl)
theorem dX0_read_25 : decode cX0_read 25 = .ok (.iconst (-1), 1) := dk_2 (dk_at dksX0_read_1 3 rfl rfl)
theorem dX0_read_26 : decode cX0_read 26 = .ok (.ireturn, 1) := dk_172 (dk_at dksX0_read_1 4 rfl rfl)
theorem dX0_read_27 : decode cX0_read 27 = .ok (.aload_n 0, 1) := dk_42 (dk_at dksX0_read_1 5 rfl rfl)
theorem dX0_read_28 : decode cX0_read 28 = .ok (.getfield 106, 3) := dk_180 0 106 (dk_at dksX0_read_1 6 rfl rfl)
theorem dX0_read_31 : decode cX0_read 31 = .ok (.getfield 290, 3) := dk_180 1 34 (dk_at dksX0_read_1 9 rfl rfl)
theorem dX0_read_34 : decode cX0_read 34 = .ok (.lconst 0, 1) := dk_9 (dk_at dksX0_read_1 12 rfl rfl)
theorem dX0_read_35 : decode cX0_read 35 = .ok (.invokestatic 294, 3) := dk_184 1 38 (dk_at dksX0_read_1 13 rfl rfl)
theorem dX0_read_38 : decode cX0_read 38 = .ok (.aload_n 0, 1) := dk_42 (dk_at dksX0_read_1 16 rfl rfl)
theorem dX0_read_39 : decode cX0_read 39 = .ok (.getfield 106, 3) := dk_180 0 106 (dk_at dksX0_read_1 17 rfl rfl)
theorem dX0_read_42 : decode cX0_read 42 = .ok (.iload 4, 2) := dk_21 4 (dk_at dksX0_read_1 20 rfl rfl)
theorem dX0_read_44 : decode cX0_read 44 = .ok (.putfield 7, 3) := dk_181 0 7 (dk_at dksX0_read_2 0 rfl rfl)
theorem dX0_read_47 : decode cX0_read 47 = .ok (.iconst 0, 1) := dk_3 (dk_at dksX0_read_2 3 rfl rfl)
theorem dX0_read_48 : decode cX0_read 48 = .ok (.istore 5, 2) := dk_54 5 (dk_at dksX0_read_2 4 rfl rfl)
theorem dX0_read_50 : decode cX0_read 50 = .ok (.iload 5, 2) := dk_21 5 (dk_at dksX0_read_2 6 rfl rfl)
theorem dX0_read_52 : decode cX0_read 52 = .ok (.iload 4, 2) := dk_21 4 (dk_at dksX0_read_2 8 rfl rfl)
theorem dX0_read_54 : decode cX0_read 54 = .ok (.if_icmp .ge 28, 3) := dk_162 0 28 (dk_at dksX0_read_2 10 rfl rfl)
theorem dX0_read_57 : decode cX0_read 57 = .ok (.aload_n 0, 1) := dk_42 (dk_at dksX0_read_2 13 rfl rfl)
theorem dX0_read_58 : decode cX0_read 58 = .ok (.getfield 106, 3) := dk_180 0 106 (dk_at dksX0_read_2 14 rfl rfl)
theorem dX0_read_61 : decode cX0_read 61 = .ok (.iload 5, 2) := dk_21 5 (dk_at dksX0_read_2 17 rfl rfl)
theorem dX0_read_63 : decode cX0_read 63 = .ok (.aload_n 0, 1) := dk_42 (dk_at dksX0_read_2 19 rfl rfl)
theorem dX0_read_64 : decode cX0_read 64 = .ok (.iload_n 1, 1) := dk_27 (dk_at dksX0_read_2 20 rfl rfl)
theorem dX0_read_65 : decode cX0_read 65 = .ok (.iload_n 2, 1) := dk_28 (dk_at dksX0_read_2 21 rfl rfl)
theorem dX0_read_66 : decode cX0_read 66 = .ok (.iload_n 3, 1) := dk_29 (dk_at dksX0_read_2 22 rfl rfl)
theorem dX0_read_67 : decode cX0_read 67 = .ok (.iload 5, 2) := dk_21 5 (dk_at dksX0_read_3 0 rfl rfl)
theorem dX0_read_69 : decode cX0_read 69 = .ok (.iadd, 1) := dk_96 (dk_at dksX0_read_3 2 rfl rfl)
theorem dX0_read_70 : decode cX0_read 70 = .ok (.invokevirtual 339, 3) := dk_182 1 83 (dk_at dksX0_read_3 3 rfl rfl)
theorem dX0_read_73 : decode cX0_read 73 = .ok (.invokevirtual 258, 3) := dk_182 1 2 (dk_at dksX0_read_3 6 rfl rfl)
theorem dX0_read_76 : decode cX0_read 76 = .ok (.iinc 5 1, 3) := dk_132 5 1 (dk_at dksX0_read_3 9 rfl rfl)
theorem dX0_read_79 : decode cX0_read 79 = .ok (.goto (-29), 3) := dk_167 255 227 (dk_at dksX0_read_3 12 rfl rfl)
theorem dX0_read_82 : decode cX0_read 82 = .ok (.goto 18, 3) := dk_167 0 18 (dk_at dksX0_read_3 15 rfl rfl)
theorem dX0_read_85 : decode cX0_read 85 = .ok (.astore 5, 2) := dk_58 5 (dk_at dksX0_read_3 18 rfl rfl)
theorem dX0_read_87 : decode cX0_read 87 = .ok (.bipush (-11), 2) := dk_16 245 (dk_at dksX0_read_3 20 rfl rfl)
theorem dX0_read_89 : decode cX0_read 89 = .ok (.ireturn, 1) := dk_172 (dk_at dksX0_read_3 22 rfl rfl)
theorem dX0_read_90 : decode cX0_read 90 = .ok (.astore 5, 2) := dk_58 5 (dk_at dksX0_read_4 0 rfl rfl)
theorem dX0_read_92 : decode cX0_read 92 = .ok (.bipush (-13), 2) := dk_16 243 (dk_at dksX0_read_4 2 rfl rfl)
theorem dX0_read_94 : decode cX0_read 94 = .ok (.ireturn, 1) := dk_172 (dk_at dksX0_read_4 4 rfl rfl)
theorem dX0_read_95 : decode cX0_read 95 = .ok (.astore 5, 2) := dk_58 5 (dk_at dksX0_read_4 5 rfl rfl)
theorem dX0_read_97 : decode cX0_read 97 = .ok (.bipush (-12), 2) := dk_16 244 (dk_at dksX0_read_4 7 rfl rfl)
theorem dX0_read_99 : decode cX0_read 99 = .ok (.ireturn, 1) := dk_172 (dk_at dksX0_read_4 9 rfl rfl)
theorem dX0_read_100 : decode cX0_read 100 = .ok (.aload_n 0, 1) := dk_42 (dk_at dksX0_read_4 10 rfl rfl)
theorem dX0_read_101 : decode cX0_read 101 = .ok (.invokevirtual 344, 3) := dk_182 1 88 (dk_at dksX0_read_4 11 rfl rfl)
theorem dX0_read_104 : decode cX0_read 104 = .ok (.ifCond .ne 6, 3) := dk_154 0 6 (dk_at dksX0_read_4 14 rfl rfl)
theorem dX0_read_107 : decode cX0_read 107 = .ok (.bipush (-2), 2) := dk_16 254 (dk_at dksX0_read_4 17 rfl rfl)
theorem dX0_read_109 : decode cX0_read 109 = .ok (.ireturn, 1) := dk_172 (dk_at dksX0_read_4 19 rfl rfl)
theorem dX0_read_110 : decode cX0_read 110 = .ok (.aload_n 0, 1) := dk_42 (dk_at dksX0_read_4 20 rfl rfl)
theorem dX0_read_111 : decode cX0_read 111 = .ok (.getfield 106, 3) := dk_180 0 106 (dk_at dksX0_read_4 21 rfl rfl)
theorem dX0_read_114 : decode cX0_read 114 = .ok (.invokevirtual 110, 3) := dk_182 0 110 (dk_at dksX0_read_5 0 rfl rfl)
theorem dX0_read_117 : decode cX0_read 117 = .ok (.aload_n 0, 1) := dk_42 (dk_at dksX0_read_5 3 rfl rfl)
theorem dX0_read_118 : decode cX0_read 118 = .ok (.getfield 1, 3) := dk_180 0 1 (dk_at dksX0_read_5 4 rfl rfl)
theorem dX0_read_121 : decode cX0_read 121 = .ok (.aload_n 0, 1) := dk_42 (dk_at dksX0_read_5 7 rfl rfl)
theorem dX0_read_122 : decode cX0_read 122 = .ok (.getfield 106, 3) := dk_180 0 106 (dk_at dksX0_read_5 8 rfl rfl)
theorem dX0_read_125 : decode cX0_read 125 = .ok (.invokevirtual 137, 3) := dk_182 0 137 (dk_at dksX0_read_5 11 rfl rfl)
theorem dX0_read_128 : decode cX0_read 128 = .ok (.aload_n 0, 1) := dk_42 (dk_at dksX0_read_5 14 rfl rfl)
theorem dX0_read_129 : decode cX0_read 129 = .ok (.invokevirtual 155, 3) := dk_182 0 155 (dk_at dksX0_read_5 15 rfl rfl)
theorem dX0_read_132 : decode cX0_read 132 = .ok (.ireturn, 1) := dk_172 (dk_at dksX0_read_5 18 rfl rfl)
abbrev cX0_isBit : ByteArray := prog_1_method_90_code
def yX0_isBit : MethodName := ⟨RX0, "isBit", "(III)Z"⟩
def dkwX0_isBit_3 : List UInt8 := [10, 127, 10, 148, 154, 0, 7, 4, 167, 0, 4, 3, 172]
abbrev dktX0_isBit_3 : List UInt8 := dkwX0_isBit_3 ++ []
def dkwX0_isBit_2 : List UInt8 := [46, 133, 167, 0, 11, 25, 4, 192, 1, 67, 21, 5, 47, 55, 6, 22, 6, 29, 28, 184, 1, 72, 112, 123]
abbrev dktX0_isBit_2 : List UInt8 := dkwX0_isBit_2 ++ dktX0_isBit_3
def dkwX0_isBit_1 : List UInt8 := [25, 4, 192, 1, 65, 21, 5, 51, 133, 167, 0, 28, 28, 4, 160, 0, 15, 25, 4, 192, 1, 66, 21, 5]
abbrev dktX0_isBit_1 : List UInt8 := dkwX0_isBit_1 ++ dktX0_isBit_2
def dkwX0_isBit_0 : List UInt8 := [42, 180, 0, 102, 27, 50, 180, 1, 59, 58, 4, 29, 28, 184, 1, 72, 108, 54, 5, 28, 154, 0, 15]
abbrev dktX0_isBit_0 : List UInt8 := dkwX0_isBit_0 ++ dktX0_isBit_1
theorem dksX0_isBit_0 : cX0_isBit.data.toList.drop 0 = dktX0_isBit_0 := by decide +kernel
theorem dksX0_isBit_1 : cX0_isBit.data.toList.drop 23 = dktX0_isBit_1 := dk_seg dksX0_isBit_0 23 rfl rfl
theorem dksX0_isBit_2 : cX0_isBit.data.toList.drop 47 = dktX0_isBit_2 := dk_seg dksX0_isBit_1 24 rfl rfl
theorem dksX0_isBit_3 : cX0_isBit.data.toList.drop 71 = dktX0_isBit_3 := dk_seg dksX0_isBit_2 24 rfl rfl
theorem dX0_isBit_0 : decode cX0_isBit 0 = .ok (.aload_n 0, 1) := dk_42 (dk_at dksX0_isBit_0 0 rfl rfl)
theorem dX0_isBit_1 : decode cX0_isBit 1 = .ok (.getfield 102, 3) := dk_180 0 102 (dk_at dksX0_isBit_0 1 rfl rfl)
theorem dX0_isBit_4 : decode cX0_isBit 4 = .ok (.iload_n 1, 1) := dk_27 (dk_at dksX0_isBit_0 4 rfl rfl)
theorem dX0_isBit_5 : decode cX0_isBit 5 = .ok (.aaload, 1) := dk_50 (dk_at dksX0_isBit_0 5 rfl rfl)
theorem dX0_isBit_6 : decode cX0_isBit 6 = .ok (.getfield 315, 3) := dk_180 1 59 (dk_at dksX0_isBit_0 6 rfl rfl)
theorem dX0_isBit_9 : decode cX0_isBit 9 = .ok (.astore 4, 2) := dk_58 4 (dk_at dksX0_isBit_0 9 rfl rfl)
theorem dX0_isBit_11 : decode cX0_isBit 11 = .ok (.iload_n 3, 1) := dk_29 (dk_at dksX0_isBit_0 11 rfl rfl)
theorem dX0_isBit_12 : decode cX0_isBit 12 = .ok (.iload_n 2, 1) := dk_28 (dk_at dksX0_isBit_0 12 rfl rfl)
theorem dX0_isBit_13 : decode cX0_isBit 13 = .ok (.invokestatic 328, 3) := dk_184 1 72 (dk_at dksX0_isBit_0 13 rfl rfl)
theorem dX0_isBit_16 : decode cX0_isBit 16 = .ok (.idiv, 1) := dk_108 (dk_at dksX0_isBit_0 16 rfl rfl)
theorem dX0_isBit_17 : decode cX0_isBit 17 = .ok (.istore 5, 2) := dk_54 5 (dk_at dksX0_isBit_0 17 rfl rfl)
theorem dX0_isBit_19 : decode cX0_isBit 19 = .ok (.iload_n 2, 1) := dk_28 (dk_at dksX0_isBit_0 19 rfl rfl)
theorem dX0_isBit_20 : decode cX0_isBit 20 = .ok (.ifCond .ne 15, 3) := dk_154 0 15 (dk_at dksX0_isBit_0 20 rfl rfl)
theorem dX0_isBit_23 : decode cX0_isBit 23 = .ok (.aload 4, 2) := dk_25 4 (dk_at dksX0_isBit_1 0 rfl rfl)
theorem dX0_isBit_25 : decode cX0_isBit 25 = .ok (.checkcast 321, 3) := dk_192 1 65 (dk_at dksX0_isBit_1 2 rfl rfl)
theorem dX0_isBit_28 : decode cX0_isBit 28 = .ok (.iload 5, 2) := dk_21 5 (dk_at dksX0_isBit_1 5 rfl rfl)
theorem dX0_isBit_30 : decode cX0_isBit 30 = .ok (.baload, 1) := dk_51 (dk_at dksX0_isBit_1 7 rfl rfl)
theorem dX0_isBit_31 : decode cX0_isBit 31 = .ok (.i2l, 1) := dk_133 (dk_at dksX0_isBit_1 8 rfl rfl)
theorem dX0_isBit_32 : decode cX0_isBit 32 = .ok (.goto 28, 3) := dk_167 0 28 (dk_at dksX0_isBit_1 9 rfl rfl)
theorem dX0_isBit_35 : decode cX0_isBit 35 = .ok (.iload_n 2, 1) := dk_28 (dk_at dksX0_isBit_1 12 rfl rfl)
theorem dX0_isBit_36 : decode cX0_isBit 36 = .ok (.iconst 1, 1) := dk_4 (dk_at dksX0_isBit_1 13 rfl rfl)
theorem dX0_isBit_37 : decode cX0_isBit 37 = .ok (.if_icmp .ne 15, 3) := dk_160 0 15 (dk_at dksX0_isBit_1 14 rfl rfl)
theorem dX0_isBit_40 : decode cX0_isBit 40 = .ok (.aload 4, 2) := dk_25 4 (dk_at dksX0_isBit_1 17 rfl rfl)
theorem dX0_isBit_42 : decode cX0_isBit 42 = .ok (.checkcast 322, 3) := dk_192 1 66 (dk_at dksX0_isBit_1 19 rfl rfl)
theorem dX0_isBit_45 : decode cX0_isBit 45 = .ok (.iload 5, 2) := dk_21 5 (dk_at dksX0_isBit_1 22 rfl rfl)
theorem dX0_isBit_47 : decode cX0_isBit 47 = .ok (.iaload, 1) := dk_46 (dk_at dksX0_isBit_2 0 rfl rfl)
theorem dX0_isBit_48 : decode cX0_isBit 48 = .ok (.i2l, 1) := dk_133 (dk_at dksX0_isBit_2 1 rfl rfl)
theorem dX0_isBit_49 : decode cX0_isBit 49 = .ok (.goto 11, 3) := dk_167 0 11 (dk_at dksX0_isBit_2 2 rfl rfl)
theorem dX0_isBit_52 : decode cX0_isBit 52 = .ok (.aload 4, 2) := dk_25 4 (dk_at dksX0_isBit_2 5 rfl rfl)
theorem dX0_isBit_54 : decode cX0_isBit 54 = .ok (.checkcast 323, 3) := dk_192 1 67 (dk_at dksX0_isBit_2 7 rfl rfl)
theorem dX0_isBit_57 : decode cX0_isBit 57 = .ok (.iload 5, 2) := dk_21 5 (dk_at dksX0_isBit_2 10 rfl rfl)
theorem dX0_isBit_59 : decode cX0_isBit 59 = .ok (.laload, 1) := dk_47 (dk_at dksX0_isBit_2 12 rfl rfl)
theorem dX0_isBit_60 : decode cX0_isBit 60 = .ok (.lstore 6, 2) := dk_55 6 (dk_at dksX0_isBit_2 13 rfl rfl)
theorem dX0_isBit_62 : decode cX0_isBit 62 = .ok (.lload 6, 2) := dk_22 6 (dk_at dksX0_isBit_2 15 rfl rfl)
theorem dX0_isBit_64 : decode cX0_isBit 64 = .ok (.iload_n 3, 1) := dk_29 (dk_at dksX0_isBit_2 17 rfl rfl)
theorem dX0_isBit_65 : decode cX0_isBit 65 = .ok (.iload_n 2, 1) := dk_28 (dk_at dksX0_isBit_2 18 rfl rfl)
theorem dX0_isBit_66 : decode cX0_isBit 66 = .ok (.invokestatic 328, 3) := dk_184 1 72 (dk_at dksX0_isBit_2 19 rfl rfl)
theorem dX0_isBit_69 : decode cX0_isBit 69 = .ok (.irem, 1) := dk_112 (dk_at dksX0_isBit_2 22 rfl rfl)
theorem dX0_isBit_70 : decode cX0_isBit 70 = .ok (.lshr, 1) := dk_123 (dk_at dksX0_isBit_2 23 rfl rfl)
theorem dX0_isBit_71 : decode cX0_isBit 71 = .ok (.lconst 1, 1) := dk_10 (dk_at dksX0_isBit_3 0 rfl rfl)
theorem dX0_isBit_72 : decode cX0_isBit 72 = .ok (.land, 1) := dk_127 (dk_at dksX0_isBit_3 1 rfl rfl)
theorem dX0_isBit_73 : decode cX0_isBit 73 = .ok (.lconst 1, 1) := dk_10 (dk_at dksX0_isBit_3 2 rfl rfl)
theorem dX0_isBit_74 : decode cX0_isBit 74 = .ok (.lcmp, 1) := dk_148 (dk_at dksX0_isBit_3 3 rfl rfl)
theorem dX0_isBit_75 : decode cX0_isBit 75 = .ok (.ifCond .ne 7, 3) := dk_154 0 7 (dk_at dksX0_isBit_3 4 rfl rfl)
theorem dX0_isBit_78 : decode cX0_isBit 78 = .ok (.iconst 1, 1) := dk_4 (dk_at dksX0_isBit_3 7 rfl rfl)
theorem dX0_isBit_79 : decode cX0_isBit 79 = .ok (.goto 4, 3) := dk_167 0 4 (dk_at dksX0_isBit_3 8 rfl rfl)
theorem dX0_isBit_82 : decode cX0_isBit 82 = .ok (.iconst 0, 1) := dk_3 (dk_at dksX0_isBit_3 11 rfl rfl)
theorem dX0_isBit_83 : decode cX0_isBit 83 = .ok (.ireturn, 1) := dk_172 (dk_at dksX0_isBit_3 12 rfl rfl)
abbrev cX0_bitsOf : ByteArray := prog_1_method_89_code
def yX0_bitsOf : MethodName := ⟨RX0, "bitsOf", "(I)I"⟩
def dkwX0_bitsOf_0 : List UInt8 := [26, 154, 0, 8, 16, 8, 167, 0, 15, 26, 4, 160, 0, 8, 16, 32, 167, 0, 5, 16, 64, 172]
abbrev dktX0_bitsOf_0 : List UInt8 := dkwX0_bitsOf_0 ++ []
theorem dksX0_bitsOf_0 : cX0_bitsOf.data.toList.drop 0 = dktX0_bitsOf_0 := by decide +kernel
theorem dX0_bitsOf_0 : decode cX0_bitsOf 0 = .ok (.iload_n 0, 1) := dk_26 (dk_at dksX0_bitsOf_0 0 rfl rfl)
theorem dX0_bitsOf_1 : decode cX0_bitsOf 1 = .ok (.ifCond .ne 8, 3) := dk_154 0 8 (dk_at dksX0_bitsOf_0 1 rfl rfl)
theorem dX0_bitsOf_4 : decode cX0_bitsOf 4 = .ok (.bipush 8, 2) := dk_16 8 (dk_at dksX0_bitsOf_0 4 rfl rfl)
theorem dX0_bitsOf_6 : decode cX0_bitsOf 6 = .ok (.goto 15, 3) := dk_167 0 15 (dk_at dksX0_bitsOf_0 6 rfl rfl)
theorem dX0_bitsOf_9 : decode cX0_bitsOf 9 = .ok (.iload_n 0, 1) := dk_26 (dk_at dksX0_bitsOf_0 9 rfl rfl)
theorem dX0_bitsOf_10 : decode cX0_bitsOf 10 = .ok (.iconst 1, 1) := dk_4 (dk_at dksX0_bitsOf_0 10 rfl rfl)
theorem dX0_bitsOf_11 : decode cX0_bitsOf 11 = .ok (.if_icmp .ne 8, 3) := dk_160 0 8 (dk_at dksX0_bitsOf_0 11 rfl rfl)
theorem dX0_bitsOf_14 : decode cX0_bitsOf 14 = .ok (.bipush 32, 2) := dk_16 32 (dk_at dksX0_bitsOf_0 14 rfl rfl)
theorem dX0_bitsOf_16 : decode cX0_bitsOf 16 = .ok (.goto 5, 3) := dk_167 0 5 (dk_at dksX0_bitsOf_0 16 rfl rfl)
theorem dX0_bitsOf_19 : decode cX0_bitsOf 19 = .ok (.bipush 64, 2) := dk_16 64 (dk_at dksX0_bitsOf_0 19 rfl rfl)
theorem dX0_bitsOf_21 : decode cX0_bitsOf 21 = .ok (.ireturn, 1) := dk_172 (dk_at dksX0_bitsOf_0 21 rfl rfl)
abbrev cX0_isTree : ByteArray := prog_1_method_92_code
def yX0_isTree : MethodName := ⟨RX0, "isTree", "()Z"⟩
def dkwX0_isTree_2 : List UInt8 := [167, 255, 215, 28, 153, 0, 11, 27, 154, 0, 7, 4, 167, 0, 4, 3, 172]
abbrev dktX0_isTree_2 : List UInt8 := dkwX0_isTree_2 ++ []
def dkwX0_isTree_1 : List UInt8 := [158, 0, 7, 4, 167, 0, 4, 3, 126, 61, 27, 42, 180, 0, 106, 29, 182, 0, 19, 96, 60, 132, 3, 1]
abbrev dktX0_isTree_1 : List UInt8 := dkwX0_isTree_1 ++ dktX0_isTree_2
def dkwX0_isTree_0 : List UInt8 := [3, 60, 4, 61, 3, 62, 29, 42, 180, 0, 106, 180, 0, 7, 162, 0, 36, 28, 29, 153, 0, 7, 27]
abbrev dktX0_isTree_0 : List UInt8 := dkwX0_isTree_0 ++ dktX0_isTree_1
theorem dksX0_isTree_0 : cX0_isTree.data.toList.drop 0 = dktX0_isTree_0 := by decide +kernel
theorem dksX0_isTree_1 : cX0_isTree.data.toList.drop 23 = dktX0_isTree_1 := dk_seg dksX0_isTree_0 23 rfl rfl
theorem dksX0_isTree_2 : cX0_isTree.data.toList.drop 47 = dktX0_isTree_2 := dk_seg dksX0_isTree_1 24 rfl rfl
theorem dX0_isTree_0 : decode cX0_isTree 0 = .ok (.iconst 0, 1) := dk_3 (dk_at dksX0_isTree_0 0 rfl rfl)
theorem dX0_isTree_1 : decode cX0_isTree 1 = .ok (.istore_n 1, 1) := dk_60 (dk_at dksX0_isTree_0 1 rfl rfl)
theorem dX0_isTree_2 : decode cX0_isTree 2 = .ok (.iconst 1, 1) := dk_4 (dk_at dksX0_isTree_0 2 rfl rfl)
theorem dX0_isTree_3 : decode cX0_isTree 3 = .ok (.istore_n 2, 1) := dk_61 (dk_at dksX0_isTree_0 3 rfl rfl)
theorem dX0_isTree_4 : decode cX0_isTree 4 = .ok (.iconst 0, 1) := dk_3 (dk_at dksX0_isTree_0 4 rfl rfl)
theorem dX0_isTree_5 : decode cX0_isTree 5 = .ok (.istore_n 3, 1) := dk_62 (dk_at dksX0_isTree_0 5 rfl rfl)
theorem dX0_isTree_6 : decode cX0_isTree 6 = .ok (.iload_n 3, 1) := dk_29 (dk_at dksX0_isTree_0 6 rfl rfl)
theorem dX0_isTree_7 : decode cX0_isTree 7 = .ok (.aload_n 0, 1) := dk_42 (dk_at dksX0_isTree_0 7 rfl rfl)
theorem dX0_isTree_8 : decode cX0_isTree 8 = .ok (.getfield 106, 3) := dk_180 0 106 (dk_at dksX0_isTree_0 8 rfl rfl)
theorem dX0_isTree_11 : decode cX0_isTree 11 = .ok (.getfield 7, 3) := dk_180 0 7 (dk_at dksX0_isTree_0 11 rfl rfl)
theorem dX0_isTree_14 : decode cX0_isTree 14 = .ok (.if_icmp .ge 36, 3) := dk_162 0 36 (dk_at dksX0_isTree_0 14 rfl rfl)
theorem dX0_isTree_17 : decode cX0_isTree 17 = .ok (.iload_n 2, 1) := dk_28 (dk_at dksX0_isTree_0 17 rfl rfl)
theorem dX0_isTree_18 : decode cX0_isTree 18 = .ok (.iload_n 3, 1) := dk_29 (dk_at dksX0_isTree_0 18 rfl rfl)
theorem dX0_isTree_19 : decode cX0_isTree 19 = .ok (.ifCond .eq 7, 3) := dk_153 0 7 (dk_at dksX0_isTree_0 19 rfl rfl)
theorem dX0_isTree_22 : decode cX0_isTree 22 = .ok (.iload_n 1, 1) := dk_27 (dk_at dksX0_isTree_0 22 rfl rfl)
theorem dX0_isTree_23 : decode cX0_isTree 23 = .ok (.ifCond .le 7, 3) := dk_158 0 7 (dk_at dksX0_isTree_1 0 rfl rfl)
theorem dX0_isTree_26 : decode cX0_isTree 26 = .ok (.iconst 1, 1) := dk_4 (dk_at dksX0_isTree_1 3 rfl rfl)
theorem dX0_isTree_27 : decode cX0_isTree 27 = .ok (.goto 4, 3) := dk_167 0 4 (dk_at dksX0_isTree_1 4 rfl rfl)
theorem dX0_isTree_30 : decode cX0_isTree 30 = .ok (.iconst 0, 1) := dk_3 (dk_at dksX0_isTree_1 7 rfl rfl)
theorem dX0_isTree_31 : decode cX0_isTree 31 = .ok (.iand, 1) := dk_126 (dk_at dksX0_isTree_1 8 rfl rfl)
theorem dX0_isTree_32 : decode cX0_isTree 32 = .ok (.istore_n 2, 1) := dk_61 (dk_at dksX0_isTree_1 9 rfl rfl)
theorem dX0_isTree_33 : decode cX0_isTree 33 = .ok (.iload_n 1, 1) := dk_27 (dk_at dksX0_isTree_1 10 rfl rfl)
theorem dX0_isTree_34 : decode cX0_isTree 34 = .ok (.aload_n 0, 1) := dk_42 (dk_at dksX0_isTree_1 11 rfl rfl)
theorem dX0_isTree_35 : decode cX0_isTree 35 = .ok (.getfield 106, 3) := dk_180 0 106 (dk_at dksX0_isTree_1 12 rfl rfl)
theorem dX0_isTree_38 : decode cX0_isTree 38 = .ok (.iload_n 3, 1) := dk_29 (dk_at dksX0_isTree_1 15 rfl rfl)
theorem dX0_isTree_39 : decode cX0_isTree 39 = .ok (.invokevirtual 19, 3) := dk_182 0 19 (dk_at dksX0_isTree_1 16 rfl rfl)
theorem dX0_isTree_42 : decode cX0_isTree 42 = .ok (.iadd, 1) := dk_96 (dk_at dksX0_isTree_1 19 rfl rfl)
theorem dX0_isTree_43 : decode cX0_isTree 43 = .ok (.istore_n 1, 1) := dk_60 (dk_at dksX0_isTree_1 20 rfl rfl)
theorem dX0_isTree_44 : decode cX0_isTree 44 = .ok (.iinc 3 1, 3) := dk_132 3 1 (dk_at dksX0_isTree_1 21 rfl rfl)
theorem dX0_isTree_47 : decode cX0_isTree 47 = .ok (.goto (-41), 3) := dk_167 255 215 (dk_at dksX0_isTree_2 0 rfl rfl)
theorem dX0_isTree_50 : decode cX0_isTree 50 = .ok (.iload_n 2, 1) := dk_28 (dk_at dksX0_isTree_2 3 rfl rfl)
theorem dX0_isTree_51 : decode cX0_isTree 51 = .ok (.ifCond .eq 11, 3) := dk_153 0 11 (dk_at dksX0_isTree_2 4 rfl rfl)
theorem dX0_isTree_54 : decode cX0_isTree 54 = .ok (.iload_n 1, 1) := dk_27 (dk_at dksX0_isTree_2 7 rfl rfl)
theorem dX0_isTree_55 : decode cX0_isTree 55 = .ok (.ifCond .ne 7, 3) := dk_154 0 7 (dk_at dksX0_isTree_2 8 rfl rfl)
theorem dX0_isTree_58 : decode cX0_isTree 58 = .ok (.iconst 1, 1) := dk_4 (dk_at dksX0_isTree_2 11 rfl rfl)
theorem dX0_isTree_59 : decode cX0_isTree 59 = .ok (.goto 4, 3) := dk_167 0 4 (dk_at dksX0_isTree_2 12 rfl rfl)
theorem dX0_isTree_62 : decode cX0_isTree 62 = .ok (.iconst 0, 1) := dk_3 (dk_at dksX0_isTree_2 15 rfl rfl)
theorem dX0_isTree_63 : decode cX0_isTree 63 = .ok (.ireturn, 1) := dk_172 (dk_at dksX0_isTree_2 16 rfl rfl)
abbrev cX0_stow : ByteArray := prog_1_method_94_code
def yX0_stow : MethodName := ⟨RX0, "stow", "(III)I"⟩
def dkwX0_stow_5 : List UInt8 := [181, 1, 96, 25, 7, 191, 21, 5, 172]
abbrev dktX0_stow_5 : List UInt8 := dkwX0_stow_5 ++ []
def dkwX0_stow_4 : List UInt8 := [167, 0, 28, 58, 6, 5, 54, 4, 42, 21, 4, 181, 1, 96, 167, 0, 14, 58, 7, 42, 21, 4]
abbrev dktX0_stow_4 : List UInt8 := dkwX0_stow_4 ++ dktX0_stow_5
def dkwX0_stow_3 : List UInt8 := [54, 4, 42, 21, 4, 181, 1, 96, 167, 0, 42, 58, 6, 6, 54, 4, 42, 21, 4, 181, 1, 96]
abbrev dktX0_stow_3 : List UInt8 := dkwX0_stow_3 ++ dktX0_stow_4
def dkwX0_stow_2 : List UInt8 := [182, 0, 42, 182, 1, 92, 132, 5, 1, 167, 255, 222, 42, 21, 4, 181, 1, 96, 167, 0, 56, 58, 6, 4]
abbrev dktX0_stow_2 : List UInt8 := dkwX0_stow_2 ++ dktX0_stow_3
def dkwX0_stow_1 : List UInt8 := [180, 0, 1, 180, 0, 7, 162, 0, 28, 42, 27, 28, 29, 21, 5, 96, 42, 180, 0, 1, 21, 5]
abbrev dktX0_stow_1 : List UInt8 := dkwX0_stow_1 ++ dktX0_stow_2
def dkwX0_stow_0 : List UInt8 := [27, 28, 184, 1, 56, 153, 0, 7, 29, 156, 0, 5, 2, 172, 3, 54, 4, 3, 54, 5, 21, 5, 42]
abbrev dktX0_stow_0 : List UInt8 := dkwX0_stow_0 ++ dktX0_stow_1
theorem dksX0_stow_0 : cX0_stow.data.toList.drop 0 = dktX0_stow_0 := by decide +kernel
theorem dksX0_stow_1 : cX0_stow.data.toList.drop 23 = dktX0_stow_1 := dk_seg dksX0_stow_0 23 rfl rfl
theorem dksX0_stow_2 : cX0_stow.data.toList.drop 45 = dktX0_stow_2 := dk_seg dksX0_stow_1 22 rfl rfl
theorem dksX0_stow_3 : cX0_stow.data.toList.drop 69 = dktX0_stow_3 := dk_seg dksX0_stow_2 24 rfl rfl
theorem dksX0_stow_4 : cX0_stow.data.toList.drop 91 = dktX0_stow_4 := dk_seg dksX0_stow_3 22 rfl rfl
theorem dksX0_stow_5 : cX0_stow.data.toList.drop 113 = dktX0_stow_5 := dk_seg dksX0_stow_4 22 rfl rfl
theorem dX0_stow_0 : decode cX0_stow 0 = .ok (.iload_n 1, 1) := dk_27 (dk_at dksX0_stow_0 0 rfl rfl)
theorem dX0_stow_1 : decode cX0_stow 1 = .ok (.iload_n 2, 1) := dk_28 (dk_at dksX0_stow_0 1 rfl rfl)
theorem dX0_stow_2 : decode cX0_stow 2 = .ok (.invokestatic 312, 3) := dk_184 1 56 (dk_at dksX0_stow_0 2 rfl rfl)
theorem dX0_stow_5 : decode cX0_stow 5 = .ok (.ifCond .eq 7, 3) := dk_153 0 7 (dk_at dksX0_stow_0 5 rfl rfl)
theorem dX0_stow_8 : decode cX0_stow 8 = .ok (.iload_n 3, 1) := dk_29 (dk_at dksX0_stow_0 8 rfl rfl)
theorem dX0_stow_9 : decode cX0_stow 9 = .ok (.ifCond .ge 5, 3) := dk_156 0 5 (dk_at dksX0_stow_0 9 rfl rfl)
theorem dX0_stow_12 : decode cX0_stow 12 = .ok (.iconst (-1), 1) := dk_2 (dk_at dksX0_stow_0 12 rfl rfl)
theorem dX0_stow_13 : decode cX0_stow 13 = .ok (.ireturn, 1) := dk_172 (dk_at dksX0_stow_0 13 rfl rfl)
theorem dX0_stow_14 : decode cX0_stow 14 = .ok (.iconst 0, 1) := dk_3 (dk_at dksX0_stow_0 14 rfl rfl)
theorem dX0_stow_15 : decode cX0_stow 15 = .ok (.istore 4, 2) := dk_54 4 (dk_at dksX0_stow_0 15 rfl rfl)
theorem dX0_stow_17 : decode cX0_stow 17 = .ok (.iconst 0, 1) := dk_3 (dk_at dksX0_stow_0 17 rfl rfl)
theorem dX0_stow_18 : decode cX0_stow 18 = .ok (.istore 5, 2) := dk_54 5 (dk_at dksX0_stow_0 18 rfl rfl)
theorem dX0_stow_20 : decode cX0_stow 20 = .ok (.iload 5, 2) := dk_21 5 (dk_at dksX0_stow_0 20 rfl rfl)
theorem dX0_stow_22 : decode cX0_stow 22 = .ok (.aload_n 0, 1) := dk_42 (dk_at dksX0_stow_0 22 rfl rfl)
theorem dX0_stow_23 : decode cX0_stow 23 = .ok (.getfield 1, 3) := dk_180 0 1 (dk_at dksX0_stow_1 0 rfl rfl)
theorem dX0_stow_26 : decode cX0_stow 26 = .ok (.getfield 7, 3) := dk_180 0 7 (dk_at dksX0_stow_1 3 rfl rfl)
theorem dX0_stow_29 : decode cX0_stow 29 = .ok (.if_icmp .ge 28, 3) := dk_162 0 28 (dk_at dksX0_stow_1 6 rfl rfl)
theorem dX0_stow_32 : decode cX0_stow 32 = .ok (.aload_n 0, 1) := dk_42 (dk_at dksX0_stow_1 9 rfl rfl)
theorem dX0_stow_33 : decode cX0_stow 33 = .ok (.iload_n 1, 1) := dk_27 (dk_at dksX0_stow_1 10 rfl rfl)
theorem dX0_stow_34 : decode cX0_stow 34 = .ok (.iload_n 2, 1) := dk_28 (dk_at dksX0_stow_1 11 rfl rfl)
theorem dX0_stow_35 : decode cX0_stow 35 = .ok (.iload_n 3, 1) := dk_29 (dk_at dksX0_stow_1 12 rfl rfl)
theorem dX0_stow_36 : decode cX0_stow 36 = .ok (.iload 5, 2) := dk_21 5 (dk_at dksX0_stow_1 13 rfl rfl)
theorem dX0_stow_38 : decode cX0_stow 38 = .ok (.iadd, 1) := dk_96 (dk_at dksX0_stow_1 15 rfl rfl)
theorem dX0_stow_39 : decode cX0_stow 39 = .ok (.aload_n 0, 1) := dk_42 (dk_at dksX0_stow_1 16 rfl rfl)
theorem dX0_stow_40 : decode cX0_stow 40 = .ok (.getfield 1, 3) := dk_180 0 1 (dk_at dksX0_stow_1 17 rfl rfl)
theorem dX0_stow_43 : decode cX0_stow 43 = .ok (.iload 5, 2) := dk_21 5 (dk_at dksX0_stow_1 20 rfl rfl)
theorem dX0_stow_45 : decode cX0_stow 45 = .ok (.invokevirtual 42, 3) := dk_182 0 42 (dk_at dksX0_stow_2 0 rfl rfl)
theorem dX0_stow_48 : decode cX0_stow 48 = .ok (.invokevirtual 348, 3) := dk_182 1 92 (dk_at dksX0_stow_2 3 rfl rfl)
theorem dX0_stow_51 : decode cX0_stow 51 = .ok (.iinc 5 1, 3) := dk_132 5 1 (dk_at dksX0_stow_2 6 rfl rfl)
theorem dX0_stow_54 : decode cX0_stow 54 = .ok (.goto (-34), 3) := dk_167 255 222 (dk_at dksX0_stow_2 9 rfl rfl)
theorem dX0_stow_57 : decode cX0_stow 57 = .ok (.aload_n 0, 1) := dk_42 (dk_at dksX0_stow_2 12 rfl rfl)
theorem dX0_stow_58 : decode cX0_stow 58 = .ok (.iload 4, 2) := dk_21 4 (dk_at dksX0_stow_2 13 rfl rfl)
theorem dX0_stow_60 : decode cX0_stow 60 = .ok (.putfield 352, 3) := dk_181 1 96 (dk_at dksX0_stow_2 15 rfl rfl)
theorem dX0_stow_63 : decode cX0_stow 63 = .ok (.goto 56, 3) := dk_167 0 56 (dk_at dksX0_stow_2 18 rfl rfl)
theorem dX0_stow_66 : decode cX0_stow 66 = .ok (.astore 6, 2) := dk_58 6 (dk_at dksX0_stow_2 21 rfl rfl)
theorem dX0_stow_68 : decode cX0_stow 68 = .ok (.iconst 1, 1) := dk_4 (dk_at dksX0_stow_2 23 rfl rfl)
theorem dX0_stow_69 : decode cX0_stow 69 = .ok (.istore 4, 2) := dk_54 4 (dk_at dksX0_stow_3 0 rfl rfl)
theorem dX0_stow_71 : decode cX0_stow 71 = .ok (.aload_n 0, 1) := dk_42 (dk_at dksX0_stow_3 2 rfl rfl)
theorem dX0_stow_72 : decode cX0_stow 72 = .ok (.iload 4, 2) := dk_21 4 (dk_at dksX0_stow_3 3 rfl rfl)
theorem dX0_stow_74 : decode cX0_stow 74 = .ok (.putfield 352, 3) := dk_181 1 96 (dk_at dksX0_stow_3 5 rfl rfl)
theorem dX0_stow_77 : decode cX0_stow 77 = .ok (.goto 42, 3) := dk_167 0 42 (dk_at dksX0_stow_3 8 rfl rfl)
theorem dX0_stow_80 : decode cX0_stow 80 = .ok (.astore 6, 2) := dk_58 6 (dk_at dksX0_stow_3 11 rfl rfl)
theorem dX0_stow_82 : decode cX0_stow 82 = .ok (.iconst 3, 1) := dk_6 (dk_at dksX0_stow_3 13 rfl rfl)
theorem dX0_stow_83 : decode cX0_stow 83 = .ok (.istore 4, 2) := dk_54 4 (dk_at dksX0_stow_3 14 rfl rfl)
theorem dX0_stow_85 : decode cX0_stow 85 = .ok (.aload_n 0, 1) := dk_42 (dk_at dksX0_stow_3 16 rfl rfl)
theorem dX0_stow_86 : decode cX0_stow 86 = .ok (.iload 4, 2) := dk_21 4 (dk_at dksX0_stow_3 17 rfl rfl)
theorem dX0_stow_88 : decode cX0_stow 88 = .ok (.putfield 352, 3) := dk_181 1 96 (dk_at dksX0_stow_3 19 rfl rfl)
theorem dX0_stow_91 : decode cX0_stow 91 = .ok (.goto 28, 3) := dk_167 0 28 (dk_at dksX0_stow_4 0 rfl rfl)
theorem dX0_stow_94 : decode cX0_stow 94 = .ok (.astore 6, 2) := dk_58 6 (dk_at dksX0_stow_4 3 rfl rfl)
theorem dX0_stow_96 : decode cX0_stow 96 = .ok (.iconst 2, 1) := dk_5 (dk_at dksX0_stow_4 5 rfl rfl)
theorem dX0_stow_97 : decode cX0_stow 97 = .ok (.istore 4, 2) := dk_54 4 (dk_at dksX0_stow_4 6 rfl rfl)
theorem dX0_stow_99 : decode cX0_stow 99 = .ok (.aload_n 0, 1) := dk_42 (dk_at dksX0_stow_4 8 rfl rfl)
theorem dX0_stow_100 : decode cX0_stow 100 = .ok (.iload 4, 2) := dk_21 4 (dk_at dksX0_stow_4 9 rfl rfl)
theorem dX0_stow_102 : decode cX0_stow 102 = .ok (.putfield 352, 3) := dk_181 1 96 (dk_at dksX0_stow_4 11 rfl rfl)
theorem dX0_stow_105 : decode cX0_stow 105 = .ok (.goto 14, 3) := dk_167 0 14 (dk_at dksX0_stow_4 14 rfl rfl)
theorem dX0_stow_108 : decode cX0_stow 108 = .ok (.astore 7, 2) := dk_58 7 (dk_at dksX0_stow_4 17 rfl rfl)
theorem dX0_stow_110 : decode cX0_stow 110 = .ok (.aload_n 0, 1) := dk_42 (dk_at dksX0_stow_4 19 rfl rfl)
theorem dX0_stow_111 : decode cX0_stow 111 = .ok (.iload 4, 2) := dk_21 4 (dk_at dksX0_stow_4 20 rfl rfl)
theorem dX0_stow_113 : decode cX0_stow 113 = .ok (.putfield 352, 3) := dk_181 1 96 (dk_at dksX0_stow_5 0 rfl rfl)
theorem dX0_stow_116 : decode cX0_stow 116 = .ok (.aload 7, 2) := dk_25 7 (dk_at dksX0_stow_5 3 rfl rfl)
theorem dX0_stow_118 : decode cX0_stow 118 = .ok (.athrow, 1) := dk_191 (dk_at dksX0_stow_5 5 rfl rfl)
theorem dX0_stow_119 : decode cX0_stow 119 = .ok (.iload 5, 2) := dk_21 5 (dk_at dksX0_stow_5 6 rfl rfl)
theorem dX0_stow_121 : decode cX0_stow 121 = .ok (.ireturn, 1) := dk_172 (dk_at dksX0_stow_5 8 rfl rfl)
abbrev cX0_bitBecomes : ByteArray := prog_1_method_91_code
def yX0_bitBecomes : MethodName := ⟨RX0, "bitBecomes", "(IIIZ)V"⟩
def dkwX0_bitBecomes_4 : List UInt8 := [20, 1, 75, 131, 127, 182, 1, 77, 87, 177]
abbrev dktX0_bitBecomes_4 : List UInt8 := dkwX0_bitBecomes_4 ++ []
def dkwX0_bitBecomes_3 : List UInt8 := [55, 9, 42, 27, 21, 6, 21, 4, 153, 0, 11, 22, 7, 22, 9, 129, 167, 0, 12, 22, 7, 22, 9]
abbrev dktX0_bitBecomes_3 : List UInt8 := dkwX0_bitBecomes_3 ++ dktX0_bitBecomes_4
def dkwX0_bitBecomes_2 : List UInt8 := [46, 133, 167, 0, 11, 25, 5, 192, 1, 67, 21, 6, 47, 55, 7, 10, 29, 28, 184, 1, 72, 112, 121]
abbrev dktX0_bitBecomes_2 : List UInt8 := dkwX0_bitBecomes_2 ++ dktX0_bitBecomes_3
def dkwX0_bitBecomes_1 : List UInt8 := [25, 5, 192, 1, 65, 21, 6, 51, 133, 167, 0, 28, 28, 4, 160, 0, 15, 25, 5, 192, 1, 66, 21, 6]
abbrev dktX0_bitBecomes_1 : List UInt8 := dkwX0_bitBecomes_1 ++ dktX0_bitBecomes_2
def dkwX0_bitBecomes_0 : List UInt8 := [42, 180, 0, 102, 27, 50, 180, 1, 59, 58, 5, 29, 28, 184, 1, 72, 108, 54, 6, 28, 154, 0, 15]
abbrev dktX0_bitBecomes_0 : List UInt8 := dkwX0_bitBecomes_0 ++ dktX0_bitBecomes_1
theorem dksX0_bitBecomes_0 : cX0_bitBecomes.data.toList.drop 0 = dktX0_bitBecomes_0 := by decide +kernel
theorem dksX0_bitBecomes_1 : cX0_bitBecomes.data.toList.drop 23 = dktX0_bitBecomes_1 := dk_seg dksX0_bitBecomes_0 23 rfl rfl
theorem dksX0_bitBecomes_2 : cX0_bitBecomes.data.toList.drop 47 = dktX0_bitBecomes_2 := dk_seg dksX0_bitBecomes_1 24 rfl rfl
theorem dksX0_bitBecomes_3 : cX0_bitBecomes.data.toList.drop 70 = dktX0_bitBecomes_3 := dk_seg dksX0_bitBecomes_2 23 rfl rfl
theorem dksX0_bitBecomes_4 : cX0_bitBecomes.data.toList.drop 93 = dktX0_bitBecomes_4 := dk_seg dksX0_bitBecomes_3 23 rfl rfl
theorem dX0_bitBecomes_0 : decode cX0_bitBecomes 0 = .ok (.aload_n 0, 1) := dk_42 (dk_at dksX0_bitBecomes_0 0 rfl rfl)
theorem dX0_bitBecomes_1 : decode cX0_bitBecomes 1 = .ok (.getfield 102, 3) := dk_180 0 102 (dk_at dksX0_bitBecomes_0 1 rfl rfl)
theorem dX0_bitBecomes_4 : decode cX0_bitBecomes 4 = .ok (.iload_n 1, 1) := dk_27 (dk_at dksX0_bitBecomes_0 4 rfl rfl)
theorem dX0_bitBecomes_5 : decode cX0_bitBecomes 5 = .ok (.aaload, 1) := dk_50 (dk_at dksX0_bitBecomes_0 5 rfl rfl)
theorem dX0_bitBecomes_6 : decode cX0_bitBecomes 6 = .ok (.getfield 315, 3) := dk_180 1 59 (dk_at dksX0_bitBecomes_0 6 rfl rfl)
theorem dX0_bitBecomes_9 : decode cX0_bitBecomes 9 = .ok (.astore 5, 2) := dk_58 5 (dk_at dksX0_bitBecomes_0 9 rfl rfl)
theorem dX0_bitBecomes_11 : decode cX0_bitBecomes 11 = .ok (.iload_n 3, 1) := dk_29 (dk_at dksX0_bitBecomes_0 11 rfl rfl)
theorem dX0_bitBecomes_12 : decode cX0_bitBecomes 12 = .ok (.iload_n 2, 1) := dk_28 (dk_at dksX0_bitBecomes_0 12 rfl rfl)
theorem dX0_bitBecomes_13 : decode cX0_bitBecomes 13 = .ok (.invokestatic 328, 3) := dk_184 1 72 (dk_at dksX0_bitBecomes_0 13 rfl rfl)
theorem dX0_bitBecomes_16 : decode cX0_bitBecomes 16 = .ok (.idiv, 1) := dk_108 (dk_at dksX0_bitBecomes_0 16 rfl rfl)
theorem dX0_bitBecomes_17 : decode cX0_bitBecomes 17 = .ok (.istore 6, 2) := dk_54 6 (dk_at dksX0_bitBecomes_0 17 rfl rfl)
theorem dX0_bitBecomes_19 : decode cX0_bitBecomes 19 = .ok (.iload_n 2, 1) := dk_28 (dk_at dksX0_bitBecomes_0 19 rfl rfl)
theorem dX0_bitBecomes_20 : decode cX0_bitBecomes 20 = .ok (.ifCond .ne 15, 3) := dk_154 0 15 (dk_at dksX0_bitBecomes_0 20 rfl rfl)
theorem dX0_bitBecomes_23 : decode cX0_bitBecomes 23 = .ok (.aload 5, 2) := dk_25 5 (dk_at dksX0_bitBecomes_1 0 rfl rfl)
theorem dX0_bitBecomes_25 : decode cX0_bitBecomes 25 = .ok (.checkcast 321, 3) := dk_192 1 65 (dk_at dksX0_bitBecomes_1 2 rfl rfl)
theorem dX0_bitBecomes_28 : decode cX0_bitBecomes 28 = .ok (.iload 6, 2) := dk_21 6 (dk_at dksX0_bitBecomes_1 5 rfl rfl)
theorem dX0_bitBecomes_30 : decode cX0_bitBecomes 30 = .ok (.baload, 1) := dk_51 (dk_at dksX0_bitBecomes_1 7 rfl rfl)
theorem dX0_bitBecomes_31 : decode cX0_bitBecomes 31 = .ok (.i2l, 1) := dk_133 (dk_at dksX0_bitBecomes_1 8 rfl rfl)
theorem dX0_bitBecomes_32 : decode cX0_bitBecomes 32 = .ok (.goto 28, 3) := dk_167 0 28 (dk_at dksX0_bitBecomes_1 9 rfl rfl)
theorem dX0_bitBecomes_35 : decode cX0_bitBecomes 35 = .ok (.iload_n 2, 1) := dk_28 (dk_at dksX0_bitBecomes_1 12 rfl rfl)
theorem dX0_bitBecomes_36 : decode cX0_bitBecomes 36 = .ok (.iconst 1, 1) := dk_4 (dk_at dksX0_bitBecomes_1 13 rfl rfl)
theorem dX0_bitBecomes_37 : decode cX0_bitBecomes 37 = .ok (.if_icmp .ne 15, 3) := dk_160 0 15 (dk_at dksX0_bitBecomes_1 14 rfl rfl)
theorem dX0_bitBecomes_40 : decode cX0_bitBecomes 40 = .ok (.aload 5, 2) := dk_25 5 (dk_at dksX0_bitBecomes_1 17 rfl rfl)
theorem dX0_bitBecomes_42 : decode cX0_bitBecomes 42 = .ok (.checkcast 322, 3) := dk_192 1 66 (dk_at dksX0_bitBecomes_1 19 rfl rfl)
theorem dX0_bitBecomes_45 : decode cX0_bitBecomes 45 = .ok (.iload 6, 2) := dk_21 6 (dk_at dksX0_bitBecomes_1 22 rfl rfl)
theorem dX0_bitBecomes_47 : decode cX0_bitBecomes 47 = .ok (.iaload, 1) := dk_46 (dk_at dksX0_bitBecomes_2 0 rfl rfl)
theorem dX0_bitBecomes_48 : decode cX0_bitBecomes 48 = .ok (.i2l, 1) := dk_133 (dk_at dksX0_bitBecomes_2 1 rfl rfl)
theorem dX0_bitBecomes_49 : decode cX0_bitBecomes 49 = .ok (.goto 11, 3) := dk_167 0 11 (dk_at dksX0_bitBecomes_2 2 rfl rfl)
theorem dX0_bitBecomes_52 : decode cX0_bitBecomes 52 = .ok (.aload 5, 2) := dk_25 5 (dk_at dksX0_bitBecomes_2 5 rfl rfl)
theorem dX0_bitBecomes_54 : decode cX0_bitBecomes 54 = .ok (.checkcast 323, 3) := dk_192 1 67 (dk_at dksX0_bitBecomes_2 7 rfl rfl)
theorem dX0_bitBecomes_57 : decode cX0_bitBecomes 57 = .ok (.iload 6, 2) := dk_21 6 (dk_at dksX0_bitBecomes_2 10 rfl rfl)
theorem dX0_bitBecomes_59 : decode cX0_bitBecomes 59 = .ok (.laload, 1) := dk_47 (dk_at dksX0_bitBecomes_2 12 rfl rfl)
theorem dX0_bitBecomes_60 : decode cX0_bitBecomes 60 = .ok (.lstore 7, 2) := dk_55 7 (dk_at dksX0_bitBecomes_2 13 rfl rfl)
theorem dX0_bitBecomes_62 : decode cX0_bitBecomes 62 = .ok (.lconst 1, 1) := dk_10 (dk_at dksX0_bitBecomes_2 15 rfl rfl)
theorem dX0_bitBecomes_63 : decode cX0_bitBecomes 63 = .ok (.iload_n 3, 1) := dk_29 (dk_at dksX0_bitBecomes_2 16 rfl rfl)
theorem dX0_bitBecomes_64 : decode cX0_bitBecomes 64 = .ok (.iload_n 2, 1) := dk_28 (dk_at dksX0_bitBecomes_2 17 rfl rfl)
theorem dX0_bitBecomes_65 : decode cX0_bitBecomes 65 = .ok (.invokestatic 328, 3) := dk_184 1 72 (dk_at dksX0_bitBecomes_2 18 rfl rfl)
theorem dX0_bitBecomes_68 : decode cX0_bitBecomes 68 = .ok (.irem, 1) := dk_112 (dk_at dksX0_bitBecomes_2 21 rfl rfl)
theorem dX0_bitBecomes_69 : decode cX0_bitBecomes 69 = .ok (.lshl, 1) := dk_121 (dk_at dksX0_bitBecomes_2 22 rfl rfl)
theorem dX0_bitBecomes_70 : decode cX0_bitBecomes 70 = .ok (.lstore 9, 2) := dk_55 9 (dk_at dksX0_bitBecomes_3 0 rfl rfl)
theorem dX0_bitBecomes_72 : decode cX0_bitBecomes 72 = .ok (.aload_n 0, 1) := dk_42 (dk_at dksX0_bitBecomes_3 2 rfl rfl)
theorem dX0_bitBecomes_73 : decode cX0_bitBecomes 73 = .ok (.iload_n 1, 1) := dk_27 (dk_at dksX0_bitBecomes_3 3 rfl rfl)
theorem dX0_bitBecomes_74 : decode cX0_bitBecomes 74 = .ok (.iload 6, 2) := dk_21 6 (dk_at dksX0_bitBecomes_3 4 rfl rfl)
theorem dX0_bitBecomes_76 : decode cX0_bitBecomes 76 = .ok (.iload 4, 2) := dk_21 4 (dk_at dksX0_bitBecomes_3 6 rfl rfl)
theorem dX0_bitBecomes_78 : decode cX0_bitBecomes 78 = .ok (.ifCond .eq 11, 3) := dk_153 0 11 (dk_at dksX0_bitBecomes_3 8 rfl rfl)
theorem dX0_bitBecomes_81 : decode cX0_bitBecomes 81 = .ok (.lload 7, 2) := dk_22 7 (dk_at dksX0_bitBecomes_3 11 rfl rfl)
theorem dX0_bitBecomes_83 : decode cX0_bitBecomes 83 = .ok (.lload 9, 2) := dk_22 9 (dk_at dksX0_bitBecomes_3 13 rfl rfl)
theorem dX0_bitBecomes_85 : decode cX0_bitBecomes 85 = .ok (.lor, 1) := dk_129 (dk_at dksX0_bitBecomes_3 15 rfl rfl)
theorem dX0_bitBecomes_86 : decode cX0_bitBecomes 86 = .ok (.goto 12, 3) := dk_167 0 12 (dk_at dksX0_bitBecomes_3 16 rfl rfl)
theorem dX0_bitBecomes_89 : decode cX0_bitBecomes 89 = .ok (.lload 7, 2) := dk_22 7 (dk_at dksX0_bitBecomes_3 19 rfl rfl)
theorem dX0_bitBecomes_91 : decode cX0_bitBecomes 91 = .ok (.lload 9, 2) := dk_22 9 (dk_at dksX0_bitBecomes_3 21 rfl rfl)
theorem dX0_bitBecomes_93 : decode cX0_bitBecomes 93 = .ok (.ldc2_w 331, 3) := dk_20 1 75 (dk_at dksX0_bitBecomes_4 0 rfl rfl)
theorem dX0_bitBecomes_96 : decode cX0_bitBecomes 96 = .ok (.lxor, 1) := dk_131 (dk_at dksX0_bitBecomes_4 3 rfl rfl)
theorem dX0_bitBecomes_97 : decode cX0_bitBecomes 97 = .ok (.land, 1) := dk_127 (dk_at dksX0_bitBecomes_4 4 rfl rfl)
theorem dX0_bitBecomes_98 : decode cX0_bitBecomes 98 = .ok (.invokevirtual 333, 3) := dk_182 1 77 (dk_at dksX0_bitBecomes_4 5 rfl rfl)
theorem dX0_bitBecomes_101 : decode cX0_bitBecomes 101 = .ok (.pop, 1) := dk_87 (dk_at dksX0_bitBecomes_4 8 rfl rfl)
theorem dX0_bitBecomes_102 : decode cX0_bitBecomes 102 = .ok (.return_, 1) := dk_177 (dk_at dksX0_bitBecomes_4 9 rfl rfl)
abbrev cX0_torn : ByteArray := prog_1_method_95_code
def yX0_torn : MethodName := ⟨RX0, "torn", "()I"⟩
theorem dX0_torn_0 : decode cX0_torn 0 = .ok (.aload_n 0, 1) := by decide +kernel
theorem dX0_torn_1 : decode cX0_torn 1 = .ok (.getfield 352, 3) := by decide +kernel
theorem dX0_torn_4 : decode cX0_torn 4 = .ok (.ireturn, 1) := by decide +kernel
abbrev cX0_count : ByteArray := prog_1_method_96_code
def yX0_count : MethodName := ⟨RX0, "count", "(I)I"⟩
def dkwX0_count_6 : List UInt8 := [42, 180, 0, 141, 184, 1, 107, 172, 42, 180, 0, 119, 172, 29, 172, 21, 4, 172, 2, 172]
abbrev dktX0_count_6 : List UInt8 := dkwX0_count_6 ++ []
def dkwX0_count_5 : List UInt8 := [170, 0, 0, 0, 0, 0, 49, 0, 0, 0, 0, 0, 0, 0, 3, 0, 0, 0, 31, 0, 0, 0, 39, 0, 0, 0, 44, 0, 0, 0, 46]
abbrev dktX0_count_5 : List UInt8 := dkwX0_count_5 ++ dktX0_count_6
def dkwX0_count_4 : List UInt8 := [21, 4, 22, 8, 20, 1, 99, 127, 184, 1, 101, 96, 54, 4, 132, 7, 1, 167, 255, 225, 27]
abbrev dktX0_count_4 : List UInt8 := dkwX0_count_4 ++ dktX0_count_5
def dkwX0_count_3 : List UInt8 := [58, 5, 25, 5, 190, 54, 6, 3, 54, 7, 21, 7, 21, 6, 162, 0, 30, 25, 5, 21, 7, 47, 55, 8]
abbrev dktX0_count_3 : List UInt8 := dkwX0_count_3 ++ dktX0_count_4
def dkwX0_count_2 : List UInt8 := [153, 0, 11, 44, 192, 1, 67, 190, 167, 0, 5, 16, 252, 62, 3, 54, 4, 42, 180, 0, 1, 180, 1, 34]
abbrev dktX0_count_2 : List UInt8 := dkwX0_count_2 ++ dktX0_count_3
def dkwX0_count_1 : List UInt8 := [167, 0, 35, 44, 193, 1, 66, 153, 0, 11, 44, 192, 1, 66, 190, 167, 0, 20, 44, 193, 1, 67]
abbrev dktX0_count_1 : List UInt8 := dkwX0_count_1 ++ dktX0_count_2
def dkwX0_count_0 : List UInt8 := [42, 180, 0, 102, 3, 50, 180, 1, 59, 77, 44, 193, 1, 65, 153, 0, 11, 44, 192, 1, 65, 190]
abbrev dktX0_count_0 : List UInt8 := dkwX0_count_0 ++ dktX0_count_1
theorem dksX0_count_0 : cX0_count.data.toList.drop 0 = dktX0_count_0 := by decide +kernel
theorem dksX0_count_1 : cX0_count.data.toList.drop 22 = dktX0_count_1 := dk_seg dksX0_count_0 22 rfl rfl
theorem dksX0_count_2 : cX0_count.data.toList.drop 44 = dktX0_count_2 := dk_seg dksX0_count_1 22 rfl rfl
theorem dksX0_count_3 : cX0_count.data.toList.drop 68 = dktX0_count_3 := dk_seg dksX0_count_2 24 rfl rfl
theorem dksX0_count_4 : cX0_count.data.toList.drop 92 = dktX0_count_4 := dk_seg dksX0_count_3 24 rfl rfl
theorem dksX0_count_5 : cX0_count.data.toList.drop 113 = dktX0_count_5 := dk_seg dksX0_count_4 21 rfl rfl
theorem dksX0_count_6 : cX0_count.data.toList.drop 144 = dktX0_count_6 := dk_seg dksX0_count_5 31 rfl rfl
theorem dX0_count_0 : decode cX0_count 0 = .ok (.aload_n 0, 1) := dk_42 (dk_at dksX0_count_0 0 rfl rfl)
theorem dX0_count_1 : decode cX0_count 1 = .ok (.getfield 102, 3) := dk_180 0 102 (dk_at dksX0_count_0 1 rfl rfl)
theorem dX0_count_4 : decode cX0_count 4 = .ok (.iconst 0, 1) := dk_3 (dk_at dksX0_count_0 4 rfl rfl)
theorem dX0_count_5 : decode cX0_count 5 = .ok (.aaload, 1) := dk_50 (dk_at dksX0_count_0 5 rfl rfl)
theorem dX0_count_6 : decode cX0_count 6 = .ok (.getfield 315, 3) := dk_180 1 59 (dk_at dksX0_count_0 6 rfl rfl)
theorem dX0_count_9 : decode cX0_count 9 = .ok (.astore_n 2, 1) := dk_77 (dk_at dksX0_count_0 9 rfl rfl)
theorem dX0_count_10 : decode cX0_count 10 = .ok (.aload_n 2, 1) := dk_44 (dk_at dksX0_count_0 10 rfl rfl)
theorem dX0_count_11 : decode cX0_count 11 = .ok (.instanceof 321, 3) := dk_193 1 65 (dk_at dksX0_count_0 11 rfl rfl)
theorem dX0_count_14 : decode cX0_count 14 = .ok (.ifCond .eq 11, 3) := dk_153 0 11 (dk_at dksX0_count_0 14 rfl rfl)
theorem dX0_count_17 : decode cX0_count 17 = .ok (.aload_n 2, 1) := dk_44 (dk_at dksX0_count_0 17 rfl rfl)
theorem dX0_count_18 : decode cX0_count 18 = .ok (.checkcast 321, 3) := dk_192 1 65 (dk_at dksX0_count_0 18 rfl rfl)
theorem dX0_count_21 : decode cX0_count 21 = .ok (.arraylength, 1) := dk_190 (dk_at dksX0_count_0 21 rfl rfl)
theorem dX0_count_22 : decode cX0_count 22 = .ok (.goto 35, 3) := dk_167 0 35 (dk_at dksX0_count_1 0 rfl rfl)
theorem dX0_count_25 : decode cX0_count 25 = .ok (.aload_n 2, 1) := dk_44 (dk_at dksX0_count_1 3 rfl rfl)
theorem dX0_count_26 : decode cX0_count 26 = .ok (.instanceof 322, 3) := dk_193 1 66 (dk_at dksX0_count_1 4 rfl rfl)
theorem dX0_count_29 : decode cX0_count 29 = .ok (.ifCond .eq 11, 3) := dk_153 0 11 (dk_at dksX0_count_1 7 rfl rfl)
theorem dX0_count_32 : decode cX0_count 32 = .ok (.aload_n 2, 1) := dk_44 (dk_at dksX0_count_1 10 rfl rfl)
theorem dX0_count_33 : decode cX0_count 33 = .ok (.checkcast 322, 3) := dk_192 1 66 (dk_at dksX0_count_1 11 rfl rfl)
theorem dX0_count_36 : decode cX0_count 36 = .ok (.arraylength, 1) := dk_190 (dk_at dksX0_count_1 14 rfl rfl)
theorem dX0_count_37 : decode cX0_count 37 = .ok (.goto 20, 3) := dk_167 0 20 (dk_at dksX0_count_1 15 rfl rfl)
theorem dX0_count_40 : decode cX0_count 40 = .ok (.aload_n 2, 1) := dk_44 (dk_at dksX0_count_1 18 rfl rfl)
theorem dX0_count_41 : decode cX0_count 41 = .ok (.instanceof 323, 3) := dk_193 1 67 (dk_at dksX0_count_1 19 rfl rfl)
theorem dX0_count_44 : decode cX0_count 44 = .ok (.ifCond .eq 11, 3) := dk_153 0 11 (dk_at dksX0_count_2 0 rfl rfl)
theorem dX0_count_47 : decode cX0_count 47 = .ok (.aload_n 2, 1) := dk_44 (dk_at dksX0_count_2 3 rfl rfl)
theorem dX0_count_48 : decode cX0_count 48 = .ok (.checkcast 323, 3) := dk_192 1 67 (dk_at dksX0_count_2 4 rfl rfl)
theorem dX0_count_51 : decode cX0_count 51 = .ok (.arraylength, 1) := dk_190 (dk_at dksX0_count_2 7 rfl rfl)
theorem dX0_count_52 : decode cX0_count 52 = .ok (.goto 5, 3) := dk_167 0 5 (dk_at dksX0_count_2 8 rfl rfl)
theorem dX0_count_55 : decode cX0_count 55 = .ok (.bipush (-4), 2) := dk_16 252 (dk_at dksX0_count_2 11 rfl rfl)
theorem dX0_count_57 : decode cX0_count 57 = .ok (.istore_n 3, 1) := dk_62 (dk_at dksX0_count_2 13 rfl rfl)
theorem dX0_count_58 : decode cX0_count 58 = .ok (.iconst 0, 1) := dk_3 (dk_at dksX0_count_2 14 rfl rfl)
theorem dX0_count_59 : decode cX0_count 59 = .ok (.istore 4, 2) := dk_54 4 (dk_at dksX0_count_2 15 rfl rfl)
theorem dX0_count_61 : decode cX0_count 61 = .ok (.aload_n 0, 1) := dk_42 (dk_at dksX0_count_2 17 rfl rfl)
theorem dX0_count_62 : decode cX0_count 62 = .ok (.getfield 1, 3) := dk_180 0 1 (dk_at dksX0_count_2 18 rfl rfl)
theorem dX0_count_65 : decode cX0_count 65 = .ok (.getfield 290, 3) := dk_180 1 34 (dk_at dksX0_count_2 21 rfl rfl)
theorem dX0_count_68 : decode cX0_count 68 = .ok (.astore 5, 2) := dk_58 5 (dk_at dksX0_count_3 0 rfl rfl)
theorem dX0_count_70 : decode cX0_count 70 = .ok (.aload 5, 2) := dk_25 5 (dk_at dksX0_count_3 2 rfl rfl)
theorem dX0_count_72 : decode cX0_count 72 = .ok (.arraylength, 1) := dk_190 (dk_at dksX0_count_3 4 rfl rfl)
theorem dX0_count_73 : decode cX0_count 73 = .ok (.istore 6, 2) := dk_54 6 (dk_at dksX0_count_3 5 rfl rfl)
theorem dX0_count_75 : decode cX0_count 75 = .ok (.iconst 0, 1) := dk_3 (dk_at dksX0_count_3 7 rfl rfl)
theorem dX0_count_76 : decode cX0_count 76 = .ok (.istore 7, 2) := dk_54 7 (dk_at dksX0_count_3 8 rfl rfl)
theorem dX0_count_78 : decode cX0_count 78 = .ok (.iload 7, 2) := dk_21 7 (dk_at dksX0_count_3 10 rfl rfl)
theorem dX0_count_80 : decode cX0_count 80 = .ok (.iload 6, 2) := dk_21 6 (dk_at dksX0_count_3 12 rfl rfl)
theorem dX0_count_82 : decode cX0_count 82 = .ok (.if_icmp .ge 30, 3) := dk_162 0 30 (dk_at dksX0_count_3 14 rfl rfl)
theorem dX0_count_85 : decode cX0_count 85 = .ok (.aload 5, 2) := dk_25 5 (dk_at dksX0_count_3 17 rfl rfl)
theorem dX0_count_87 : decode cX0_count 87 = .ok (.iload 7, 2) := dk_21 7 (dk_at dksX0_count_3 19 rfl rfl)
theorem dX0_count_89 : decode cX0_count 89 = .ok (.laload, 1) := dk_47 (dk_at dksX0_count_3 21 rfl rfl)
theorem dX0_count_90 : decode cX0_count 90 = .ok (.lstore 8, 2) := dk_55 8 (dk_at dksX0_count_3 22 rfl rfl)
theorem dX0_count_92 : decode cX0_count 92 = .ok (.iload 4, 2) := dk_21 4 (dk_at dksX0_count_4 0 rfl rfl)
theorem dX0_count_94 : decode cX0_count 94 = .ok (.lload 8, 2) := dk_22 8 (dk_at dksX0_count_4 2 rfl rfl)
theorem dX0_count_96 : decode cX0_count 96 = .ok (.ldc2_w 355, 3) := dk_20 1 99 (dk_at dksX0_count_4 4 rfl rfl)
theorem dX0_count_99 : decode cX0_count 99 = .ok (.land, 1) := dk_127 (dk_at dksX0_count_4 7 rfl rfl)
theorem dX0_count_100 : decode cX0_count 100 = .ok (.invokestatic 357, 3) := dk_184 1 101 (dk_at dksX0_count_4 8 rfl rfl)
theorem dX0_count_103 : decode cX0_count 103 = .ok (.iadd, 1) := dk_96 (dk_at dksX0_count_4 11 rfl rfl)
theorem dX0_count_104 : decode cX0_count 104 = .ok (.istore 4, 2) := dk_54 4 (dk_at dksX0_count_4 12 rfl rfl)
theorem dX0_count_106 : decode cX0_count 106 = .ok (.iinc 7 1, 3) := dk_132 7 1 (dk_at dksX0_count_4 14 rfl rfl)
theorem dX0_count_109 : decode cX0_count 109 = .ok (.goto (-31), 3) := dk_167 255 225 (dk_at dksX0_count_4 17 rfl rfl)
theorem dX0_count_112 : decode cX0_count 112 = .ok (.iload_n 1, 1) := dk_27 (dk_at dksX0_count_4 20 rfl rfl)
theorem dX0_count_113 : decode cX0_count 113 = .ok (.tableswitch 49 0 3 #[31, 39, 44, 46], 31) := by decide +kernel
theorem dX0_count_144 : decode cX0_count 144 = .ok (.aload_n 0, 1) := dk_42 (dk_at dksX0_count_6 0 rfl rfl)
theorem dX0_count_145 : decode cX0_count 145 = .ok (.getfield 141, 3) := dk_180 0 141 (dk_at dksX0_count_6 1 rfl rfl)
theorem dX0_count_148 : decode cX0_count 148 = .ok (.invokestatic 363, 3) := dk_184 1 107 (dk_at dksX0_count_6 4 rfl rfl)
theorem dX0_count_151 : decode cX0_count 151 = .ok (.ireturn, 1) := dk_172 (dk_at dksX0_count_6 7 rfl rfl)
theorem dX0_count_152 : decode cX0_count 152 = .ok (.aload_n 0, 1) := dk_42 (dk_at dksX0_count_6 8 rfl rfl)
theorem dX0_count_153 : decode cX0_count 153 = .ok (.getfield 119, 3) := dk_180 0 119 (dk_at dksX0_count_6 9 rfl rfl)
theorem dX0_count_156 : decode cX0_count 156 = .ok (.ireturn, 1) := dk_172 (dk_at dksX0_count_6 12 rfl rfl)
theorem dX0_count_157 : decode cX0_count 157 = .ok (.iload_n 3, 1) := dk_29 (dk_at dksX0_count_6 13 rfl rfl)
theorem dX0_count_158 : decode cX0_count 158 = .ok (.ireturn, 1) := dk_172 (dk_at dksX0_count_6 14 rfl rfl)
theorem dX0_count_159 : decode cX0_count 159 = .ok (.iload 4, 2) := dk_21 4 (dk_at dksX0_count_6 15 rfl rfl)
theorem dX0_count_161 : decode cX0_count 161 = .ok (.ireturn, 1) := dk_172 (dk_at dksX0_count_6 17 rfl rfl)
theorem dX0_count_162 : decode cX0_count 162 = .ok (.iconst (-1), 1) := dk_2 (dk_at dksX0_count_6 18 rfl rfl)
theorem dX0_count_163 : decode cX0_count 163 = .ok (.ireturn, 1) := dk_172 (dk_at dksX0_count_6 19 rfl rfl)
theorem q90 : (Jvm.Cond.initialized "ExcessTree") ∈ lw_all := lw_g (lw_at lw_m1 1 rfl) rfl
theorem q112 : (Jvm.Cond.instantiable "ExcessTree" (15 : Nat)) ∈ lw_all := lw_g (lw_at lw_m1 23 rfl) rfl
theorem q114 : (Jvm.Cond.instanceMethod ({ cls := "ExcessTree", name := "<init>", desc := "()V" } : Jvm.MethodName)) ∈ lw_all := lw_g (lw_at lw_m1 25 rfl) rfl
theorem q115 : (Jvm.Cond.code ({ cls := "ExcessTree", name := "<init>", desc := "()V" } : Jvm.MethodName) prog_1_method_15_code (2 : Nat) (Option.none : Option Jvm.ClassFile.FieldType)) ∈ lw_all := lw_g (lw_at lw_m1 26 rfl) rfl
theorem q116 : (Jvm.Cond.methodLink "ExcessTree" (82 : Nat) ({ cls := "java/lang/Object", name := "<init>", desc := "()V" } : Jvm.MethodName)) ∈ lw_all := lw_g (lw_at lw_m1 27 rfl) rfl
theorem q119 : (Jvm.Cond.classLink "ExcessTree" (8 : Nat) "ExcessTree$Row") ∈ lw_all := lw_g (lw_at lw_m1 30 rfl) rfl
theorem q121 : (Jvm.Cond.methodLinkNest "ExcessTree" (88 : Nat) ({ cls := "ExcessTree$Row", name := "<init>", desc := "()V" } : Jvm.MethodName) "ExcessTree") ∈ lw_tbl := lw_at lw_m1 32 rfl
theorem q126 : (Jvm.Cond.fieldLinkNest "ExcessTree" (290 : Nat) "ExcessTree$Row" "words" "[J" "ExcessTree") ∈ lw_tbl := lw_at lw_m1 37 rfl
theorem q127 : (Jvm.Cond.fieldLinkNest "ExcessTree" (7 : Nat) "ExcessTree$Row" "places" "I" "ExcessTree") ∈ lw_tbl := lw_at lw_m1 38 rfl
theorem q132 : (Jvm.Cond.fieldLinkNest "ExcessTree" (243 : Nat) "ExcessTree$Row" "weight" "[I" "ExcessTree") ∈ lw_tbl := lw_at lw_m1 43 rfl
theorem q134 : (Jvm.Cond.fieldLinkNest "ExcessTree" (34 : Nat) "ExcessTree$Row" "gain" "[S" "ExcessTree") ∈ lw_tbl := lw_at lw_m1 45 rfl
theorem q136 : (Jvm.Cond.fieldLinkNest "ExcessTree" (176 : Nat) "ExcessTree$Row" "low" "[S" "ExcessTree") ∈ lw_tbl := lw_at lw_m1 47 rfl
theorem q138 : (Jvm.Cond.fieldLinkNest "ExcessTree" (152 : Nat) "ExcessTree$Row" "high" "[S" "ExcessTree") ∈ lw_tbl := lw_at lw_m1 49 rfl
theorem q156 : (Jvm.Cond.classLink "ExcessTree" (100 : Nat) "ExcessTree$Sheet") ∈ lw_all := lw_g (lw_at lw_m1 67 rfl) rfl
theorem q159 : (Jvm.Cond.methodLinkNest "ExcessTree" (109 : Nat) ({ cls := "ExcessTree$Sheet", name := "<init>", desc := "()V" } : Jvm.MethodName) "ExcessTree") ∈ lw_tbl := lw_at lw_m1 70 rfl
theorem q163 : (Jvm.Cond.fieldLinkNest "ExcessTree" (315 : Nat) "ExcessTree$Sheet" "cells" "Ljava/lang/Object;" "ExcessTree") ∈ lw_tbl := lw_at lw_m1 74 rfl
theorem q168 : (Jvm.Cond.methodLink "ExcessTree" (110 : Nat) ({ cls := "ExcessTree$Row", name := "summariseAll", desc := "()V" } : Jvm.MethodName)) ∈ lw_all := lw_g (lw_at lw_m1 79 rfl) rfl
theorem q190 : (Jvm.Cond.fieldLink "ExcessTree" (1 : Nat) "ExcessTree" "now" "LExcessTree$Row;") ∈ lw_all := lw_g (lw_at lw_m1 101 rfl) rfl
theorem q191 : (Jvm.Cond.fieldLink "ExcessTree" (89 : Nat) "ExcessTree" "images" "[LExcessTree$Row;") ∈ lw_all := lw_g (lw_at lw_m1 102 rfl) rfl
theorem q192 : (Jvm.Cond.fieldLink "ExcessTree" (141 : Nat) "ExcessTree" "kept" "I") ∈ lw_all := lw_g (lw_at lw_m1 103 rfl) rfl
theorem q193 : (Jvm.Cond.fieldLink "ExcessTree" (64 : Nat) "ExcessTree" "least" "I") ∈ lw_all := lw_g (lw_at lw_m1 104 rfl) rfl
theorem q194 : (Jvm.Cond.fieldLink "ExcessTree" (67 : Nat) "ExcessTree" "leastAt" "I") ∈ lw_all := lw_g (lw_at lw_m1 105 rfl) rfl
theorem q195 : (Jvm.Cond.fieldLink "ExcessTree" (70 : Nat) "ExcessTree" "leastMany" "I") ∈ lw_all := lw_g (lw_at lw_m1 106 rfl) rfl
theorem q196 : (Jvm.Cond.fieldLink "ExcessTree" (73 : Nat) "ExcessTree" "most" "I") ∈ lw_all := lw_g (lw_at lw_m1 107 rfl) rfl
theorem q197 : (Jvm.Cond.fieldLink "ExcessTree" (76 : Nat) "ExcessTree" "mostAt" "I") ∈ lw_all := lw_g (lw_at lw_m1 108 rfl) rfl
theorem q199 : (Jvm.Cond.fieldLink "ExcessTree" (93 : Nat) "ExcessTree" "tape" "[B") ∈ lw_all := lw_g (lw_at lw_m1 110 rfl) rfl
theorem q200 : (Jvm.Cond.fieldLink "ExcessTree" (119 : Nat) "ExcessTree" "taped" "I") ∈ lw_all := lw_g (lw_at lw_m1 111 rfl) rfl
theorem q201 : (Jvm.Cond.fieldLink "ExcessTree" (122 : Nat) "ExcessTree" "fault" "I") ∈ lw_all := lw_g (lw_at lw_m1 112 rfl) rfl
theorem q202 : (Jvm.Cond.fieldLink "ExcessTree" (97 : Nat) "ExcessTree" "cut" "LExcessTree$Row;") ∈ lw_all := lw_g (lw_at lw_m1 113 rfl) rfl
theorem q203 : (Jvm.Cond.fieldLink "ExcessTree" (102 : Nat) "ExcessTree" "sheets" "[LExcessTree$Sheet;") ∈ lw_all := lw_g (lw_at lw_m1 114 rfl) rfl
theorem q204 : (Jvm.Cond.fieldLink "ExcessTree" (106 : Nat) "ExcessTree" "taken" "LExcessTree$Row;") ∈ lw_all := lw_g (lw_at lw_m1 115 rfl) rfl
theorem q205 : (Jvm.Cond.fieldLink "ExcessTree" (352 : Nat) "ExcessTree" "torn" "I") ∈ lw_all := lw_g (lw_at lw_m1 116 rfl) rfl
theorem q206 : (Jvm.Cond.laysFinal "ExcessTree" "ExcessTree" "now" "LExcessTree$Row;") ∈ lw_all := lw_g (lw_at lw_m1 117 rfl) rfl
theorem q207 : (Jvm.Cond.soleField "ExcessTree" "now") ∈ lw_all := lw_g (lw_at lw_m1 118 rfl) rfl
theorem q208 : (Jvm.Cond.laysFinal "ExcessTree" "ExcessTree" "images" "[LExcessTree$Row;") ∈ lw_all := lw_g (lw_at lw_m1 119 rfl) rfl
theorem q209 : (Jvm.Cond.soleField "ExcessTree" "images") ∈ lw_all := lw_g (lw_at lw_m1 120 rfl) rfl
theorem q210 : (Jvm.Cond.lays "ExcessTree" "ExcessTree" "kept" "I") ∈ lw_all := lw_g (lw_at lw_m1 121 rfl) rfl
theorem q211 : (Jvm.Cond.soleField "ExcessTree" "kept") ∈ lw_all := lw_g (lw_at lw_m1 122 rfl) rfl
theorem q212 : (Jvm.Cond.lays "ExcessTree" "ExcessTree" "least" "I") ∈ lw_all := lw_g (lw_at lw_m1 123 rfl) rfl
theorem q213 : (Jvm.Cond.soleField "ExcessTree" "least") ∈ lw_all := lw_g (lw_at lw_m1 124 rfl) rfl
theorem q214 : (Jvm.Cond.lays "ExcessTree" "ExcessTree" "leastAt" "I") ∈ lw_all := lw_g (lw_at lw_m1 125 rfl) rfl
theorem q215 : (Jvm.Cond.soleField "ExcessTree" "leastAt") ∈ lw_all := lw_g (lw_at lw_m1 126 rfl) rfl
theorem q216 : (Jvm.Cond.lays "ExcessTree" "ExcessTree" "leastMany" "I") ∈ lw_all := lw_g (lw_at lw_m1 127 rfl) rfl
theorem q217 : (Jvm.Cond.soleField "ExcessTree" "leastMany") ∈ lw_all := lw_g (lw_at lw_m1 128 rfl) rfl
theorem q218 : (Jvm.Cond.lays "ExcessTree" "ExcessTree" "most" "I") ∈ lw_all := lw_g (lw_at lw_m1 129 rfl) rfl
theorem q219 : (Jvm.Cond.soleField "ExcessTree" "most") ∈ lw_all := lw_g (lw_at lw_m1 130 rfl) rfl
theorem q220 : (Jvm.Cond.lays "ExcessTree" "ExcessTree" "mostAt" "I") ∈ lw_all := lw_g (lw_at lw_m1 131 rfl) rfl
theorem q221 : (Jvm.Cond.soleField "ExcessTree" "mostAt") ∈ lw_all := lw_g (lw_at lw_m1 132 rfl) rfl
theorem q222 : (Jvm.Cond.laysFinal "ExcessTree" "ExcessTree" "tape" "[B") ∈ lw_all := lw_g (lw_at lw_m1 133 rfl) rfl
theorem q223 : (Jvm.Cond.soleField "ExcessTree" "tape") ∈ lw_all := lw_g (lw_at lw_m1 134 rfl) rfl
theorem q224 : (Jvm.Cond.lays "ExcessTree" "ExcessTree" "taped" "I") ∈ lw_all := lw_g (lw_at lw_m1 135 rfl) rfl
theorem q225 : (Jvm.Cond.soleField "ExcessTree" "taped") ∈ lw_all := lw_g (lw_at lw_m1 136 rfl) rfl
theorem q226 : (Jvm.Cond.lays "ExcessTree" "ExcessTree" "fault" "I") ∈ lw_all := lw_g (lw_at lw_m1 137 rfl) rfl
theorem q227 : (Jvm.Cond.soleField "ExcessTree" "fault") ∈ lw_all := lw_g (lw_at lw_m1 138 rfl) rfl
theorem q228 : (Jvm.Cond.laysFinal "ExcessTree" "ExcessTree" "cut" "LExcessTree$Row;") ∈ lw_all := lw_g (lw_at lw_m1 139 rfl) rfl
theorem q229 : (Jvm.Cond.soleField "ExcessTree" "cut") ∈ lw_all := lw_g (lw_at lw_m1 140 rfl) rfl
theorem q230 : (Jvm.Cond.laysFinal "ExcessTree" "ExcessTree" "sheets" "[LExcessTree$Sheet;") ∈ lw_all := lw_g (lw_at lw_m1 141 rfl) rfl
theorem q231 : (Jvm.Cond.soleField "ExcessTree" "sheets") ∈ lw_all := lw_g (lw_at lw_m1 142 rfl) rfl
theorem q232 : (Jvm.Cond.laysFinal "ExcessTree" "ExcessTree" "taken" "LExcessTree$Row;") ∈ lw_all := lw_g (lw_at lw_m1 143 rfl) rfl
theorem q233 : (Jvm.Cond.soleField "ExcessTree" "taken") ∈ lw_all := lw_g (lw_at lw_m1 144 rfl) rfl
theorem q234 : (Jvm.Cond.lays "ExcessTree" "ExcessTree" "torn" "I") ∈ lw_all := lw_g (lw_at lw_m1 145 rfl) rfl
theorem q235 : (Jvm.Cond.soleField "ExcessTree" "torn") ∈ lw_all := lw_g (lw_at lw_m1 146 rfl) rfl
theorem q236 : (Jvm.Cond.superclass "ExcessTree" "java/lang/Object") ∈ lw_all := lw_g (lw_at lw_m1 147 rfl) rfl
theorem q238 : (Jvm.Cond.instanceMethod ({ cls := "ExcessTree", name := "feed", desc := "(I)I" } : Jvm.MethodName)) ∈ lw_all := lw_g (lw_at lw_m1 149 rfl) rfl
theorem q239 : (Jvm.Cond.selects "ExcessTree" ({ cls := "ExcessTree", name := "feed", desc := "(I)I" } : Jvm.MethodName) ({ cls := "ExcessTree", name := "feed", desc := "(I)I" } : Jvm.MethodName)) ∈ lw_all := lw_g (lw_at lw_m1 150 rfl) rfl
theorem q240 : (Jvm.Cond.code ({ cls := "ExcessTree", name := "feed", desc := "(I)I" } : Jvm.MethodName) prog_1_method_16_code (2 : Nat) (Option.some Jvm.ClassFile.FieldType.int)) ∈ lw_all := lw_g (lw_at lw_m1 151 rfl) rfl
theorem q241 : (Jvm.Cond.constantLong "ExcessTree" (113 : Nat) (127 : Int64)) ∈ lw_all := lw_g (lw_at lw_m1 152 rfl) rfl
theorem q242 : (Jvm.Cond.methodLink "ExcessTree" (115 : Nat) ({ cls := "ExcessTree", name := "in", desc := "(JJJ)Z" } : Jvm.MethodName)) ∈ lw_all := lw_g (lw_at lw_m1 153 rfl) rfl
theorem q243 : (Jvm.Cond.static ({ cls := "ExcessTree", name := "in", desc := "(JJJ)Z" } : Jvm.MethodName)) ∈ lw_all := lw_g (lw_at lw_m1 154 rfl) rfl
theorem q244 : (Jvm.Cond.code ({ cls := "ExcessTree", name := "in", desc := "(JJJ)Z" } : Jvm.MethodName) prog_1_method_1_code (6 : Nat) (Option.some Jvm.ClassFile.FieldType.boolean)) ∈ lw_all := lw_g (lw_at lw_m1 155 rfl) rfl
theorem q246 : (Jvm.Cond.instanceMethod ({ cls := "ExcessTree", name := "end", desc := "(I)I" } : Jvm.MethodName)) ∈ lw_all := lw_g (lw_at lw_m1 157 rfl) rfl
theorem q247 : (Jvm.Cond.selects "ExcessTree" ({ cls := "ExcessTree", name := "end", desc := "(I)I" } : Jvm.MethodName) ({ cls := "ExcessTree", name := "end", desc := "(I)I" } : Jvm.MethodName)) ∈ lw_all := lw_g (lw_at lw_m1 158 rfl) rfl
theorem q248 : (Jvm.Cond.code ({ cls := "ExcessTree", name := "end", desc := "(I)I" } : Jvm.MethodName) prog_1_method_17_code (3 : Nat) (Option.some Jvm.ClassFile.FieldType.int)) ∈ lw_all := lw_g (lw_at lw_m1 159 rfl) rfl
theorem q250 : (Jvm.Cond.instanceMethod ({ cls := "ExcessTree", name := "text", desc := "()I" } : Jvm.MethodName)) ∈ lw_all := lw_g (lw_at lw_m1 161 rfl) rfl
theorem q251 : (Jvm.Cond.selects "ExcessTree" ({ cls := "ExcessTree", name := "text", desc := "()I" } : Jvm.MethodName) ({ cls := "ExcessTree", name := "text", desc := "()I" } : Jvm.MethodName)) ∈ lw_all := lw_g (lw_at lw_m1 162 rfl) rfl
theorem q252 : (Jvm.Cond.codeWith ({ cls := "ExcessTree", name := "text", desc := "()I" } : Jvm.MethodName) prog_1_method_18_code (4 : Nat) (Option.some Jvm.ClassFile.FieldType.int) [((15 : Nat), (47 : Nat), (48 : Nat), (144 : Nat))]) ∈ lw_all := lw_g (lw_at lw_m1 163 rfl) rfl
theorem q253 : (Jvm.Cond.classLink "ExcessTree" (144 : Nat) "ExcessTree$Fault") ∈ lw_all := lw_g (lw_at lw_m1 164 rfl) rfl
theorem q254 : (Jvm.Cond.classLink "ExcessTree" (125 : Nat) "ExcessTree$Reader") ∈ lw_all := lw_g (lw_at lw_m1 165 rfl) rfl
theorem q256 : (Jvm.Cond.methodLink "ExcessTree" (127 : Nat) ({ cls := "ExcessTree$Reader", name := "<init>", desc := "(LExcessTree;I)V" } : Jvm.MethodName)) ∈ lw_all := lw_g (lw_at lw_m1 167 rfl) rfl
theorem q339 : (Jvm.Cond.fieldLinkNest "ExcessTree" (146 : Nat) "ExcessTree$Fault" "code" "I" "ExcessTree") ∈ lw_tbl := lw_at lw_m2 10 rfl
theorem q341 : (Jvm.Cond.fieldLinkNest "ExcessTree" (149 : Nat) "ExcessTree$Fault" "place" "I" "ExcessTree") ∈ lw_tbl := lw_at lw_m2 12 rfl
theorem q361 : (Jvm.Cond.fieldLinkNest "ExcessTree" (134 : Nat) "ExcessTree$Reader" "made" "LExcessTree$Row;" "ExcessTree") ∈ lw_tbl := lw_at lw_m2 32 rfl
theorem q388 : (Jvm.Cond.methodLink "ExcessTree" (130 : Nat) ({ cls := "ExcessTree$Reader", name := "nodes", desc := "()I" } : Jvm.MethodName)) ∈ lw_all := lw_g (lw_at lw_m2 59 rfl) rfl
theorem q406 : (Jvm.Cond.methodLink "ExcessTree" (137 : Nat) ({ cls := "ExcessTree$Row", name := "as", desc := "(LExcessTree$Row;)V" } : Jvm.MethodName)) ∈ lw_all := lw_g (lw_at lw_m2 77 rfl) rfl
theorem q414 : (Jvm.Cond.instanceMethod ({ cls := "ExcessTree", name := "fault", desc := "()I" } : Jvm.MethodName)) ∈ lw_all := lw_g (lw_at lw_m2 85 rfl) rfl
theorem q415 : (Jvm.Cond.selects "ExcessTree" ({ cls := "ExcessTree", name := "fault", desc := "()I" } : Jvm.MethodName) ({ cls := "ExcessTree", name := "fault", desc := "()I" } : Jvm.MethodName)) ∈ lw_all := lw_g (lw_at lw_m2 86 rfl) rfl
theorem q416 : (Jvm.Cond.code ({ cls := "ExcessTree", name := "fault", desc := "()I" } : Jvm.MethodName) prog_1_method_19_code (1 : Nat) (Option.some Jvm.ClassFile.FieldType.int)) ∈ lw_all := lw_g (lw_at lw_m2 87 rfl) rfl
theorem q418 : (Jvm.Cond.instanceMethod ({ cls := "ExcessTree", name := "size", desc := "(I)I" } : Jvm.MethodName)) ∈ lw_all := lw_g (lw_at lw_m2 89 rfl) rfl
theorem q419 : (Jvm.Cond.selects "ExcessTree" ({ cls := "ExcessTree", name := "size", desc := "(I)I" } : Jvm.MethodName) ({ cls := "ExcessTree", name := "size", desc := "(I)I" } : Jvm.MethodName)) ∈ lw_all := lw_g (lw_at lw_m2 90 rfl) rfl
theorem q420 : (Jvm.Cond.code ({ cls := "ExcessTree", name := "size", desc := "(I)I" } : Jvm.MethodName) prog_1_method_21_code (2 : Nat) (Option.some Jvm.ClassFile.FieldType.int)) ∈ lw_all := lw_g (lw_at lw_m2 91 rfl) rfl
theorem q421 : (Jvm.Cond.methodLink "ExcessTree" (155 : Nat) ({ cls := "ExcessTree", name := "nodes", desc := "()I" } : Jvm.MethodName)) ∈ lw_all := lw_g (lw_at lw_m2 92 rfl) rfl
theorem q422 : (Jvm.Cond.privateMethod ({ cls := "ExcessTree", name := "nodes", desc := "()I" } : Jvm.MethodName)) ∈ lw_tbl := lw_at lw_m2 93 rfl
theorem q423 : (Jvm.Cond.instanceMethod ({ cls := "ExcessTree", name := "nodes", desc := "()I" } : Jvm.MethodName)) ∈ lw_all := lw_g (lw_at lw_m2 94 rfl) rfl
theorem q424 : (Jvm.Cond.code ({ cls := "ExcessTree", name := "nodes", desc := "()I" } : Jvm.MethodName) prog_1_method_2_code (1 : Nat) (Option.some Jvm.ClassFile.FieldType.int)) ∈ lw_all := lw_g (lw_at lw_m2 95 rfl) rfl
theorem q425 : (Jvm.Cond.methodLink "ExcessTree" (156 : Nat) ({ cls := "ExcessTree", name := "ranked", desc := "(II)I" } : Jvm.MethodName)) ∈ lw_all := lw_g (lw_at lw_m2 96 rfl) rfl
theorem q426 : (Jvm.Cond.privateMethod ({ cls := "ExcessTree", name := "ranked", desc := "(II)I" } : Jvm.MethodName)) ∈ lw_tbl := lw_at lw_m2 97 rfl
theorem q427 : (Jvm.Cond.instanceMethod ({ cls := "ExcessTree", name := "ranked", desc := "(II)I" } : Jvm.MethodName)) ∈ lw_all := lw_g (lw_at lw_m2 98 rfl) rfl
theorem q428 : (Jvm.Cond.code ({ cls := "ExcessTree", name := "ranked", desc := "(II)I" } : Jvm.MethodName) prog_1_method_9_code (5 : Nat) (Option.some Jvm.ClassFile.FieldType.int)) ∈ lw_all := lw_g (lw_at lw_m2 99 rfl) rfl
theorem q429 : (Jvm.Cond.methodLink "ExcessTree" (52 : Nat) ({ cls := "ExcessTree$Row", name := "opens", desc := "(I)I" } : Jvm.MethodName)) ∈ lw_all := lw_g (lw_at lw_m2 100 rfl) rfl
theorem q439 : (Jvm.Cond.methodLink "ExcessTree" (42 : Nat) ({ cls := "ExcessTree$Row", name := "isOpen", desc := "(I)Z" } : Jvm.MethodName)) ∈ lw_all := lw_g (lw_at lw_m2 110 rfl) rfl
theorem q440 : (Jvm.Cond.methodLink "ExcessTree" (159 : Nat) ({ cls := "ExcessTree", name := "deepestOfAll", desc := "()I" } : Jvm.MethodName)) ∈ lw_all := lw_g (lw_at lw_m2 111 rfl) rfl
theorem q441 : (Jvm.Cond.privateMethod ({ cls := "ExcessTree", name := "deepestOfAll", desc := "()I" } : Jvm.MethodName)) ∈ lw_tbl := lw_at lw_m2 112 rfl
theorem q442 : (Jvm.Cond.instanceMethod ({ cls := "ExcessTree", name := "deepestOfAll", desc := "()I" } : Jvm.MethodName)) ∈ lw_all := lw_g (lw_at lw_m2 113 rfl) rfl
theorem q443 : (Jvm.Cond.code ({ cls := "ExcessTree", name := "deepestOfAll", desc := "()I" } : Jvm.MethodName) prog_1_method_20_code (1 : Nat) (Option.some Jvm.ClassFile.FieldType.int)) ∈ lw_all := lw_g (lw_at lw_m2 114 rfl) rfl
theorem q445 : (Jvm.Cond.instanceMethod ({ cls := "ExcessTree", name := "bit", desc := "(I)I" } : Jvm.MethodName)) ∈ lw_all := lw_g (lw_at lw_m2 116 rfl) rfl
theorem q446 : (Jvm.Cond.selects "ExcessTree" ({ cls := "ExcessTree", name := "bit", desc := "(I)I" } : Jvm.MethodName) ({ cls := "ExcessTree", name := "bit", desc := "(I)I" } : Jvm.MethodName)) ∈ lw_all := lw_g (lw_at lw_m2 117 rfl) rfl
theorem q447 : (Jvm.Cond.code ({ cls := "ExcessTree", name := "bit", desc := "(I)I" } : Jvm.MethodName) prog_1_method_24_code (2 : Nat) (Option.some Jvm.ClassFile.FieldType.int)) ∈ lw_all := lw_g (lw_at lw_m2 118 rfl) rfl
theorem q448 : (Jvm.Cond.methodLink "ExcessTree" (162 : Nat) ({ cls := "ExcessTree", name := "isPlace", desc := "(I)Z" } : Jvm.MethodName)) ∈ lw_all := lw_g (lw_at lw_m2 119 rfl) rfl
theorem q449 : (Jvm.Cond.privateMethod ({ cls := "ExcessTree", name := "isPlace", desc := "(I)Z" } : Jvm.MethodName)) ∈ lw_tbl := lw_at lw_m2 120 rfl
theorem q450 : (Jvm.Cond.instanceMethod ({ cls := "ExcessTree", name := "isPlace", desc := "(I)Z" } : Jvm.MethodName)) ∈ lw_all := lw_g (lw_at lw_m2 121 rfl) rfl
theorem q451 : (Jvm.Cond.code ({ cls := "ExcessTree", name := "isPlace", desc := "(I)Z" } : Jvm.MethodName) prog_1_method_22_code (2 : Nat) (Option.some Jvm.ClassFile.FieldType.boolean)) ∈ lw_all := lw_g (lw_at lw_m2 122 rfl) rfl
theorem q453 : (Jvm.Cond.instanceMethod ({ cls := "ExcessTree", name := "excess", desc := "(I)I" } : Jvm.MethodName)) ∈ lw_all := lw_g (lw_at lw_m2 124 rfl) rfl
theorem q454 : (Jvm.Cond.selects "ExcessTree" ({ cls := "ExcessTree", name := "excess", desc := "(I)I" } : Jvm.MethodName) ({ cls := "ExcessTree", name := "excess", desc := "(I)I" } : Jvm.MethodName)) ∈ lw_all := lw_g (lw_at lw_m2 125 rfl) rfl
theorem q455 : (Jvm.Cond.code ({ cls := "ExcessTree", name := "excess", desc := "(I)I" } : Jvm.MethodName) prog_1_method_25_code (2 : Nat) (Option.some Jvm.ClassFile.FieldType.int)) ∈ lw_all := lw_g (lw_at lw_m2 126 rfl) rfl
theorem q456 : (Jvm.Cond.methodLink "ExcessTree" (165 : Nat) ({ cls := "ExcessTree", name := "isBetween", desc := "(I)Z" } : Jvm.MethodName)) ∈ lw_all := lw_g (lw_at lw_m2 127 rfl) rfl
theorem q457 : (Jvm.Cond.privateMethod ({ cls := "ExcessTree", name := "isBetween", desc := "(I)Z" } : Jvm.MethodName)) ∈ lw_tbl := lw_at lw_m2 128 rfl
theorem q458 : (Jvm.Cond.instanceMethod ({ cls := "ExcessTree", name := "isBetween", desc := "(I)Z" } : Jvm.MethodName)) ∈ lw_all := lw_g (lw_at lw_m2 129 rfl) rfl
theorem q459 : (Jvm.Cond.code ({ cls := "ExcessTree", name := "isBetween", desc := "(I)Z" } : Jvm.MethodName) prog_1_method_23_code (2 : Nat) (Option.some Jvm.ClassFile.FieldType.boolean)) ∈ lw_all := lw_g (lw_at lw_m2 130 rfl) rfl
theorem q460 : (Jvm.Cond.methodLink "ExcessTree" (23 : Nat) ({ cls := "ExcessTree$Row", name := "excess", desc := "(I)I" } : Jvm.MethodName)) ∈ lw_all := lw_g (lw_at lw_m2 131 rfl) rfl
theorem q466 : (Jvm.Cond.instanceMethod ({ cls := "ExcessTree", name := "rank", desc := "(II)I" } : Jvm.MethodName)) ∈ lw_all := lw_g (lw_at lw_m2 137 rfl) rfl
theorem q467 : (Jvm.Cond.selects "ExcessTree" ({ cls := "ExcessTree", name := "rank", desc := "(II)I" } : Jvm.MethodName) ({ cls := "ExcessTree", name := "rank", desc := "(II)I" } : Jvm.MethodName)) ∈ lw_all := lw_g (lw_at lw_m2 138 rfl) rfl
theorem q468 : (Jvm.Cond.code ({ cls := "ExcessTree", name := "rank", desc := "(II)I" } : Jvm.MethodName) prog_1_method_26_code (3 : Nat) (Option.some Jvm.ClassFile.FieldType.int)) ∈ lw_all := lw_g (lw_at lw_m2 139 rfl) rfl
theorem q469 : (Jvm.Cond.constantLong "ExcessTree" (168 : Nat) (2 : Int64)) ∈ lw_all := lw_g (lw_at lw_m2 140 rfl) rfl
theorem q471 : (Jvm.Cond.instanceMethod ({ cls := "ExcessTree", name := "select", desc := "(II)I" } : Jvm.MethodName)) ∈ lw_all := lw_g (lw_at lw_m2 142 rfl) rfl
theorem q472 : (Jvm.Cond.selects "ExcessTree" ({ cls := "ExcessTree", name := "select", desc := "(II)I" } : Jvm.MethodName) ({ cls := "ExcessTree", name := "select", desc := "(II)I" } : Jvm.MethodName)) ∈ lw_all := lw_g (lw_at lw_m2 143 rfl) rfl
theorem q473 : (Jvm.Cond.code ({ cls := "ExcessTree", name := "select", desc := "(II)I" } : Jvm.MethodName) prog_1_method_27_code (3 : Nat) (Option.some Jvm.ClassFile.FieldType.int)) ∈ lw_all := lw_g (lw_at lw_m2 144 rfl) rfl
theorem q474 : (Jvm.Cond.methodLink "ExcessTree" (55 : Nat) ({ cls := "ExcessTree", name := "selected", desc := "(II)I" } : Jvm.MethodName)) ∈ lw_all := lw_g (lw_at lw_m2 145 rfl) rfl
theorem q475 : (Jvm.Cond.privateMethod ({ cls := "ExcessTree", name := "selected", desc := "(II)I" } : Jvm.MethodName)) ∈ lw_tbl := lw_at lw_m2 146 rfl
theorem q476 : (Jvm.Cond.instanceMethod ({ cls := "ExcessTree", name := "selected", desc := "(II)I" } : Jvm.MethodName)) ∈ lw_all := lw_g (lw_at lw_m2 147 rfl) rfl
theorem q477 : (Jvm.Cond.code ({ cls := "ExcessTree", name := "selected", desc := "(II)I" } : Jvm.MethodName) prog_1_method_8_code (6 : Nat) (Option.some Jvm.ClassFile.FieldType.int)) ∈ lw_all := lw_g (lw_at lw_m2 148 rfl) rfl
theorem q479 : (Jvm.Cond.instanceMethod ({ cls := "ExcessTree", name := "forward", desc := "(II)I" } : Jvm.MethodName)) ∈ lw_all := lw_g (lw_at lw_m2 150 rfl) rfl
theorem q480 : (Jvm.Cond.selects "ExcessTree" ({ cls := "ExcessTree", name := "forward", desc := "(II)I" } : Jvm.MethodName) ({ cls := "ExcessTree", name := "forward", desc := "(II)I" } : Jvm.MethodName)) ∈ lw_all := lw_g (lw_at lw_m2 151 rfl) rfl
theorem q481 : (Jvm.Cond.code ({ cls := "ExcessTree", name := "forward", desc := "(II)I" } : Jvm.MethodName) prog_1_method_28_code (3 : Nat) (Option.some Jvm.ClassFile.FieldType.int)) ∈ lw_all := lw_g (lw_at lw_m2 152 rfl) rfl
theorem q482 : (Jvm.Cond.methodLink "ExcessTree" (46 : Nat) ({ cls := "ExcessTree", name := "searchOn", desc := "(II)I" } : Jvm.MethodName)) ∈ lw_all := lw_g (lw_at lw_m2 153 rfl) rfl
theorem q483 : (Jvm.Cond.privateMethod ({ cls := "ExcessTree", name := "searchOn", desc := "(II)I" } : Jvm.MethodName)) ∈ lw_tbl := lw_at lw_m2 154 rfl
theorem q484 : (Jvm.Cond.instanceMethod ({ cls := "ExcessTree", name := "searchOn", desc := "(II)I" } : Jvm.MethodName)) ∈ lw_all := lw_g (lw_at lw_m2 155 rfl) rfl
theorem q485 : (Jvm.Cond.code ({ cls := "ExcessTree", name := "searchOn", desc := "(II)I" } : Jvm.MethodName) prog_1_method_4_code (7 : Nat) (Option.some Jvm.ClassFile.FieldType.int)) ∈ lw_all := lw_g (lw_at lw_m2 156 rfl) rfl
theorem q486 : (Jvm.Cond.methodLink "ExcessTree" (26 : Nat) ({ cls := "ExcessTree", name := "onInBlock", desc := "(III)I" } : Jvm.MethodName)) ∈ lw_all := lw_g (lw_at lw_m2 157 rfl) rfl
theorem q487 : (Jvm.Cond.privateMethod ({ cls := "ExcessTree", name := "onInBlock", desc := "(III)I" } : Jvm.MethodName)) ∈ lw_tbl := lw_at lw_m2 158 rfl
theorem q488 : (Jvm.Cond.instanceMethod ({ cls := "ExcessTree", name := "onInBlock", desc := "(III)I" } : Jvm.MethodName)) ∈ lw_all := lw_g (lw_at lw_m2 159 rfl) rfl
theorem q489 : (Jvm.Cond.code ({ cls := "ExcessTree", name := "onInBlock", desc := "(III)I" } : Jvm.MethodName) prog_1_method_3_code (7 : Nat) (Option.some Jvm.ClassFile.FieldType.int)) ∈ lw_all := lw_g (lw_at lw_m2 160 rfl) rfl
theorem q490 : (Jvm.Cond.methodLink "ExcessTree" (13 : Nat) ({ cls := "java/lang/Math", name := "min", desc := "(II)I" } : Jvm.MethodName)) ∈ lw_all := lw_g (lw_at lw_m2 161 rfl) rfl
theorem q491 : (Jvm.Cond.methodLink "ExcessTree" (19 : Nat) ({ cls := "ExcessTree$Row", name := "step", desc := "(I)I" } : Jvm.MethodName)) ∈ lw_all := lw_g (lw_at lw_m2 162 rfl) rfl
theorem q492 : (Jvm.Cond.methodLink "ExcessTree" (30 : Nat) ({ cls := "ExcessTree$Row", name := "comesTo", desc := "(III)Z" } : Jvm.MethodName)) ∈ lw_all := lw_g (lw_at lw_m2 163 rfl) rfl
theorem q497 : (Jvm.Cond.instanceMethod ({ cls := "ExcessTree", name := "backward", desc := "(II)I" } : Jvm.MethodName)) ∈ lw_all := lw_g (lw_at lw_m2 168 rfl) rfl
theorem q498 : (Jvm.Cond.selects "ExcessTree" ({ cls := "ExcessTree", name := "backward", desc := "(II)I" } : Jvm.MethodName) ({ cls := "ExcessTree", name := "backward", desc := "(II)I" } : Jvm.MethodName)) ∈ lw_all := lw_g (lw_at lw_m2 169 rfl) rfl
theorem q499 : (Jvm.Cond.code ({ cls := "ExcessTree", name := "backward", desc := "(II)I" } : Jvm.MethodName) prog_1_method_29_code (3 : Nat) (Option.some Jvm.ClassFile.FieldType.int)) ∈ lw_all := lw_g (lw_at lw_m2 170 rfl) rfl
theorem q500 : (Jvm.Cond.methodLink "ExcessTree" (49 : Nat) ({ cls := "ExcessTree", name := "searchBack", desc := "(II)I" } : Jvm.MethodName)) ∈ lw_all := lw_g (lw_at lw_m2 171 rfl) rfl
theorem q501 : (Jvm.Cond.privateMethod ({ cls := "ExcessTree", name := "searchBack", desc := "(II)I" } : Jvm.MethodName)) ∈ lw_tbl := lw_at lw_m2 172 rfl
theorem q502 : (Jvm.Cond.instanceMethod ({ cls := "ExcessTree", name := "searchBack", desc := "(II)I" } : Jvm.MethodName)) ∈ lw_all := lw_g (lw_at lw_m2 173 rfl) rfl
theorem q503 : (Jvm.Cond.code ({ cls := "ExcessTree", name := "searchBack", desc := "(II)I" } : Jvm.MethodName) prog_1_method_6_code (8 : Nat) (Option.some Jvm.ClassFile.FieldType.int)) ∈ lw_all := lw_g (lw_at lw_m2 174 rfl) rfl
theorem q504 : (Jvm.Cond.methodLink "ExcessTree" (38 : Nat) ({ cls := "ExcessTree", name := "backInBlock", desc := "(IIII)I" } : Jvm.MethodName)) ∈ lw_all := lw_g (lw_at lw_m2 175 rfl) rfl
theorem q505 : (Jvm.Cond.privateMethod ({ cls := "ExcessTree", name := "backInBlock", desc := "(IIII)I" } : Jvm.MethodName)) ∈ lw_tbl := lw_at lw_m2 176 rfl
theorem q506 : (Jvm.Cond.instanceMethod ({ cls := "ExcessTree", name := "backInBlock", desc := "(IIII)I" } : Jvm.MethodName)) ∈ lw_all := lw_g (lw_at lw_m2 177 rfl) rfl
theorem q507 : (Jvm.Cond.code ({ cls := "ExcessTree", name := "backInBlock", desc := "(IIII)I" } : Jvm.MethodName) prog_1_method_5_code (7 : Nat) (Option.some Jvm.ClassFile.FieldType.int)) ∈ lw_all := lw_g (lw_at lw_m2 178 rfl) rfl
theorem q509 : (Jvm.Cond.instanceMethod ({ cls := "ExcessTree", name := "match", desc := "(I)I" } : Jvm.MethodName)) ∈ lw_all := lw_g (lw_at lw_m2 180 rfl) rfl
theorem q510 : (Jvm.Cond.selects "ExcessTree" ({ cls := "ExcessTree", name := "match", desc := "(I)I" } : Jvm.MethodName) ({ cls := "ExcessTree", name := "match", desc := "(I)I" } : Jvm.MethodName)) ∈ lw_all := lw_g (lw_at lw_m2 181 rfl) rfl
theorem q511 : (Jvm.Cond.code ({ cls := "ExcessTree", name := "match", desc := "(I)I" } : Jvm.MethodName) prog_1_method_30_code (2 : Nat) (Option.some Jvm.ClassFile.FieldType.int)) ∈ lw_all := lw_g (lw_at lw_m2 182 rfl) rfl
theorem q512 : (Jvm.Cond.methodLink "ExcessTree" (61 : Nat) ({ cls := "ExcessTree", name := "partner", desc := "(I)I" } : Jvm.MethodName)) ∈ lw_all := lw_g (lw_at lw_m2 183 rfl) rfl
theorem q513 : (Jvm.Cond.privateMethod ({ cls := "ExcessTree", name := "partner", desc := "(I)I" } : Jvm.MethodName)) ∈ lw_tbl := lw_at lw_m2 184 rfl
theorem q514 : (Jvm.Cond.instanceMethod ({ cls := "ExcessTree", name := "partner", desc := "(I)I" } : Jvm.MethodName)) ∈ lw_all := lw_g (lw_at lw_m2 185 rfl) rfl
theorem q515 : (Jvm.Cond.code ({ cls := "ExcessTree", name := "partner", desc := "(I)I" } : Jvm.MethodName) prog_1_method_7_code (2 : Nat) (Option.some Jvm.ClassFile.FieldType.int)) ∈ lw_all := lw_g (lw_at lw_m2 186 rfl) rfl
theorem q517 : (Jvm.Cond.instanceMethod ({ cls := "ExcessTree", name := "least", desc := "(III)I" } : Jvm.MethodName)) ∈ lw_all := lw_g (lw_at lw_m2 188 rfl) rfl
theorem q518 : (Jvm.Cond.selects "ExcessTree" ({ cls := "ExcessTree", name := "least", desc := "(III)I" } : Jvm.MethodName) ({ cls := "ExcessTree", name := "least", desc := "(III)I" } : Jvm.MethodName)) ∈ lw_all := lw_g (lw_at lw_m2 189 rfl) rfl
theorem q519 : (Jvm.Cond.code ({ cls := "ExcessTree", name := "least", desc := "(III)I" } : Jvm.MethodName) prog_1_method_31_code (4 : Nat) (Option.some Jvm.ClassFile.FieldType.int)) ∈ lw_all := lw_g (lw_at lw_m2 190 rfl) rfl
theorem q520 : (Jvm.Cond.constantLong "ExcessTree" (170 : Nat) (3 : Int64)) ∈ lw_all := lw_g (lw_at lw_m2 191 rfl) rfl
theorem q521 : (Jvm.Cond.methodLink "ExcessTree" (172 : Nat) ({ cls := "ExcessTree", name := "findLeast", desc := "(II)V" } : Jvm.MethodName)) ∈ lw_all := lw_g (lw_at lw_m2 192 rfl) rfl
theorem q522 : (Jvm.Cond.privateMethod ({ cls := "ExcessTree", name := "findLeast", desc := "(II)V" } : Jvm.MethodName)) ∈ lw_tbl := lw_at lw_m2 193 rfl
theorem q523 : (Jvm.Cond.instanceMethod ({ cls := "ExcessTree", name := "findLeast", desc := "(II)V" } : Jvm.MethodName)) ∈ lw_all := lw_g (lw_at lw_m2 194 rfl) rfl
theorem q524 : (Jvm.Cond.code ({ cls := "ExcessTree", name := "findLeast", desc := "(II)V" } : Jvm.MethodName) prog_1_method_14_code (5 : Nat) (Option.none : Option Jvm.ClassFile.FieldType)) ∈ lw_all := lw_g (lw_at lw_m2 195 rfl) rfl
theorem q525 : (Jvm.Cond.methodLink "ExcessTree" (79 : Nat) ({ cls := "java/lang/Math", name := "max", desc := "(II)I" } : Jvm.MethodName)) ∈ lw_all := lw_g (lw_at lw_m2 196 rfl) rfl
theorem q527 : (Jvm.Cond.instanceMethod ({ cls := "ExcessTree", name := "block", desc := "(II)I" } : Jvm.MethodName)) ∈ lw_all := lw_g (lw_at lw_m2 198 rfl) rfl
theorem q528 : (Jvm.Cond.selects "ExcessTree" ({ cls := "ExcessTree", name := "block", desc := "(II)I" } : Jvm.MethodName) ({ cls := "ExcessTree", name := "block", desc := "(II)I" } : Jvm.MethodName)) ∈ lw_all := lw_g (lw_at lw_m2 199 rfl) rfl
theorem q529 : (Jvm.Cond.code ({ cls := "ExcessTree", name := "block", desc := "(II)I" } : Jvm.MethodName) prog_1_method_32_code (4 : Nat) (Option.some Jvm.ClassFile.FieldType.int)) ∈ lw_all := lw_g (lw_at lw_m2 200 rfl) rfl
theorem q531 : (Jvm.Cond.instanceMethod ({ cls := "ExcessTree", name := "node", desc := "(II)I" } : Jvm.MethodName)) ∈ lw_all := lw_g (lw_at lw_m2 202 rfl) rfl
theorem q532 : (Jvm.Cond.selects "ExcessTree" ({ cls := "ExcessTree", name := "node", desc := "(II)I" } : Jvm.MethodName) ({ cls := "ExcessTree", name := "node", desc := "(II)I" } : Jvm.MethodName)) ∈ lw_all := lw_g (lw_at lw_m2 203 rfl) rfl
theorem q533 : (Jvm.Cond.code ({ cls := "ExcessTree", name := "node", desc := "(II)I" } : Jvm.MethodName) prog_1_method_45_code (3 : Nat) (Option.some Jvm.ClassFile.FieldType.int)) ∈ lw_all := lw_g (lw_at lw_m2 204 rfl) rfl
theorem q534 : (Jvm.Cond.methodLink "ExcessTree" (194 : Nat) ({ cls := "ExcessTree", name := "isNode", desc := "(I)Z" } : Jvm.MethodName)) ∈ lw_all := lw_g (lw_at lw_m2 205 rfl) rfl
theorem q535 : (Jvm.Cond.privateMethod ({ cls := "ExcessTree", name := "isNode", desc := "(I)Z" } : Jvm.MethodName)) ∈ lw_tbl := lw_at lw_m2 206 rfl
theorem q536 : (Jvm.Cond.instanceMethod ({ cls := "ExcessTree", name := "isNode", desc := "(I)Z" } : Jvm.MethodName)) ∈ lw_all := lw_g (lw_at lw_m2 207 rfl) rfl
theorem q537 : (Jvm.Cond.code ({ cls := "ExcessTree", name := "isNode", desc := "(I)Z" } : Jvm.MethodName) prog_1_method_33_code (2 : Nat) (Option.some Jvm.ClassFile.FieldType.boolean)) ∈ lw_all := lw_g (lw_at lw_m2 208 rfl) rfl
theorem q538 : (Jvm.Cond.methodLink "ExcessTree" (58 : Nat) ({ cls := "ExcessTree", name := "openOf", desc := "(I)I" } : Jvm.MethodName)) ∈ lw_all := lw_g (lw_at lw_m2 209 rfl) rfl
theorem q539 : (Jvm.Cond.privateMethod ({ cls := "ExcessTree", name := "openOf", desc := "(I)I" } : Jvm.MethodName)) ∈ lw_tbl := lw_at lw_m2 210 rfl
theorem q540 : (Jvm.Cond.instanceMethod ({ cls := "ExcessTree", name := "openOf", desc := "(I)I" } : Jvm.MethodName)) ∈ lw_all := lw_g (lw_at lw_m2 211 rfl) rfl
theorem q541 : (Jvm.Cond.code ({ cls := "ExcessTree", name := "openOf", desc := "(I)I" } : Jvm.MethodName) prog_1_method_10_code (2 : Nat) (Option.some Jvm.ClassFile.FieldType.int)) ∈ lw_all := lw_g (lw_at lw_m2 212 rfl) rfl
theorem q542 : (Jvm.Cond.methodLink "ExcessTree" (182 : Nat) ({ cls := "ExcessTree", name := "closeOf", desc := "(I)I" } : Jvm.MethodName)) ∈ lw_all := lw_g (lw_at lw_m2 213 rfl) rfl
theorem q543 : (Jvm.Cond.privateMethod ({ cls := "ExcessTree", name := "closeOf", desc := "(I)I" } : Jvm.MethodName)) ∈ lw_tbl := lw_at lw_m2 214 rfl
theorem q544 : (Jvm.Cond.instanceMethod ({ cls := "ExcessTree", name := "closeOf", desc := "(I)I" } : Jvm.MethodName)) ∈ lw_all := lw_g (lw_at lw_m2 215 rfl) rfl
theorem q545 : (Jvm.Cond.code ({ cls := "ExcessTree", name := "closeOf", desc := "(I)I" } : Jvm.MethodName) prog_1_method_11_code (2 : Nat) (Option.some Jvm.ClassFile.FieldType.int)) ∈ lw_all := lw_g (lw_at lw_m2 216 rfl) rfl
theorem q546 : (Jvm.Cond.methodLink "ExcessTree" (197 : Nat) ({ cls := "ExcessTree", name := "depthOf", desc := "(I)I" } : Jvm.MethodName)) ∈ lw_all := lw_g (lw_at lw_m2 217 rfl) rfl
theorem q547 : (Jvm.Cond.privateMethod ({ cls := "ExcessTree", name := "depthOf", desc := "(I)I" } : Jvm.MethodName)) ∈ lw_tbl := lw_at lw_m2 218 rfl
theorem q548 : (Jvm.Cond.instanceMethod ({ cls := "ExcessTree", name := "depthOf", desc := "(I)I" } : Jvm.MethodName)) ∈ lw_all := lw_g (lw_at lw_m2 219 rfl) rfl
theorem q549 : (Jvm.Cond.code ({ cls := "ExcessTree", name := "depthOf", desc := "(I)I" } : Jvm.MethodName) prog_1_method_13_code (2 : Nat) (Option.some Jvm.ClassFile.FieldType.int)) ∈ lw_all := lw_g (lw_at lw_m2 220 rfl) rfl
theorem q550 : (Jvm.Cond.methodLink "ExcessTree" (200 : Nat) ({ cls := "ExcessTree", name := "parentOf", desc := "(I)I" } : Jvm.MethodName)) ∈ lw_all := lw_g (lw_at lw_m2 221 rfl) rfl
theorem q551 : (Jvm.Cond.privateMethod ({ cls := "ExcessTree", name := "parentOf", desc := "(I)I" } : Jvm.MethodName)) ∈ lw_tbl := lw_at lw_m2 222 rfl
theorem q552 : (Jvm.Cond.instanceMethod ({ cls := "ExcessTree", name := "parentOf", desc := "(I)I" } : Jvm.MethodName)) ∈ lw_all := lw_g (lw_at lw_m2 223 rfl) rfl
theorem q553 : (Jvm.Cond.code ({ cls := "ExcessTree", name := "parentOf", desc := "(I)I" } : Jvm.MethodName) prog_1_method_34_code (4 : Nat) (Option.some Jvm.ClassFile.FieldType.int)) ∈ lw_all := lw_g (lw_at lw_m2 224 rfl) rfl
theorem q554 : (Jvm.Cond.methodLink "ExcessTree" (179 : Nat) ({ cls := "ExcessTree", name := "nodeAt", desc := "(I)I" } : Jvm.MethodName)) ∈ lw_all := lw_g (lw_at lw_m2 225 rfl) rfl
theorem q555 : (Jvm.Cond.privateMethod ({ cls := "ExcessTree", name := "nodeAt", desc := "(I)I" } : Jvm.MethodName)) ∈ lw_tbl := lw_at lw_m2 226 rfl
theorem q556 : (Jvm.Cond.instanceMethod ({ cls := "ExcessTree", name := "nodeAt", desc := "(I)I" } : Jvm.MethodName)) ∈ lw_all := lw_g (lw_at lw_m2 227 rfl) rfl
theorem q557 : (Jvm.Cond.code ({ cls := "ExcessTree", name := "nodeAt", desc := "(I)I" } : Jvm.MethodName) prog_1_method_12_code (2 : Nat) (Option.some Jvm.ClassFile.FieldType.int)) ∈ lw_all := lw_g (lw_at lw_m2 228 rfl) rfl
theorem q558 : (Jvm.Cond.methodLink "ExcessTree" (185 : Nat) ({ cls := "ExcessTree", name := "firstOf", desc := "(I)I" } : Jvm.MethodName)) ∈ lw_all := lw_g (lw_at lw_m2 229 rfl) rfl
theorem q559 : (Jvm.Cond.privateMethod ({ cls := "ExcessTree", name := "firstOf", desc := "(I)I" } : Jvm.MethodName)) ∈ lw_tbl := lw_at lw_m2 230 rfl
theorem q560 : (Jvm.Cond.instanceMethod ({ cls := "ExcessTree", name := "firstOf", desc := "(I)I" } : Jvm.MethodName)) ∈ lw_all := lw_g (lw_at lw_m2 231 rfl) rfl
theorem q561 : (Jvm.Cond.code ({ cls := "ExcessTree", name := "firstOf", desc := "(I)I" } : Jvm.MethodName) prog_1_method_35_code (3 : Nat) (Option.some Jvm.ClassFile.FieldType.int)) ∈ lw_all := lw_g (lw_at lw_m2 232 rfl) rfl
theorem q562 : (Jvm.Cond.methodLink "ExcessTree" (203 : Nat) ({ cls := "ExcessTree", name := "lastOf", desc := "(I)I" } : Jvm.MethodName)) ∈ lw_all := lw_g (lw_at lw_m2 233 rfl) rfl
theorem q563 : (Jvm.Cond.privateMethod ({ cls := "ExcessTree", name := "lastOf", desc := "(I)I" } : Jvm.MethodName)) ∈ lw_tbl := lw_at lw_m2 234 rfl
theorem q564 : (Jvm.Cond.instanceMethod ({ cls := "ExcessTree", name := "lastOf", desc := "(I)I" } : Jvm.MethodName)) ∈ lw_all := lw_g (lw_at lw_m2 235 rfl) rfl
theorem q565 : (Jvm.Cond.code ({ cls := "ExcessTree", name := "lastOf", desc := "(I)I" } : Jvm.MethodName) prog_1_method_36_code (3 : Nat) (Option.some Jvm.ClassFile.FieldType.int)) ∈ lw_all := lw_g (lw_at lw_m2 236 rfl) rfl
theorem q566 : (Jvm.Cond.methodLink "ExcessTree" (188 : Nat) ({ cls := "ExcessTree", name := "nextOf", desc := "(I)I" } : Jvm.MethodName)) ∈ lw_all := lw_g (lw_at lw_m2 237 rfl) rfl
theorem q567 : (Jvm.Cond.privateMethod ({ cls := "ExcessTree", name := "nextOf", desc := "(I)I" } : Jvm.MethodName)) ∈ lw_tbl := lw_at lw_m2 238 rfl
theorem q568 : (Jvm.Cond.instanceMethod ({ cls := "ExcessTree", name := "nextOf", desc := "(I)I" } : Jvm.MethodName)) ∈ lw_all := lw_g (lw_at lw_m2 239 rfl) rfl
theorem q569 : (Jvm.Cond.code ({ cls := "ExcessTree", name := "nextOf", desc := "(I)I" } : Jvm.MethodName) prog_1_method_37_code (3 : Nat) (Option.some Jvm.ClassFile.FieldType.int)) ∈ lw_all := lw_g (lw_at lw_m3 0 rfl) rfl
theorem q570 : (Jvm.Cond.methodLink "ExcessTree" (191 : Nat) ({ cls := "ExcessTree", name := "beforeOf", desc := "(I)I" } : Jvm.MethodName)) ∈ lw_all := lw_g (lw_at lw_m3 1 rfl) rfl
theorem q571 : (Jvm.Cond.privateMethod ({ cls := "ExcessTree", name := "beforeOf", desc := "(I)I" } : Jvm.MethodName)) ∈ lw_tbl := lw_at lw_m3 2 rfl
theorem q572 : (Jvm.Cond.instanceMethod ({ cls := "ExcessTree", name := "beforeOf", desc := "(I)I" } : Jvm.MethodName)) ∈ lw_all := lw_g (lw_at lw_m3 3 rfl) rfl
theorem q573 : (Jvm.Cond.code ({ cls := "ExcessTree", name := "beforeOf", desc := "(I)I" } : Jvm.MethodName) prog_1_method_38_code (3 : Nat) (Option.some Jvm.ClassFile.FieldType.int)) ∈ lw_all := lw_g (lw_at lw_m3 4 rfl) rfl
theorem q574 : (Jvm.Cond.methodLink "ExcessTree" (206 : Nat) ({ cls := "ExcessTree", name := "childrenOf", desc := "(I)I" } : Jvm.MethodName)) ∈ lw_all := lw_g (lw_at lw_m3 5 rfl) rfl
theorem q575 : (Jvm.Cond.privateMethod ({ cls := "ExcessTree", name := "childrenOf", desc := "(I)I" } : Jvm.MethodName)) ∈ lw_tbl := lw_at lw_m3 6 rfl
theorem q576 : (Jvm.Cond.instanceMethod ({ cls := "ExcessTree", name := "childrenOf", desc := "(I)I" } : Jvm.MethodName)) ∈ lw_all := lw_g (lw_at lw_m3 7 rfl) rfl
theorem q577 : (Jvm.Cond.code ({ cls := "ExcessTree", name := "childrenOf", desc := "(I)I" } : Jvm.MethodName) prog_1_method_40_code (4 : Nat) (Option.some Jvm.ClassFile.FieldType.int)) ∈ lw_all := lw_g (lw_at lw_m3 8 rfl) rfl
theorem q578 : (Jvm.Cond.methodLink "ExcessTree" (209 : Nat) ({ cls := "ExcessTree", name := "sizeOf", desc := "(I)I" } : Jvm.MethodName)) ∈ lw_all := lw_g (lw_at lw_m3 9 rfl) rfl
theorem q579 : (Jvm.Cond.privateMethod ({ cls := "ExcessTree", name := "sizeOf", desc := "(I)I" } : Jvm.MethodName)) ∈ lw_tbl := lw_at lw_m3 10 rfl
theorem q580 : (Jvm.Cond.instanceMethod ({ cls := "ExcessTree", name := "sizeOf", desc := "(I)I" } : Jvm.MethodName)) ∈ lw_all := lw_g (lw_at lw_m3 11 rfl) rfl
theorem q581 : (Jvm.Cond.code ({ cls := "ExcessTree", name := "sizeOf", desc := "(I)I" } : Jvm.MethodName) prog_1_method_42_code (2 : Nat) (Option.some Jvm.ClassFile.FieldType.int)) ∈ lw_all := lw_g (lw_at lw_m3 12 rfl) rfl
theorem q582 : (Jvm.Cond.methodLink "ExcessTree" (212 : Nat) ({ cls := "ExcessTree", name := "leavesOf", desc := "(I)I" } : Jvm.MethodName)) ∈ lw_all := lw_g (lw_at lw_m3 13 rfl) rfl
theorem q583 : (Jvm.Cond.privateMethod ({ cls := "ExcessTree", name := "leavesOf", desc := "(I)I" } : Jvm.MethodName)) ∈ lw_tbl := lw_at lw_m3 14 rfl
theorem q584 : (Jvm.Cond.instanceMethod ({ cls := "ExcessTree", name := "leavesOf", desc := "(I)I" } : Jvm.MethodName)) ∈ lw_all := lw_g (lw_at lw_m3 15 rfl) rfl
theorem q585 : (Jvm.Cond.code ({ cls := "ExcessTree", name := "leavesOf", desc := "(I)I" } : Jvm.MethodName) prog_1_method_43_code (2 : Nat) (Option.some Jvm.ClassFile.FieldType.int)) ∈ lw_all := lw_g (lw_at lw_m3 16 rfl) rfl
theorem q586 : (Jvm.Cond.methodLink "ExcessTree" (215 : Nat) ({ cls := "ExcessTree", name := "deeperOf", desc := "(I)I" } : Jvm.MethodName)) ∈ lw_all := lw_g (lw_at lw_m3 17 rfl) rfl
theorem q587 : (Jvm.Cond.privateMethod ({ cls := "ExcessTree", name := "deeperOf", desc := "(I)I" } : Jvm.MethodName)) ∈ lw_tbl := lw_at lw_m3 18 rfl
theorem q588 : (Jvm.Cond.instanceMethod ({ cls := "ExcessTree", name := "deeperOf", desc := "(I)I" } : Jvm.MethodName)) ∈ lw_all := lw_g (lw_at lw_m3 19 rfl) rfl
theorem q589 : (Jvm.Cond.code ({ cls := "ExcessTree", name := "deeperOf", desc := "(I)I" } : Jvm.MethodName) prog_1_method_44_code (3 : Nat) (Option.some Jvm.ClassFile.FieldType.int)) ∈ lw_all := lw_g (lw_at lw_m3 20 rfl) rfl
theorem q590 : (Jvm.Cond.methodLink "ExcessTree" (218 : Nat) ({ cls := "ExcessTree", name := "whichOf", desc := "(I)I" } : Jvm.MethodName)) ∈ lw_all := lw_g (lw_at lw_m3 21 rfl) rfl
theorem q591 : (Jvm.Cond.privateMethod ({ cls := "ExcessTree", name := "whichOf", desc := "(I)I" } : Jvm.MethodName)) ∈ lw_tbl := lw_at lw_m3 22 rfl
theorem q592 : (Jvm.Cond.instanceMethod ({ cls := "ExcessTree", name := "whichOf", desc := "(I)I" } : Jvm.MethodName)) ∈ lw_all := lw_g (lw_at lw_m3 23 rfl) rfl
theorem q593 : (Jvm.Cond.code ({ cls := "ExcessTree", name := "whichOf", desc := "(I)I" } : Jvm.MethodName) prog_1_method_41_code (4 : Nat) (Option.some Jvm.ClassFile.FieldType.int)) ∈ lw_all := lw_g (lw_at lw_m3 24 rfl) rfl
theorem q595 : (Jvm.Cond.instanceMethod ({ cls := "ExcessTree", name := "child", desc := "(II)I" } : Jvm.MethodName)) ∈ lw_all := lw_g (lw_at lw_m3 26 rfl) rfl
theorem q596 : (Jvm.Cond.selects "ExcessTree" ({ cls := "ExcessTree", name := "child", desc := "(II)I" } : Jvm.MethodName) ({ cls := "ExcessTree", name := "child", desc := "(II)I" } : Jvm.MethodName)) ∈ lw_all := lw_g (lw_at lw_m3 27 rfl) rfl
theorem q597 : (Jvm.Cond.code ({ cls := "ExcessTree", name := "child", desc := "(II)I" } : Jvm.MethodName) prog_1_method_46_code (3 : Nat) (Option.some Jvm.ClassFile.FieldType.int)) ∈ lw_all := lw_g (lw_at lw_m3 28 rfl) rfl
theorem q598 : (Jvm.Cond.methodLink "ExcessTree" (221 : Nat) ({ cls := "ExcessTree", name := "childOf", desc := "(II)I" } : Jvm.MethodName)) ∈ lw_all := lw_g (lw_at lw_m3 29 rfl) rfl
theorem q599 : (Jvm.Cond.privateMethod ({ cls := "ExcessTree", name := "childOf", desc := "(II)I" } : Jvm.MethodName)) ∈ lw_tbl := lw_at lw_m3 30 rfl
theorem q600 : (Jvm.Cond.instanceMethod ({ cls := "ExcessTree", name := "childOf", desc := "(II)I" } : Jvm.MethodName)) ∈ lw_all := lw_g (lw_at lw_m3 31 rfl) rfl
theorem q601 : (Jvm.Cond.code ({ cls := "ExcessTree", name := "childOf", desc := "(II)I" } : Jvm.MethodName) prog_1_method_39_code (5 : Nat) (Option.some Jvm.ClassFile.FieldType.int)) ∈ lw_all := lw_g (lw_at lw_m3 32 rfl) rfl
theorem q603 : (Jvm.Cond.instanceMethod ({ cls := "ExcessTree", name := "below", desc := "(I)I" } : Jvm.MethodName)) ∈ lw_all := lw_g (lw_at lw_m3 34 rfl) rfl
theorem q604 : (Jvm.Cond.selects "ExcessTree" ({ cls := "ExcessTree", name := "below", desc := "(I)I" } : Jvm.MethodName) ({ cls := "ExcessTree", name := "below", desc := "(I)I" } : Jvm.MethodName)) ∈ lw_all := lw_g (lw_at lw_m3 35 rfl) rfl
theorem q605 : (Jvm.Cond.code ({ cls := "ExcessTree", name := "below", desc := "(I)I" } : Jvm.MethodName) prog_1_method_47_code (2 : Nat) (Option.some Jvm.ClassFile.FieldType.int)) ∈ lw_all := lw_g (lw_at lw_m3 36 rfl) rfl
theorem q607 : (Jvm.Cond.instanceMethod ({ cls := "ExcessTree", name := "up", desc := "(II)I" } : Jvm.MethodName)) ∈ lw_all := lw_g (lw_at lw_m3 38 rfl) rfl
theorem q608 : (Jvm.Cond.selects "ExcessTree" ({ cls := "ExcessTree", name := "up", desc := "(II)I" } : Jvm.MethodName) ({ cls := "ExcessTree", name := "up", desc := "(II)I" } : Jvm.MethodName)) ∈ lw_all := lw_g (lw_at lw_m3 39 rfl) rfl
theorem q609 : (Jvm.Cond.code ({ cls := "ExcessTree", name := "up", desc := "(II)I" } : Jvm.MethodName) prog_1_method_48_code (5 : Nat) (Option.some Jvm.ClassFile.FieldType.int)) ∈ lw_all := lw_g (lw_at lw_m3 40 rfl) rfl
theorem q611 : (Jvm.Cond.instanceMethod ({ cls := "ExcessTree", name := "meet", desc := "(II)I" } : Jvm.MethodName)) ∈ lw_all := lw_g (lw_at lw_m3 42 rfl) rfl
theorem q612 : (Jvm.Cond.selects "ExcessTree" ({ cls := "ExcessTree", name := "meet", desc := "(II)I" } : Jvm.MethodName) ({ cls := "ExcessTree", name := "meet", desc := "(II)I" } : Jvm.MethodName)) ∈ lw_all := lw_g (lw_at lw_m3 43 rfl) rfl
theorem q613 : (Jvm.Cond.code ({ cls := "ExcessTree", name := "meet", desc := "(II)I" } : Jvm.MethodName) prog_1_method_51_code (3 : Nat) (Option.some Jvm.ClassFile.FieldType.int)) ∈ lw_all := lw_g (lw_at lw_m3 44 rfl) rfl
theorem q614 : (Jvm.Cond.methodLink "ExcessTree" (228 : Nat) ({ cls := "ExcessTree", name := "metOf", desc := "(II)I" } : Jvm.MethodName)) ∈ lw_all := lw_g (lw_at lw_m3 45 rfl) rfl
theorem q615 : (Jvm.Cond.privateMethod ({ cls := "ExcessTree", name := "metOf", desc := "(II)I" } : Jvm.MethodName)) ∈ lw_tbl := lw_at lw_m3 46 rfl
theorem q616 : (Jvm.Cond.instanceMethod ({ cls := "ExcessTree", name := "metOf", desc := "(II)I" } : Jvm.MethodName)) ∈ lw_all := lw_g (lw_at lw_m3 47 rfl) rfl
theorem q617 : (Jvm.Cond.code ({ cls := "ExcessTree", name := "metOf", desc := "(II)I" } : Jvm.MethodName) prog_1_method_50_code (6 : Nat) (Option.some Jvm.ClassFile.FieldType.int)) ∈ lw_all := lw_g (lw_at lw_m3 48 rfl) rfl
theorem q618 : (Jvm.Cond.methodLink "ExcessTree" (224 : Nat) ({ cls := "ExcessTree", name := "isAbove", desc := "(II)Z" } : Jvm.MethodName)) ∈ lw_all := lw_g (lw_at lw_m3 49 rfl) rfl
theorem q619 : (Jvm.Cond.privateMethod ({ cls := "ExcessTree", name := "isAbove", desc := "(II)Z" } : Jvm.MethodName)) ∈ lw_tbl := lw_at lw_m3 50 rfl
theorem q620 : (Jvm.Cond.instanceMethod ({ cls := "ExcessTree", name := "isAbove", desc := "(II)Z" } : Jvm.MethodName)) ∈ lw_all := lw_g (lw_at lw_m3 51 rfl) rfl
theorem q621 : (Jvm.Cond.code ({ cls := "ExcessTree", name := "isAbove", desc := "(II)Z" } : Jvm.MethodName) prog_1_method_49_code (4 : Nat) (Option.some Jvm.ClassFile.FieldType.boolean)) ∈ lw_all := lw_g (lw_at lw_m3 52 rfl) rfl
theorem q623 : (Jvm.Cond.instanceMethod ({ cls := "ExcessTree", name := "way", desc := "(II)I" } : Jvm.MethodName)) ∈ lw_all := lw_g (lw_at lw_m3 54 rfl) rfl
theorem q624 : (Jvm.Cond.selects "ExcessTree" ({ cls := "ExcessTree", name := "way", desc := "(II)I" } : Jvm.MethodName) ({ cls := "ExcessTree", name := "way", desc := "(II)I" } : Jvm.MethodName)) ∈ lw_all := lw_g (lw_at lw_m3 55 rfl) rfl
theorem q625 : (Jvm.Cond.code ({ cls := "ExcessTree", name := "way", desc := "(II)I" } : Jvm.MethodName) prog_1_method_52_code (3 : Nat) (Option.some Jvm.ClassFile.FieldType.int)) ∈ lw_all := lw_g (lw_at lw_m3 56 rfl) rfl
theorem q627 : (Jvm.Cond.instanceMethod ({ cls := "ExcessTree", name := "level", desc := "(II)I" } : Jvm.MethodName)) ∈ lw_all := lw_g (lw_at lw_m3 58 rfl) rfl
theorem q628 : (Jvm.Cond.selects "ExcessTree" ({ cls := "ExcessTree", name := "level", desc := "(II)I" } : Jvm.MethodName) ({ cls := "ExcessTree", name := "level", desc := "(II)I" } : Jvm.MethodName)) ∈ lw_all := lw_g (lw_at lw_m3 59 rfl) rfl
theorem q629 : (Jvm.Cond.code ({ cls := "ExcessTree", name := "level", desc := "(II)I" } : Jvm.MethodName) prog_1_method_57_code (5 : Nat) (Option.some Jvm.ClassFile.FieldType.int)) ∈ lw_all := lw_g (lw_at lw_m3 60 rfl) rfl
theorem q630 : (Jvm.Cond.methodLink "ExcessTree" (231 : Nat) ({ cls := "ExcessTree", name := "firstDeep", desc := "(I)I" } : Jvm.MethodName)) ∈ lw_all := lw_g (lw_at lw_m3 61 rfl) rfl
theorem q631 : (Jvm.Cond.privateMethod ({ cls := "ExcessTree", name := "firstDeep", desc := "(I)I" } : Jvm.MethodName)) ∈ lw_tbl := lw_at lw_m3 62 rfl
theorem q632 : (Jvm.Cond.instanceMethod ({ cls := "ExcessTree", name := "firstDeep", desc := "(I)I" } : Jvm.MethodName)) ∈ lw_all := lw_g (lw_at lw_m3 63 rfl) rfl
theorem q633 : (Jvm.Cond.code ({ cls := "ExcessTree", name := "firstDeep", desc := "(I)I" } : Jvm.MethodName) prog_1_method_55_code (3 : Nat) (Option.some Jvm.ClassFile.FieldType.int)) ∈ lw_all := lw_g (lw_at lw_m3 64 rfl) rfl
theorem q634 : (Jvm.Cond.methodLink "ExcessTree" (234 : Nat) ({ cls := "ExcessTree", name := "lastDeep", desc := "(I)I" } : Jvm.MethodName)) ∈ lw_all := lw_g (lw_at lw_m3 65 rfl) rfl
theorem q635 : (Jvm.Cond.privateMethod ({ cls := "ExcessTree", name := "lastDeep", desc := "(I)I" } : Jvm.MethodName)) ∈ lw_tbl := lw_at lw_m3 66 rfl
theorem q636 : (Jvm.Cond.instanceMethod ({ cls := "ExcessTree", name := "lastDeep", desc := "(I)I" } : Jvm.MethodName)) ∈ lw_all := lw_g (lw_at lw_m3 67 rfl) rfl
theorem q637 : (Jvm.Cond.code ({ cls := "ExcessTree", name := "lastDeep", desc := "(I)I" } : Jvm.MethodName) prog_1_method_56_code (3 : Nat) (Option.some Jvm.ClassFile.FieldType.int)) ∈ lw_all := lw_g (lw_at lw_m3 68 rfl) rfl
theorem q638 : (Jvm.Cond.methodLink "ExcessTree" (237 : Nat) ({ cls := "ExcessTree", name := "onOf", desc := "(I)I" } : Jvm.MethodName)) ∈ lw_all := lw_g (lw_at lw_m3 69 rfl) rfl
theorem q639 : (Jvm.Cond.privateMethod ({ cls := "ExcessTree", name := "onOf", desc := "(I)I" } : Jvm.MethodName)) ∈ lw_tbl := lw_at lw_m3 70 rfl
theorem q640 : (Jvm.Cond.instanceMethod ({ cls := "ExcessTree", name := "onOf", desc := "(I)I" } : Jvm.MethodName)) ∈ lw_all := lw_g (lw_at lw_m3 71 rfl) rfl
theorem q641 : (Jvm.Cond.code ({ cls := "ExcessTree", name := "onOf", desc := "(I)I" } : Jvm.MethodName) prog_1_method_53_code (4 : Nat) (Option.some Jvm.ClassFile.FieldType.int)) ∈ lw_all := lw_g (lw_at lw_m3 72 rfl) rfl
theorem q643 : (Jvm.Cond.instanceMethod ({ cls := "ExcessTree", name := "beside", desc := "(II)I" } : Jvm.MethodName)) ∈ lw_all := lw_g (lw_at lw_m3 74 rfl) rfl
theorem q644 : (Jvm.Cond.selects "ExcessTree" ({ cls := "ExcessTree", name := "beside", desc := "(II)I" } : Jvm.MethodName) ({ cls := "ExcessTree", name := "beside", desc := "(II)I" } : Jvm.MethodName)) ∈ lw_all := lw_g (lw_at lw_m3 75 rfl) rfl
theorem q645 : (Jvm.Cond.code ({ cls := "ExcessTree", name := "beside", desc := "(II)I" } : Jvm.MethodName) prog_1_method_58_code (3 : Nat) (Option.some Jvm.ClassFile.FieldType.int)) ∈ lw_all := lw_g (lw_at lw_m3 76 rfl) rfl
theorem q646 : (Jvm.Cond.methodLink "ExcessTree" (240 : Nat) ({ cls := "ExcessTree", name := "backOf", desc := "(I)I" } : Jvm.MethodName)) ∈ lw_all := lw_g (lw_at lw_m3 77 rfl) rfl
theorem q647 : (Jvm.Cond.privateMethod ({ cls := "ExcessTree", name := "backOf", desc := "(I)I" } : Jvm.MethodName)) ∈ lw_tbl := lw_at lw_m3 78 rfl
theorem q648 : (Jvm.Cond.instanceMethod ({ cls := "ExcessTree", name := "backOf", desc := "(I)I" } : Jvm.MethodName)) ∈ lw_all := lw_g (lw_at lw_m3 79 rfl) rfl
theorem q649 : (Jvm.Cond.code ({ cls := "ExcessTree", name := "backOf", desc := "(I)I" } : Jvm.MethodName) prog_1_method_54_code (4 : Nat) (Option.some Jvm.ClassFile.FieldType.int)) ∈ lw_all := lw_g (lw_at lw_m3 80 rfl) rfl
theorem q651 : (Jvm.Cond.instanceMethod ({ cls := "ExcessTree", name := "deepest", desc := "(I)I" } : Jvm.MethodName)) ∈ lw_all := lw_g (lw_at lw_m3 82 rfl) rfl
theorem q652 : (Jvm.Cond.selects "ExcessTree" ({ cls := "ExcessTree", name := "deepest", desc := "(I)I" } : Jvm.MethodName) ({ cls := "ExcessTree", name := "deepest", desc := "(I)I" } : Jvm.MethodName)) ∈ lw_all := lw_g (lw_at lw_m3 83 rfl) rfl
theorem q653 : (Jvm.Cond.code ({ cls := "ExcessTree", name := "deepest", desc := "(I)I" } : Jvm.MethodName) prog_1_method_59_code (3 : Nat) (Option.some Jvm.ClassFile.FieldType.int)) ∈ lw_all := lw_g (lw_at lw_m3 84 rfl) rfl
theorem q655 : (Jvm.Cond.instanceMethod ({ cls := "ExcessTree", name := "alike", desc := "(II)I" } : Jvm.MethodName)) ∈ lw_all := lw_g (lw_at lw_m3 86 rfl) rfl
theorem q656 : (Jvm.Cond.selects "ExcessTree" ({ cls := "ExcessTree", name := "alike", desc := "(II)I" } : Jvm.MethodName) ({ cls := "ExcessTree", name := "alike", desc := "(II)I" } : Jvm.MethodName)) ∈ lw_all := lw_g (lw_at lw_m3 87 rfl) rfl
theorem q657 : (Jvm.Cond.code ({ cls := "ExcessTree", name := "alike", desc := "(II)I" } : Jvm.MethodName) prog_1_method_60_code (8 : Nat) (Option.some Jvm.ClassFile.FieldType.int)) ∈ lw_all := lw_g (lw_at lw_m3 88 rfl) rfl
theorem q659 : (Jvm.Cond.instanceMethod ({ cls := "ExcessTree", name := "weight", desc := "(I)I" } : Jvm.MethodName)) ∈ lw_all := lw_g (lw_at lw_m3 90 rfl) rfl
theorem q660 : (Jvm.Cond.selects "ExcessTree" ({ cls := "ExcessTree", name := "weight", desc := "(I)I" } : Jvm.MethodName) ({ cls := "ExcessTree", name := "weight", desc := "(I)I" } : Jvm.MethodName)) ∈ lw_all := lw_g (lw_at lw_m3 91 rfl) rfl
theorem q661 : (Jvm.Cond.code ({ cls := "ExcessTree", name := "weight", desc := "(I)I" } : Jvm.MethodName) prog_1_method_61_code (2 : Nat) (Option.some Jvm.ClassFile.FieldType.int)) ∈ lw_all := lw_g (lw_at lw_m3 92 rfl) rfl
theorem q663 : (Jvm.Cond.instanceMethod ({ cls := "ExcessTree", name := "set", desc := "(II)I" } : Jvm.MethodName)) ∈ lw_all := lw_g (lw_at lw_m3 94 rfl) rfl
theorem q664 : (Jvm.Cond.selects "ExcessTree" ({ cls := "ExcessTree", name := "set", desc := "(II)I" } : Jvm.MethodName) ({ cls := "ExcessTree", name := "set", desc := "(II)I" } : Jvm.MethodName)) ∈ lw_all := lw_g (lw_at lw_m3 95 rfl) rfl
theorem q665 : (Jvm.Cond.code ({ cls := "ExcessTree", name := "set", desc := "(II)I" } : Jvm.MethodName) prog_1_method_62_code (4 : Nat) (Option.some Jvm.ClassFile.FieldType.int)) ∈ lw_all := lw_g (lw_at lw_m3 96 rfl) rfl
theorem q667 : (Jvm.Cond.instanceMethod ({ cls := "ExcessTree", name := "sum", desc := "(II)I" } : Jvm.MethodName)) ∈ lw_all := lw_g (lw_at lw_m3 98 rfl) rfl
theorem q668 : (Jvm.Cond.selects "ExcessTree" ({ cls := "ExcessTree", name := "sum", desc := "(II)I" } : Jvm.MethodName) ({ cls := "ExcessTree", name := "sum", desc := "(II)I" } : Jvm.MethodName)) ∈ lw_all := lw_g (lw_at lw_m3 99 rfl) rfl
theorem q669 : (Jvm.Cond.codeWith ({ cls := "ExcessTree", name := "sum", desc := "(II)I" } : Jvm.MethodName) prog_1_method_65_code (4 : Nat) (Option.some Jvm.ClassFile.FieldType.int) [((20 : Nat), (37 : Nat), (38 : Nat), (256 : Nat))]) ∈ lw_all := lw_g (lw_at lw_m3 100 rfl) rfl
theorem q670 : (Jvm.Cond.classLink "ExcessTree" (256 : Nat) "java/lang/ArithmeticException") ∈ lw_all := lw_g (lw_at lw_m3 101 rfl) rfl
theorem q699 : (Jvm.Cond.methodLink "ExcessTree" (250 : Nat) ({ cls := "ExcessTree", name := "sumBelow", desc := "(I)I" } : Jvm.MethodName)) ∈ lw_all := lw_g (lw_at lw_m3 130 rfl) rfl
theorem q700 : (Jvm.Cond.privateMethod ({ cls := "ExcessTree", name := "sumBelow", desc := "(I)I" } : Jvm.MethodName)) ∈ lw_tbl := lw_at lw_m3 131 rfl
theorem q701 : (Jvm.Cond.instanceMethod ({ cls := "ExcessTree", name := "sumBelow", desc := "(I)I" } : Jvm.MethodName)) ∈ lw_all := lw_g (lw_at lw_m3 132 rfl) rfl
theorem q702 : (Jvm.Cond.code ({ cls := "ExcessTree", name := "sumBelow", desc := "(I)I" } : Jvm.MethodName) prog_1_method_63_code (4 : Nat) (Option.some Jvm.ClassFile.FieldType.int)) ∈ lw_all := lw_g (lw_at lw_m3 133 rfl) rfl
theorem q703 : (Jvm.Cond.methodLink "ExcessTree" (247 : Nat) ({ cls := "java/lang/Math", name := "addExact", desc := "(II)I" } : Jvm.MethodName)) ∈ lw_all := lw_g (lw_at lw_m3 134 rfl) rfl
theorem q709 : (Jvm.Cond.methodLink "ExcessTree" (253 : Nat) ({ cls := "ExcessTree", name := "sumAbove", desc := "(I)I" } : Jvm.MethodName)) ∈ lw_all := lw_g (lw_at lw_m3 140 rfl) rfl
theorem q710 : (Jvm.Cond.privateMethod ({ cls := "ExcessTree", name := "sumAbove", desc := "(I)I" } : Jvm.MethodName)) ∈ lw_tbl := lw_at lw_m3 141 rfl
theorem q711 : (Jvm.Cond.instanceMethod ({ cls := "ExcessTree", name := "sumAbove", desc := "(I)I" } : Jvm.MethodName)) ∈ lw_all := lw_g (lw_at lw_m3 142 rfl) rfl
theorem q712 : (Jvm.Cond.code ({ cls := "ExcessTree", name := "sumAbove", desc := "(I)I" } : Jvm.MethodName) prog_1_method_64_code (4 : Nat) (Option.some Jvm.ClassFile.FieldType.int)) ∈ lw_all := lw_g (lw_at lw_m3 143 rfl) rfl
theorem q714 : (Jvm.Cond.instanceMethod ({ cls := "ExcessTree", name := "heaviest", desc := "(I)I" } : Jvm.MethodName)) ∈ lw_all := lw_g (lw_at lw_m3 145 rfl) rfl
theorem q715 : (Jvm.Cond.selects "ExcessTree" ({ cls := "ExcessTree", name := "heaviest", desc := "(I)I" } : Jvm.MethodName) ({ cls := "ExcessTree", name := "heaviest", desc := "(I)I" } : Jvm.MethodName)) ∈ lw_all := lw_g (lw_at lw_m3 146 rfl) rfl
theorem q716 : (Jvm.Cond.code ({ cls := "ExcessTree", name := "heaviest", desc := "(I)I" } : Jvm.MethodName) prog_1_method_66_code (4 : Nat) (Option.some Jvm.ClassFile.FieldType.int)) ∈ lw_all := lw_g (lw_at lw_m3 147 rfl) rfl
theorem q718 : (Jvm.Cond.instanceMethod ({ cls := "ExcessTree", name := "plant", desc := "(I)I" } : Jvm.MethodName)) ∈ lw_all := lw_g (lw_at lw_m3 149 rfl) rfl
theorem q719 : (Jvm.Cond.selects "ExcessTree" ({ cls := "ExcessTree", name := "plant", desc := "(I)I" } : Jvm.MethodName) ({ cls := "ExcessTree", name := "plant", desc := "(I)I" } : Jvm.MethodName)) ∈ lw_all := lw_g (lw_at lw_m3 150 rfl) rfl
theorem q720 : (Jvm.Cond.code ({ cls := "ExcessTree", name := "plant", desc := "(I)I" } : Jvm.MethodName) prog_1_method_71_code (2 : Nat) (Option.some Jvm.ClassFile.FieldType.int)) ∈ lw_all := lw_g (lw_at lw_m3 151 rfl) rfl
theorem q721 : (Jvm.Cond.methodLink "ExcessTree" (268 : Nat) ({ cls := "ExcessTree", name := "bitComes", desc := "(IZ)V" } : Jvm.MethodName)) ∈ lw_all := lw_g (lw_at lw_m3 152 rfl) rfl
theorem q722 : (Jvm.Cond.privateMethod ({ cls := "ExcessTree", name := "bitComes", desc := "(IZ)V" } : Jvm.MethodName)) ∈ lw_tbl := lw_at lw_m3 153 rfl
theorem q723 : (Jvm.Cond.instanceMethod ({ cls := "ExcessTree", name := "bitComes", desc := "(IZ)V" } : Jvm.MethodName)) ∈ lw_all := lw_g (lw_at lw_m3 154 rfl) rfl
theorem q724 : (Jvm.Cond.code ({ cls := "ExcessTree", name := "bitComes", desc := "(IZ)V" } : Jvm.MethodName) prog_1_method_67_code (4 : Nat) (Option.none : Option Jvm.ClassFile.FieldType)) ∈ lw_all := lw_g (lw_at lw_m3 155 rfl) rfl
theorem q725 : (Jvm.Cond.methodLink "ExcessTree" (258 : Nat) ({ cls := "ExcessTree$Row", name := "becomes", desc := "(IZ)V" } : Jvm.MethodName)) ∈ lw_all := lw_g (lw_at lw_m3 156 rfl) rfl
theorem q727 : (Jvm.Cond.instanceMethod ({ cls := "ExcessTree", name := "leaf", desc := "(III)I" } : Jvm.MethodName)) ∈ lw_all := lw_g (lw_at lw_m3 158 rfl) rfl
theorem q728 : (Jvm.Cond.selects "ExcessTree" ({ cls := "ExcessTree", name := "leaf", desc := "(III)I" } : Jvm.MethodName) ({ cls := "ExcessTree", name := "leaf", desc := "(III)I" } : Jvm.MethodName)) ∈ lw_all := lw_g (lw_at lw_m3 159 rfl) rfl
theorem q729 : (Jvm.Cond.code ({ cls := "ExcessTree", name := "leaf", desc := "(III)I" } : Jvm.MethodName) prog_1_method_74_code (4 : Nat) (Option.some Jvm.ClassFile.FieldType.int)) ∈ lw_all := lw_g (lw_at lw_m3 160 rfl) rfl
theorem q730 : (Jvm.Cond.methodLink "ExcessTree" (277 : Nat) ({ cls := "ExcessTree", name := "leafComes", desc := "(III)I" } : Jvm.MethodName)) ∈ lw_all := lw_g (lw_at lw_m3 161 rfl) rfl
theorem q731 : (Jvm.Cond.privateMethod ({ cls := "ExcessTree", name := "leafComes", desc := "(III)I" } : Jvm.MethodName)) ∈ lw_tbl := lw_at lw_m3 162 rfl
theorem q732 : (Jvm.Cond.instanceMethod ({ cls := "ExcessTree", name := "leafComes", desc := "(III)I" } : Jvm.MethodName)) ∈ lw_all := lw_g (lw_at lw_m3 163 rfl) rfl
theorem q733 : (Jvm.Cond.code ({ cls := "ExcessTree", name := "leafComes", desc := "(III)I" } : Jvm.MethodName) prog_1_method_73_code (6 : Nat) (Option.some Jvm.ClassFile.FieldType.int)) ∈ lw_all := lw_g (lw_at lw_m3 164 rfl) rfl
theorem q734 : (Jvm.Cond.methodLink "ExcessTree" (271 : Nat) ({ cls := "ExcessTree", name := "placeOfChild", desc := "(II)I" } : Jvm.MethodName)) ∈ lw_all := lw_g (lw_at lw_m3 165 rfl) rfl
theorem q735 : (Jvm.Cond.privateMethod ({ cls := "ExcessTree", name := "placeOfChild", desc := "(II)I" } : Jvm.MethodName)) ∈ lw_tbl := lw_at lw_m3 166 rfl
theorem q736 : (Jvm.Cond.instanceMethod ({ cls := "ExcessTree", name := "placeOfChild", desc := "(II)I" } : Jvm.MethodName)) ∈ lw_all := lw_g (lw_at lw_m3 167 rfl) rfl
theorem q737 : (Jvm.Cond.code ({ cls := "ExcessTree", name := "placeOfChild", desc := "(II)I" } : Jvm.MethodName) prog_1_method_72_code (4 : Nat) (Option.some Jvm.ClassFile.FieldType.int)) ∈ lw_all := lw_g (lw_at lw_m3 168 rfl) rfl
theorem q738 : (Jvm.Cond.methodLink "ExcessTree" (274 : Nat) ({ cls := "ExcessTree", name := "weightComes", desc := "(II)V" } : Jvm.MethodName)) ∈ lw_all := lw_g (lw_at lw_m3 169 rfl) rfl
theorem q739 : (Jvm.Cond.privateMethod ({ cls := "ExcessTree", name := "weightComes", desc := "(II)V" } : Jvm.MethodName)) ∈ lw_tbl := lw_at lw_m3 170 rfl
theorem q740 : (Jvm.Cond.instanceMethod ({ cls := "ExcessTree", name := "weightComes", desc := "(II)V" } : Jvm.MethodName)) ∈ lw_all := lw_g (lw_at lw_m3 171 rfl) rfl
theorem q741 : (Jvm.Cond.code ({ cls := "ExcessTree", name := "weightComes", desc := "(II)V" } : Jvm.MethodName) prog_1_method_69_code (4 : Nat) (Option.none : Option Jvm.ClassFile.FieldType)) ∈ lw_all := lw_g (lw_at lw_m3 172 rfl) rfl
theorem q742 : (Jvm.Cond.methodLink "ExcessTree" (262 : Nat) ({ cls := "java/lang/System", name := "arraycopy", desc := "(Ljava/lang/Object;ILjava/lang/Object;II)V" } : Jvm.MethodName)) ∈ lw_all := lw_g (lw_at lw_m3 173 rfl) rfl
theorem q744 : (Jvm.Cond.instanceMethod ({ cls := "ExcessTree", name := "prune", desc := "(I)I" } : Jvm.MethodName)) ∈ lw_all := lw_g (lw_at lw_m3 175 rfl) rfl
theorem q745 : (Jvm.Cond.selects "ExcessTree" ({ cls := "ExcessTree", name := "prune", desc := "(I)I" } : Jvm.MethodName) ({ cls := "ExcessTree", name := "prune", desc := "(I)I" } : Jvm.MethodName)) ∈ lw_all := lw_g (lw_at lw_m3 176 rfl) rfl
theorem q746 : (Jvm.Cond.code ({ cls := "ExcessTree", name := "prune", desc := "(I)I" } : Jvm.MethodName) prog_1_method_76_code (2 : Nat) (Option.some Jvm.ClassFile.FieldType.int)) ∈ lw_all := lw_g (lw_at lw_m3 177 rfl) rfl
theorem q747 : (Jvm.Cond.methodLink "ExcessTree" (287 : Nat) ({ cls := "ExcessTree", name := "falls", desc := "(I)V" } : Jvm.MethodName)) ∈ lw_all := lw_g (lw_at lw_m3 178 rfl) rfl
theorem q748 : (Jvm.Cond.privateMethod ({ cls := "ExcessTree", name := "falls", desc := "(I)V" } : Jvm.MethodName)) ∈ lw_tbl := lw_at lw_m3 179 rfl
theorem q749 : (Jvm.Cond.instanceMethod ({ cls := "ExcessTree", name := "falls", desc := "(I)V" } : Jvm.MethodName)) ∈ lw_all := lw_g (lw_at lw_m3 180 rfl) rfl
theorem q750 : (Jvm.Cond.code ({ cls := "ExcessTree", name := "falls", desc := "(I)V" } : Jvm.MethodName) prog_1_method_75_code (5 : Nat) (Option.none : Option Jvm.ClassFile.FieldType)) ∈ lw_all := lw_g (lw_at lw_m3 181 rfl) rfl
theorem q751 : (Jvm.Cond.methodLink "ExcessTree" (280 : Nat) ({ cls := "ExcessTree", name := "bitGoes", desc := "(I)V" } : Jvm.MethodName)) ∈ lw_all := lw_g (lw_at lw_m3 182 rfl) rfl
theorem q752 : (Jvm.Cond.privateMethod ({ cls := "ExcessTree", name := "bitGoes", desc := "(I)V" } : Jvm.MethodName)) ∈ lw_tbl := lw_at lw_m3 183 rfl
theorem q753 : (Jvm.Cond.instanceMethod ({ cls := "ExcessTree", name := "bitGoes", desc := "(I)V" } : Jvm.MethodName)) ∈ lw_all := lw_g (lw_at lw_m3 184 rfl) rfl
theorem q754 : (Jvm.Cond.code ({ cls := "ExcessTree", name := "bitGoes", desc := "(I)V" } : Jvm.MethodName) prog_1_method_68_code (3 : Nat) (Option.none : Option Jvm.ClassFile.FieldType)) ∈ lw_all := lw_g (lw_at lw_m3 185 rfl) rfl
theorem q755 : (Jvm.Cond.methodLink "ExcessTree" (284 : Nat) ({ cls := "ExcessTree", name := "weightsGo", desc := "(II)V" } : Jvm.MethodName)) ∈ lw_all := lw_g (lw_at lw_m3 186 rfl) rfl
theorem q756 : (Jvm.Cond.privateMethod ({ cls := "ExcessTree", name := "weightsGo", desc := "(II)V" } : Jvm.MethodName)) ∈ lw_tbl := lw_at lw_m3 187 rfl
theorem q757 : (Jvm.Cond.instanceMethod ({ cls := "ExcessTree", name := "weightsGo", desc := "(II)V" } : Jvm.MethodName)) ∈ lw_all := lw_g (lw_at lw_m3 188 rfl) rfl
theorem q758 : (Jvm.Cond.code ({ cls := "ExcessTree", name := "weightsGo", desc := "(II)V" } : Jvm.MethodName) prog_1_method_70_code (4 : Nat) (Option.none : Option Jvm.ClassFile.FieldType)) ∈ lw_all := lw_g (lw_at lw_m3 189 rfl) rfl
theorem q760 : (Jvm.Cond.instanceMethod ({ cls := "ExcessTree", name := "fell", desc := "(I)I" } : Jvm.MethodName)) ∈ lw_all := lw_g (lw_at lw_m3 191 rfl) rfl
theorem q761 : (Jvm.Cond.selects "ExcessTree" ({ cls := "ExcessTree", name := "fell", desc := "(I)I" } : Jvm.MethodName) ({ cls := "ExcessTree", name := "fell", desc := "(I)I" } : Jvm.MethodName)) ∈ lw_all := lw_g (lw_at lw_m3 192 rfl) rfl
theorem q762 : (Jvm.Cond.code ({ cls := "ExcessTree", name := "fell", desc := "(I)I" } : Jvm.MethodName) prog_1_method_77_code (3 : Nat) (Option.some Jvm.ClassFile.FieldType.int)) ∈ lw_all := lw_g (lw_at lw_m3 193 rfl) rfl
theorem q764 : (Jvm.Cond.instanceMethod ({ cls := "ExcessTree", name := "wrap", desc := "(IIII)I" } : Jvm.MethodName)) ∈ lw_all := lw_g (lw_at lw_m3 195 rfl) rfl
theorem q765 : (Jvm.Cond.selects "ExcessTree" ({ cls := "ExcessTree", name := "wrap", desc := "(IIII)I" } : Jvm.MethodName) ({ cls := "ExcessTree", name := "wrap", desc := "(IIII)I" } : Jvm.MethodName)) ∈ lw_all := lw_g (lw_at lw_m3 196 rfl) rfl
theorem q766 : (Jvm.Cond.code ({ cls := "ExcessTree", name := "wrap", desc := "(IIII)I" } : Jvm.MethodName) prog_1_method_78_code (8 : Nat) (Option.some Jvm.ClassFile.FieldType.int)) ∈ lw_all := lw_g (lw_at lw_m3 197 rfl) rfl
theorem q768 : (Jvm.Cond.instanceMethod ({ cls := "ExcessTree", name := "melt", desc := "(I)I" } : Jvm.MethodName)) ∈ lw_all := lw_g (lw_at lw_m3 199 rfl) rfl
theorem q769 : (Jvm.Cond.selects "ExcessTree" ({ cls := "ExcessTree", name := "melt", desc := "(I)I" } : Jvm.MethodName) ({ cls := "ExcessTree", name := "melt", desc := "(I)I" } : Jvm.MethodName)) ∈ lw_all := lw_g (lw_at lw_m3 200 rfl) rfl
theorem q770 : (Jvm.Cond.code ({ cls := "ExcessTree", name := "melt", desc := "(I)I" } : Jvm.MethodName) prog_1_method_79_code (3 : Nat) (Option.some Jvm.ClassFile.FieldType.int)) ∈ lw_all := lw_g (lw_at lw_m3 201 rfl) rfl
theorem q772 : (Jvm.Cond.instanceMethod ({ cls := "ExcessTree", name := "graft", desc := "(III)I" } : Jvm.MethodName)) ∈ lw_all := lw_g (lw_at lw_m3 203 rfl) rfl
theorem q773 : (Jvm.Cond.selects "ExcessTree" ({ cls := "ExcessTree", name := "graft", desc := "(III)I" } : Jvm.MethodName) ({ cls := "ExcessTree", name := "graft", desc := "(III)I" } : Jvm.MethodName)) ∈ lw_all := lw_g (lw_at lw_m3 204 rfl) rfl
theorem q774 : (Jvm.Cond.code ({ cls := "ExcessTree", name := "graft", desc := "(III)I" } : Jvm.MethodName) prog_1_method_80_code (11 : Nat) (Option.some Jvm.ClassFile.FieldType.int)) ∈ lw_all := lw_g (lw_at lw_m3 205 rfl) rfl
theorem q776 : (Jvm.Cond.instanceMethod ({ cls := "ExcessTree", name := "grow", desc := "(II)I" } : Jvm.MethodName)) ∈ lw_all := lw_g (lw_at lw_m3 207 rfl) rfl
theorem q777 : (Jvm.Cond.selects "ExcessTree" ({ cls := "ExcessTree", name := "grow", desc := "(II)I" } : Jvm.MethodName) ({ cls := "ExcessTree", name := "grow", desc := "(II)I" } : Jvm.MethodName)) ∈ lw_all := lw_g (lw_at lw_m3 208 rfl) rfl
theorem q778 : (Jvm.Cond.code ({ cls := "ExcessTree", name := "grow", desc := "(II)I" } : Jvm.MethodName) prog_1_method_82_code (6 : Nat) (Option.some Jvm.ClassFile.FieldType.int)) ∈ lw_all := lw_g (lw_at lw_m3 209 rfl) rfl
theorem q779 : (Jvm.Cond.constantLong "ExcessTree" (303 : Nat) (64 : Int64)) ∈ lw_all := lw_g (lw_at lw_m3 210 rfl) rfl
theorem q780 : (Jvm.Cond.methodLink "ExcessTree" (305 : Nat) ({ cls := "ExcessTree", name := "clears", desc := "()V" } : Jvm.MethodName)) ∈ lw_all := lw_g (lw_at lw_m3 211 rfl) rfl
theorem q781 : (Jvm.Cond.privateMethod ({ cls := "ExcessTree", name := "clears", desc := "()V" } : Jvm.MethodName)) ∈ lw_tbl := lw_at lw_m3 212 rfl
theorem q782 : (Jvm.Cond.instanceMethod ({ cls := "ExcessTree", name := "clears", desc := "()V" } : Jvm.MethodName)) ∈ lw_all := lw_g (lw_at lw_m3 213 rfl) rfl
theorem q783 : (Jvm.Cond.code ({ cls := "ExcessTree", name := "clears", desc := "()V" } : Jvm.MethodName) prog_1_method_81_code (1 : Nat) (Option.none : Option Jvm.ClassFile.FieldType)) ∈ lw_all := lw_g (lw_at lw_m3 214 rfl) rfl
theorem q784 : (Jvm.Cond.methodLink "ExcessTree" (294 : Nat) ({ cls := "java/util/Arrays", name := "fill", desc := "([JJ)V" } : Jvm.MethodName)) ∈ lw_all := lw_g (lw_at lw_m3 215 rfl) rfl
theorem q787 : (Jvm.Cond.methodLink "ExcessTree" (300 : Nat) ({ cls := "java/util/Arrays", name := "fill", desc := "([II)V" } : Jvm.MethodName)) ∈ lw_all := lw_g (lw_at lw_m3 218 rfl) rfl
theorem q790 : (Jvm.Cond.methodLink "ExcessTree" (308 : Nat) ({ cls := "ExcessTree", name := "plant", desc := "(I)I" } : Jvm.MethodName)) ∈ lw_all := lw_g (lw_at lw_m3 221 rfl) rfl
theorem q791 : (Jvm.Cond.constant "ExcessTree" (311 : Nat) (1103515245 : Int32)) ∈ lw_all := lw_g (lw_at lw_m3 222 rfl) rfl
theorem q793 : (Jvm.Cond.instanceMethod ({ cls := "ExcessTree", name := "keep", desc := "(I)I" } : Jvm.MethodName)) ∈ lw_all := lw_g (lw_at lw_m3 224 rfl) rfl
theorem q794 : (Jvm.Cond.selects "ExcessTree" ({ cls := "ExcessTree", name := "keep", desc := "(I)I" } : Jvm.MethodName) ({ cls := "ExcessTree", name := "keep", desc := "(I)I" } : Jvm.MethodName)) ∈ lw_all := lw_g (lw_at lw_m3 225 rfl) rfl
theorem q795 : (Jvm.Cond.code ({ cls := "ExcessTree", name := "keep", desc := "(I)I" } : Jvm.MethodName) prog_1_method_83_code (3 : Nat) (Option.some Jvm.ClassFile.FieldType.int)) ∈ lw_all := lw_g (lw_at lw_m3 226 rfl) rfl
theorem q797 : (Jvm.Cond.instanceMethod ({ cls := "ExcessTree", name := "back", desc := "(I)I" } : Jvm.MethodName)) ∈ lw_all := lw_g (lw_at lw_m3 228 rfl) rfl
theorem q798 : (Jvm.Cond.selects "ExcessTree" ({ cls := "ExcessTree", name := "back", desc := "(I)I" } : Jvm.MethodName) ({ cls := "ExcessTree", name := "back", desc := "(I)I" } : Jvm.MethodName)) ∈ lw_all := lw_g (lw_at lw_m3 229 rfl) rfl
theorem q799 : (Jvm.Cond.code ({ cls := "ExcessTree", name := "back", desc := "(I)I" } : Jvm.MethodName) prog_1_method_84_code (2 : Nat) (Option.some Jvm.ClassFile.FieldType.int)) ∈ lw_all := lw_g (lw_at lw_m3 230 rfl) rfl
theorem q801 : (Jvm.Cond.instanceMethod ({ cls := "ExcessTree", name := "sheet", desc := "(III)I" } : Jvm.MethodName)) ∈ lw_all := lw_g (lw_at lw_m3 232 rfl) rfl
theorem q802 : (Jvm.Cond.selects "ExcessTree" ({ cls := "ExcessTree", name := "sheet", desc := "(III)I" } : Jvm.MethodName) ({ cls := "ExcessTree", name := "sheet", desc := "(III)I" } : Jvm.MethodName)) ∈ lw_all := lw_g (lw_at lw_m3 233 rfl) rfl
theorem q803 : (Jvm.Cond.codeWith ({ cls := "ExcessTree", name := "sheet", desc := "(III)I" } : Jvm.MethodName) prog_1_method_86_code (5 : Nat) (Option.some Jvm.ClassFile.FieldType.int) [((16 : Nat), (50 : Nat), (51 : Nat), (319 : Nat))]) ∈ lw_all := lw_g (lw_at lw_m3 234 rfl) rfl
theorem q804 : (Jvm.Cond.classLink "ExcessTree" (319 : Nat) "java/lang/NegativeArraySizeException") ∈ lw_all := lw_g (lw_at lw_m3 235 rfl) rfl
theorem q818 : (Jvm.Cond.methodLink "ExcessTree" (312 : Nat) ({ cls := "ExcessTree", name := "isSheet", desc := "(II)Z" } : Jvm.MethodName)) ∈ lw_all := lw_g (lw_at lw_m4 9 rfl) rfl
theorem q819 : (Jvm.Cond.static ({ cls := "ExcessTree", name := "isSheet", desc := "(II)Z" } : Jvm.MethodName)) ∈ lw_all := lw_g (lw_at lw_m4 10 rfl) rfl
theorem q820 : (Jvm.Cond.code ({ cls := "ExcessTree", name := "isSheet", desc := "(II)Z" } : Jvm.MethodName) prog_1_method_85_code (2 : Nat) (Option.some Jvm.ClassFile.FieldType.boolean)) ∈ lw_all := lw_g (lw_at lw_m4 11 rfl) rfl
theorem q822 : (Jvm.Cond.instanceMethod ({ cls := "ExcessTree", name := "lay", desc := "(IIJ)I" } : Jvm.MethodName)) ∈ lw_all := lw_g (lw_at lw_m4 13 rfl) rfl
theorem q823 : (Jvm.Cond.selects "ExcessTree" ({ cls := "ExcessTree", name := "lay", desc := "(IIJ)I" } : Jvm.MethodName) ({ cls := "ExcessTree", name := "lay", desc := "(IIJ)I" } : Jvm.MethodName)) ∈ lw_all := lw_g (lw_at lw_m4 14 rfl) rfl
theorem q824 : (Jvm.Cond.codeWith ({ cls := "ExcessTree", name := "lay", desc := "(IIJ)I" } : Jvm.MethodName) prog_1_method_87_code (7 : Nat) (Option.some Jvm.ClassFile.FieldType.int) [((25 : Nat), (75 : Nat), (76 : Nat), (324 : Nat)), ((25 : Nat), (75 : Nat), (81 : Nat), (326 : Nat))]) ∈ lw_all := lw_g (lw_at lw_m4 15 rfl) rfl
theorem q825 : (Jvm.Cond.classLink "ExcessTree" (324 : Nat) "java/lang/NullPointerException") ∈ lw_all := lw_g (lw_at lw_m4 16 rfl) rfl
theorem q850 : (Jvm.Cond.classLink "ExcessTree" (326 : Nat) "java/lang/IndexOutOfBoundsException") ∈ lw_all := lw_g (lw_at lw_m4 41 rfl) rfl
theorem q869 : (Jvm.Cond.classLink "ExcessTree" (321 : Nat) "[B") ∈ lw_all := lw_g (lw_at lw_m4 60 rfl) rfl
theorem q870 : (Jvm.Cond.classLink "ExcessTree" (322 : Nat) "[I") ∈ lw_all := lw_g (lw_at lw_m4 61 rfl) rfl
theorem q871 : (Jvm.Cond.classLink "ExcessTree" (323 : Nat) "[J") ∈ lw_all := lw_g (lw_at lw_m4 62 rfl) rfl
theorem q873 : (Jvm.Cond.instanceMethod ({ cls := "ExcessTree", name := "look", desc := "(II)J" } : Jvm.MethodName)) ∈ lw_all := lw_g (lw_at lw_m4 64 rfl) rfl
theorem q874 : (Jvm.Cond.selects "ExcessTree" ({ cls := "ExcessTree", name := "look", desc := "(II)J" } : Jvm.MethodName) ({ cls := "ExcessTree", name := "look", desc := "(II)J" } : Jvm.MethodName)) ∈ lw_all := lw_g (lw_at lw_m4 65 rfl) rfl
theorem q875 : (Jvm.Cond.codeWith ({ cls := "ExcessTree", name := "look", desc := "(II)J" } : Jvm.MethodName) prog_1_method_88_code (5 : Nat) (Option.some Jvm.ClassFile.FieldType.long) [((24 : Nat), (64 : Nat), (65 : Nat), (324 : Nat)), ((24 : Nat), (64 : Nat), (65 : Nat), (326 : Nat))]) ∈ lw_all := lw_g (lw_at lw_m4 66 rfl) rfl
theorem q877 : (Jvm.Cond.instanceMethod ({ cls := "ExcessTree", name := "read", desc := "(IIII)I" } : Jvm.MethodName)) ∈ lw_all := lw_g (lw_at lw_m4 68 rfl) rfl
theorem q878 : (Jvm.Cond.selects "ExcessTree" ({ cls := "ExcessTree", name := "read", desc := "(IIII)I" } : Jvm.MethodName) ({ cls := "ExcessTree", name := "read", desc := "(IIII)I" } : Jvm.MethodName)) ∈ lw_all := lw_g (lw_at lw_m4 69 rfl) rfl
theorem q879 : (Jvm.Cond.codeWith ({ cls := "ExcessTree", name := "read", desc := "(IIII)I" } : Jvm.MethodName) prog_1_method_93_code (6 : Nat) (Option.some Jvm.ClassFile.FieldType.int) [((47 : Nat), (82 : Nat), (85 : Nat), (324 : Nat)), ((47 : Nat), (82 : Nat), (90 : Nat), (342 : Nat)), ((47 : Nat), (82 : Nat), (95 : Nat), (326 : Nat))]) ∈ lw_all := lw_g (lw_at lw_m4 70 rfl) rfl
theorem q880 : (Jvm.Cond.classLink "ExcessTree" (342 : Nat) "java/lang/ClassCastException") ∈ lw_all := lw_g (lw_at lw_m4 71 rfl) rfl
theorem q894 : (Jvm.Cond.constantLong "ExcessTree" (337 : Nat) (128 : Int64)) ∈ lw_all := lw_g (lw_at lw_m4 85 rfl) rfl
theorem q895 : (Jvm.Cond.methodLink "ExcessTree" (339 : Nat) ({ cls := "ExcessTree", name := "isBit", desc := "(III)Z" } : Jvm.MethodName)) ∈ lw_all := lw_g (lw_at lw_m4 86 rfl) rfl
theorem q896 : (Jvm.Cond.privateMethod ({ cls := "ExcessTree", name := "isBit", desc := "(III)Z" } : Jvm.MethodName)) ∈ lw_tbl := lw_at lw_m4 87 rfl
theorem q897 : (Jvm.Cond.instanceMethod ({ cls := "ExcessTree", name := "isBit", desc := "(III)Z" } : Jvm.MethodName)) ∈ lw_all := lw_g (lw_at lw_m4 88 rfl) rfl
theorem q898 : (Jvm.Cond.code ({ cls := "ExcessTree", name := "isBit", desc := "(III)Z" } : Jvm.MethodName) prog_1_method_90_code (8 : Nat) (Option.some Jvm.ClassFile.FieldType.boolean)) ∈ lw_all := lw_g (lw_at lw_m4 89 rfl) rfl
theorem q899 : (Jvm.Cond.methodLink "ExcessTree" (328 : Nat) ({ cls := "ExcessTree", name := "bitsOf", desc := "(I)I" } : Jvm.MethodName)) ∈ lw_all := lw_g (lw_at lw_m4 90 rfl) rfl
theorem q900 : (Jvm.Cond.static ({ cls := "ExcessTree", name := "bitsOf", desc := "(I)I" } : Jvm.MethodName)) ∈ lw_all := lw_g (lw_at lw_m4 91 rfl) rfl
theorem q901 : (Jvm.Cond.code ({ cls := "ExcessTree", name := "bitsOf", desc := "(I)I" } : Jvm.MethodName) prog_1_method_89_code (1 : Nat) (Option.some Jvm.ClassFile.FieldType.int)) ∈ lw_all := lw_g (lw_at lw_m4 92 rfl) rfl
theorem q902 : (Jvm.Cond.methodLink "ExcessTree" (344 : Nat) ({ cls := "ExcessTree", name := "isTree", desc := "()Z" } : Jvm.MethodName)) ∈ lw_all := lw_g (lw_at lw_m4 93 rfl) rfl
theorem q903 : (Jvm.Cond.privateMethod ({ cls := "ExcessTree", name := "isTree", desc := "()Z" } : Jvm.MethodName)) ∈ lw_tbl := lw_at lw_m4 94 rfl
theorem q904 : (Jvm.Cond.instanceMethod ({ cls := "ExcessTree", name := "isTree", desc := "()Z" } : Jvm.MethodName)) ∈ lw_all := lw_g (lw_at lw_m4 95 rfl) rfl
theorem q905 : (Jvm.Cond.code ({ cls := "ExcessTree", name := "isTree", desc := "()Z" } : Jvm.MethodName) prog_1_method_92_code (4 : Nat) (Option.some Jvm.ClassFile.FieldType.boolean)) ∈ lw_all := lw_g (lw_at lw_m4 96 rfl) rfl
theorem q907 : (Jvm.Cond.instanceMethod ({ cls := "ExcessTree", name := "stow", desc := "(III)I" } : Jvm.MethodName)) ∈ lw_all := lw_g (lw_at lw_m4 98 rfl) rfl
theorem q908 : (Jvm.Cond.selects "ExcessTree" ({ cls := "ExcessTree", name := "stow", desc := "(III)I" } : Jvm.MethodName) ({ cls := "ExcessTree", name := "stow", desc := "(III)I" } : Jvm.MethodName)) ∈ lw_all := lw_g (lw_at lw_m4 99 rfl) rfl
theorem q909 : (Jvm.Cond.codeWith ({ cls := "ExcessTree", name := "stow", desc := "(III)I" } : Jvm.MethodName) prog_1_method_94_code (8 : Nat) (Option.some Jvm.ClassFile.FieldType.int) [((20 : Nat), (57 : Nat), (66 : Nat), (324 : Nat)), ((20 : Nat), (57 : Nat), (80 : Nat), (342 : Nat)), ((20 : Nat), (57 : Nat), (94 : Nat), (326 : Nat)), ((20 : Nat), (57 : Nat), (108 : Nat), (0 : Nat)), ((66 : Nat), (71 : Nat), (108 : Nat), (0 : Nat)), ((80 : Nat), (85 : Nat), (108 : Nat), (0 : Nat)), ((94 : Nat), (99 : Nat), (108 : Nat), (0 : Nat)), ((108 : Nat), (110 : Nat), (108 : Nat), (0 : Nat))]) ∈ lw_all := lw_g (lw_at lw_m4 100 rfl) rfl
theorem q910 : (Jvm.Cond.methodLink "ExcessTree" (348 : Nat) ({ cls := "ExcessTree", name := "bitBecomes", desc := "(IIIZ)V" } : Jvm.MethodName)) ∈ lw_all := lw_g (lw_at lw_m4 101 rfl) rfl
theorem q911 : (Jvm.Cond.privateMethod ({ cls := "ExcessTree", name := "bitBecomes", desc := "(IIIZ)V" } : Jvm.MethodName)) ∈ lw_tbl := lw_at lw_m4 102 rfl
theorem q912 : (Jvm.Cond.instanceMethod ({ cls := "ExcessTree", name := "bitBecomes", desc := "(IIIZ)V" } : Jvm.MethodName)) ∈ lw_all := lw_g (lw_at lw_m4 103 rfl) rfl
theorem q913 : (Jvm.Cond.code ({ cls := "ExcessTree", name := "bitBecomes", desc := "(IIIZ)V" } : Jvm.MethodName) prog_1_method_91_code (11 : Nat) (Option.none : Option Jvm.ClassFile.FieldType)) ∈ lw_all := lw_g (lw_at lw_m4 104 rfl) rfl
theorem q914 : (Jvm.Cond.constantLong "ExcessTree" (331 : Nat) (-1 : Int64)) ∈ lw_all := lw_g (lw_at lw_m4 105 rfl) rfl
theorem q915 : (Jvm.Cond.methodLink "ExcessTree" (333 : Nat) ({ cls := "ExcessTree", name := "lay", desc := "(IIJ)I" } : Jvm.MethodName)) ∈ lw_all := lw_g (lw_at lw_m4 106 rfl) rfl
theorem q917 : (Jvm.Cond.instanceMethod ({ cls := "ExcessTree", name := "torn", desc := "()I" } : Jvm.MethodName)) ∈ lw_all := lw_g (lw_at lw_m4 108 rfl) rfl
theorem q918 : (Jvm.Cond.selects "ExcessTree" ({ cls := "ExcessTree", name := "torn", desc := "()I" } : Jvm.MethodName) ({ cls := "ExcessTree", name := "torn", desc := "()I" } : Jvm.MethodName)) ∈ lw_all := lw_g (lw_at lw_m4 109 rfl) rfl
theorem q919 : (Jvm.Cond.code ({ cls := "ExcessTree", name := "torn", desc := "()I" } : Jvm.MethodName) prog_1_method_95_code (1 : Nat) (Option.some Jvm.ClassFile.FieldType.int)) ∈ lw_all := lw_g (lw_at lw_m4 110 rfl) rfl
theorem q921 : (Jvm.Cond.instanceMethod ({ cls := "ExcessTree", name := "count", desc := "(I)I" } : Jvm.MethodName)) ∈ lw_all := lw_g (lw_at lw_m4 112 rfl) rfl
theorem q922 : (Jvm.Cond.selects "ExcessTree" ({ cls := "ExcessTree", name := "count", desc := "(I)I" } : Jvm.MethodName) ({ cls := "ExcessTree", name := "count", desc := "(I)I" } : Jvm.MethodName)) ∈ lw_all := lw_g (lw_at lw_m4 113 rfl) rfl
theorem q923 : (Jvm.Cond.code ({ cls := "ExcessTree", name := "count", desc := "(I)I" } : Jvm.MethodName) prog_1_method_96_code (10 : Nat) (Option.some Jvm.ClassFile.FieldType.int)) ∈ lw_all := lw_g (lw_at lw_m4 114 rfl) rfl
theorem q924 : (Jvm.Cond.constantLong "ExcessTree" (355 : Nat) (-6148914691236517206 : Int64)) ∈ lw_all := lw_g (lw_at lw_m4 115 rfl) rfl
theorem q925 : (Jvm.Cond.methodLink "ExcessTree" (357 : Nat) ({ cls := "java/lang/Long", name := "bitCount", desc := "(J)I" } : Jvm.MethodName)) ∈ lw_all := lw_g (lw_at lw_m4 116 rfl) rfl
theorem q926 : (Jvm.Cond.methodLink "ExcessTree" (363 : Nat) ({ cls := "java/lang/Integer", name := "bitCount", desc := "(I)I" } : Jvm.MethodName)) ∈ lw_all := lw_g (lw_at lw_m4 117 rfl) rfl
theorem in_X0 : ∀ w ∈ wsX00, w ∈ lw_all := lw_in wsX00 [206, 208, 210, 212, 214, 216, 218, 220, 222, 224, 226, 228, 230, 232, 234] (by decide +kernel) (by decide +kernel)
