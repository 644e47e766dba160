/-! ExcessTreeModel -/
set_option maxRecDepth 100000
def RX3 : String := "ExcessTreeModel"
def TX3 : u_T := fun k => match k with
  | 0 => ("ExcessTreeModel", "state", "[I", true)
  | 1 => ("ExcessTreeModel", "readPage", "[I", true)
  | 2 => ("ExcessTreeModel", "tape", "[I", true)
  | 3 => ("ExcessTreeModel", "taped", "I", false)
  | 4 => ("ExcessTreeModel", "fault", "I", false)
  | 5 => ("ExcessTreeModel", "broken", "I", false)
  | 6 => ("ExcessTreeModel", "brokenAt", "I", false)
  | 7 => ("ExcessTreeModel", "spot", "I", false)
  | 8 => ("ExcessTreeModel", "here", "I", false)
  | 9 => ("ExcessTreeModel", "token", "I", false)
  | 10 => ("ExcessTreeModel", "value", "I", false)
  | 11 => ("ExcessTreeModel", "cutRow", "[I", true)
  | 12 => ("ExcessTreeModel", "cutWeights", "[I", true)
  | 13 => ("ExcessTreeModel", "isKept", "[Z", true)
  | 14 => ("ExcessTreeModel", "lanes", "[I", true)
  | 15 => ("ExcessTreeModel", "lengths", "[I", true)
  | 16 => ("ExcessTreeModel", "cells", "[J", true)
  | _ => ("ExcessTreeModel", "torn", "I", false)
def tyX3 : Nat → FieldType := fun k => match k with
  | 0 => .array .int
  | 1 => .array .int
  | 2 => .array .int
  | 3 => .int
  | 4 => .int
  | 5 => .int
  | 6 => .int
  | 7 => .int
  | 8 => .int
  | 9 => .int
  | 10 => .int
  | 11 => .array .int
  | 12 => .array .int
  | 13 => .array .boolean
  | 14 => .array .int
  | 15 => .array .int
  | 16 => .array .long
  | _ => .int
abbrev wsX30 : List Cond := u_ws RX3 TX3 18
set_option maxRecDepth 100000 in
theorem nmX3 : ∀ a, a < 18 → ∀ b, b < 18 → a ≠ b → (TX3 a).2.1 ≠ (TX3 b).2.1 := by decide +kernel
set_option maxRecDepth 100000 in
theorem tyX3_ok : ∀ k, k < 18 → parseFieldDescriptor (TX3 k).2.2.1 = some (tyX3 k) := by decide +kernel
abbrev cX3_init : ByteArray := prog_7_method_1_code
def yX3_init : MethodName := ⟨RX3, "<init>", "()V"⟩
def dkwX3_init_5 : List UInt8 := [17, 0, 160, 188, 11, 181, 0, 35, 177]
abbrev dktX3_init_5 : List UInt8 := dkwX3_init_5 ++ []
def dkwX3_init_4 : List UInt8 := [188, 10, 89, 3, 3, 79, 89, 4, 3, 79, 89, 5, 3, 79, 89, 6, 3, 79, 181, 0, 32, 42]
abbrev dktX3_init_4 : List UInt8 := dkwX3_init_4 ++ dktX3_init_5
def dkwX3_init_3 : List UInt8 := [16, 252, 79, 89, 4, 16, 252, 79, 89, 5, 16, 252, 79, 89, 6, 16, 252, 79, 181, 0, 29, 42, 7]
abbrev dktX3_init_3 : List UInt8 := dkwX3_init_3 ++ dktX3_init_4
def dkwX3_init_2 : List UInt8 := [181, 0, 22, 42, 5, 188, 4, 89, 3, 3, 84, 89, 4, 3, 84, 181, 0, 25, 42, 7, 188, 10, 89, 3]
abbrev dktX3_init_2 : List UInt8 := dkwX3_init_2 ++ dktX3_init_3
def dkwX3_init_1 : List UInt8 := [17, 0, 160, 188, 10, 181, 0, 16, 42, 17, 0, 128, 188, 10, 181, 0, 19, 42, 16, 64, 188, 10]
abbrev dktX3_init_1 : List UInt8 := dkwX3_init_1 ++ dktX3_init_2
def dkwX3_init_0 : List UInt8 := [42, 183, 0, 1, 42, 17, 2, 67, 188, 10, 181, 0, 7, 42, 17, 0, 193, 188, 10, 181, 0, 13, 42]
abbrev dktX3_init_0 : List UInt8 := dkwX3_init_0 ++ dktX3_init_1
theorem dksX3_init_0 : cX3_init.data.toList.drop 0 = dktX3_init_0 := by decide +kernel
theorem dksX3_init_1 : cX3_init.data.toList.drop 23 = dktX3_init_1 := dk_seg dksX3_init_0 23 rfl rfl
theorem dksX3_init_2 : cX3_init.data.toList.drop 45 = dktX3_init_2 := dk_seg dksX3_init_1 22 rfl rfl
theorem dksX3_init_3 : cX3_init.data.toList.drop 69 = dktX3_init_3 := dk_seg dksX3_init_2 24 rfl rfl
theorem dksX3_init_4 : cX3_init.data.toList.drop 92 = dktX3_init_4 := dk_seg dksX3_init_3 23 rfl rfl
theorem dksX3_init_5 : cX3_init.data.toList.drop 114 = dktX3_init_5 := dk_seg dksX3_init_4 22 rfl rfl
theorem dX3_init_0 : decode cX3_init 0 = .ok (.aload_n 0, 1) := dk_42 (dk_at dksX3_init_0 0 rfl rfl)
theorem dX3_init_1 : decode cX3_init 1 = .ok (.invokespecial 1, 3) := dk_183 0 1 (dk_at dksX3_init_0 1 rfl rfl)
theorem dX3_init_4 : decode cX3_init 4 = .ok (.aload_n 0, 1) := dk_42 (dk_at dksX3_init_0 4 rfl rfl)
theorem dX3_init_5 : decode cX3_init 5 = .ok (.sipush 579, 3) := dk_17 2 67 (dk_at dksX3_init_0 5 rfl rfl)
theorem dX3_init_8 : decode cX3_init 8 = .ok (.newarray .int, 2) := dk_188_10 (dk_at dksX3_init_0 8 rfl rfl)
theorem dX3_init_10 : decode cX3_init 10 = .ok (.putfield 7, 3) := dk_181 0 7 (dk_at dksX3_init_0 10 rfl rfl)
theorem dX3_init_13 : decode cX3_init 13 = .ok (.aload_n 0, 1) := dk_42 (dk_at dksX3_init_0 13 rfl rfl)
theorem dX3_init_14 : decode cX3_init 14 = .ok (.sipush 193, 3) := dk_17 0 193 (dk_at dksX3_init_0 14 rfl rfl)
theorem dX3_init_17 : decode cX3_init 17 = .ok (.newarray .int, 2) := dk_188_10 (dk_at dksX3_init_0 17 rfl rfl)
theorem dX3_init_19 : decode cX3_init 19 = .ok (.putfield 13, 3) := dk_181 0 13 (dk_at dksX3_init_0 19 rfl rfl)
theorem dX3_init_22 : decode cX3_init 22 = .ok (.aload_n 0, 1) := dk_42 (dk_at dksX3_init_0 22 rfl rfl)
theorem dX3_init_23 : decode cX3_init 23 = .ok (.sipush 160, 3) := dk_17 0 160 (dk_at dksX3_init_1 0 rfl rfl)
theorem dX3_init_26 : decode cX3_init 26 = .ok (.newarray .int, 2) := dk_188_10 (dk_at dksX3_init_1 3 rfl rfl)
theorem dX3_init_28 : decode cX3_init 28 = .ok (.putfield 16, 3) := dk_181 0 16 (dk_at dksX3_init_1 5 rfl rfl)
theorem dX3_init_31 : decode cX3_init 31 = .ok (.aload_n 0, 1) := dk_42 (dk_at dksX3_init_1 8 rfl rfl)
theorem dX3_init_32 : decode cX3_init 32 = .ok (.sipush 128, 3) := dk_17 0 128 (dk_at dksX3_init_1 9 rfl rfl)
theorem dX3_init_35 : decode cX3_init 35 = .ok (.newarray .int, 2) := dk_188_10 (dk_at dksX3_init_1 12 rfl rfl)
theorem dX3_init_37 : decode cX3_init 37 = .ok (.putfield 19, 3) := dk_181 0 19 (dk_at dksX3_init_1 14 rfl rfl)
theorem dX3_init_40 : decode cX3_init 40 = .ok (.aload_n 0, 1) := dk_42 (dk_at dksX3_init_1 17 rfl rfl)
theorem dX3_init_41 : decode cX3_init 41 = .ok (.bipush 64, 2) := dk_16 64 (dk_at dksX3_init_1 18 rfl rfl)
theorem dX3_init_43 : decode cX3_init 43 = .ok (.newarray .int, 2) := dk_188_10 (dk_at dksX3_init_1 20 rfl rfl)
theorem dX3_init_45 : decode cX3_init 45 = .ok (.putfield 22, 3) := dk_181 0 22 (dk_at dksX3_init_2 0 rfl rfl)
theorem dX3_init_48 : decode cX3_init 48 = .ok (.aload_n 0, 1) := dk_42 (dk_at dksX3_init_2 3 rfl rfl)
theorem dX3_init_49 : decode cX3_init 49 = .ok (.iconst 2, 1) := dk_5 (dk_at dksX3_init_2 4 rfl rfl)
theorem dX3_init_50 : decode cX3_init 50 = .ok (.newarray .boolean, 2) := dk_188_4 (dk_at dksX3_init_2 5 rfl rfl)
theorem dX3_init_52 : decode cX3_init 52 = .ok (.dup, 1) := dk_89 (dk_at dksX3_init_2 7 rfl rfl)
theorem dX3_init_53 : decode cX3_init 53 = .ok (.iconst 0, 1) := dk_3 (dk_at dksX3_init_2 8 rfl rfl)
theorem dX3_init_54 : decode cX3_init 54 = .ok (.iconst 0, 1) := dk_3 (dk_at dksX3_init_2 9 rfl rfl)
theorem dX3_init_55 : decode cX3_init 55 = .ok (.bastore, 1) := dk_84 (dk_at dksX3_init_2 10 rfl rfl)
theorem dX3_init_56 : decode cX3_init 56 = .ok (.dup, 1) := dk_89 (dk_at dksX3_init_2 11 rfl rfl)
theorem dX3_init_57 : decode cX3_init 57 = .ok (.iconst 1, 1) := dk_4 (dk_at dksX3_init_2 12 rfl rfl)
theorem dX3_init_58 : decode cX3_init 58 = .ok (.iconst 0, 1) := dk_3 (dk_at dksX3_init_2 13 rfl rfl)
theorem dX3_init_59 : decode cX3_init 59 = .ok (.bastore, 1) := dk_84 (dk_at dksX3_init_2 14 rfl rfl)
theorem dX3_init_60 : decode cX3_init 60 = .ok (.putfield 25, 3) := dk_181 0 25 (dk_at dksX3_init_2 15 rfl rfl)
theorem dX3_init_63 : decode cX3_init 63 = .ok (.aload_n 0, 1) := dk_42 (dk_at dksX3_init_2 18 rfl rfl)
theorem dX3_init_64 : decode cX3_init 64 = .ok (.iconst 4, 1) := dk_7 (dk_at dksX3_init_2 19 rfl rfl)
theorem dX3_init_65 : decode cX3_init 65 = .ok (.newarray .int, 2) := dk_188_10 (dk_at dksX3_init_2 20 rfl rfl)
theorem dX3_init_67 : decode cX3_init 67 = .ok (.dup, 1) := dk_89 (dk_at dksX3_init_2 22 rfl rfl)
theorem dX3_init_68 : decode cX3_init 68 = .ok (.iconst 0, 1) := dk_3 (dk_at dksX3_init_2 23 rfl rfl)
theorem dX3_init_69 : decode cX3_init 69 = .ok (.bipush (-4), 2) := dk_16 252 (dk_at dksX3_init_3 0 rfl rfl)
theorem dX3_init_71 : decode cX3_init 71 = .ok (.iastore, 1) := dk_79 (dk_at dksX3_init_3 2 rfl rfl)
theorem dX3_init_72 : decode cX3_init 72 = .ok (.dup, 1) := dk_89 (dk_at dksX3_init_3 3 rfl rfl)
theorem dX3_init_73 : decode cX3_init 73 = .ok (.iconst 1, 1) := dk_4 (dk_at dksX3_init_3 4 rfl rfl)
theorem dX3_init_74 : decode cX3_init 74 = .ok (.bipush (-4), 2) := dk_16 252 (dk_at dksX3_init_3 5 rfl rfl)
theorem dX3_init_76 : decode cX3_init 76 = .ok (.iastore, 1) := dk_79 (dk_at dksX3_init_3 7 rfl rfl)
theorem dX3_init_77 : decode cX3_init 77 = .ok (.dup, 1) := dk_89 (dk_at dksX3_init_3 8 rfl rfl)
theorem dX3_init_78 : decode cX3_init 78 = .ok (.iconst 2, 1) := dk_5 (dk_at dksX3_init_3 9 rfl rfl)
theorem dX3_init_79 : decode cX3_init 79 = .ok (.bipush (-4), 2) := dk_16 252 (dk_at dksX3_init_3 10 rfl rfl)
theorem dX3_init_81 : decode cX3_init 81 = .ok (.iastore, 1) := dk_79 (dk_at dksX3_init_3 12 rfl rfl)
theorem dX3_init_82 : decode cX3_init 82 = .ok (.dup, 1) := dk_89 (dk_at dksX3_init_3 13 rfl rfl)
theorem dX3_init_83 : decode cX3_init 83 = .ok (.iconst 3, 1) := dk_6 (dk_at dksX3_init_3 14 rfl rfl)
theorem dX3_init_84 : decode cX3_init 84 = .ok (.bipush (-4), 2) := dk_16 252 (dk_at dksX3_init_3 15 rfl rfl)
theorem dX3_init_86 : decode cX3_init 86 = .ok (.iastore, 1) := dk_79 (dk_at dksX3_init_3 17 rfl rfl)
theorem dX3_init_87 : decode cX3_init 87 = .ok (.putfield 29, 3) := dk_181 0 29 (dk_at dksX3_init_3 18 rfl rfl)
theorem dX3_init_90 : decode cX3_init 90 = .ok (.aload_n 0, 1) := dk_42 (dk_at dksX3_init_3 21 rfl rfl)
theorem dX3_init_91 : decode cX3_init 91 = .ok (.iconst 4, 1) := dk_7 (dk_at dksX3_init_3 22 rfl rfl)
theorem dX3_init_92 : decode cX3_init 92 = .ok (.newarray .int, 2) := dk_188_10 (dk_at dksX3_init_4 0 rfl rfl)
theorem dX3_init_94 : decode cX3_init 94 = .ok (.dup, 1) := dk_89 (dk_at dksX3_init_4 2 rfl rfl)
theorem dX3_init_95 : decode cX3_init 95 = .ok (.iconst 0, 1) := dk_3 (dk_at dksX3_init_4 3 rfl rfl)
theorem dX3_init_96 : decode cX3_init 96 = .ok (.iconst 0, 1) := dk_3 (dk_at dksX3_init_4 4 rfl rfl)
theorem dX3_init_97 : decode cX3_init 97 = .ok (.iastore, 1) := dk_79 (dk_at dksX3_init_4 5 rfl rfl)
theorem dX3_init_98 : decode cX3_init 98 = .ok (.dup, 1) := dk_89 (dk_at dksX3_init_4 6 rfl rfl)
theorem dX3_init_99 : decode cX3_init 99 = .ok (.iconst 1, 1) := dk_4 (dk_at dksX3_init_4 7 rfl rfl)
theorem dX3_init_100 : decode cX3_init 100 = .ok (.iconst 0, 1) := dk_3 (dk_at dksX3_init_4 8 rfl rfl)
theorem dX3_init_101 : decode cX3_init 101 = .ok (.iastore, 1) := dk_79 (dk_at dksX3_init_4 9 rfl rfl)
theorem dX3_init_102 : decode cX3_init 102 = .ok (.dup, 1) := dk_89 (dk_at dksX3_init_4 10 rfl rfl)
theorem dX3_init_103 : decode cX3_init 103 = .ok (.iconst 2, 1) := dk_5 (dk_at dksX3_init_4 11 rfl rfl)
theorem dX3_init_104 : decode cX3_init 104 = .ok (.iconst 0, 1) := dk_3 (dk_at dksX3_init_4 12 rfl rfl)
theorem dX3_init_105 : decode cX3_init 105 = .ok (.iastore, 1) := dk_79 (dk_at dksX3_init_4 13 rfl rfl)
theorem dX3_init_106 : decode cX3_init 106 = .ok (.dup, 1) := dk_89 (dk_at dksX3_init_4 14 rfl rfl)
theorem dX3_init_107 : decode cX3_init 107 = .ok (.iconst 3, 1) := dk_6 (dk_at dksX3_init_4 15 rfl rfl)
theorem dX3_init_108 : decode cX3_init 108 = .ok (.iconst 0, 1) := dk_3 (dk_at dksX3_init_4 16 rfl rfl)
theorem dX3_init_109 : decode cX3_init 109 = .ok (.iastore, 1) := dk_79 (dk_at dksX3_init_4 17 rfl rfl)
theorem dX3_init_110 : decode cX3_init 110 = .ok (.putfield 32, 3) := dk_181 0 32 (dk_at dksX3_init_4 18 rfl rfl)
theorem dX3_init_113 : decode cX3_init 113 = .ok (.aload_n 0, 1) := dk_42 (dk_at dksX3_init_4 21 rfl rfl)
theorem dX3_init_114 : decode cX3_init 114 = .ok (.sipush 160, 3) := dk_17 0 160 (dk_at dksX3_init_5 0 rfl rfl)
theorem dX3_init_117 : decode cX3_init 117 = .ok (.newarray .long, 2) := dk_188_11 (dk_at dksX3_init_5 3 rfl rfl)
theorem dX3_init_119 : decode cX3_init 119 = .ok (.putfield 35, 3) := dk_181 0 35 (dk_at dksX3_init_5 5 rfl rfl)
theorem dX3_init_122 : decode cX3_init 122 = .ok (.return_, 1) := dk_177 (dk_at dksX3_init_5 8 rfl rfl)
abbrev cX3_feed : ByteArray := prog_7_method_4_code
def yX3_feed : MethodName := ⟨RX3, "feed", "(I)I"⟩
def dkwX3_feed_2 : List UInt8 := [180, 0, 45, 172]
abbrev dktX3_feed_2 : List UInt8 := dkwX3_feed_2 ++ []
def dkwX3_feed_1 : List UInt8 := [16, 253, 172, 42, 180, 0, 16, 42, 180, 0, 45, 27, 79, 42, 89, 180, 0, 45, 4, 96, 181, 0, 45, 42]
abbrev dktX3_feed_1 : List UInt8 := dkwX3_feed_1 ++ dktX3_feed_2
def dkwX3_feed_0 : List UInt8 := [27, 133, 9, 20, 0, 39, 184, 0, 41, 154, 0, 5, 2, 172, 42, 180, 0, 45, 17, 0, 160, 160, 0, 6]
abbrev dktX3_feed_0 : List UInt8 := dkwX3_feed_0 ++ dktX3_feed_1
theorem dksX3_feed_0 : cX3_feed.data.toList.drop 0 = dktX3_feed_0 := by decide +kernel
theorem dksX3_feed_1 : cX3_feed.data.toList.drop 24 = dktX3_feed_1 := dk_seg dksX3_feed_0 24 rfl rfl
theorem dksX3_feed_2 : cX3_feed.data.toList.drop 48 = dktX3_feed_2 := dk_seg dksX3_feed_1 24 rfl rfl
theorem dX3_feed_0 : decode cX3_feed 0 = .ok (.iload_n 1, 1) := dk_27 (dk_at dksX3_feed_0 0 rfl rfl)
theorem dX3_feed_1 : decode cX3_feed 1 = .ok (.i2l, 1) := dk_133 (dk_at dksX3_feed_0 1 rfl rfl)
theorem dX3_feed_2 : decode cX3_feed 2 = .ok (.lconst 0, 1) := dk_9 (dk_at dksX3_feed_0 2 rfl rfl)
theorem dX3_feed_3 : decode cX3_feed 3 = .ok (.ldc2_w 39, 3) := dk_20 0 39 (dk_at dksX3_feed_0 3 rfl rfl)
theorem dX3_feed_6 : decode cX3_feed 6 = .ok (.invokestatic 41, 3) := dk_184 0 41 (dk_at dksX3_feed_0 6 rfl rfl)
theorem dX3_feed_9 : decode cX3_feed 9 = .ok (.ifCond .ne 5, 3) := dk_154 0 5 (dk_at dksX3_feed_0 9 rfl rfl)
theorem dX3_feed_12 : decode cX3_feed 12 = .ok (.iconst (-1), 1) := dk_2 (dk_at dksX3_feed_0 12 rfl rfl)
theorem dX3_feed_13 : decode cX3_feed 13 = .ok (.ireturn, 1) := dk_172 (dk_at dksX3_feed_0 13 rfl rfl)
theorem dX3_feed_14 : decode cX3_feed 14 = .ok (.aload_n 0, 1) := dk_42 (dk_at dksX3_feed_0 14 rfl rfl)
theorem dX3_feed_15 : decode cX3_feed 15 = .ok (.getfield 45, 3) := dk_180 0 45 (dk_at dksX3_feed_0 15 rfl rfl)
theorem dX3_feed_18 : decode cX3_feed 18 = .ok (.sipush 160, 3) := dk_17 0 160 (dk_at dksX3_feed_0 18 rfl rfl)
theorem dX3_feed_21 : decode cX3_feed 21 = .ok (.if_icmp .ne 6, 3) := dk_160 0 6 (dk_at dksX3_feed_0 21 rfl rfl)
theorem dX3_feed_24 : decode cX3_feed 24 = .ok (.bipush (-3), 2) := dk_16 253 (dk_at dksX3_feed_1 0 rfl rfl)
theorem dX3_feed_26 : decode cX3_feed 26 = .ok (.ireturn, 1) := dk_172 (dk_at dksX3_feed_1 2 rfl rfl)
theorem dX3_feed_27 : decode cX3_feed 27 = .ok (.aload_n 0, 1) := dk_42 (dk_at dksX3_feed_1 3 rfl rfl)
theorem dX3_feed_28 : decode cX3_feed 28 = .ok (.getfield 16, 3) := dk_180 0 16 (dk_at dksX3_feed_1 4 rfl rfl)
theorem dX3_feed_31 : decode cX3_feed 31 = .ok (.aload_n 0, 1) := dk_42 (dk_at dksX3_feed_1 7 rfl rfl)
theorem dX3_feed_32 : decode cX3_feed 32 = .ok (.getfield 45, 3) := dk_180 0 45 (dk_at dksX3_feed_1 8 rfl rfl)
theorem dX3_feed_35 : decode cX3_feed 35 = .ok (.iload_n 1, 1) := dk_27 (dk_at dksX3_feed_1 11 rfl rfl)
theorem dX3_feed_36 : decode cX3_feed 36 = .ok (.iastore, 1) := dk_79 (dk_at dksX3_feed_1 12 rfl rfl)
theorem dX3_feed_37 : decode cX3_feed 37 = .ok (.aload_n 0, 1) := dk_42 (dk_at dksX3_feed_1 13 rfl rfl)
theorem dX3_feed_38 : decode cX3_feed 38 = .ok (.dup, 1) := dk_89 (dk_at dksX3_feed_1 14 rfl rfl)
theorem dX3_feed_39 : decode cX3_feed 39 = .ok (.getfield 45, 3) := dk_180 0 45 (dk_at dksX3_feed_1 15 rfl rfl)
theorem dX3_feed_42 : decode cX3_feed 42 = .ok (.iconst 1, 1) := dk_4 (dk_at dksX3_feed_1 18 rfl rfl)
theorem dX3_feed_43 : decode cX3_feed 43 = .ok (.iadd, 1) := dk_96 (dk_at dksX3_feed_1 19 rfl rfl)
theorem dX3_feed_44 : decode cX3_feed 44 = .ok (.putfield 45, 3) := dk_181 0 45 (dk_at dksX3_feed_1 20 rfl rfl)
theorem dX3_feed_47 : decode cX3_feed 47 = .ok (.aload_n 0, 1) := dk_42 (dk_at dksX3_feed_1 23 rfl rfl)
theorem dX3_feed_48 : decode cX3_feed 48 = .ok (.getfield 45, 3) := dk_180 0 45 (dk_at dksX3_feed_2 0 rfl rfl)
theorem dX3_feed_51 : decode cX3_feed 51 = .ok (.ireturn, 1) := dk_172 (dk_at dksX3_feed_2 3 rfl rfl)
abbrev cX3_in : ByteArray := prog_7_method_3_code
def yX3_in : MethodName := ⟨RX3, "in", "(JJJ)Z"⟩
def dkwX3_in_0 : List UInt8 := [30, 32, 148, 155, 0, 14, 30, 22, 4, 148, 157, 0, 7, 4, 167, 0, 4, 3, 172]
abbrev dktX3_in_0 : List UInt8 := dkwX3_in_0 ++ []
theorem dksX3_in_0 : cX3_in.data.toList.drop 0 = dktX3_in_0 := by decide +kernel
theorem dX3_in_0 : decode cX3_in 0 = .ok (.lload_n 0, 1) := dk_30 (dk_at dksX3_in_0 0 rfl rfl)
theorem dX3_in_1 : decode cX3_in 1 = .ok (.lload_n 2, 1) := dk_32 (dk_at dksX3_in_0 1 rfl rfl)
theorem dX3_in_2 : decode cX3_in 2 = .ok (.lcmp, 1) := dk_148 (dk_at dksX3_in_0 2 rfl rfl)
theorem dX3_in_3 : decode cX3_in 3 = .ok (.ifCond .lt 14, 3) := dk_155 0 14 (dk_at dksX3_in_0 3 rfl rfl)
theorem dX3_in_6 : decode cX3_in 6 = .ok (.lload_n 0, 1) := dk_30 (dk_at dksX3_in_0 6 rfl rfl)
theorem dX3_in_7 : decode cX3_in 7 = .ok (.lload 4, 2) := dk_22 4 (dk_at dksX3_in_0 7 rfl rfl)
theorem dX3_in_9 : decode cX3_in 9 = .ok (.lcmp, 1) := dk_148 (dk_at dksX3_in_0 9 rfl rfl)
theorem dX3_in_10 : decode cX3_in 10 = .ok (.ifCond .gt 7, 3) := dk_157 0 7 (dk_at dksX3_in_0 10 rfl rfl)
theorem dX3_in_13 : decode cX3_in 13 = .ok (.iconst 1, 1) := dk_4 (dk_at dksX3_in_0 13 rfl rfl)
theorem dX3_in_14 : decode cX3_in 14 = .ok (.goto 4, 3) := dk_167 0 4 (dk_at dksX3_in_0 14 rfl rfl)
theorem dX3_in_17 : decode cX3_in 17 = .ok (.iconst 0, 1) := dk_3 (dk_at dksX3_in_0 17 rfl rfl)
theorem dX3_in_18 : decode cX3_in 18 = .ok (.ireturn, 1) := dk_172 (dk_at dksX3_in_0 18 rfl rfl)
abbrev cX3_end : ByteArray := prog_7_method_5_code
def yX3_end : MethodName := ⟨RX3, "end", "(I)I"⟩
def dkwX3_end_1 : List UInt8 := [181, 0, 45, 28, 172]
abbrev dktX3_end_1 : List UInt8 := dkwX3_end_1 ++ []
def dkwX3_end_0 : List UInt8 := [27, 133, 9, 42, 180, 0, 45, 133, 184, 0, 41, 154, 0, 5, 2, 172, 42, 180, 0, 45, 61, 42, 27]
abbrev dktX3_end_0 : List UInt8 := dkwX3_end_0 ++ dktX3_end_1
theorem dksX3_end_0 : cX3_end.data.toList.drop 0 = dktX3_end_0 := by decide +kernel
theorem dksX3_end_1 : cX3_end.data.toList.drop 23 = dktX3_end_1 := dk_seg dksX3_end_0 23 rfl rfl
theorem dX3_end_0 : decode cX3_end 0 = .ok (.iload_n 1, 1) := dk_27 (dk_at dksX3_end_0 0 rfl rfl)
theorem dX3_end_1 : decode cX3_end 1 = .ok (.i2l, 1) := dk_133 (dk_at dksX3_end_0 1 rfl rfl)
theorem dX3_end_2 : decode cX3_end 2 = .ok (.lconst 0, 1) := dk_9 (dk_at dksX3_end_0 2 rfl rfl)
theorem dX3_end_3 : decode cX3_end 3 = .ok (.aload_n 0, 1) := dk_42 (dk_at dksX3_end_0 3 rfl rfl)
theorem dX3_end_4 : decode cX3_end 4 = .ok (.getfield 45, 3) := dk_180 0 45 (dk_at dksX3_end_0 4 rfl rfl)
theorem dX3_end_7 : decode cX3_end 7 = .ok (.i2l, 1) := dk_133 (dk_at dksX3_end_0 7 rfl rfl)
theorem dX3_end_8 : decode cX3_end 8 = .ok (.invokestatic 41, 3) := dk_184 0 41 (dk_at dksX3_end_0 8 rfl rfl)
theorem dX3_end_11 : decode cX3_end 11 = .ok (.ifCond .ne 5, 3) := dk_154 0 5 (dk_at dksX3_end_0 11 rfl rfl)
theorem dX3_end_14 : decode cX3_end 14 = .ok (.iconst (-1), 1) := dk_2 (dk_at dksX3_end_0 14 rfl rfl)
theorem dX3_end_15 : decode cX3_end 15 = .ok (.ireturn, 1) := dk_172 (dk_at dksX3_end_0 15 rfl rfl)
theorem dX3_end_16 : decode cX3_end 16 = .ok (.aload_n 0, 1) := dk_42 (dk_at dksX3_end_0 16 rfl rfl)
theorem dX3_end_17 : decode cX3_end 17 = .ok (.getfield 45, 3) := dk_180 0 45 (dk_at dksX3_end_0 17 rfl rfl)
theorem dX3_end_20 : decode cX3_end 20 = .ok (.istore_n 2, 1) := dk_61 (dk_at dksX3_end_0 20 rfl rfl)
theorem dX3_end_21 : decode cX3_end 21 = .ok (.aload_n 0, 1) := dk_42 (dk_at dksX3_end_0 21 rfl rfl)
theorem dX3_end_22 : decode cX3_end 22 = .ok (.iload_n 1, 1) := dk_27 (dk_at dksX3_end_0 22 rfl rfl)
theorem dX3_end_23 : decode cX3_end 23 = .ok (.putfield 45, 3) := dk_181 0 45 (dk_at dksX3_end_1 0 rfl rfl)
theorem dX3_end_26 : decode cX3_end 26 = .ok (.iload_n 2, 1) := dk_28 (dk_at dksX3_end_1 3 rfl rfl)
theorem dX3_end_27 : decode cX3_end 27 = .ok (.ireturn, 1) := dk_172 (dk_at dksX3_end_1 4 rfl rfl)
abbrev cX3_text : ByteArray := prog_7_method_10_code
def yX3_text : MethodName := ⟨RX3, "text", "()I"⟩
def dkwX3_text_5 : List UInt8 := [42, 180, 0, 25, 4, 3, 84, 42, 180, 0, 7, 17, 0, 192, 46, 172]
abbrev dktX3_text_5 : List UInt8 := dkwX3_text_5 ++ []
def dkwX3_text_4 : List UInt8 := [180, 0, 7, 29, 42, 180, 0, 13, 29, 46, 79, 132, 3, 1, 167, 255, 234, 42, 180, 0, 25, 3, 3, 84]
abbrev dktX3_text_4 : List UInt8 := dkwX3_text_4 ++ dktX3_text_5
def dkwX3_text_3 : List UInt8 := [180, 0, 49, 158, 0, 11, 16, 246, 42, 180, 0, 55, 100, 172, 3, 62, 29, 17, 0, 193, 162, 0, 21, 42]
abbrev dktX3_text_3 : List UInt8 := dkwX3_text_3 ++ dktX3_text_4
def dkwX3_text_2 : List UInt8 := [182, 0, 82, 60, 132, 2, 1, 167, 255, 228, 42, 3, 181, 0, 45, 42, 42, 180, 0, 49, 181, 0, 86, 42]
abbrev dktX3_text_2 : List UInt8 := dkwX3_text_2 ++ dktX3_text_3
def dkwX3_text_1 : List UInt8 := [182, 0, 79, 42, 180, 0, 49, 154, 0, 27, 42, 180, 0, 68, 154, 0, 7, 27, 158, 0, 16, 42, 27, 28]
abbrev dktX3_text_1 : List UInt8 := dkwX3_text_1 ++ dktX3_text_2
def dkwX3_text_0 : List UInt8 := [42, 3, 181, 0, 49, 42, 3, 181, 0, 58, 3, 60, 3, 61, 42, 180, 0, 13, 17, 0, 192, 3, 79, 42]
abbrev dktX3_text_0 : List UInt8 := dkwX3_text_0 ++ dktX3_text_1
theorem dksX3_text_0 : cX3_text.data.toList.drop 0 = dktX3_text_0 := by decide +kernel
theorem dksX3_text_1 : cX3_text.data.toList.drop 24 = dktX3_text_1 := dk_seg dksX3_text_0 24 rfl rfl
theorem dksX3_text_2 : cX3_text.data.toList.drop 48 = dktX3_text_2 := dk_seg dksX3_text_1 24 rfl rfl
theorem dksX3_text_3 : cX3_text.data.toList.drop 72 = dktX3_text_3 := dk_seg dksX3_text_2 24 rfl rfl
theorem dksX3_text_4 : cX3_text.data.toList.drop 96 = dktX3_text_4 := dk_seg dksX3_text_3 24 rfl rfl
theorem dksX3_text_5 : cX3_text.data.toList.drop 120 = dktX3_text_5 := dk_seg dksX3_text_4 24 rfl rfl
theorem dX3_text_0 : decode cX3_text 0 = .ok (.aload_n 0, 1) := dk_42 (dk_at dksX3_text_0 0 rfl rfl)
theorem dX3_text_1 : decode cX3_text 1 = .ok (.iconst 0, 1) := dk_3 (dk_at dksX3_text_0 1 rfl rfl)
theorem dX3_text_2 : decode cX3_text 2 = .ok (.putfield 49, 3) := dk_181 0 49 (dk_at dksX3_text_0 2 rfl rfl)
theorem dX3_text_5 : decode cX3_text 5 = .ok (.aload_n 0, 1) := dk_42 (dk_at dksX3_text_0 5 rfl rfl)
theorem dX3_text_6 : decode cX3_text 6 = .ok (.iconst 0, 1) := dk_3 (dk_at dksX3_text_0 6 rfl rfl)
theorem dX3_text_7 : decode cX3_text 7 = .ok (.putfield 58, 3) := dk_181 0 58 (dk_at dksX3_text_0 7 rfl rfl)
theorem dX3_text_10 : decode cX3_text 10 = .ok (.iconst 0, 1) := dk_3 (dk_at dksX3_text_0 10 rfl rfl)
theorem dX3_text_11 : decode cX3_text 11 = .ok (.istore_n 1, 1) := dk_60 (dk_at dksX3_text_0 11 rfl rfl)
theorem dX3_text_12 : decode cX3_text 12 = .ok (.iconst 0, 1) := dk_3 (dk_at dksX3_text_0 12 rfl rfl)
theorem dX3_text_13 : decode cX3_text 13 = .ok (.istore_n 2, 1) := dk_61 (dk_at dksX3_text_0 13 rfl rfl)
theorem dX3_text_14 : decode cX3_text 14 = .ok (.aload_n 0, 1) := dk_42 (dk_at dksX3_text_0 14 rfl rfl)
theorem dX3_text_15 : decode cX3_text 15 = .ok (.getfield 13, 3) := dk_180 0 13 (dk_at dksX3_text_0 15 rfl rfl)
theorem dX3_text_18 : decode cX3_text 18 = .ok (.sipush 192, 3) := dk_17 0 192 (dk_at dksX3_text_0 18 rfl rfl)
theorem dX3_text_21 : decode cX3_text 21 = .ok (.iconst 0, 1) := dk_3 (dk_at dksX3_text_0 21 rfl rfl)
theorem dX3_text_22 : decode cX3_text 22 = .ok (.iastore, 1) := dk_79 (dk_at dksX3_text_0 22 rfl rfl)
theorem dX3_text_23 : decode cX3_text 23 = .ok (.aload_n 0, 1) := dk_42 (dk_at dksX3_text_0 23 rfl rfl)
theorem dX3_text_24 : decode cX3_text 24 = .ok (.invokevirtual 79, 3) := dk_182 0 79 (dk_at dksX3_text_1 0 rfl rfl)
theorem dX3_text_27 : decode cX3_text 27 = .ok (.aload_n 0, 1) := dk_42 (dk_at dksX3_text_1 3 rfl rfl)
theorem dX3_text_28 : decode cX3_text 28 = .ok (.getfield 49, 3) := dk_180 0 49 (dk_at dksX3_text_1 4 rfl rfl)
theorem dX3_text_31 : decode cX3_text 31 = .ok (.ifCond .ne 27, 3) := dk_154 0 27 (dk_at dksX3_text_1 7 rfl rfl)
theorem dX3_text_34 : decode cX3_text 34 = .ok (.aload_n 0, 1) := dk_42 (dk_at dksX3_text_1 10 rfl rfl)
theorem dX3_text_35 : decode cX3_text 35 = .ok (.getfield 68, 3) := dk_180 0 68 (dk_at dksX3_text_1 11 rfl rfl)
theorem dX3_text_38 : decode cX3_text 38 = .ok (.ifCond .ne 7, 3) := dk_154 0 7 (dk_at dksX3_text_1 14 rfl rfl)
theorem dX3_text_41 : decode cX3_text 41 = .ok (.iload_n 1, 1) := dk_27 (dk_at dksX3_text_1 17 rfl rfl)
theorem dX3_text_42 : decode cX3_text 42 = .ok (.ifCond .le 16, 3) := dk_158 0 16 (dk_at dksX3_text_1 18 rfl rfl)
theorem dX3_text_45 : decode cX3_text 45 = .ok (.aload_n 0, 1) := dk_42 (dk_at dksX3_text_1 21 rfl rfl)
theorem dX3_text_46 : decode cX3_text 46 = .ok (.iload_n 1, 1) := dk_27 (dk_at dksX3_text_1 22 rfl rfl)
theorem dX3_text_47 : decode cX3_text 47 = .ok (.iload_n 2, 1) := dk_28 (dk_at dksX3_text_1 23 rfl rfl)
theorem dX3_text_48 : decode cX3_text 48 = .ok (.invokevirtual 82, 3) := dk_182 0 82 (dk_at dksX3_text_2 0 rfl rfl)
theorem dX3_text_51 : decode cX3_text 51 = .ok (.istore_n 1, 1) := dk_60 (dk_at dksX3_text_2 3 rfl rfl)
theorem dX3_text_52 : decode cX3_text 52 = .ok (.iinc 2 1, 3) := dk_132 2 1 (dk_at dksX3_text_2 4 rfl rfl)
theorem dX3_text_55 : decode cX3_text 55 = .ok (.goto (-28), 3) := dk_167 255 228 (dk_at dksX3_text_2 7 rfl rfl)
theorem dX3_text_58 : decode cX3_text 58 = .ok (.aload_n 0, 1) := dk_42 (dk_at dksX3_text_2 10 rfl rfl)
theorem dX3_text_59 : decode cX3_text 59 = .ok (.iconst 0, 1) := dk_3 (dk_at dksX3_text_2 11 rfl rfl)
theorem dX3_text_60 : decode cX3_text 60 = .ok (.putfield 45, 3) := dk_181 0 45 (dk_at dksX3_text_2 12 rfl rfl)
theorem dX3_text_63 : decode cX3_text 63 = .ok (.aload_n 0, 1) := dk_42 (dk_at dksX3_text_2 15 rfl rfl)
theorem dX3_text_64 : decode cX3_text 64 = .ok (.aload_n 0, 1) := dk_42 (dk_at dksX3_text_2 16 rfl rfl)
theorem dX3_text_65 : decode cX3_text 65 = .ok (.getfield 49, 3) := dk_180 0 49 (dk_at dksX3_text_2 17 rfl rfl)
theorem dX3_text_68 : decode cX3_text 68 = .ok (.putfield 86, 3) := dk_181 0 86 (dk_at dksX3_text_2 20 rfl rfl)
theorem dX3_text_71 : decode cX3_text 71 = .ok (.aload_n 0, 1) := dk_42 (dk_at dksX3_text_2 23 rfl rfl)
theorem dX3_text_72 : decode cX3_text 72 = .ok (.getfield 49, 3) := dk_180 0 49 (dk_at dksX3_text_3 0 rfl rfl)
theorem dX3_text_75 : decode cX3_text 75 = .ok (.ifCond .le 11, 3) := dk_158 0 11 (dk_at dksX3_text_3 3 rfl rfl)
theorem dX3_text_78 : decode cX3_text 78 = .ok (.bipush (-10), 2) := dk_16 246 (dk_at dksX3_text_3 6 rfl rfl)
theorem dX3_text_80 : decode cX3_text 80 = .ok (.aload_n 0, 1) := dk_42 (dk_at dksX3_text_3 8 rfl rfl)
theorem dX3_text_81 : decode cX3_text 81 = .ok (.getfield 55, 3) := dk_180 0 55 (dk_at dksX3_text_3 9 rfl rfl)
theorem dX3_text_84 : decode cX3_text 84 = .ok (.isub, 1) := dk_100 (dk_at dksX3_text_3 12 rfl rfl)
theorem dX3_text_85 : decode cX3_text 85 = .ok (.ireturn, 1) := dk_172 (dk_at dksX3_text_3 13 rfl rfl)
theorem dX3_text_86 : decode cX3_text 86 = .ok (.iconst 0, 1) := dk_3 (dk_at dksX3_text_3 14 rfl rfl)
theorem dX3_text_87 : decode cX3_text 87 = .ok (.istore_n 3, 1) := dk_62 (dk_at dksX3_text_3 15 rfl rfl)
theorem dX3_text_88 : decode cX3_text 88 = .ok (.iload_n 3, 1) := dk_29 (dk_at dksX3_text_3 16 rfl rfl)
theorem dX3_text_89 : decode cX3_text 89 = .ok (.sipush 193, 3) := dk_17 0 193 (dk_at dksX3_text_3 17 rfl rfl)
theorem dX3_text_92 : decode cX3_text 92 = .ok (.if_icmp .ge 21, 3) := dk_162 0 21 (dk_at dksX3_text_3 20 rfl rfl)
theorem dX3_text_95 : decode cX3_text 95 = .ok (.aload_n 0, 1) := dk_42 (dk_at dksX3_text_3 23 rfl rfl)
theorem dX3_text_96 : decode cX3_text 96 = .ok (.getfield 7, 3) := dk_180 0 7 (dk_at dksX3_text_4 0 rfl rfl)
theorem dX3_text_99 : decode cX3_text 99 = .ok (.iload_n 3, 1) := dk_29 (dk_at dksX3_text_4 3 rfl rfl)
theorem dX3_text_100 : decode cX3_text 100 = .ok (.aload_n 0, 1) := dk_42 (dk_at dksX3_text_4 4 rfl rfl)
theorem dX3_text_101 : decode cX3_text 101 = .ok (.getfield 13, 3) := dk_180 0 13 (dk_at dksX3_text_4 5 rfl rfl)
theorem dX3_text_104 : decode cX3_text 104 = .ok (.iload_n 3, 1) := dk_29 (dk_at dksX3_text_4 8 rfl rfl)
theorem dX3_text_105 : decode cX3_text 105 = .ok (.iaload, 1) := dk_46 (dk_at dksX3_text_4 9 rfl rfl)
theorem dX3_text_106 : decode cX3_text 106 = .ok (.iastore, 1) := dk_79 (dk_at dksX3_text_4 10 rfl rfl)
theorem dX3_text_107 : decode cX3_text 107 = .ok (.iinc 3 1, 3) := dk_132 3 1 (dk_at dksX3_text_4 11 rfl rfl)
theorem dX3_text_110 : decode cX3_text 110 = .ok (.goto (-22), 3) := dk_167 255 234 (dk_at dksX3_text_4 14 rfl rfl)
theorem dX3_text_113 : decode cX3_text 113 = .ok (.aload_n 0, 1) := dk_42 (dk_at dksX3_text_4 17 rfl rfl)
theorem dX3_text_114 : decode cX3_text 114 = .ok (.getfield 25, 3) := dk_180 0 25 (dk_at dksX3_text_4 18 rfl rfl)
theorem dX3_text_117 : decode cX3_text 117 = .ok (.iconst 0, 1) := dk_3 (dk_at dksX3_text_4 21 rfl rfl)
theorem dX3_text_118 : decode cX3_text 118 = .ok (.iconst 0, 1) := dk_3 (dk_at dksX3_text_4 22 rfl rfl)
theorem dX3_text_119 : decode cX3_text 119 = .ok (.bastore, 1) := dk_84 (dk_at dksX3_text_4 23 rfl rfl)
theorem dX3_text_120 : decode cX3_text 120 = .ok (.aload_n 0, 1) := dk_42 (dk_at dksX3_text_5 0 rfl rfl)
theorem dX3_text_121 : decode cX3_text 121 = .ok (.getfield 25, 3) := dk_180 0 25 (dk_at dksX3_text_5 1 rfl rfl)
theorem dX3_text_124 : decode cX3_text 124 = .ok (.iconst 1, 1) := dk_4 (dk_at dksX3_text_5 4 rfl rfl)
theorem dX3_text_125 : decode cX3_text 125 = .ok (.iconst 0, 1) := dk_3 (dk_at dksX3_text_5 5 rfl rfl)
theorem dX3_text_126 : decode cX3_text 126 = .ok (.bastore, 1) := dk_84 (dk_at dksX3_text_5 6 rfl rfl)
theorem dX3_text_127 : decode cX3_text 127 = .ok (.aload_n 0, 1) := dk_42 (dk_at dksX3_text_5 7 rfl rfl)
theorem dX3_text_128 : decode cX3_text 128 = .ok (.getfield 7, 3) := dk_180 0 7 (dk_at dksX3_text_5 8 rfl rfl)
theorem dX3_text_131 : decode cX3_text 131 = .ok (.sipush 192, 3) := dk_17 0 192 (dk_at dksX3_text_5 11 rfl rfl)
theorem dX3_text_134 : decode cX3_text 134 = .ok (.iaload, 1) := dk_46 (dk_at dksX3_text_5 14 rfl rfl)
theorem dX3_text_135 : decode cX3_text 135 = .ok (.ireturn, 1) := dk_172 (dk_at dksX3_text_5 15 rfl rfl)
abbrev cX3_readsOn : ByteArray := prog_7_method_8_code
def yX3_readsOn : MethodName := ⟨RX3, "readsOn", "()V"⟩
def dkwX3_readsOn_9 : List UInt8 := [96, 181, 0, 58, 27, 16, 40, 159, 0, 14, 27, 16, 41, 159, 0, 8, 42, 4, 182, 0, 75, 177]
abbrev dktX3_readsOn_9 : List UInt8 := dkwX3_readsOn_9 ++ []
def dkwX3_readsOn_8 : List UInt8 := [167, 0, 45, 42, 27, 16, 40, 160, 0, 7, 5, 167, 0, 4, 6, 181, 0, 68, 42, 89, 180, 0, 58, 4]
abbrev dktX3_readsOn_8 : List UInt8 := dkwX3_readsOn_8 ++ dktX3_readsOn_9
def dkwX3_readsOn_7 : List UInt8 := [4, 181, 0, 68, 42, 180, 0, 58, 42, 180, 0, 52, 100, 7, 164, 0, 53, 42, 4, 182, 0, 75]
abbrev dktX3_readsOn_7 : List UInt8 := dkwX3_readsOn_7 ++ dktX3_readsOn_8
def dkwX3_readsOn_6 : List UInt8 := [167, 0, 7, 42, 180, 0, 65, 181, 0, 65, 42, 89, 180, 0, 58, 4, 96, 181, 0, 58, 167, 255, 182, 42]
abbrev dktX3_readsOn_6 : List UInt8 := dkwX3_readsOn_6 ++ dktX3_readsOn_7
def dkwX3_readsOn_5 : List UInt8 := [162, 0, 25, 16, 10, 42, 180, 0, 65, 104, 42, 42, 180, 0, 58, 182, 0, 61, 96, 16, 48, 100]
abbrev dktX3_readsOn_5 : List UInt8 := dkwX3_readsOn_5 ++ dktX3_readsOn_6
def dkwX3_readsOn_4 : List UInt8 := [20, 0, 71, 20, 0, 73, 184, 0, 41, 153, 0, 59, 42, 42, 180, 0, 58, 42, 180, 0, 52, 100, 7]
abbrev dktX3_readsOn_4 : List UInt8 := dkwX3_readsOn_4 ++ dktX3_readsOn_5
def dkwX3_readsOn_3 : List UInt8 := [133, 20, 0, 71, 20, 0, 73, 184, 0, 41, 153, 0, 106, 42, 42, 180, 0, 58, 182, 0, 61, 133]
abbrev dktX3_readsOn_3 : List UInt8 := dkwX3_readsOn_3 ++ dktX3_readsOn_4
def dkwX3_readsOn_2 : List UInt8 := [182, 0, 61, 60, 42, 3, 181, 0, 65, 27, 16, 252, 160, 0, 11, 42, 3, 181, 0, 68, 167, 0, 162, 27]
abbrev dktX3_readsOn_2 : List UInt8 := dkwX3_readsOn_2 ++ dktX3_readsOn_3
def dkwX3_readsOn_1 : List UInt8 := [180, 0, 58, 4, 96, 181, 0, 58, 167, 255, 233, 42, 42, 180, 0, 58, 181, 0, 52, 42, 42, 180, 0, 58]
abbrev dktX3_readsOn_1 : List UInt8 := dkwX3_readsOn_1 ++ dktX3_readsOn_2
def dkwX3_readsOn_0 : List UInt8 := [42, 180, 0, 49, 158, 0, 4, 177, 42, 42, 180, 0, 58, 182, 0, 61, 16, 32, 160, 0, 16, 42, 89]
abbrev dktX3_readsOn_0 : List UInt8 := dkwX3_readsOn_0 ++ dktX3_readsOn_1
theorem dksX3_readsOn_0 : cX3_readsOn.data.toList.drop 0 = dktX3_readsOn_0 := by decide +kernel
theorem dksX3_readsOn_1 : cX3_readsOn.data.toList.drop 23 = dktX3_readsOn_1 := dk_seg dksX3_readsOn_0 23 rfl rfl
theorem dksX3_readsOn_2 : cX3_readsOn.data.toList.drop 47 = dktX3_readsOn_2 := dk_seg dksX3_readsOn_1 24 rfl rfl
theorem dksX3_readsOn_3 : cX3_readsOn.data.toList.drop 71 = dktX3_readsOn_3 := dk_seg dksX3_readsOn_2 24 rfl rfl
theorem dksX3_readsOn_4 : cX3_readsOn.data.toList.drop 93 = dktX3_readsOn_4 := dk_seg dksX3_readsOn_3 22 rfl rfl
theorem dksX3_readsOn_5 : cX3_readsOn.data.toList.drop 116 = dktX3_readsOn_5 := dk_seg dksX3_readsOn_4 23 rfl rfl
theorem dksX3_readsOn_6 : cX3_readsOn.data.toList.drop 138 = dktX3_readsOn_6 := dk_seg dksX3_readsOn_5 22 rfl rfl
theorem dksX3_readsOn_7 : cX3_readsOn.data.toList.drop 162 = dktX3_readsOn_7 := dk_seg dksX3_readsOn_6 24 rfl rfl
theorem dksX3_readsOn_8 : cX3_readsOn.data.toList.drop 184 = dktX3_readsOn_8 := dk_seg dksX3_readsOn_7 22 rfl rfl
theorem dksX3_readsOn_9 : cX3_readsOn.data.toList.drop 208 = dktX3_readsOn_9 := dk_seg dksX3_readsOn_8 24 rfl rfl
theorem dX3_readsOn_0 : decode cX3_readsOn 0 = .ok (.aload_n 0, 1) := dk_42 (dk_at dksX3_readsOn_0 0 rfl rfl)
theorem dX3_readsOn_1 : decode cX3_readsOn 1 = .ok (.getfield 49, 3) := dk_180 0 49 (dk_at dksX3_readsOn_0 1 rfl rfl)
theorem dX3_readsOn_4 : decode cX3_readsOn 4 = .ok (.ifCond .le 4, 3) := dk_158 0 4 (dk_at dksX3_readsOn_0 4 rfl rfl)
theorem dX3_readsOn_7 : decode cX3_readsOn 7 = .ok (.return_, 1) := dk_177 (dk_at dksX3_readsOn_0 7 rfl rfl)
theorem dX3_readsOn_8 : decode cX3_readsOn 8 = .ok (.aload_n 0, 1) := dk_42 (dk_at dksX3_readsOn_0 8 rfl rfl)
theorem dX3_readsOn_9 : decode cX3_readsOn 9 = .ok (.aload_n 0, 1) := dk_42 (dk_at dksX3_readsOn_0 9 rfl rfl)
theorem dX3_readsOn_10 : decode cX3_readsOn 10 = .ok (.getfield 58, 3) := dk_180 0 58 (dk_at dksX3_readsOn_0 10 rfl rfl)
theorem dX3_readsOn_13 : decode cX3_readsOn 13 = .ok (.invokevirtual 61, 3) := dk_182 0 61 (dk_at dksX3_readsOn_0 13 rfl rfl)
theorem dX3_readsOn_16 : decode cX3_readsOn 16 = .ok (.bipush 32, 2) := dk_16 32 (dk_at dksX3_readsOn_0 16 rfl rfl)
theorem dX3_readsOn_18 : decode cX3_readsOn 18 = .ok (.if_icmp .ne 16, 3) := dk_160 0 16 (dk_at dksX3_readsOn_0 18 rfl rfl)
theorem dX3_readsOn_21 : decode cX3_readsOn 21 = .ok (.aload_n 0, 1) := dk_42 (dk_at dksX3_readsOn_0 21 rfl rfl)
theorem dX3_readsOn_22 : decode cX3_readsOn 22 = .ok (.dup, 1) := dk_89 (dk_at dksX3_readsOn_0 22 rfl rfl)
theorem dX3_readsOn_23 : decode cX3_readsOn 23 = .ok (.getfield 58, 3) := dk_180 0 58 (dk_at dksX3_readsOn_1 0 rfl rfl)
theorem dX3_readsOn_26 : decode cX3_readsOn 26 = .ok (.iconst 1, 1) := dk_4 (dk_at dksX3_readsOn_1 3 rfl rfl)
theorem dX3_readsOn_27 : decode cX3_readsOn 27 = .ok (.iadd, 1) := dk_96 (dk_at dksX3_readsOn_1 4 rfl rfl)
theorem dX3_readsOn_28 : decode cX3_readsOn 28 = .ok (.putfield 58, 3) := dk_181 0 58 (dk_at dksX3_readsOn_1 5 rfl rfl)
theorem dX3_readsOn_31 : decode cX3_readsOn 31 = .ok (.goto (-23), 3) := dk_167 255 233 (dk_at dksX3_readsOn_1 8 rfl rfl)
theorem dX3_readsOn_34 : decode cX3_readsOn 34 = .ok (.aload_n 0, 1) := dk_42 (dk_at dksX3_readsOn_1 11 rfl rfl)
theorem dX3_readsOn_35 : decode cX3_readsOn 35 = .ok (.aload_n 0, 1) := dk_42 (dk_at dksX3_readsOn_1 12 rfl rfl)
theorem dX3_readsOn_36 : decode cX3_readsOn 36 = .ok (.getfield 58, 3) := dk_180 0 58 (dk_at dksX3_readsOn_1 13 rfl rfl)
theorem dX3_readsOn_39 : decode cX3_readsOn 39 = .ok (.putfield 52, 3) := dk_181 0 52 (dk_at dksX3_readsOn_1 16 rfl rfl)
theorem dX3_readsOn_42 : decode cX3_readsOn 42 = .ok (.aload_n 0, 1) := dk_42 (dk_at dksX3_readsOn_1 19 rfl rfl)
theorem dX3_readsOn_43 : decode cX3_readsOn 43 = .ok (.aload_n 0, 1) := dk_42 (dk_at dksX3_readsOn_1 20 rfl rfl)
theorem dX3_readsOn_44 : decode cX3_readsOn 44 = .ok (.getfield 58, 3) := dk_180 0 58 (dk_at dksX3_readsOn_1 21 rfl rfl)
theorem dX3_readsOn_47 : decode cX3_readsOn 47 = .ok (.invokevirtual 61, 3) := dk_182 0 61 (dk_at dksX3_readsOn_2 0 rfl rfl)
theorem dX3_readsOn_50 : decode cX3_readsOn 50 = .ok (.istore_n 1, 1) := dk_60 (dk_at dksX3_readsOn_2 3 rfl rfl)
theorem dX3_readsOn_51 : decode cX3_readsOn 51 = .ok (.aload_n 0, 1) := dk_42 (dk_at dksX3_readsOn_2 4 rfl rfl)
theorem dX3_readsOn_52 : decode cX3_readsOn 52 = .ok (.iconst 0, 1) := dk_3 (dk_at dksX3_readsOn_2 5 rfl rfl)
theorem dX3_readsOn_53 : decode cX3_readsOn 53 = .ok (.putfield 65, 3) := dk_181 0 65 (dk_at dksX3_readsOn_2 6 rfl rfl)
theorem dX3_readsOn_56 : decode cX3_readsOn 56 = .ok (.iload_n 1, 1) := dk_27 (dk_at dksX3_readsOn_2 9 rfl rfl)
theorem dX3_readsOn_57 : decode cX3_readsOn 57 = .ok (.bipush (-4), 2) := dk_16 252 (dk_at dksX3_readsOn_2 10 rfl rfl)
theorem dX3_readsOn_59 : decode cX3_readsOn 59 = .ok (.if_icmp .ne 11, 3) := dk_160 0 11 (dk_at dksX3_readsOn_2 12 rfl rfl)
theorem dX3_readsOn_62 : decode cX3_readsOn 62 = .ok (.aload_n 0, 1) := dk_42 (dk_at dksX3_readsOn_2 15 rfl rfl)
theorem dX3_readsOn_63 : decode cX3_readsOn 63 = .ok (.iconst 0, 1) := dk_3 (dk_at dksX3_readsOn_2 16 rfl rfl)
theorem dX3_readsOn_64 : decode cX3_readsOn 64 = .ok (.putfield 68, 3) := dk_181 0 68 (dk_at dksX3_readsOn_2 17 rfl rfl)
theorem dX3_readsOn_67 : decode cX3_readsOn 67 = .ok (.goto 162, 3) := dk_167 0 162 (dk_at dksX3_readsOn_2 20 rfl rfl)
theorem dX3_readsOn_70 : decode cX3_readsOn 70 = .ok (.iload_n 1, 1) := dk_27 (dk_at dksX3_readsOn_2 23 rfl rfl)
theorem dX3_readsOn_71 : decode cX3_readsOn 71 = .ok (.i2l, 1) := dk_133 (dk_at dksX3_readsOn_3 0 rfl rfl)
theorem dX3_readsOn_72 : decode cX3_readsOn 72 = .ok (.ldc2_w 71, 3) := dk_20 0 71 (dk_at dksX3_readsOn_3 1 rfl rfl)
theorem dX3_readsOn_75 : decode cX3_readsOn 75 = .ok (.ldc2_w 73, 3) := dk_20 0 73 (dk_at dksX3_readsOn_3 4 rfl rfl)
theorem dX3_readsOn_78 : decode cX3_readsOn 78 = .ok (.invokestatic 41, 3) := dk_184 0 41 (dk_at dksX3_readsOn_3 7 rfl rfl)
theorem dX3_readsOn_81 : decode cX3_readsOn 81 = .ok (.ifCond .eq 106, 3) := dk_153 0 106 (dk_at dksX3_readsOn_3 10 rfl rfl)
theorem dX3_readsOn_84 : decode cX3_readsOn 84 = .ok (.aload_n 0, 1) := dk_42 (dk_at dksX3_readsOn_3 13 rfl rfl)
theorem dX3_readsOn_85 : decode cX3_readsOn 85 = .ok (.aload_n 0, 1) := dk_42 (dk_at dksX3_readsOn_3 14 rfl rfl)
theorem dX3_readsOn_86 : decode cX3_readsOn 86 = .ok (.getfield 58, 3) := dk_180 0 58 (dk_at dksX3_readsOn_3 15 rfl rfl)
theorem dX3_readsOn_89 : decode cX3_readsOn 89 = .ok (.invokevirtual 61, 3) := dk_182 0 61 (dk_at dksX3_readsOn_3 18 rfl rfl)
theorem dX3_readsOn_92 : decode cX3_readsOn 92 = .ok (.i2l, 1) := dk_133 (dk_at dksX3_readsOn_3 21 rfl rfl)
theorem dX3_readsOn_93 : decode cX3_readsOn 93 = .ok (.ldc2_w 71, 3) := dk_20 0 71 (dk_at dksX3_readsOn_4 0 rfl rfl)
theorem dX3_readsOn_96 : decode cX3_readsOn 96 = .ok (.ldc2_w 73, 3) := dk_20 0 73 (dk_at dksX3_readsOn_4 3 rfl rfl)
theorem dX3_readsOn_99 : decode cX3_readsOn 99 = .ok (.invokestatic 41, 3) := dk_184 0 41 (dk_at dksX3_readsOn_4 6 rfl rfl)
theorem dX3_readsOn_102 : decode cX3_readsOn 102 = .ok (.ifCond .eq 59, 3) := dk_153 0 59 (dk_at dksX3_readsOn_4 9 rfl rfl)
theorem dX3_readsOn_105 : decode cX3_readsOn 105 = .ok (.aload_n 0, 1) := dk_42 (dk_at dksX3_readsOn_4 12 rfl rfl)
theorem dX3_readsOn_106 : decode cX3_readsOn 106 = .ok (.aload_n 0, 1) := dk_42 (dk_at dksX3_readsOn_4 13 rfl rfl)
theorem dX3_readsOn_107 : decode cX3_readsOn 107 = .ok (.getfield 58, 3) := dk_180 0 58 (dk_at dksX3_readsOn_4 14 rfl rfl)
theorem dX3_readsOn_110 : decode cX3_readsOn 110 = .ok (.aload_n 0, 1) := dk_42 (dk_at dksX3_readsOn_4 17 rfl rfl)
theorem dX3_readsOn_111 : decode cX3_readsOn 111 = .ok (.getfield 52, 3) := dk_180 0 52 (dk_at dksX3_readsOn_4 18 rfl rfl)
theorem dX3_readsOn_114 : decode cX3_readsOn 114 = .ok (.isub, 1) := dk_100 (dk_at dksX3_readsOn_4 21 rfl rfl)
theorem dX3_readsOn_115 : decode cX3_readsOn 115 = .ok (.iconst 4, 1) := dk_7 (dk_at dksX3_readsOn_4 22 rfl rfl)
theorem dX3_readsOn_116 : decode cX3_readsOn 116 = .ok (.if_icmp .ge 25, 3) := dk_162 0 25 (dk_at dksX3_readsOn_5 0 rfl rfl)
theorem dX3_readsOn_119 : decode cX3_readsOn 119 = .ok (.bipush 10, 2) := dk_16 10 (dk_at dksX3_readsOn_5 3 rfl rfl)
theorem dX3_readsOn_121 : decode cX3_readsOn 121 = .ok (.aload_n 0, 1) := dk_42 (dk_at dksX3_readsOn_5 5 rfl rfl)
theorem dX3_readsOn_122 : decode cX3_readsOn 122 = .ok (.getfield 65, 3) := dk_180 0 65 (dk_at dksX3_readsOn_5 6 rfl rfl)
theorem dX3_readsOn_125 : decode cX3_readsOn 125 = .ok (.imul, 1) := dk_104 (dk_at dksX3_readsOn_5 9 rfl rfl)
theorem dX3_readsOn_126 : decode cX3_readsOn 126 = .ok (.aload_n 0, 1) := dk_42 (dk_at dksX3_readsOn_5 10 rfl rfl)
theorem dX3_readsOn_127 : decode cX3_readsOn 127 = .ok (.aload_n 0, 1) := dk_42 (dk_at dksX3_readsOn_5 11 rfl rfl)
theorem dX3_readsOn_128 : decode cX3_readsOn 128 = .ok (.getfield 58, 3) := dk_180 0 58 (dk_at dksX3_readsOn_5 12 rfl rfl)
theorem dX3_readsOn_131 : decode cX3_readsOn 131 = .ok (.invokevirtual 61, 3) := dk_182 0 61 (dk_at dksX3_readsOn_5 15 rfl rfl)
theorem dX3_readsOn_134 : decode cX3_readsOn 134 = .ok (.iadd, 1) := dk_96 (dk_at dksX3_readsOn_5 18 rfl rfl)
theorem dX3_readsOn_135 : decode cX3_readsOn 135 = .ok (.bipush 48, 2) := dk_16 48 (dk_at dksX3_readsOn_5 19 rfl rfl)
theorem dX3_readsOn_137 : decode cX3_readsOn 137 = .ok (.isub, 1) := dk_100 (dk_at dksX3_readsOn_5 21 rfl rfl)
theorem dX3_readsOn_138 : decode cX3_readsOn 138 = .ok (.goto 7, 3) := dk_167 0 7 (dk_at dksX3_readsOn_6 0 rfl rfl)
theorem dX3_readsOn_141 : decode cX3_readsOn 141 = .ok (.aload_n 0, 1) := dk_42 (dk_at dksX3_readsOn_6 3 rfl rfl)
theorem dX3_readsOn_142 : decode cX3_readsOn 142 = .ok (.getfield 65, 3) := dk_180 0 65 (dk_at dksX3_readsOn_6 4 rfl rfl)
theorem dX3_readsOn_145 : decode cX3_readsOn 145 = .ok (.putfield 65, 3) := dk_181 0 65 (dk_at dksX3_readsOn_6 7 rfl rfl)
theorem dX3_readsOn_148 : decode cX3_readsOn 148 = .ok (.aload_n 0, 1) := dk_42 (dk_at dksX3_readsOn_6 10 rfl rfl)
theorem dX3_readsOn_149 : decode cX3_readsOn 149 = .ok (.dup, 1) := dk_89 (dk_at dksX3_readsOn_6 11 rfl rfl)
theorem dX3_readsOn_150 : decode cX3_readsOn 150 = .ok (.getfield 58, 3) := dk_180 0 58 (dk_at dksX3_readsOn_6 12 rfl rfl)
theorem dX3_readsOn_153 : decode cX3_readsOn 153 = .ok (.iconst 1, 1) := dk_4 (dk_at dksX3_readsOn_6 15 rfl rfl)
theorem dX3_readsOn_154 : decode cX3_readsOn 154 = .ok (.iadd, 1) := dk_96 (dk_at dksX3_readsOn_6 16 rfl rfl)
theorem dX3_readsOn_155 : decode cX3_readsOn 155 = .ok (.putfield 58, 3) := dk_181 0 58 (dk_at dksX3_readsOn_6 17 rfl rfl)
theorem dX3_readsOn_158 : decode cX3_readsOn 158 = .ok (.goto (-74), 3) := dk_167 255 182 (dk_at dksX3_readsOn_6 20 rfl rfl)
theorem dX3_readsOn_161 : decode cX3_readsOn 161 = .ok (.aload_n 0, 1) := dk_42 (dk_at dksX3_readsOn_6 23 rfl rfl)
theorem dX3_readsOn_162 : decode cX3_readsOn 162 = .ok (.iconst 1, 1) := dk_4 (dk_at dksX3_readsOn_7 0 rfl rfl)
theorem dX3_readsOn_163 : decode cX3_readsOn 163 = .ok (.putfield 68, 3) := dk_181 0 68 (dk_at dksX3_readsOn_7 1 rfl rfl)
theorem dX3_readsOn_166 : decode cX3_readsOn 166 = .ok (.aload_n 0, 1) := dk_42 (dk_at dksX3_readsOn_7 4 rfl rfl)
theorem dX3_readsOn_167 : decode cX3_readsOn 167 = .ok (.getfield 58, 3) := dk_180 0 58 (dk_at dksX3_readsOn_7 5 rfl rfl)
theorem dX3_readsOn_170 : decode cX3_readsOn 170 = .ok (.aload_n 0, 1) := dk_42 (dk_at dksX3_readsOn_7 8 rfl rfl)
theorem dX3_readsOn_171 : decode cX3_readsOn 171 = .ok (.getfield 52, 3) := dk_180 0 52 (dk_at dksX3_readsOn_7 9 rfl rfl)
theorem dX3_readsOn_174 : decode cX3_readsOn 174 = .ok (.isub, 1) := dk_100 (dk_at dksX3_readsOn_7 12 rfl rfl)
theorem dX3_readsOn_175 : decode cX3_readsOn 175 = .ok (.iconst 4, 1) := dk_7 (dk_at dksX3_readsOn_7 13 rfl rfl)
theorem dX3_readsOn_176 : decode cX3_readsOn 176 = .ok (.if_icmp .le 53, 3) := dk_164 0 53 (dk_at dksX3_readsOn_7 14 rfl rfl)
theorem dX3_readsOn_179 : decode cX3_readsOn 179 = .ok (.aload_n 0, 1) := dk_42 (dk_at dksX3_readsOn_7 17 rfl rfl)
theorem dX3_readsOn_180 : decode cX3_readsOn 180 = .ok (.iconst 1, 1) := dk_4 (dk_at dksX3_readsOn_7 18 rfl rfl)
theorem dX3_readsOn_181 : decode cX3_readsOn 181 = .ok (.invokevirtual 75, 3) := dk_182 0 75 (dk_at dksX3_readsOn_7 19 rfl rfl)
theorem dX3_readsOn_184 : decode cX3_readsOn 184 = .ok (.goto 45, 3) := dk_167 0 45 (dk_at dksX3_readsOn_8 0 rfl rfl)
theorem dX3_readsOn_187 : decode cX3_readsOn 187 = .ok (.aload_n 0, 1) := dk_42 (dk_at dksX3_readsOn_8 3 rfl rfl)
theorem dX3_readsOn_188 : decode cX3_readsOn 188 = .ok (.iload_n 1, 1) := dk_27 (dk_at dksX3_readsOn_8 4 rfl rfl)
theorem dX3_readsOn_189 : decode cX3_readsOn 189 = .ok (.bipush 40, 2) := dk_16 40 (dk_at dksX3_readsOn_8 5 rfl rfl)
theorem dX3_readsOn_191 : decode cX3_readsOn 191 = .ok (.if_icmp .ne 7, 3) := dk_160 0 7 (dk_at dksX3_readsOn_8 7 rfl rfl)
theorem dX3_readsOn_194 : decode cX3_readsOn 194 = .ok (.iconst 2, 1) := dk_5 (dk_at dksX3_readsOn_8 10 rfl rfl)
theorem dX3_readsOn_195 : decode cX3_readsOn 195 = .ok (.goto 4, 3) := dk_167 0 4 (dk_at dksX3_readsOn_8 11 rfl rfl)
theorem dX3_readsOn_198 : decode cX3_readsOn 198 = .ok (.iconst 3, 1) := dk_6 (dk_at dksX3_readsOn_8 14 rfl rfl)
theorem dX3_readsOn_199 : decode cX3_readsOn 199 = .ok (.putfield 68, 3) := dk_181 0 68 (dk_at dksX3_readsOn_8 15 rfl rfl)
theorem dX3_readsOn_202 : decode cX3_readsOn 202 = .ok (.aload_n 0, 1) := dk_42 (dk_at dksX3_readsOn_8 18 rfl rfl)
theorem dX3_readsOn_203 : decode cX3_readsOn 203 = .ok (.dup, 1) := dk_89 (dk_at dksX3_readsOn_8 19 rfl rfl)
theorem dX3_readsOn_204 : decode cX3_readsOn 204 = .ok (.getfield 58, 3) := dk_180 0 58 (dk_at dksX3_readsOn_8 20 rfl rfl)
theorem dX3_readsOn_207 : decode cX3_readsOn 207 = .ok (.iconst 1, 1) := dk_4 (dk_at dksX3_readsOn_8 23 rfl rfl)
theorem dX3_readsOn_208 : decode cX3_readsOn 208 = .ok (.iadd, 1) := dk_96 (dk_at dksX3_readsOn_9 0 rfl rfl)
theorem dX3_readsOn_209 : decode cX3_readsOn 209 = .ok (.putfield 58, 3) := dk_181 0 58 (dk_at dksX3_readsOn_9 1 rfl rfl)
theorem dX3_readsOn_212 : decode cX3_readsOn 212 = .ok (.iload_n 1, 1) := dk_27 (dk_at dksX3_readsOn_9 4 rfl rfl)
theorem dX3_readsOn_213 : decode cX3_readsOn 213 = .ok (.bipush 40, 2) := dk_16 40 (dk_at dksX3_readsOn_9 5 rfl rfl)
theorem dX3_readsOn_215 : decode cX3_readsOn 215 = .ok (.if_icmp .eq 14, 3) := dk_159 0 14 (dk_at dksX3_readsOn_9 7 rfl rfl)
theorem dX3_readsOn_218 : decode cX3_readsOn 218 = .ok (.iload_n 1, 1) := dk_27 (dk_at dksX3_readsOn_9 10 rfl rfl)
theorem dX3_readsOn_219 : decode cX3_readsOn 219 = .ok (.bipush 41, 2) := dk_16 41 (dk_at dksX3_readsOn_9 11 rfl rfl)
theorem dX3_readsOn_221 : decode cX3_readsOn 221 = .ok (.if_icmp .eq 8, 3) := dk_159 0 8 (dk_at dksX3_readsOn_9 13 rfl rfl)
theorem dX3_readsOn_224 : decode cX3_readsOn 224 = .ok (.aload_n 0, 1) := dk_42 (dk_at dksX3_readsOn_9 16 rfl rfl)
theorem dX3_readsOn_225 : decode cX3_readsOn 225 = .ok (.iconst 1, 1) := dk_4 (dk_at dksX3_readsOn_9 17 rfl rfl)
theorem dX3_readsOn_226 : decode cX3_readsOn 226 = .ok (.invokevirtual 75, 3) := dk_182 0 75 (dk_at dksX3_readsOn_9 18 rfl rfl)
theorem dX3_readsOn_229 : decode cX3_readsOn 229 = .ok (.return_, 1) := dk_177 (dk_at dksX3_readsOn_9 21 rfl rfl)
abbrev cX3_byteAt : ByteArray := prog_7_method_6_code
def yX3_byteAt : MethodName := ⟨RX3, "byteAt", "(I)I"⟩
def dkwX3_byteAt_0 : List UInt8 := [27, 42, 180, 0, 45, 162, 0, 12, 42, 180, 0, 16, 27, 46, 167, 0, 5, 16, 252, 172]
abbrev dktX3_byteAt_0 : List UInt8 := dkwX3_byteAt_0 ++ []
theorem dksX3_byteAt_0 : cX3_byteAt.data.toList.drop 0 = dktX3_byteAt_0 := by decide +kernel
theorem dX3_byteAt_0 : decode cX3_byteAt 0 = .ok (.iload_n 1, 1) := dk_27 (dk_at dksX3_byteAt_0 0 rfl rfl)
theorem dX3_byteAt_1 : decode cX3_byteAt 1 = .ok (.aload_n 0, 1) := dk_42 (dk_at dksX3_byteAt_0 1 rfl rfl)
theorem dX3_byteAt_2 : decode cX3_byteAt 2 = .ok (.getfield 45, 3) := dk_180 0 45 (dk_at dksX3_byteAt_0 2 rfl rfl)
theorem dX3_byteAt_5 : decode cX3_byteAt 5 = .ok (.if_icmp .ge 12, 3) := dk_162 0 12 (dk_at dksX3_byteAt_0 5 rfl rfl)
theorem dX3_byteAt_8 : decode cX3_byteAt 8 = .ok (.aload_n 0, 1) := dk_42 (dk_at dksX3_byteAt_0 8 rfl rfl)
theorem dX3_byteAt_9 : decode cX3_byteAt 9 = .ok (.getfield 16, 3) := dk_180 0 16 (dk_at dksX3_byteAt_0 9 rfl rfl)
theorem dX3_byteAt_12 : decode cX3_byteAt 12 = .ok (.iload_n 1, 1) := dk_27 (dk_at dksX3_byteAt_0 12 rfl rfl)
theorem dX3_byteAt_13 : decode cX3_byteAt 13 = .ok (.iaload, 1) := dk_46 (dk_at dksX3_byteAt_0 13 rfl rfl)
theorem dX3_byteAt_14 : decode cX3_byteAt 14 = .ok (.goto 5, 3) := dk_167 0 5 (dk_at dksX3_byteAt_0 14 rfl rfl)
theorem dX3_byteAt_17 : decode cX3_byteAt 17 = .ok (.bipush (-4), 2) := dk_16 252 (dk_at dksX3_byteAt_0 17 rfl rfl)
theorem dX3_byteAt_19 : decode cX3_byteAt 19 = .ok (.ireturn, 1) := dk_172 (dk_at dksX3_byteAt_0 19 rfl rfl)
abbrev cX3_fails : ByteArray := prog_7_method_7_code
def yX3_fails : MethodName := ⟨RX3, "fails", "(I)V"⟩
def dkwX3_fails_0 : List UInt8 := [42, 180, 0, 49, 154, 0, 16, 42, 27, 181, 0, 49, 42, 42, 180, 0, 52, 181, 0, 55, 177]
abbrev dktX3_fails_0 : List UInt8 := dkwX3_fails_0 ++ []
theorem dksX3_fails_0 : cX3_fails.data.toList.drop 0 = dktX3_fails_0 := by decide +kernel
theorem dX3_fails_0 : decode cX3_fails 0 = .ok (.aload_n 0, 1) := dk_42 (dk_at dksX3_fails_0 0 rfl rfl)
theorem dX3_fails_1 : decode cX3_fails 1 = .ok (.getfield 49, 3) := dk_180 0 49 (dk_at dksX3_fails_0 1 rfl rfl)
theorem dX3_fails_4 : decode cX3_fails 4 = .ok (.ifCond .ne 16, 3) := dk_154 0 16 (dk_at dksX3_fails_0 4 rfl rfl)
theorem dX3_fails_7 : decode cX3_fails 7 = .ok (.aload_n 0, 1) := dk_42 (dk_at dksX3_fails_0 7 rfl rfl)
theorem dX3_fails_8 : decode cX3_fails 8 = .ok (.iload_n 1, 1) := dk_27 (dk_at dksX3_fails_0 8 rfl rfl)
theorem dX3_fails_9 : decode cX3_fails 9 = .ok (.putfield 49, 3) := dk_181 0 49 (dk_at dksX3_fails_0 9 rfl rfl)
theorem dX3_fails_12 : decode cX3_fails 12 = .ok (.aload_n 0, 1) := dk_42 (dk_at dksX3_fails_0 12 rfl rfl)
theorem dX3_fails_13 : decode cX3_fails 13 = .ok (.aload_n 0, 1) := dk_42 (dk_at dksX3_fails_0 13 rfl rfl)
theorem dX3_fails_14 : decode cX3_fails 14 = .ok (.getfield 52, 3) := dk_180 0 52 (dk_at dksX3_fails_0 14 rfl rfl)
theorem dX3_fails_17 : decode cX3_fails 17 = .ok (.putfield 55, 3) := dk_181 0 55 (dk_at dksX3_fails_0 17 rfl rfl)
theorem dX3_fails_20 : decode cX3_fails 20 = .ok (.return_, 1) := dk_177 (dk_at dksX3_fails_0 20 rfl rfl)
abbrev cX3_takes : ByteArray := prog_7_method_9_code
def yX3_takes : MethodName := ⟨RX3, "takes", "(II)I"⟩
def dkwX3_takes_6 : List UInt8 := [42, 182, 0, 79, 42, 180, 0, 13, 17, 0, 192, 92, 46, 4, 96, 79, 27, 4, 96, 172]
abbrev dktX3_takes_6 : List UInt8 := dkwX3_takes_6 ++ []
def dkwX3_takes_5 : List UInt8 := [160, 0, 28, 42, 180, 0, 13, 17, 0, 128, 42, 180, 0, 13, 17, 0, 192, 46, 96, 42, 180, 0, 65, 79]
abbrev dktX3_takes_5 : List UInt8 := dkwX3_takes_5 ++ dktX3_takes_6
def dkwX3_takes_4 : List UInt8 := [17, 0, 192, 46, 96, 3, 79, 42, 182, 0, 79, 42, 180, 0, 49, 154, 0, 36, 42, 180, 0, 68, 4]
abbrev dktX3_takes_4 : List UInt8 := dkwX3_takes_4 ++ dktX3_takes_5
def dkwX3_takes_3 : List UInt8 := [182, 0, 75, 27, 172, 42, 180, 0, 13, 28, 4, 79, 42, 180, 0, 13, 17, 0, 128, 42, 180, 0, 13]
abbrev dktX3_takes_3 : List UInt8 := dkwX3_takes_3 ++ dktX3_takes_4
def dkwX3_takes_2 : List UInt8 := [42, 5, 182, 0, 75, 27, 172, 42, 180, 0, 13, 17, 0, 192, 46, 16, 64, 160, 0, 10, 42, 8]
abbrev dktX3_takes_2 : List UInt8 := dkwX3_takes_2 ++ dktX3_takes_3
def dkwX3_takes_1 : List UInt8 := [42, 182, 0, 79, 27, 4, 100, 172, 42, 180, 0, 68, 5, 160, 0, 11, 27, 154, 0, 14, 28, 158, 0, 10]
abbrev dktX3_takes_1 : List UInt8 := dkwX3_takes_1 ++ dktX3_takes_2
def dkwX3_takes_0 : List UInt8 := [42, 180, 0, 68, 6, 160, 0, 27, 27, 154, 0, 8, 42, 5, 182, 0, 75, 42, 180, 0, 13, 28, 3, 79]
abbrev dktX3_takes_0 : List UInt8 := dkwX3_takes_0 ++ dktX3_takes_1
theorem dksX3_takes_0 : cX3_takes.data.toList.drop 0 = dktX3_takes_0 := by decide +kernel
theorem dksX3_takes_1 : cX3_takes.data.toList.drop 24 = dktX3_takes_1 := dk_seg dksX3_takes_0 24 rfl rfl
theorem dksX3_takes_2 : cX3_takes.data.toList.drop 48 = dktX3_takes_2 := dk_seg dksX3_takes_1 24 rfl rfl
theorem dksX3_takes_3 : cX3_takes.data.toList.drop 70 = dktX3_takes_3 := dk_seg dksX3_takes_2 22 rfl rfl
theorem dksX3_takes_4 : cX3_takes.data.toList.drop 93 = dktX3_takes_4 := dk_seg dksX3_takes_3 23 rfl rfl
theorem dksX3_takes_5 : cX3_takes.data.toList.drop 116 = dktX3_takes_5 := dk_seg dksX3_takes_4 23 rfl rfl
theorem dksX3_takes_6 : cX3_takes.data.toList.drop 140 = dktX3_takes_6 := dk_seg dksX3_takes_5 24 rfl rfl
theorem dX3_takes_0 : decode cX3_takes 0 = .ok (.aload_n 0, 1) := dk_42 (dk_at dksX3_takes_0 0 rfl rfl)
theorem dX3_takes_1 : decode cX3_takes 1 = .ok (.getfield 68, 3) := dk_180 0 68 (dk_at dksX3_takes_0 1 rfl rfl)
theorem dX3_takes_4 : decode cX3_takes 4 = .ok (.iconst 3, 1) := dk_6 (dk_at dksX3_takes_0 4 rfl rfl)
theorem dX3_takes_5 : decode cX3_takes 5 = .ok (.if_icmp .ne 27, 3) := dk_160 0 27 (dk_at dksX3_takes_0 5 rfl rfl)
theorem dX3_takes_8 : decode cX3_takes 8 = .ok (.iload_n 1, 1) := dk_27 (dk_at dksX3_takes_0 8 rfl rfl)
theorem dX3_takes_9 : decode cX3_takes 9 = .ok (.ifCond .ne 8, 3) := dk_154 0 8 (dk_at dksX3_takes_0 9 rfl rfl)
theorem dX3_takes_12 : decode cX3_takes 12 = .ok (.aload_n 0, 1) := dk_42 (dk_at dksX3_takes_0 12 rfl rfl)
theorem dX3_takes_13 : decode cX3_takes 13 = .ok (.iconst 2, 1) := dk_5 (dk_at dksX3_takes_0 13 rfl rfl)
theorem dX3_takes_14 : decode cX3_takes 14 = .ok (.invokevirtual 75, 3) := dk_182 0 75 (dk_at dksX3_takes_0 14 rfl rfl)
theorem dX3_takes_17 : decode cX3_takes 17 = .ok (.aload_n 0, 1) := dk_42 (dk_at dksX3_takes_0 17 rfl rfl)
theorem dX3_takes_18 : decode cX3_takes 18 = .ok (.getfield 13, 3) := dk_180 0 13 (dk_at dksX3_takes_0 18 rfl rfl)
theorem dX3_takes_21 : decode cX3_takes 21 = .ok (.iload_n 2, 1) := dk_28 (dk_at dksX3_takes_0 21 rfl rfl)
theorem dX3_takes_22 : decode cX3_takes 22 = .ok (.iconst 0, 1) := dk_3 (dk_at dksX3_takes_0 22 rfl rfl)
theorem dX3_takes_23 : decode cX3_takes 23 = .ok (.iastore, 1) := dk_79 (dk_at dksX3_takes_0 23 rfl rfl)
theorem dX3_takes_24 : decode cX3_takes 24 = .ok (.aload_n 0, 1) := dk_42 (dk_at dksX3_takes_1 0 rfl rfl)
theorem dX3_takes_25 : decode cX3_takes 25 = .ok (.invokevirtual 79, 3) := dk_182 0 79 (dk_at dksX3_takes_1 1 rfl rfl)
theorem dX3_takes_28 : decode cX3_takes 28 = .ok (.iload_n 1, 1) := dk_27 (dk_at dksX3_takes_1 4 rfl rfl)
theorem dX3_takes_29 : decode cX3_takes 29 = .ok (.iconst 1, 1) := dk_4 (dk_at dksX3_takes_1 5 rfl rfl)
theorem dX3_takes_30 : decode cX3_takes 30 = .ok (.isub, 1) := dk_100 (dk_at dksX3_takes_1 6 rfl rfl)
theorem dX3_takes_31 : decode cX3_takes 31 = .ok (.ireturn, 1) := dk_172 (dk_at dksX3_takes_1 7 rfl rfl)
theorem dX3_takes_32 : decode cX3_takes 32 = .ok (.aload_n 0, 1) := dk_42 (dk_at dksX3_takes_1 8 rfl rfl)
theorem dX3_takes_33 : decode cX3_takes 33 = .ok (.getfield 68, 3) := dk_180 0 68 (dk_at dksX3_takes_1 9 rfl rfl)
theorem dX3_takes_36 : decode cX3_takes 36 = .ok (.iconst 2, 1) := dk_5 (dk_at dksX3_takes_1 12 rfl rfl)
theorem dX3_takes_37 : decode cX3_takes 37 = .ok (.if_icmp .ne 11, 3) := dk_160 0 11 (dk_at dksX3_takes_1 13 rfl rfl)
theorem dX3_takes_40 : decode cX3_takes 40 = .ok (.iload_n 1, 1) := dk_27 (dk_at dksX3_takes_1 16 rfl rfl)
theorem dX3_takes_41 : decode cX3_takes 41 = .ok (.ifCond .ne 14, 3) := dk_154 0 14 (dk_at dksX3_takes_1 17 rfl rfl)
theorem dX3_takes_44 : decode cX3_takes 44 = .ok (.iload_n 2, 1) := dk_28 (dk_at dksX3_takes_1 20 rfl rfl)
theorem dX3_takes_45 : decode cX3_takes 45 = .ok (.ifCond .le 10, 3) := dk_158 0 10 (dk_at dksX3_takes_1 21 rfl rfl)
theorem dX3_takes_48 : decode cX3_takes 48 = .ok (.aload_n 0, 1) := dk_42 (dk_at dksX3_takes_2 0 rfl rfl)
theorem dX3_takes_49 : decode cX3_takes 49 = .ok (.iconst 2, 1) := dk_5 (dk_at dksX3_takes_2 1 rfl rfl)
theorem dX3_takes_50 : decode cX3_takes 50 = .ok (.invokevirtual 75, 3) := dk_182 0 75 (dk_at dksX3_takes_2 2 rfl rfl)
theorem dX3_takes_53 : decode cX3_takes 53 = .ok (.iload_n 1, 1) := dk_27 (dk_at dksX3_takes_2 5 rfl rfl)
theorem dX3_takes_54 : decode cX3_takes 54 = .ok (.ireturn, 1) := dk_172 (dk_at dksX3_takes_2 6 rfl rfl)
theorem dX3_takes_55 : decode cX3_takes 55 = .ok (.aload_n 0, 1) := dk_42 (dk_at dksX3_takes_2 7 rfl rfl)
theorem dX3_takes_56 : decode cX3_takes 56 = .ok (.getfield 13, 3) := dk_180 0 13 (dk_at dksX3_takes_2 8 rfl rfl)
theorem dX3_takes_59 : decode cX3_takes 59 = .ok (.sipush 192, 3) := dk_17 0 192 (dk_at dksX3_takes_2 11 rfl rfl)
theorem dX3_takes_62 : decode cX3_takes 62 = .ok (.iaload, 1) := dk_46 (dk_at dksX3_takes_2 14 rfl rfl)
theorem dX3_takes_63 : decode cX3_takes 63 = .ok (.bipush 64, 2) := dk_16 64 (dk_at dksX3_takes_2 15 rfl rfl)
theorem dX3_takes_65 : decode cX3_takes 65 = .ok (.if_icmp .ne 10, 3) := dk_160 0 10 (dk_at dksX3_takes_2 17 rfl rfl)
theorem dX3_takes_68 : decode cX3_takes 68 = .ok (.aload_n 0, 1) := dk_42 (dk_at dksX3_takes_2 20 rfl rfl)
theorem dX3_takes_69 : decode cX3_takes 69 = .ok (.iconst 5, 1) := dk_8 (dk_at dksX3_takes_2 21 rfl rfl)
theorem dX3_takes_70 : decode cX3_takes 70 = .ok (.invokevirtual 75, 3) := dk_182 0 75 (dk_at dksX3_takes_3 0 rfl rfl)
theorem dX3_takes_73 : decode cX3_takes 73 = .ok (.iload_n 1, 1) := dk_27 (dk_at dksX3_takes_3 3 rfl rfl)
theorem dX3_takes_74 : decode cX3_takes 74 = .ok (.ireturn, 1) := dk_172 (dk_at dksX3_takes_3 4 rfl rfl)
theorem dX3_takes_75 : decode cX3_takes 75 = .ok (.aload_n 0, 1) := dk_42 (dk_at dksX3_takes_3 5 rfl rfl)
theorem dX3_takes_76 : decode cX3_takes 76 = .ok (.getfield 13, 3) := dk_180 0 13 (dk_at dksX3_takes_3 6 rfl rfl)
theorem dX3_takes_79 : decode cX3_takes 79 = .ok (.iload_n 2, 1) := dk_28 (dk_at dksX3_takes_3 9 rfl rfl)
theorem dX3_takes_80 : decode cX3_takes 80 = .ok (.iconst 1, 1) := dk_4 (dk_at dksX3_takes_3 10 rfl rfl)
theorem dX3_takes_81 : decode cX3_takes 81 = .ok (.iastore, 1) := dk_79 (dk_at dksX3_takes_3 11 rfl rfl)
theorem dX3_takes_82 : decode cX3_takes 82 = .ok (.aload_n 0, 1) := dk_42 (dk_at dksX3_takes_3 12 rfl rfl)
theorem dX3_takes_83 : decode cX3_takes 83 = .ok (.getfield 13, 3) := dk_180 0 13 (dk_at dksX3_takes_3 13 rfl rfl)
theorem dX3_takes_86 : decode cX3_takes 86 = .ok (.sipush 128, 3) := dk_17 0 128 (dk_at dksX3_takes_3 16 rfl rfl)
theorem dX3_takes_89 : decode cX3_takes 89 = .ok (.aload_n 0, 1) := dk_42 (dk_at dksX3_takes_3 19 rfl rfl)
theorem dX3_takes_90 : decode cX3_takes 90 = .ok (.getfield 13, 3) := dk_180 0 13 (dk_at dksX3_takes_3 20 rfl rfl)
theorem dX3_takes_93 : decode cX3_takes 93 = .ok (.sipush 192, 3) := dk_17 0 192 (dk_at dksX3_takes_4 0 rfl rfl)
theorem dX3_takes_96 : decode cX3_takes 96 = .ok (.iaload, 1) := dk_46 (dk_at dksX3_takes_4 3 rfl rfl)
theorem dX3_takes_97 : decode cX3_takes 97 = .ok (.iadd, 1) := dk_96 (dk_at dksX3_takes_4 4 rfl rfl)
theorem dX3_takes_98 : decode cX3_takes 98 = .ok (.iconst 0, 1) := dk_3 (dk_at dksX3_takes_4 5 rfl rfl)
theorem dX3_takes_99 : decode cX3_takes 99 = .ok (.iastore, 1) := dk_79 (dk_at dksX3_takes_4 6 rfl rfl)
theorem dX3_takes_100 : decode cX3_takes 100 = .ok (.aload_n 0, 1) := dk_42 (dk_at dksX3_takes_4 7 rfl rfl)
theorem dX3_takes_101 : decode cX3_takes 101 = .ok (.invokevirtual 79, 3) := dk_182 0 79 (dk_at dksX3_takes_4 8 rfl rfl)
theorem dX3_takes_104 : decode cX3_takes 104 = .ok (.aload_n 0, 1) := dk_42 (dk_at dksX3_takes_4 11 rfl rfl)
theorem dX3_takes_105 : decode cX3_takes 105 = .ok (.getfield 49, 3) := dk_180 0 49 (dk_at dksX3_takes_4 12 rfl rfl)
theorem dX3_takes_108 : decode cX3_takes 108 = .ok (.ifCond .ne 36, 3) := dk_154 0 36 (dk_at dksX3_takes_4 15 rfl rfl)
theorem dX3_takes_111 : decode cX3_takes 111 = .ok (.aload_n 0, 1) := dk_42 (dk_at dksX3_takes_4 18 rfl rfl)
theorem dX3_takes_112 : decode cX3_takes 112 = .ok (.getfield 68, 3) := dk_180 0 68 (dk_at dksX3_takes_4 19 rfl rfl)
theorem dX3_takes_115 : decode cX3_takes 115 = .ok (.iconst 1, 1) := dk_4 (dk_at dksX3_takes_4 22 rfl rfl)
theorem dX3_takes_116 : decode cX3_takes 116 = .ok (.if_icmp .ne 28, 3) := dk_160 0 28 (dk_at dksX3_takes_5 0 rfl rfl)
theorem dX3_takes_119 : decode cX3_takes 119 = .ok (.aload_n 0, 1) := dk_42 (dk_at dksX3_takes_5 3 rfl rfl)
theorem dX3_takes_120 : decode cX3_takes 120 = .ok (.getfield 13, 3) := dk_180 0 13 (dk_at dksX3_takes_5 4 rfl rfl)
theorem dX3_takes_123 : decode cX3_takes 123 = .ok (.sipush 128, 3) := dk_17 0 128 (dk_at dksX3_takes_5 7 rfl rfl)
theorem dX3_takes_126 : decode cX3_takes 126 = .ok (.aload_n 0, 1) := dk_42 (dk_at dksX3_takes_5 10 rfl rfl)
theorem dX3_takes_127 : decode cX3_takes 127 = .ok (.getfield 13, 3) := dk_180 0 13 (dk_at dksX3_takes_5 11 rfl rfl)
theorem dX3_takes_130 : decode cX3_takes 130 = .ok (.sipush 192, 3) := dk_17 0 192 (dk_at dksX3_takes_5 14 rfl rfl)
theorem dX3_takes_133 : decode cX3_takes 133 = .ok (.iaload, 1) := dk_46 (dk_at dksX3_takes_5 17 rfl rfl)
theorem dX3_takes_134 : decode cX3_takes 134 = .ok (.iadd, 1) := dk_96 (dk_at dksX3_takes_5 18 rfl rfl)
theorem dX3_takes_135 : decode cX3_takes 135 = .ok (.aload_n 0, 1) := dk_42 (dk_at dksX3_takes_5 19 rfl rfl)
theorem dX3_takes_136 : decode cX3_takes 136 = .ok (.getfield 65, 3) := dk_180 0 65 (dk_at dksX3_takes_5 20 rfl rfl)
theorem dX3_takes_139 : decode cX3_takes 139 = .ok (.iastore, 1) := dk_79 (dk_at dksX3_takes_5 23 rfl rfl)
theorem dX3_takes_140 : decode cX3_takes 140 = .ok (.aload_n 0, 1) := dk_42 (dk_at dksX3_takes_6 0 rfl rfl)
theorem dX3_takes_141 : decode cX3_takes 141 = .ok (.invokevirtual 79, 3) := dk_182 0 79 (dk_at dksX3_takes_6 1 rfl rfl)
theorem dX3_takes_144 : decode cX3_takes 144 = .ok (.aload_n 0, 1) := dk_42 (dk_at dksX3_takes_6 4 rfl rfl)
theorem dX3_takes_145 : decode cX3_takes 145 = .ok (.getfield 13, 3) := dk_180 0 13 (dk_at dksX3_takes_6 5 rfl rfl)
theorem dX3_takes_148 : decode cX3_takes 148 = .ok (.sipush 192, 3) := dk_17 0 192 (dk_at dksX3_takes_6 8 rfl rfl)
theorem dX3_takes_151 : decode cX3_takes 151 = .ok (.dup2, 1) := dk_92 (dk_at dksX3_takes_6 11 rfl rfl)
theorem dX3_takes_152 : decode cX3_takes 152 = .ok (.iaload, 1) := dk_46 (dk_at dksX3_takes_6 12 rfl rfl)
theorem dX3_takes_153 : decode cX3_takes 153 = .ok (.iconst 1, 1) := dk_4 (dk_at dksX3_takes_6 13 rfl rfl)
theorem dX3_takes_154 : decode cX3_takes 154 = .ok (.iadd, 1) := dk_96 (dk_at dksX3_takes_6 14 rfl rfl)
theorem dX3_takes_155 : decode cX3_takes 155 = .ok (.iastore, 1) := dk_79 (dk_at dksX3_takes_6 15 rfl rfl)
theorem dX3_takes_156 : decode cX3_takes 156 = .ok (.iload_n 1, 1) := dk_27 (dk_at dksX3_takes_6 16 rfl rfl)
theorem dX3_takes_157 : decode cX3_takes 157 = .ok (.iconst 1, 1) := dk_4 (dk_at dksX3_takes_6 17 rfl rfl)
theorem dX3_takes_158 : decode cX3_takes 158 = .ok (.iadd, 1) := dk_96 (dk_at dksX3_takes_6 18 rfl rfl)
theorem dX3_takes_159 : decode cX3_takes 159 = .ok (.ireturn, 1) := dk_172 (dk_at dksX3_takes_6 19 rfl rfl)
abbrev cX3_fault : ByteArray := prog_7_method_11_code
def yX3_fault : MethodName := ⟨RX3, "fault", "()I"⟩
theorem dX3_fault_0 : decode cX3_fault 0 = .ok (.aload_n 0, 1) := by decide +kernel
theorem dX3_fault_1 : decode cX3_fault 1 = .ok (.getfield 86, 3) := by decide +kernel
theorem dX3_fault_4 : decode cX3_fault 4 = .ok (.ireturn, 1) := by decide +kernel
abbrev cX3_size : ByteArray := prog_7_method_23_code
def yX3_size : MethodName := ⟨RX3, "size", "(I)I"⟩
def dkwX3_size_5 : List UInt8 := [182, 0, 93, 172, 42, 182, 0, 93, 16, 16, 96, 4, 100, 16, 16, 108, 172, 2, 172]
abbrev dktX3_size_5 : List UInt8 := dkwX3_size_5 ++ []
def dkwX3_size_4 : List UInt8 := [42, 182, 0, 89, 172, 28, 172, 42, 182, 0, 89, 154, 0, 8, 16, 252, 167, 0, 6, 29, 4, 100, 172, 42]
abbrev dktX3_size_4 : List UInt8 := dkwX3_size_4 ++ dktX3_size_5
def dkwX3_size_3 : List UInt8 := [170, 0, 0, 0, 0, 0, 76, 0, 0, 0, 0, 0, 0, 0, 4, 0, 0, 0, 35, 0, 0, 0, 40, 0, 0, 0, 42, 0, 0, 0, 58, 0, 0, 0, 63]
abbrev dktX3_size_3 : List UInt8 := dkwX3_size_3 ++ dktX3_size_4
def dkwX3_size_2 : List UInt8 := [21, 4, 4, 96, 182, 0, 96, 167, 0, 4, 29, 62, 132, 4, 1, 167, 255, 202, 27]
abbrev dktX3_size_2 : List UInt8 := dkwX3_size_2 ++ dktX3_size_3
def dkwX3_size_1 : List UInt8 := [153, 0, 7, 4, 167, 0, 4, 3, 96, 61, 42, 21, 4, 4, 96, 182, 0, 96, 29, 164, 0, 14, 42]
abbrev dktX3_size_1 : List UInt8 := dkwX3_size_1 ++ dktX3_size_2
def dkwX3_size_0 : List UInt8 := [3, 61, 3, 62, 3, 54, 4, 21, 4, 42, 182, 0, 93, 162, 0, 51, 28, 42, 21, 4, 182, 0, 102]
abbrev dktX3_size_0 : List UInt8 := dkwX3_size_0 ++ dktX3_size_1
theorem dksX3_size_0 : cX3_size.data.toList.drop 0 = dktX3_size_0 := by decide +kernel
theorem dksX3_size_1 : cX3_size.data.toList.drop 23 = dktX3_size_1 := dk_seg dksX3_size_0 23 rfl rfl
theorem dksX3_size_2 : cX3_size.data.toList.drop 46 = dktX3_size_2 := dk_seg dksX3_size_1 23 rfl rfl
theorem dksX3_size_3 : cX3_size.data.toList.drop 65 = dktX3_size_3 := dk_seg dksX3_size_2 19 rfl rfl
theorem dksX3_size_4 : cX3_size.data.toList.drop 100 = dktX3_size_4 := dk_seg dksX3_size_3 35 rfl rfl
theorem dksX3_size_5 : cX3_size.data.toList.drop 124 = dktX3_size_5 := dk_seg dksX3_size_4 24 rfl rfl
theorem dX3_size_0 : decode cX3_size 0 = .ok (.iconst 0, 1) := dk_3 (dk_at dksX3_size_0 0 rfl rfl)
theorem dX3_size_1 : decode cX3_size 1 = .ok (.istore_n 2, 1) := dk_61 (dk_at dksX3_size_0 1 rfl rfl)
theorem dX3_size_2 : decode cX3_size 2 = .ok (.iconst 0, 1) := dk_3 (dk_at dksX3_size_0 2 rfl rfl)
theorem dX3_size_3 : decode cX3_size 3 = .ok (.istore_n 3, 1) := dk_62 (dk_at dksX3_size_0 3 rfl rfl)
theorem dX3_size_4 : decode cX3_size 4 = .ok (.iconst 0, 1) := dk_3 (dk_at dksX3_size_0 4 rfl rfl)
theorem dX3_size_5 : decode cX3_size 5 = .ok (.istore 4, 2) := dk_54 4 (dk_at dksX3_size_0 5 rfl rfl)
theorem dX3_size_7 : decode cX3_size 7 = .ok (.iload 4, 2) := dk_21 4 (dk_at dksX3_size_0 7 rfl rfl)
theorem dX3_size_9 : decode cX3_size 9 = .ok (.aload_n 0, 1) := dk_42 (dk_at dksX3_size_0 9 rfl rfl)
theorem dX3_size_10 : decode cX3_size 10 = .ok (.invokevirtual 93, 3) := dk_182 0 93 (dk_at dksX3_size_0 10 rfl rfl)
theorem dX3_size_13 : decode cX3_size 13 = .ok (.if_icmp .ge 51, 3) := dk_162 0 51 (dk_at dksX3_size_0 13 rfl rfl)
theorem dX3_size_16 : decode cX3_size 16 = .ok (.iload_n 2, 1) := dk_28 (dk_at dksX3_size_0 16 rfl rfl)
theorem dX3_size_17 : decode cX3_size 17 = .ok (.aload_n 0, 1) := dk_42 (dk_at dksX3_size_0 17 rfl rfl)
theorem dX3_size_18 : decode cX3_size 18 = .ok (.iload 4, 2) := dk_21 4 (dk_at dksX3_size_0 18 rfl rfl)
theorem dX3_size_20 : decode cX3_size 20 = .ok (.invokevirtual 102, 3) := dk_182 0 102 (dk_at dksX3_size_0 20 rfl rfl)
theorem dX3_size_23 : decode cX3_size 23 = .ok (.ifCond .eq 7, 3) := dk_153 0 7 (dk_at dksX3_size_1 0 rfl rfl)
theorem dX3_size_26 : decode cX3_size 26 = .ok (.iconst 1, 1) := dk_4 (dk_at dksX3_size_1 3 rfl rfl)
theorem dX3_size_27 : decode cX3_size 27 = .ok (.goto 4, 3) := dk_167 0 4 (dk_at dksX3_size_1 4 rfl rfl)
theorem dX3_size_30 : decode cX3_size 30 = .ok (.iconst 0, 1) := dk_3 (dk_at dksX3_size_1 7 rfl rfl)
theorem dX3_size_31 : decode cX3_size 31 = .ok (.iadd, 1) := dk_96 (dk_at dksX3_size_1 8 rfl rfl)
theorem dX3_size_32 : decode cX3_size 32 = .ok (.istore_n 2, 1) := dk_61 (dk_at dksX3_size_1 9 rfl rfl)
theorem dX3_size_33 : decode cX3_size 33 = .ok (.aload_n 0, 1) := dk_42 (dk_at dksX3_size_1 10 rfl rfl)
theorem dX3_size_34 : decode cX3_size 34 = .ok (.iload 4, 2) := dk_21 4 (dk_at dksX3_size_1 11 rfl rfl)
theorem dX3_size_36 : decode cX3_size 36 = .ok (.iconst 1, 1) := dk_4 (dk_at dksX3_size_1 13 rfl rfl)
theorem dX3_size_37 : decode cX3_size 37 = .ok (.iadd, 1) := dk_96 (dk_at dksX3_size_1 14 rfl rfl)
theorem dX3_size_38 : decode cX3_size 38 = .ok (.invokevirtual 96, 3) := dk_182 0 96 (dk_at dksX3_size_1 15 rfl rfl)
theorem dX3_size_41 : decode cX3_size 41 = .ok (.iload_n 3, 1) := dk_29 (dk_at dksX3_size_1 18 rfl rfl)
theorem dX3_size_42 : decode cX3_size 42 = .ok (.if_icmp .le 14, 3) := dk_164 0 14 (dk_at dksX3_size_1 19 rfl rfl)
theorem dX3_size_45 : decode cX3_size 45 = .ok (.aload_n 0, 1) := dk_42 (dk_at dksX3_size_1 22 rfl rfl)
theorem dX3_size_46 : decode cX3_size 46 = .ok (.iload 4, 2) := dk_21 4 (dk_at dksX3_size_2 0 rfl rfl)
theorem dX3_size_48 : decode cX3_size 48 = .ok (.iconst 1, 1) := dk_4 (dk_at dksX3_size_2 2 rfl rfl)
theorem dX3_size_49 : decode cX3_size 49 = .ok (.iadd, 1) := dk_96 (dk_at dksX3_size_2 3 rfl rfl)
theorem dX3_size_50 : decode cX3_size 50 = .ok (.invokevirtual 96, 3) := dk_182 0 96 (dk_at dksX3_size_2 4 rfl rfl)
theorem dX3_size_53 : decode cX3_size 53 = .ok (.goto 4, 3) := dk_167 0 4 (dk_at dksX3_size_2 7 rfl rfl)
theorem dX3_size_56 : decode cX3_size 56 = .ok (.iload_n 3, 1) := dk_29 (dk_at dksX3_size_2 10 rfl rfl)
theorem dX3_size_57 : decode cX3_size 57 = .ok (.istore_n 3, 1) := dk_62 (dk_at dksX3_size_2 11 rfl rfl)
theorem dX3_size_58 : decode cX3_size 58 = .ok (.iinc 4 1, 3) := dk_132 4 1 (dk_at dksX3_size_2 12 rfl rfl)
theorem dX3_size_61 : decode cX3_size 61 = .ok (.goto (-54), 3) := dk_167 255 202 (dk_at dksX3_size_2 15 rfl rfl)
theorem dX3_size_64 : decode cX3_size 64 = .ok (.iload_n 1, 1) := dk_27 (dk_at dksX3_size_2 18 rfl rfl)
theorem dX3_size_65 : decode cX3_size 65 = .ok (.tableswitch 76 0 4 #[35, 40, 42, 58, 63], 35) := by decide +kernel
theorem dX3_size_100 : decode cX3_size 100 = .ok (.aload_n 0, 1) := dk_42 (dk_at dksX3_size_4 0 rfl rfl)
theorem dX3_size_101 : decode cX3_size 101 = .ok (.invokevirtual 89, 3) := dk_182 0 89 (dk_at dksX3_size_4 1 rfl rfl)
theorem dX3_size_104 : decode cX3_size 104 = .ok (.ireturn, 1) := dk_172 (dk_at dksX3_size_4 4 rfl rfl)
theorem dX3_size_105 : decode cX3_size 105 = .ok (.iload_n 2, 1) := dk_28 (dk_at dksX3_size_4 5 rfl rfl)
theorem dX3_size_106 : decode cX3_size 106 = .ok (.ireturn, 1) := dk_172 (dk_at dksX3_size_4 6 rfl rfl)
theorem dX3_size_107 : decode cX3_size 107 = .ok (.aload_n 0, 1) := dk_42 (dk_at dksX3_size_4 7 rfl rfl)
theorem dX3_size_108 : decode cX3_size 108 = .ok (.invokevirtual 89, 3) := dk_182 0 89 (dk_at dksX3_size_4 8 rfl rfl)
theorem dX3_size_111 : decode cX3_size 111 = .ok (.ifCond .ne 8, 3) := dk_154 0 8 (dk_at dksX3_size_4 11 rfl rfl)
theorem dX3_size_114 : decode cX3_size 114 = .ok (.bipush (-4), 2) := dk_16 252 (dk_at dksX3_size_4 14 rfl rfl)
theorem dX3_size_116 : decode cX3_size 116 = .ok (.goto 6, 3) := dk_167 0 6 (dk_at dksX3_size_4 16 rfl rfl)
theorem dX3_size_119 : decode cX3_size 119 = .ok (.iload_n 3, 1) := dk_29 (dk_at dksX3_size_4 19 rfl rfl)
theorem dX3_size_120 : decode cX3_size 120 = .ok (.iconst 1, 1) := dk_4 (dk_at dksX3_size_4 20 rfl rfl)
theorem dX3_size_121 : decode cX3_size 121 = .ok (.isub, 1) := dk_100 (dk_at dksX3_size_4 21 rfl rfl)
theorem dX3_size_122 : decode cX3_size 122 = .ok (.ireturn, 1) := dk_172 (dk_at dksX3_size_4 22 rfl rfl)
theorem dX3_size_123 : decode cX3_size 123 = .ok (.aload_n 0, 1) := dk_42 (dk_at dksX3_size_4 23 rfl rfl)
theorem dX3_size_124 : decode cX3_size 124 = .ok (.invokevirtual 93, 3) := dk_182 0 93 (dk_at dksX3_size_5 0 rfl rfl)
theorem dX3_size_127 : decode cX3_size 127 = .ok (.ireturn, 1) := dk_172 (dk_at dksX3_size_5 3 rfl rfl)
theorem dX3_size_128 : decode cX3_size 128 = .ok (.aload_n 0, 1) := dk_42 (dk_at dksX3_size_5 4 rfl rfl)
theorem dX3_size_129 : decode cX3_size 129 = .ok (.invokevirtual 93, 3) := dk_182 0 93 (dk_at dksX3_size_5 5 rfl rfl)
theorem dX3_size_132 : decode cX3_size 132 = .ok (.bipush 16, 2) := dk_16 16 (dk_at dksX3_size_5 8 rfl rfl)
theorem dX3_size_134 : decode cX3_size 134 = .ok (.iadd, 1) := dk_96 (dk_at dksX3_size_5 10 rfl rfl)
theorem dX3_size_135 : decode cX3_size 135 = .ok (.iconst 1, 1) := dk_4 (dk_at dksX3_size_5 11 rfl rfl)
theorem dX3_size_136 : decode cX3_size 136 = .ok (.isub, 1) := dk_100 (dk_at dksX3_size_5 12 rfl rfl)
theorem dX3_size_137 : decode cX3_size 137 = .ok (.bipush 16, 2) := dk_16 16 (dk_at dksX3_size_5 13 rfl rfl)
theorem dX3_size_139 : decode cX3_size 139 = .ok (.idiv, 1) := dk_108 (dk_at dksX3_size_5 15 rfl rfl)
theorem dX3_size_140 : decode cX3_size 140 = .ok (.ireturn, 1) := dk_172 (dk_at dksX3_size_5 16 rfl rfl)
theorem dX3_size_141 : decode cX3_size 141 = .ok (.iconst (-1), 1) := dk_2 (dk_at dksX3_size_5 17 rfl rfl)
theorem dX3_size_142 : decode cX3_size 142 = .ok (.ireturn, 1) := dk_172 (dk_at dksX3_size_5 18 rfl rfl)
abbrev cX3_places : ByteArray := prog_7_method_13_code
def yX3_places : MethodName := ⟨RX3, "places", "()I"⟩
def dkwX3_places_0 : List UInt8 := [5, 42, 180, 0, 7, 17, 0, 192, 46, 104, 172]
abbrev dktX3_places_0 : List UInt8 := dkwX3_places_0 ++ []
theorem dksX3_places_0 : cX3_places.data.toList.drop 0 = dktX3_places_0 := by decide +kernel
theorem dX3_places_0 : decode cX3_places 0 = .ok (.iconst 2, 1) := dk_5 (dk_at dksX3_places_0 0 rfl rfl)
theorem dX3_places_1 : decode cX3_places 1 = .ok (.aload_n 0, 1) := dk_42 (dk_at dksX3_places_0 1 rfl rfl)
theorem dX3_places_2 : decode cX3_places 2 = .ok (.getfield 7, 3) := dk_180 0 7 (dk_at dksX3_places_0 2 rfl rfl)
theorem dX3_places_5 : decode cX3_places 5 = .ok (.sipush 192, 3) := dk_17 0 192 (dk_at dksX3_places_0 5 rfl rfl)
theorem dX3_places_8 : decode cX3_places 8 = .ok (.iaload, 1) := dk_46 (dk_at dksX3_places_0 8 rfl rfl)
theorem dX3_places_9 : decode cX3_places 9 = .ok (.imul, 1) := dk_104 (dk_at dksX3_places_0 9 rfl rfl)
theorem dX3_places_10 : decode cX3_places 10 = .ok (.ireturn, 1) := dk_172 (dk_at dksX3_places_0 10 rfl rfl)
abbrev cX3_isPair : ByteArray := prog_7_method_21_code
def yX3_isPair : MethodName := ⟨RX3, "isPair", "(I)Z"⟩
def dkwX3_isPair_1 : List UInt8 := [27, 4, 96, 46, 154, 0, 7, 4, 167, 0, 4, 3, 172]
abbrev dktX3_isPair_1 : List UInt8 := dkwX3_isPair_1 ++ []
def dkwX3_isPair_0 : List UInt8 := [27, 4, 96, 42, 182, 0, 93, 162, 0, 28, 42, 180, 0, 7, 27, 46, 4, 160, 0, 18, 42, 180, 0, 7]
abbrev dktX3_isPair_0 : List UInt8 := dkwX3_isPair_0 ++ dktX3_isPair_1
theorem dksX3_isPair_0 : cX3_isPair.data.toList.drop 0 = dktX3_isPair_0 := by decide +kernel
theorem dksX3_isPair_1 : cX3_isPair.data.toList.drop 24 = dktX3_isPair_1 := dk_seg dksX3_isPair_0 24 rfl rfl
theorem dX3_isPair_0 : decode cX3_isPair 0 = .ok (.iload_n 1, 1) := dk_27 (dk_at dksX3_isPair_0 0 rfl rfl)
theorem dX3_isPair_1 : decode cX3_isPair 1 = .ok (.iconst 1, 1) := dk_4 (dk_at dksX3_isPair_0 1 rfl rfl)
theorem dX3_isPair_2 : decode cX3_isPair 2 = .ok (.iadd, 1) := dk_96 (dk_at dksX3_isPair_0 2 rfl rfl)
theorem dX3_isPair_3 : decode cX3_isPair 3 = .ok (.aload_n 0, 1) := dk_42 (dk_at dksX3_isPair_0 3 rfl rfl)
theorem dX3_isPair_4 : decode cX3_isPair 4 = .ok (.invokevirtual 93, 3) := dk_182 0 93 (dk_at dksX3_isPair_0 4 rfl rfl)
theorem dX3_isPair_7 : decode cX3_isPair 7 = .ok (.if_icmp .ge 28, 3) := dk_162 0 28 (dk_at dksX3_isPair_0 7 rfl rfl)
theorem dX3_isPair_10 : decode cX3_isPair 10 = .ok (.aload_n 0, 1) := dk_42 (dk_at dksX3_isPair_0 10 rfl rfl)
theorem dX3_isPair_11 : decode cX3_isPair 11 = .ok (.getfield 7, 3) := dk_180 0 7 (dk_at dksX3_isPair_0 11 rfl rfl)
theorem dX3_isPair_14 : decode cX3_isPair 14 = .ok (.iload_n 1, 1) := dk_27 (dk_at dksX3_isPair_0 14 rfl rfl)
theorem dX3_isPair_15 : decode cX3_isPair 15 = .ok (.iaload, 1) := dk_46 (dk_at dksX3_isPair_0 15 rfl rfl)
theorem dX3_isPair_16 : decode cX3_isPair 16 = .ok (.iconst 1, 1) := dk_4 (dk_at dksX3_isPair_0 16 rfl rfl)
theorem dX3_isPair_17 : decode cX3_isPair 17 = .ok (.if_icmp .ne 18, 3) := dk_160 0 18 (dk_at dksX3_isPair_0 17 rfl rfl)
theorem dX3_isPair_20 : decode cX3_isPair 20 = .ok (.aload_n 0, 1) := dk_42 (dk_at dksX3_isPair_0 20 rfl rfl)
theorem dX3_isPair_21 : decode cX3_isPair 21 = .ok (.getfield 7, 3) := dk_180 0 7 (dk_at dksX3_isPair_0 21 rfl rfl)
theorem dX3_isPair_24 : decode cX3_isPair 24 = .ok (.iload_n 1, 1) := dk_27 (dk_at dksX3_isPair_1 0 rfl rfl)
theorem dX3_isPair_25 : decode cX3_isPair 25 = .ok (.iconst 1, 1) := dk_4 (dk_at dksX3_isPair_1 1 rfl rfl)
theorem dX3_isPair_26 : decode cX3_isPair 26 = .ok (.iadd, 1) := dk_96 (dk_at dksX3_isPair_1 2 rfl rfl)
theorem dX3_isPair_27 : decode cX3_isPair 27 = .ok (.iaload, 1) := dk_46 (dk_at dksX3_isPair_1 3 rfl rfl)
theorem dX3_isPair_28 : decode cX3_isPair 28 = .ok (.ifCond .ne 7, 3) := dk_154 0 7 (dk_at dksX3_isPair_1 4 rfl rfl)
theorem dX3_isPair_31 : decode cX3_isPair 31 = .ok (.iconst 1, 1) := dk_4 (dk_at dksX3_isPair_1 7 rfl rfl)
theorem dX3_isPair_32 : decode cX3_isPair 32 = .ok (.goto 4, 3) := dk_167 0 4 (dk_at dksX3_isPair_1 8 rfl rfl)
theorem dX3_isPair_35 : decode cX3_isPair 35 = .ok (.iconst 0, 1) := dk_3 (dk_at dksX3_isPair_1 11 rfl rfl)
theorem dX3_isPair_36 : decode cX3_isPair 36 = .ok (.ireturn, 1) := dk_172 (dk_at dksX3_isPair_1 12 rfl rfl)
abbrev cX3_excessAt : ByteArray := prog_7_method_16_code
def yX3_excessAt : MethodName := ⟨RX3, "excessAt", "(I)I"⟩
def dkwX3_excessAt_1 : List UInt8 := [2, 96, 61, 132, 3, 1, 167, 255, 230, 28, 172]
abbrev dktX3_excessAt_1 : List UInt8 := dkwX3_excessAt_1 ++ []
def dkwX3_excessAt_0 : List UInt8 := [3, 61, 3, 62, 29, 27, 162, 0, 27, 28, 42, 180, 0, 7, 29, 46, 4, 160, 0, 7, 4, 167, 0, 4]
abbrev dktX3_excessAt_0 : List UInt8 := dkwX3_excessAt_0 ++ dktX3_excessAt_1
theorem dksX3_excessAt_0 : cX3_excessAt.data.toList.drop 0 = dktX3_excessAt_0 := by decide +kernel
theorem dksX3_excessAt_1 : cX3_excessAt.data.toList.drop 24 = dktX3_excessAt_1 := dk_seg dksX3_excessAt_0 24 rfl rfl
theorem dX3_excessAt_0 : decode cX3_excessAt 0 = .ok (.iconst 0, 1) := dk_3 (dk_at dksX3_excessAt_0 0 rfl rfl)
theorem dX3_excessAt_1 : decode cX3_excessAt 1 = .ok (.istore_n 2, 1) := dk_61 (dk_at dksX3_excessAt_0 1 rfl rfl)
theorem dX3_excessAt_2 : decode cX3_excessAt 2 = .ok (.iconst 0, 1) := dk_3 (dk_at dksX3_excessAt_0 2 rfl rfl)
theorem dX3_excessAt_3 : decode cX3_excessAt 3 = .ok (.istore_n 3, 1) := dk_62 (dk_at dksX3_excessAt_0 3 rfl rfl)
theorem dX3_excessAt_4 : decode cX3_excessAt 4 = .ok (.iload_n 3, 1) := dk_29 (dk_at dksX3_excessAt_0 4 rfl rfl)
theorem dX3_excessAt_5 : decode cX3_excessAt 5 = .ok (.iload_n 1, 1) := dk_27 (dk_at dksX3_excessAt_0 5 rfl rfl)
theorem dX3_excessAt_6 : decode cX3_excessAt 6 = .ok (.if_icmp .ge 27, 3) := dk_162 0 27 (dk_at dksX3_excessAt_0 6 rfl rfl)
theorem dX3_excessAt_9 : decode cX3_excessAt 9 = .ok (.iload_n 2, 1) := dk_28 (dk_at dksX3_excessAt_0 9 rfl rfl)
theorem dX3_excessAt_10 : decode cX3_excessAt 10 = .ok (.aload_n 0, 1) := dk_42 (dk_at dksX3_excessAt_0 10 rfl rfl)
theorem dX3_excessAt_11 : decode cX3_excessAt 11 = .ok (.getfield 7, 3) := dk_180 0 7 (dk_at dksX3_excessAt_0 11 rfl rfl)
theorem dX3_excessAt_14 : decode cX3_excessAt 14 = .ok (.iload_n 3, 1) := dk_29 (dk_at dksX3_excessAt_0 14 rfl rfl)
theorem dX3_excessAt_15 : decode cX3_excessAt 15 = .ok (.iaload, 1) := dk_46 (dk_at dksX3_excessAt_0 15 rfl rfl)
theorem dX3_excessAt_16 : decode cX3_excessAt 16 = .ok (.iconst 1, 1) := dk_4 (dk_at dksX3_excessAt_0 16 rfl rfl)
theorem dX3_excessAt_17 : decode cX3_excessAt 17 = .ok (.if_icmp .ne 7, 3) := dk_160 0 7 (dk_at dksX3_excessAt_0 17 rfl rfl)
theorem dX3_excessAt_20 : decode cX3_excessAt 20 = .ok (.iconst 1, 1) := dk_4 (dk_at dksX3_excessAt_0 20 rfl rfl)
theorem dX3_excessAt_21 : decode cX3_excessAt 21 = .ok (.goto 4, 3) := dk_167 0 4 (dk_at dksX3_excessAt_0 21 rfl rfl)
theorem dX3_excessAt_24 : decode cX3_excessAt 24 = .ok (.iconst (-1), 1) := dk_2 (dk_at dksX3_excessAt_1 0 rfl rfl)
theorem dX3_excessAt_25 : decode cX3_excessAt 25 = .ok (.iadd, 1) := dk_96 (dk_at dksX3_excessAt_1 1 rfl rfl)
theorem dX3_excessAt_26 : decode cX3_excessAt 26 = .ok (.istore_n 2, 1) := dk_61 (dk_at dksX3_excessAt_1 2 rfl rfl)
theorem dX3_excessAt_27 : decode cX3_excessAt 27 = .ok (.iinc 3 1, 3) := dk_132 3 1 (dk_at dksX3_excessAt_1 3 rfl rfl)
theorem dX3_excessAt_30 : decode cX3_excessAt 30 = .ok (.goto (-26), 3) := dk_167 255 230 (dk_at dksX3_excessAt_1 6 rfl rfl)
theorem dX3_excessAt_33 : decode cX3_excessAt 33 = .ok (.iload_n 2, 1) := dk_28 (dk_at dksX3_excessAt_1 9 rfl rfl)
theorem dX3_excessAt_34 : decode cX3_excessAt 34 = .ok (.ireturn, 1) := dk_172 (dk_at dksX3_excessAt_1 10 rfl rfl)
abbrev cX3_many : ByteArray := prog_7_method_12_code
def yX3_many : MethodName := ⟨RX3, "many", "()I"⟩
def dkwX3_many_0 : List UInt8 := [42, 180, 0, 7, 17, 0, 192, 46, 172]
abbrev dktX3_many_0 : List UInt8 := dkwX3_many_0 ++ []
theorem dksX3_many_0 : cX3_many.data.toList.drop 0 = dktX3_many_0 := by decide +kernel
theorem dX3_many_0 : decode cX3_many 0 = .ok (.aload_n 0, 1) := dk_42 (dk_at dksX3_many_0 0 rfl rfl)
theorem dX3_many_1 : decode cX3_many 1 = .ok (.getfield 7, 3) := dk_180 0 7 (dk_at dksX3_many_0 1 rfl rfl)
theorem dX3_many_4 : decode cX3_many 4 = .ok (.sipush 192, 3) := dk_17 0 192 (dk_at dksX3_many_0 4 rfl rfl)
theorem dX3_many_7 : decode cX3_many 7 = .ok (.iaload, 1) := dk_46 (dk_at dksX3_many_0 7 rfl rfl)
theorem dX3_many_8 : decode cX3_many 8 = .ok (.ireturn, 1) := dk_172 (dk_at dksX3_many_0 8 rfl rfl)
abbrev cX3_bit : ByteArray := prog_7_method_24_code
def yX3_bit : MethodName := ⟨RX3, "bit", "(I)I"⟩
def dkwX3_bit_1 : List UInt8 := [167, 0, 4, 2, 172]
abbrev dktX3_bit_1 : List UInt8 := dkwX3_bit_1 ++ []
def dkwX3_bit_0 : List UInt8 := [27, 133, 9, 42, 182, 0, 93, 4, 100, 133, 184, 0, 41, 153, 0, 12, 42, 180, 0, 7, 27, 46]
abbrev dktX3_bit_0 : List UInt8 := dkwX3_bit_0 ++ dktX3_bit_1
theorem dksX3_bit_0 : cX3_bit.data.toList.drop 0 = dktX3_bit_0 := by decide +kernel
theorem dksX3_bit_1 : cX3_bit.data.toList.drop 22 = dktX3_bit_1 := dk_seg dksX3_bit_0 22 rfl rfl
theorem dX3_bit_0 : decode cX3_bit 0 = .ok (.iload_n 1, 1) := dk_27 (dk_at dksX3_bit_0 0 rfl rfl)
theorem dX3_bit_1 : decode cX3_bit 1 = .ok (.i2l, 1) := dk_133 (dk_at dksX3_bit_0 1 rfl rfl)
theorem dX3_bit_2 : decode cX3_bit 2 = .ok (.lconst 0, 1) := dk_9 (dk_at dksX3_bit_0 2 rfl rfl)
theorem dX3_bit_3 : decode cX3_bit 3 = .ok (.aload_n 0, 1) := dk_42 (dk_at dksX3_bit_0 3 rfl rfl)
theorem dX3_bit_4 : decode cX3_bit 4 = .ok (.invokevirtual 93, 3) := dk_182 0 93 (dk_at dksX3_bit_0 4 rfl rfl)
theorem dX3_bit_7 : decode cX3_bit 7 = .ok (.iconst 1, 1) := dk_4 (dk_at dksX3_bit_0 7 rfl rfl)
theorem dX3_bit_8 : decode cX3_bit 8 = .ok (.isub, 1) := dk_100 (dk_at dksX3_bit_0 8 rfl rfl)
theorem dX3_bit_9 : decode cX3_bit 9 = .ok (.i2l, 1) := dk_133 (dk_at dksX3_bit_0 9 rfl rfl)
theorem dX3_bit_10 : decode cX3_bit 10 = .ok (.invokestatic 41, 3) := dk_184 0 41 (dk_at dksX3_bit_0 10 rfl rfl)
theorem dX3_bit_13 : decode cX3_bit 13 = .ok (.ifCond .eq 12, 3) := dk_153 0 12 (dk_at dksX3_bit_0 13 rfl rfl)
theorem dX3_bit_16 : decode cX3_bit 16 = .ok (.aload_n 0, 1) := dk_42 (dk_at dksX3_bit_0 16 rfl rfl)
theorem dX3_bit_17 : decode cX3_bit 17 = .ok (.getfield 7, 3) := dk_180 0 7 (dk_at dksX3_bit_0 17 rfl rfl)
theorem dX3_bit_20 : decode cX3_bit 20 = .ok (.iload_n 1, 1) := dk_27 (dk_at dksX3_bit_0 20 rfl rfl)
theorem dX3_bit_21 : decode cX3_bit 21 = .ok (.iaload, 1) := dk_46 (dk_at dksX3_bit_0 21 rfl rfl)
theorem dX3_bit_22 : decode cX3_bit 22 = .ok (.goto 4, 3) := dk_167 0 4 (dk_at dksX3_bit_1 0 rfl rfl)
theorem dX3_bit_25 : decode cX3_bit 25 = .ok (.iconst (-1), 1) := dk_2 (dk_at dksX3_bit_1 3 rfl rfl)
theorem dX3_bit_26 : decode cX3_bit 26 = .ok (.ireturn, 1) := dk_172 (dk_at dksX3_bit_1 4 rfl rfl)
abbrev cX3_excess : ByteArray := prog_7_method_25_code
def yX3_excess : MethodName := ⟨RX3, "excess", "(I)I"⟩
def dkwX3_excess_0 : List UInt8 := [42, 27, 182, 0, 106, 153, 0, 11, 42, 27, 182, 0, 96, 167, 0, 4, 2, 172]
abbrev dktX3_excess_0 : List UInt8 := dkwX3_excess_0 ++ []
theorem dksX3_excess_0 : cX3_excess.data.toList.drop 0 = dktX3_excess_0 := by decide +kernel
theorem dX3_excess_0 : decode cX3_excess 0 = .ok (.aload_n 0, 1) := dk_42 (dk_at dksX3_excess_0 0 rfl rfl)
theorem dX3_excess_1 : decode cX3_excess 1 = .ok (.iload_n 1, 1) := dk_27 (dk_at dksX3_excess_0 1 rfl rfl)
theorem dX3_excess_2 : decode cX3_excess 2 = .ok (.invokevirtual 106, 3) := dk_182 0 106 (dk_at dksX3_excess_0 2 rfl rfl)
theorem dX3_excess_5 : decode cX3_excess 5 = .ok (.ifCond .eq 11, 3) := dk_153 0 11 (dk_at dksX3_excess_0 5 rfl rfl)
theorem dX3_excess_8 : decode cX3_excess 8 = .ok (.aload_n 0, 1) := dk_42 (dk_at dksX3_excess_0 8 rfl rfl)
theorem dX3_excess_9 : decode cX3_excess 9 = .ok (.iload_n 1, 1) := dk_27 (dk_at dksX3_excess_0 9 rfl rfl)
theorem dX3_excess_10 : decode cX3_excess 10 = .ok (.invokevirtual 96, 3) := dk_182 0 96 (dk_at dksX3_excess_0 10 rfl rfl)
theorem dX3_excess_13 : decode cX3_excess 13 = .ok (.goto 4, 3) := dk_167 0 4 (dk_at dksX3_excess_0 13 rfl rfl)
theorem dX3_excess_16 : decode cX3_excess 16 = .ok (.iconst (-1), 1) := dk_2 (dk_at dksX3_excess_0 16 rfl rfl)
theorem dX3_excess_17 : decode cX3_excess 17 = .ok (.ireturn, 1) := dk_172 (dk_at dksX3_excess_0 17 rfl rfl)
abbrev cX3_isMark : ByteArray := prog_7_method_15_code
def yX3_isMark : MethodName := ⟨RX3, "isMark", "(I)Z"⟩
def dkwX3_isMark_0 : List UInt8 := [27, 133, 9, 42, 182, 0, 93, 133, 184, 0, 41, 172]
abbrev dktX3_isMark_0 : List UInt8 := dkwX3_isMark_0 ++ []
theorem dksX3_isMark_0 : cX3_isMark.data.toList.drop 0 = dktX3_isMark_0 := by decide +kernel
theorem dX3_isMark_0 : decode cX3_isMark 0 = .ok (.iload_n 1, 1) := dk_27 (dk_at dksX3_isMark_0 0 rfl rfl)
theorem dX3_isMark_1 : decode cX3_isMark 1 = .ok (.i2l, 1) := dk_133 (dk_at dksX3_isMark_0 1 rfl rfl)
theorem dX3_isMark_2 : decode cX3_isMark 2 = .ok (.lconst 0, 1) := dk_9 (dk_at dksX3_isMark_0 2 rfl rfl)
theorem dX3_isMark_3 : decode cX3_isMark 3 = .ok (.aload_n 0, 1) := dk_42 (dk_at dksX3_isMark_0 3 rfl rfl)
theorem dX3_isMark_4 : decode cX3_isMark 4 = .ok (.invokevirtual 93, 3) := dk_182 0 93 (dk_at dksX3_isMark_0 4 rfl rfl)
theorem dX3_isMark_7 : decode cX3_isMark 7 = .ok (.i2l, 1) := dk_133 (dk_at dksX3_isMark_0 7 rfl rfl)
theorem dX3_isMark_8 : decode cX3_isMark 8 = .ok (.invokestatic 41, 3) := dk_184 0 41 (dk_at dksX3_isMark_0 8 rfl rfl)
theorem dX3_isMark_11 : decode cX3_isMark 11 = .ok (.ireturn, 1) := dk_172 (dk_at dksX3_isMark_0 11 rfl rfl)
abbrev cX3_rank : ByteArray := prog_7_method_26_code
def yX3_rank : MethodName := ⟨RX3, "rank", "(II)I"⟩
def dkwX3_rank_3 : List UInt8 := [29, 172]
abbrev dktX3_rank_3 : List UInt8 := dkwX3_rank_3 ++ []
def dkwX3_rank_2 : List UInt8 := [161, 0, 11, 21, 4, 4, 96, 27, 162, 0, 7, 4, 167, 0, 4, 3, 96, 62, 132, 4, 1, 167, 255, 216]
abbrev dktX3_rank_2 : List UInt8 := dkwX3_rank_2 ++ dktX3_rank_3
def dkwX3_rank_1 : List UInt8 := [3, 54, 4, 21, 4, 27, 162, 0, 40, 29, 42, 21, 4, 28, 182, 0, 111, 153, 0, 20, 28, 5]
abbrev dktX3_rank_1 : List UInt8 := dkwX3_rank_1 ++ dktX3_rank_2
def dkwX3_rank_0 : List UInt8 := [42, 27, 182, 0, 106, 153, 0, 15, 28, 133, 9, 20, 0, 109, 184, 0, 41, 154, 0, 5, 2, 172, 3, 62]
abbrev dktX3_rank_0 : List UInt8 := dkwX3_rank_0 ++ dktX3_rank_1
theorem dksX3_rank_0 : cX3_rank.data.toList.drop 0 = dktX3_rank_0 := by decide +kernel
theorem dksX3_rank_1 : cX3_rank.data.toList.drop 24 = dktX3_rank_1 := dk_seg dksX3_rank_0 24 rfl rfl
theorem dksX3_rank_2 : cX3_rank.data.toList.drop 46 = dktX3_rank_2 := dk_seg dksX3_rank_1 22 rfl rfl
theorem dksX3_rank_3 : cX3_rank.data.toList.drop 70 = dktX3_rank_3 := dk_seg dksX3_rank_2 24 rfl rfl
theorem dX3_rank_0 : decode cX3_rank 0 = .ok (.aload_n 0, 1) := dk_42 (dk_at dksX3_rank_0 0 rfl rfl)
theorem dX3_rank_1 : decode cX3_rank 1 = .ok (.iload_n 1, 1) := dk_27 (dk_at dksX3_rank_0 1 rfl rfl)
theorem dX3_rank_2 : decode cX3_rank 2 = .ok (.invokevirtual 106, 3) := dk_182 0 106 (dk_at dksX3_rank_0 2 rfl rfl)
theorem dX3_rank_5 : decode cX3_rank 5 = .ok (.ifCond .eq 15, 3) := dk_153 0 15 (dk_at dksX3_rank_0 5 rfl rfl)
theorem dX3_rank_8 : decode cX3_rank 8 = .ok (.iload_n 2, 1) := dk_28 (dk_at dksX3_rank_0 8 rfl rfl)
theorem dX3_rank_9 : decode cX3_rank 9 = .ok (.i2l, 1) := dk_133 (dk_at dksX3_rank_0 9 rfl rfl)
theorem dX3_rank_10 : decode cX3_rank 10 = .ok (.lconst 0, 1) := dk_9 (dk_at dksX3_rank_0 10 rfl rfl)
theorem dX3_rank_11 : decode cX3_rank 11 = .ok (.ldc2_w 109, 3) := dk_20 0 109 (dk_at dksX3_rank_0 11 rfl rfl)
theorem dX3_rank_14 : decode cX3_rank 14 = .ok (.invokestatic 41, 3) := dk_184 0 41 (dk_at dksX3_rank_0 14 rfl rfl)
theorem dX3_rank_17 : decode cX3_rank 17 = .ok (.ifCond .ne 5, 3) := dk_154 0 5 (dk_at dksX3_rank_0 17 rfl rfl)
theorem dX3_rank_20 : decode cX3_rank 20 = .ok (.iconst (-1), 1) := dk_2 (dk_at dksX3_rank_0 20 rfl rfl)
theorem dX3_rank_21 : decode cX3_rank 21 = .ok (.ireturn, 1) := dk_172 (dk_at dksX3_rank_0 21 rfl rfl)
theorem dX3_rank_22 : decode cX3_rank 22 = .ok (.iconst 0, 1) := dk_3 (dk_at dksX3_rank_0 22 rfl rfl)
theorem dX3_rank_23 : decode cX3_rank 23 = .ok (.istore_n 3, 1) := dk_62 (dk_at dksX3_rank_0 23 rfl rfl)
theorem dX3_rank_24 : decode cX3_rank 24 = .ok (.iconst 0, 1) := dk_3 (dk_at dksX3_rank_1 0 rfl rfl)
theorem dX3_rank_25 : decode cX3_rank 25 = .ok (.istore 4, 2) := dk_54 4 (dk_at dksX3_rank_1 1 rfl rfl)
theorem dX3_rank_27 : decode cX3_rank 27 = .ok (.iload 4, 2) := dk_21 4 (dk_at dksX3_rank_1 3 rfl rfl)
theorem dX3_rank_29 : decode cX3_rank 29 = .ok (.iload_n 1, 1) := dk_27 (dk_at dksX3_rank_1 5 rfl rfl)
theorem dX3_rank_30 : decode cX3_rank 30 = .ok (.if_icmp .ge 40, 3) := dk_162 0 40 (dk_at dksX3_rank_1 6 rfl rfl)
theorem dX3_rank_33 : decode cX3_rank 33 = .ok (.iload_n 3, 1) := dk_29 (dk_at dksX3_rank_1 9 rfl rfl)
theorem dX3_rank_34 : decode cX3_rank 34 = .ok (.aload_n 0, 1) := dk_42 (dk_at dksX3_rank_1 10 rfl rfl)
theorem dX3_rank_35 : decode cX3_rank 35 = .ok (.iload 4, 2) := dk_21 4 (dk_at dksX3_rank_1 11 rfl rfl)
theorem dX3_rank_37 : decode cX3_rank 37 = .ok (.iload_n 2, 1) := dk_28 (dk_at dksX3_rank_1 13 rfl rfl)
theorem dX3_rank_38 : decode cX3_rank 38 = .ok (.invokevirtual 111, 3) := dk_182 0 111 (dk_at dksX3_rank_1 14 rfl rfl)
theorem dX3_rank_41 : decode cX3_rank 41 = .ok (.ifCond .eq 20, 3) := dk_153 0 20 (dk_at dksX3_rank_1 17 rfl rfl)
theorem dX3_rank_44 : decode cX3_rank 44 = .ok (.iload_n 2, 1) := dk_28 (dk_at dksX3_rank_1 20 rfl rfl)
theorem dX3_rank_45 : decode cX3_rank 45 = .ok (.iconst 2, 1) := dk_5 (dk_at dksX3_rank_1 21 rfl rfl)
theorem dX3_rank_46 : decode cX3_rank 46 = .ok (.if_icmp .lt 11, 3) := dk_161 0 11 (dk_at dksX3_rank_2 0 rfl rfl)
theorem dX3_rank_49 : decode cX3_rank 49 = .ok (.iload 4, 2) := dk_21 4 (dk_at dksX3_rank_2 3 rfl rfl)
theorem dX3_rank_51 : decode cX3_rank 51 = .ok (.iconst 1, 1) := dk_4 (dk_at dksX3_rank_2 5 rfl rfl)
theorem dX3_rank_52 : decode cX3_rank 52 = .ok (.iadd, 1) := dk_96 (dk_at dksX3_rank_2 6 rfl rfl)
theorem dX3_rank_53 : decode cX3_rank 53 = .ok (.iload_n 1, 1) := dk_27 (dk_at dksX3_rank_2 7 rfl rfl)
theorem dX3_rank_54 : decode cX3_rank 54 = .ok (.if_icmp .ge 7, 3) := dk_162 0 7 (dk_at dksX3_rank_2 8 rfl rfl)
theorem dX3_rank_57 : decode cX3_rank 57 = .ok (.iconst 1, 1) := dk_4 (dk_at dksX3_rank_2 11 rfl rfl)
theorem dX3_rank_58 : decode cX3_rank 58 = .ok (.goto 4, 3) := dk_167 0 4 (dk_at dksX3_rank_2 12 rfl rfl)
theorem dX3_rank_61 : decode cX3_rank 61 = .ok (.iconst 0, 1) := dk_3 (dk_at dksX3_rank_2 15 rfl rfl)
theorem dX3_rank_62 : decode cX3_rank 62 = .ok (.iadd, 1) := dk_96 (dk_at dksX3_rank_2 16 rfl rfl)
theorem dX3_rank_63 : decode cX3_rank 63 = .ok (.istore_n 3, 1) := dk_62 (dk_at dksX3_rank_2 17 rfl rfl)
theorem dX3_rank_64 : decode cX3_rank 64 = .ok (.iinc 4 1, 3) := dk_132 4 1 (dk_at dksX3_rank_2 18 rfl rfl)
theorem dX3_rank_67 : decode cX3_rank 67 = .ok (.goto (-40), 3) := dk_167 255 216 (dk_at dksX3_rank_2 21 rfl rfl)
theorem dX3_rank_70 : decode cX3_rank 70 = .ok (.iload_n 3, 1) := dk_29 (dk_at dksX3_rank_3 0 rfl rfl)
theorem dX3_rank_71 : decode cX3_rank 71 = .ok (.ireturn, 1) := dk_172 (dk_at dksX3_rank_3 1 rfl rfl)
abbrev cX3_isSort : ByteArray := prog_7_method_22_code
def yX3_isSort : MethodName := ⟨RX3, "isSort", "(II)Z"⟩
def dkwX3_isSort_1 : List UInt8 := [160, 0, 7, 4, 167, 0, 4, 3, 172]
abbrev dktX3_isSort_1 : List UInt8 := dkwX3_isSort_1 ++ []
def dkwX3_isSort_0 : List UInt8 := [28, 5, 160, 0, 11, 42, 27, 182, 0, 102, 167, 0, 20, 42, 180, 0, 7, 27, 46, 4, 28, 100]
abbrev dktX3_isSort_0 : List UInt8 := dkwX3_isSort_0 ++ dktX3_isSort_1
theorem dksX3_isSort_0 : cX3_isSort.data.toList.drop 0 = dktX3_isSort_0 := by decide +kernel
theorem dksX3_isSort_1 : cX3_isSort.data.toList.drop 22 = dktX3_isSort_1 := dk_seg dksX3_isSort_0 22 rfl rfl
theorem dX3_isSort_0 : decode cX3_isSort 0 = .ok (.iload_n 2, 1) := dk_28 (dk_at dksX3_isSort_0 0 rfl rfl)
theorem dX3_isSort_1 : decode cX3_isSort 1 = .ok (.iconst 2, 1) := dk_5 (dk_at dksX3_isSort_0 1 rfl rfl)
theorem dX3_isSort_2 : decode cX3_isSort 2 = .ok (.if_icmp .ne 11, 3) := dk_160 0 11 (dk_at dksX3_isSort_0 2 rfl rfl)
theorem dX3_isSort_5 : decode cX3_isSort 5 = .ok (.aload_n 0, 1) := dk_42 (dk_at dksX3_isSort_0 5 rfl rfl)
theorem dX3_isSort_6 : decode cX3_isSort 6 = .ok (.iload_n 1, 1) := dk_27 (dk_at dksX3_isSort_0 6 rfl rfl)
theorem dX3_isSort_7 : decode cX3_isSort 7 = .ok (.invokevirtual 102, 3) := dk_182 0 102 (dk_at dksX3_isSort_0 7 rfl rfl)
theorem dX3_isSort_10 : decode cX3_isSort 10 = .ok (.goto 20, 3) := dk_167 0 20 (dk_at dksX3_isSort_0 10 rfl rfl)
theorem dX3_isSort_13 : decode cX3_isSort 13 = .ok (.aload_n 0, 1) := dk_42 (dk_at dksX3_isSort_0 13 rfl rfl)
theorem dX3_isSort_14 : decode cX3_isSort 14 = .ok (.getfield 7, 3) := dk_180 0 7 (dk_at dksX3_isSort_0 14 rfl rfl)
theorem dX3_isSort_17 : decode cX3_isSort 17 = .ok (.iload_n 1, 1) := dk_27 (dk_at dksX3_isSort_0 17 rfl rfl)
theorem dX3_isSort_18 : decode cX3_isSort 18 = .ok (.iaload, 1) := dk_46 (dk_at dksX3_isSort_0 18 rfl rfl)
theorem dX3_isSort_19 : decode cX3_isSort 19 = .ok (.iconst 1, 1) := dk_4 (dk_at dksX3_isSort_0 19 rfl rfl)
theorem dX3_isSort_20 : decode cX3_isSort 20 = .ok (.iload_n 2, 1) := dk_28 (dk_at dksX3_isSort_0 20 rfl rfl)
theorem dX3_isSort_21 : decode cX3_isSort 21 = .ok (.isub, 1) := dk_100 (dk_at dksX3_isSort_0 21 rfl rfl)
theorem dX3_isSort_22 : decode cX3_isSort 22 = .ok (.if_icmp .ne 7, 3) := dk_160 0 7 (dk_at dksX3_isSort_1 0 rfl rfl)
theorem dX3_isSort_25 : decode cX3_isSort 25 = .ok (.iconst 1, 1) := dk_4 (dk_at dksX3_isSort_1 3 rfl rfl)
theorem dX3_isSort_26 : decode cX3_isSort 26 = .ok (.goto 4, 3) := dk_167 0 4 (dk_at dksX3_isSort_1 4 rfl rfl)
theorem dX3_isSort_29 : decode cX3_isSort 29 = .ok (.iconst 0, 1) := dk_3 (dk_at dksX3_isSort_1 7 rfl rfl)
theorem dX3_isSort_30 : decode cX3_isSort 30 = .ok (.ireturn, 1) := dk_172 (dk_at dksX3_isSort_1 8 rfl rfl)
abbrev cX3_select : ByteArray := prog_7_method_27_code
def yX3_select : MethodName := ⟨RX3, "select", "(II)I"⟩
def dkwX3_select_2 : List UInt8 := [21, 4, 172, 132, 3, 255, 132, 4, 1, 167, 255, 224, 16, 252, 172]
abbrev dktX3_select_2 : List UInt8 := dkwX3_select_2 ++ []
def dkwX3_select_1 : List UInt8 := [21, 4, 42, 182, 0, 93, 162, 0, 29, 42, 21, 4, 28, 182, 0, 111, 153, 0, 13, 29, 154, 0, 6]
abbrev dktX3_select_1 : List UInt8 := dkwX3_select_1 ++ dktX3_select_2
def dkwX3_select_0 : List UInt8 := [27, 155, 0, 15, 28, 133, 9, 20, 0, 109, 184, 0, 41, 154, 0, 5, 2, 172, 27, 62, 3, 54, 4]
abbrev dktX3_select_0 : List UInt8 := dkwX3_select_0 ++ dktX3_select_1
theorem dksX3_select_0 : cX3_select.data.toList.drop 0 = dktX3_select_0 := by decide +kernel
theorem dksX3_select_1 : cX3_select.data.toList.drop 23 = dktX3_select_1 := dk_seg dksX3_select_0 23 rfl rfl
theorem dksX3_select_2 : cX3_select.data.toList.drop 46 = dktX3_select_2 := dk_seg dksX3_select_1 23 rfl rfl
theorem dX3_select_0 : decode cX3_select 0 = .ok (.iload_n 1, 1) := dk_27 (dk_at dksX3_select_0 0 rfl rfl)
theorem dX3_select_1 : decode cX3_select 1 = .ok (.ifCond .lt 15, 3) := dk_155 0 15 (dk_at dksX3_select_0 1 rfl rfl)
theorem dX3_select_4 : decode cX3_select 4 = .ok (.iload_n 2, 1) := dk_28 (dk_at dksX3_select_0 4 rfl rfl)
theorem dX3_select_5 : decode cX3_select 5 = .ok (.i2l, 1) := dk_133 (dk_at dksX3_select_0 5 rfl rfl)
theorem dX3_select_6 : decode cX3_select 6 = .ok (.lconst 0, 1) := dk_9 (dk_at dksX3_select_0 6 rfl rfl)
theorem dX3_select_7 : decode cX3_select 7 = .ok (.ldc2_w 109, 3) := dk_20 0 109 (dk_at dksX3_select_0 7 rfl rfl)
theorem dX3_select_10 : decode cX3_select 10 = .ok (.invokestatic 41, 3) := dk_184 0 41 (dk_at dksX3_select_0 10 rfl rfl)
theorem dX3_select_13 : decode cX3_select 13 = .ok (.ifCond .ne 5, 3) := dk_154 0 5 (dk_at dksX3_select_0 13 rfl rfl)
theorem dX3_select_16 : decode cX3_select 16 = .ok (.iconst (-1), 1) := dk_2 (dk_at dksX3_select_0 16 rfl rfl)
theorem dX3_select_17 : decode cX3_select 17 = .ok (.ireturn, 1) := dk_172 (dk_at dksX3_select_0 17 rfl rfl)
theorem dX3_select_18 : decode cX3_select 18 = .ok (.iload_n 1, 1) := dk_27 (dk_at dksX3_select_0 18 rfl rfl)
theorem dX3_select_19 : decode cX3_select 19 = .ok (.istore_n 3, 1) := dk_62 (dk_at dksX3_select_0 19 rfl rfl)
theorem dX3_select_20 : decode cX3_select 20 = .ok (.iconst 0, 1) := dk_3 (dk_at dksX3_select_0 20 rfl rfl)
theorem dX3_select_21 : decode cX3_select 21 = .ok (.istore 4, 2) := dk_54 4 (dk_at dksX3_select_0 21 rfl rfl)
theorem dX3_select_23 : decode cX3_select 23 = .ok (.iload 4, 2) := dk_21 4 (dk_at dksX3_select_1 0 rfl rfl)
theorem dX3_select_25 : decode cX3_select 25 = .ok (.aload_n 0, 1) := dk_42 (dk_at dksX3_select_1 2 rfl rfl)
theorem dX3_select_26 : decode cX3_select 26 = .ok (.invokevirtual 93, 3) := dk_182 0 93 (dk_at dksX3_select_1 3 rfl rfl)
theorem dX3_select_29 : decode cX3_select 29 = .ok (.if_icmp .ge 29, 3) := dk_162 0 29 (dk_at dksX3_select_1 6 rfl rfl)
theorem dX3_select_32 : decode cX3_select 32 = .ok (.aload_n 0, 1) := dk_42 (dk_at dksX3_select_1 9 rfl rfl)
theorem dX3_select_33 : decode cX3_select 33 = .ok (.iload 4, 2) := dk_21 4 (dk_at dksX3_select_1 10 rfl rfl)
theorem dX3_select_35 : decode cX3_select 35 = .ok (.iload_n 2, 1) := dk_28 (dk_at dksX3_select_1 12 rfl rfl)
theorem dX3_select_36 : decode cX3_select 36 = .ok (.invokevirtual 111, 3) := dk_182 0 111 (dk_at dksX3_select_1 13 rfl rfl)
theorem dX3_select_39 : decode cX3_select 39 = .ok (.ifCond .eq 13, 3) := dk_153 0 13 (dk_at dksX3_select_1 16 rfl rfl)
theorem dX3_select_42 : decode cX3_select 42 = .ok (.iload_n 3, 1) := dk_29 (dk_at dksX3_select_1 19 rfl rfl)
theorem dX3_select_43 : decode cX3_select 43 = .ok (.ifCond .ne 6, 3) := dk_154 0 6 (dk_at dksX3_select_1 20 rfl rfl)
theorem dX3_select_46 : decode cX3_select 46 = .ok (.iload 4, 2) := dk_21 4 (dk_at dksX3_select_2 0 rfl rfl)
theorem dX3_select_48 : decode cX3_select 48 = .ok (.ireturn, 1) := dk_172 (dk_at dksX3_select_2 2 rfl rfl)
theorem dX3_select_49 : decode cX3_select 49 = .ok (.iinc 3 (-1), 3) := dk_132 3 255 (dk_at dksX3_select_2 3 rfl rfl)
theorem dX3_select_52 : decode cX3_select 52 = .ok (.iinc 4 1, 3) := dk_132 4 1 (dk_at dksX3_select_2 6 rfl rfl)
theorem dX3_select_55 : decode cX3_select 55 = .ok (.goto (-32), 3) := dk_167 255 224 (dk_at dksX3_select_2 9 rfl rfl)
theorem dX3_select_58 : decode cX3_select 58 = .ok (.bipush (-4), 2) := dk_16 252 (dk_at dksX3_select_2 12 rfl rfl)
theorem dX3_select_60 : decode cX3_select 60 = .ok (.ireturn, 1) := dk_172 (dk_at dksX3_select_2 14 rfl rfl)
abbrev cX3_forward : ByteArray := prog_7_method_28_code
def yX3_forward : MethodName := ⟨RX3, "forward", "(II)I"⟩
def dkwX3_forward_1 : List UInt8 := [182, 0, 96, 28, 160, 0, 5, 29, 172, 132, 3, 1, 167, 255, 234, 16, 252, 172]
abbrev dktX3_forward_1 : List UInt8 := dkwX3_forward_1 ++ []
def dkwX3_forward_0 : List UInt8 := [42, 27, 182, 0, 106, 154, 0, 5, 2, 172, 27, 4, 96, 62, 29, 42, 182, 0, 93, 163, 0, 20, 42, 29]
abbrev dktX3_forward_0 : List UInt8 := dkwX3_forward_0 ++ dktX3_forward_1
theorem dksX3_forward_0 : cX3_forward.data.toList.drop 0 = dktX3_forward_0 := by decide +kernel
theorem dksX3_forward_1 : cX3_forward.data.toList.drop 24 = dktX3_forward_1 := dk_seg dksX3_forward_0 24 rfl rfl
theorem dX3_forward_0 : decode cX3_forward 0 = .ok (.aload_n 0, 1) := dk_42 (dk_at dksX3_forward_0 0 rfl rfl)
theorem dX3_forward_1 : decode cX3_forward 1 = .ok (.iload_n 1, 1) := dk_27 (dk_at dksX3_forward_0 1 rfl rfl)
theorem dX3_forward_2 : decode cX3_forward 2 = .ok (.invokevirtual 106, 3) := dk_182 0 106 (dk_at dksX3_forward_0 2 rfl rfl)
theorem dX3_forward_5 : decode cX3_forward 5 = .ok (.ifCond .ne 5, 3) := dk_154 0 5 (dk_at dksX3_forward_0 5 rfl rfl)
theorem dX3_forward_8 : decode cX3_forward 8 = .ok (.iconst (-1), 1) := dk_2 (dk_at dksX3_forward_0 8 rfl rfl)
theorem dX3_forward_9 : decode cX3_forward 9 = .ok (.ireturn, 1) := dk_172 (dk_at dksX3_forward_0 9 rfl rfl)
theorem dX3_forward_10 : decode cX3_forward 10 = .ok (.iload_n 1, 1) := dk_27 (dk_at dksX3_forward_0 10 rfl rfl)
theorem dX3_forward_11 : decode cX3_forward 11 = .ok (.iconst 1, 1) := dk_4 (dk_at dksX3_forward_0 11 rfl rfl)
theorem dX3_forward_12 : decode cX3_forward 12 = .ok (.iadd, 1) := dk_96 (dk_at dksX3_forward_0 12 rfl rfl)
theorem dX3_forward_13 : decode cX3_forward 13 = .ok (.istore_n 3, 1) := dk_62 (dk_at dksX3_forward_0 13 rfl rfl)
theorem dX3_forward_14 : decode cX3_forward 14 = .ok (.iload_n 3, 1) := dk_29 (dk_at dksX3_forward_0 14 rfl rfl)
theorem dX3_forward_15 : decode cX3_forward 15 = .ok (.aload_n 0, 1) := dk_42 (dk_at dksX3_forward_0 15 rfl rfl)
theorem dX3_forward_16 : decode cX3_forward 16 = .ok (.invokevirtual 93, 3) := dk_182 0 93 (dk_at dksX3_forward_0 16 rfl rfl)
theorem dX3_forward_19 : decode cX3_forward 19 = .ok (.if_icmp .gt 20, 3) := dk_163 0 20 (dk_at dksX3_forward_0 19 rfl rfl)
theorem dX3_forward_22 : decode cX3_forward 22 = .ok (.aload_n 0, 1) := dk_42 (dk_at dksX3_forward_0 22 rfl rfl)
theorem dX3_forward_23 : decode cX3_forward 23 = .ok (.iload_n 3, 1) := dk_29 (dk_at dksX3_forward_0 23 rfl rfl)
theorem dX3_forward_24 : decode cX3_forward 24 = .ok (.invokevirtual 96, 3) := dk_182 0 96 (dk_at dksX3_forward_1 0 rfl rfl)
theorem dX3_forward_27 : decode cX3_forward 27 = .ok (.iload_n 2, 1) := dk_28 (dk_at dksX3_forward_1 3 rfl rfl)
theorem dX3_forward_28 : decode cX3_forward 28 = .ok (.if_icmp .ne 5, 3) := dk_160 0 5 (dk_at dksX3_forward_1 4 rfl rfl)
theorem dX3_forward_31 : decode cX3_forward 31 = .ok (.iload_n 3, 1) := dk_29 (dk_at dksX3_forward_1 7 rfl rfl)
theorem dX3_forward_32 : decode cX3_forward 32 = .ok (.ireturn, 1) := dk_172 (dk_at dksX3_forward_1 8 rfl rfl)
theorem dX3_forward_33 : decode cX3_forward 33 = .ok (.iinc 3 1, 3) := dk_132 3 1 (dk_at dksX3_forward_1 9 rfl rfl)
theorem dX3_forward_36 : decode cX3_forward 36 = .ok (.goto (-22), 3) := dk_167 255 234 (dk_at dksX3_forward_1 12 rfl rfl)
theorem dX3_forward_39 : decode cX3_forward 39 = .ok (.bipush (-4), 2) := dk_16 252 (dk_at dksX3_forward_1 15 rfl rfl)
theorem dX3_forward_41 : decode cX3_forward 41 = .ok (.ireturn, 1) := dk_172 (dk_at dksX3_forward_1 17 rfl rfl)
abbrev cX3_backward : ByteArray := prog_7_method_29_code
def yX3_backward : MethodName := ⟨RX3, "backward", "(II)I"⟩
def dkwX3_backward_1 : List UInt8 := [160, 0, 5, 29, 172, 132, 3, 255, 167, 255, 238, 16, 252, 172]
abbrev dktX3_backward_1 : List UInt8 := dkwX3_backward_1 ++ []
def dkwX3_backward_0 : List UInt8 := [42, 27, 182, 0, 106, 154, 0, 5, 2, 172, 27, 4, 100, 62, 29, 155, 0, 20, 42, 29, 182, 0, 96, 28]
abbrev dktX3_backward_0 : List UInt8 := dkwX3_backward_0 ++ dktX3_backward_1
theorem dksX3_backward_0 : cX3_backward.data.toList.drop 0 = dktX3_backward_0 := by decide +kernel
theorem dksX3_backward_1 : cX3_backward.data.toList.drop 24 = dktX3_backward_1 := dk_seg dksX3_backward_0 24 rfl rfl
theorem dX3_backward_0 : decode cX3_backward 0 = .ok (.aload_n 0, 1) := dk_42 (dk_at dksX3_backward_0 0 rfl rfl)
theorem dX3_backward_1 : decode cX3_backward 1 = .ok (.iload_n 1, 1) := dk_27 (dk_at dksX3_backward_0 1 rfl rfl)
theorem dX3_backward_2 : decode cX3_backward 2 = .ok (.invokevirtual 106, 3) := dk_182 0 106 (dk_at dksX3_backward_0 2 rfl rfl)
theorem dX3_backward_5 : decode cX3_backward 5 = .ok (.ifCond .ne 5, 3) := dk_154 0 5 (dk_at dksX3_backward_0 5 rfl rfl)
theorem dX3_backward_8 : decode cX3_backward 8 = .ok (.iconst (-1), 1) := dk_2 (dk_at dksX3_backward_0 8 rfl rfl)
theorem dX3_backward_9 : decode cX3_backward 9 = .ok (.ireturn, 1) := dk_172 (dk_at dksX3_backward_0 9 rfl rfl)
theorem dX3_backward_10 : decode cX3_backward 10 = .ok (.iload_n 1, 1) := dk_27 (dk_at dksX3_backward_0 10 rfl rfl)
theorem dX3_backward_11 : decode cX3_backward 11 = .ok (.iconst 1, 1) := dk_4 (dk_at dksX3_backward_0 11 rfl rfl)
theorem dX3_backward_12 : decode cX3_backward 12 = .ok (.isub, 1) := dk_100 (dk_at dksX3_backward_0 12 rfl rfl)
theorem dX3_backward_13 : decode cX3_backward 13 = .ok (.istore_n 3, 1) := dk_62 (dk_at dksX3_backward_0 13 rfl rfl)
theorem dX3_backward_14 : decode cX3_backward 14 = .ok (.iload_n 3, 1) := dk_29 (dk_at dksX3_backward_0 14 rfl rfl)
theorem dX3_backward_15 : decode cX3_backward 15 = .ok (.ifCond .lt 20, 3) := dk_155 0 20 (dk_at dksX3_backward_0 15 rfl rfl)
theorem dX3_backward_18 : decode cX3_backward 18 = .ok (.aload_n 0, 1) := dk_42 (dk_at dksX3_backward_0 18 rfl rfl)
theorem dX3_backward_19 : decode cX3_backward 19 = .ok (.iload_n 3, 1) := dk_29 (dk_at dksX3_backward_0 19 rfl rfl)
theorem dX3_backward_20 : decode cX3_backward 20 = .ok (.invokevirtual 96, 3) := dk_182 0 96 (dk_at dksX3_backward_0 20 rfl rfl)
theorem dX3_backward_23 : decode cX3_backward 23 = .ok (.iload_n 2, 1) := dk_28 (dk_at dksX3_backward_0 23 rfl rfl)
theorem dX3_backward_24 : decode cX3_backward 24 = .ok (.if_icmp .ne 5, 3) := dk_160 0 5 (dk_at dksX3_backward_1 0 rfl rfl)
theorem dX3_backward_27 : decode cX3_backward 27 = .ok (.iload_n 3, 1) := dk_29 (dk_at dksX3_backward_1 3 rfl rfl)
theorem dX3_backward_28 : decode cX3_backward 28 = .ok (.ireturn, 1) := dk_172 (dk_at dksX3_backward_1 4 rfl rfl)
theorem dX3_backward_29 : decode cX3_backward 29 = .ok (.iinc 3 (-1), 3) := dk_132 3 255 (dk_at dksX3_backward_1 5 rfl rfl)
theorem dX3_backward_32 : decode cX3_backward 32 = .ok (.goto (-18), 3) := dk_167 255 238 (dk_at dksX3_backward_1 8 rfl rfl)
theorem dX3_backward_35 : decode cX3_backward 35 = .ok (.bipush (-4), 2) := dk_16 252 (dk_at dksX3_backward_1 11 rfl rfl)
theorem dX3_backward_37 : decode cX3_backward 37 = .ok (.ireturn, 1) := dk_172 (dk_at dksX3_backward_1 13 rfl rfl)
abbrev cX3_match : ByteArray := prog_7_method_30_code
def yX3_match : MethodName := ⟨RX3, "match", "(I)I"⟩
def dkwX3_match_2 : List UInt8 := [180, 0, 7, 28, 46, 4, 160, 0, 7, 2, 167, 0, 4, 4, 96, 62, 167, 255, 231, 28, 172]
abbrev dktX3_match_2 : List UInt8 := dkwX3_match_2 ++ []
def dkwX3_match_1 : List UInt8 := [4, 160, 0, 9, 42, 27, 182, 0, 115, 172, 27, 61, 4, 62, 29, 158, 0, 27, 132, 2, 255, 29, 42]
abbrev dktX3_match_1 : List UInt8 := dkwX3_match_1 ++ dktX3_match_2
def dkwX3_match_0 : List UInt8 := [27, 133, 9, 42, 182, 0, 93, 4, 100, 133, 184, 0, 41, 154, 0, 5, 2, 172, 42, 180, 0, 7, 27, 46]
abbrev dktX3_match_0 : List UInt8 := dkwX3_match_0 ++ dktX3_match_1
theorem dksX3_match_0 : cX3_match.data.toList.drop 0 = dktX3_match_0 := by decide +kernel
theorem dksX3_match_1 : cX3_match.data.toList.drop 24 = dktX3_match_1 := dk_seg dksX3_match_0 24 rfl rfl
theorem dksX3_match_2 : cX3_match.data.toList.drop 47 = dktX3_match_2 := dk_seg dksX3_match_1 23 rfl rfl
theorem dX3_match_0 : decode cX3_match 0 = .ok (.iload_n 1, 1) := dk_27 (dk_at dksX3_match_0 0 rfl rfl)
theorem dX3_match_1 : decode cX3_match 1 = .ok (.i2l, 1) := dk_133 (dk_at dksX3_match_0 1 rfl rfl)
theorem dX3_match_2 : decode cX3_match 2 = .ok (.lconst 0, 1) := dk_9 (dk_at dksX3_match_0 2 rfl rfl)
theorem dX3_match_3 : decode cX3_match 3 = .ok (.aload_n 0, 1) := dk_42 (dk_at dksX3_match_0 3 rfl rfl)
theorem dX3_match_4 : decode cX3_match 4 = .ok (.invokevirtual 93, 3) := dk_182 0 93 (dk_at dksX3_match_0 4 rfl rfl)
theorem dX3_match_7 : decode cX3_match 7 = .ok (.iconst 1, 1) := dk_4 (dk_at dksX3_match_0 7 rfl rfl)
theorem dX3_match_8 : decode cX3_match 8 = .ok (.isub, 1) := dk_100 (dk_at dksX3_match_0 8 rfl rfl)
theorem dX3_match_9 : decode cX3_match 9 = .ok (.i2l, 1) := dk_133 (dk_at dksX3_match_0 9 rfl rfl)
theorem dX3_match_10 : decode cX3_match 10 = .ok (.invokestatic 41, 3) := dk_184 0 41 (dk_at dksX3_match_0 10 rfl rfl)
theorem dX3_match_13 : decode cX3_match 13 = .ok (.ifCond .ne 5, 3) := dk_154 0 5 (dk_at dksX3_match_0 13 rfl rfl)
theorem dX3_match_16 : decode cX3_match 16 = .ok (.iconst (-1), 1) := dk_2 (dk_at dksX3_match_0 16 rfl rfl)
theorem dX3_match_17 : decode cX3_match 17 = .ok (.ireturn, 1) := dk_172 (dk_at dksX3_match_0 17 rfl rfl)
theorem dX3_match_18 : decode cX3_match 18 = .ok (.aload_n 0, 1) := dk_42 (dk_at dksX3_match_0 18 rfl rfl)
theorem dX3_match_19 : decode cX3_match 19 = .ok (.getfield 7, 3) := dk_180 0 7 (dk_at dksX3_match_0 19 rfl rfl)
theorem dX3_match_22 : decode cX3_match 22 = .ok (.iload_n 1, 1) := dk_27 (dk_at dksX3_match_0 22 rfl rfl)
theorem dX3_match_23 : decode cX3_match 23 = .ok (.iaload, 1) := dk_46 (dk_at dksX3_match_0 23 rfl rfl)
theorem dX3_match_24 : decode cX3_match 24 = .ok (.iconst 1, 1) := dk_4 (dk_at dksX3_match_1 0 rfl rfl)
theorem dX3_match_25 : decode cX3_match 25 = .ok (.if_icmp .ne 9, 3) := dk_160 0 9 (dk_at dksX3_match_1 1 rfl rfl)
theorem dX3_match_28 : decode cX3_match 28 = .ok (.aload_n 0, 1) := dk_42 (dk_at dksX3_match_1 4 rfl rfl)
theorem dX3_match_29 : decode cX3_match 29 = .ok (.iload_n 1, 1) := dk_27 (dk_at dksX3_match_1 5 rfl rfl)
theorem dX3_match_30 : decode cX3_match 30 = .ok (.invokevirtual 115, 3) := dk_182 0 115 (dk_at dksX3_match_1 6 rfl rfl)
theorem dX3_match_33 : decode cX3_match 33 = .ok (.ireturn, 1) := dk_172 (dk_at dksX3_match_1 9 rfl rfl)
theorem dX3_match_34 : decode cX3_match 34 = .ok (.iload_n 1, 1) := dk_27 (dk_at dksX3_match_1 10 rfl rfl)
theorem dX3_match_35 : decode cX3_match 35 = .ok (.istore_n 2, 1) := dk_61 (dk_at dksX3_match_1 11 rfl rfl)
theorem dX3_match_36 : decode cX3_match 36 = .ok (.iconst 1, 1) := dk_4 (dk_at dksX3_match_1 12 rfl rfl)
theorem dX3_match_37 : decode cX3_match 37 = .ok (.istore_n 3, 1) := dk_62 (dk_at dksX3_match_1 13 rfl rfl)
theorem dX3_match_38 : decode cX3_match 38 = .ok (.iload_n 3, 1) := dk_29 (dk_at dksX3_match_1 14 rfl rfl)
theorem dX3_match_39 : decode cX3_match 39 = .ok (.ifCond .le 27, 3) := dk_158 0 27 (dk_at dksX3_match_1 15 rfl rfl)
theorem dX3_match_42 : decode cX3_match 42 = .ok (.iinc 2 (-1), 3) := dk_132 2 255 (dk_at dksX3_match_1 18 rfl rfl)
theorem dX3_match_45 : decode cX3_match 45 = .ok (.iload_n 3, 1) := dk_29 (dk_at dksX3_match_1 21 rfl rfl)
theorem dX3_match_46 : decode cX3_match 46 = .ok (.aload_n 0, 1) := dk_42 (dk_at dksX3_match_1 22 rfl rfl)
theorem dX3_match_47 : decode cX3_match 47 = .ok (.getfield 7, 3) := dk_180 0 7 (dk_at dksX3_match_2 0 rfl rfl)
theorem dX3_match_50 : decode cX3_match 50 = .ok (.iload_n 2, 1) := dk_28 (dk_at dksX3_match_2 3 rfl rfl)
theorem dX3_match_51 : decode cX3_match 51 = .ok (.iaload, 1) := dk_46 (dk_at dksX3_match_2 4 rfl rfl)
theorem dX3_match_52 : decode cX3_match 52 = .ok (.iconst 1, 1) := dk_4 (dk_at dksX3_match_2 5 rfl rfl)
theorem dX3_match_53 : decode cX3_match 53 = .ok (.if_icmp .ne 7, 3) := dk_160 0 7 (dk_at dksX3_match_2 6 rfl rfl)
theorem dX3_match_56 : decode cX3_match 56 = .ok (.iconst (-1), 1) := dk_2 (dk_at dksX3_match_2 9 rfl rfl)
theorem dX3_match_57 : decode cX3_match 57 = .ok (.goto 4, 3) := dk_167 0 4 (dk_at dksX3_match_2 10 rfl rfl)
theorem dX3_match_60 : decode cX3_match 60 = .ok (.iconst 1, 1) := dk_4 (dk_at dksX3_match_2 13 rfl rfl)
theorem dX3_match_61 : decode cX3_match 61 = .ok (.iadd, 1) := dk_96 (dk_at dksX3_match_2 14 rfl rfl)
theorem dX3_match_62 : decode cX3_match 62 = .ok (.istore_n 3, 1) := dk_62 (dk_at dksX3_match_2 15 rfl rfl)
theorem dX3_match_63 : decode cX3_match 63 = .ok (.goto (-25), 3) := dk_167 255 231 (dk_at dksX3_match_2 16 rfl rfl)
theorem dX3_match_66 : decode cX3_match 66 = .ok (.iload_n 2, 1) := dk_28 (dk_at dksX3_match_2 19 rfl rfl)
theorem dX3_match_67 : decode cX3_match 67 = .ok (.ireturn, 1) := dk_172 (dk_at dksX3_match_2 20 rfl rfl)
abbrev cX3_shutOf : ByteArray := prog_7_method_19_code
def yX3_shutOf : MethodName := ⟨RX3, "shutOf", "(I)I"⟩
def dkwX3_shutOf_1 : List UInt8 := [167, 0, 4, 2, 96, 61, 167, 255, 231, 29, 172]
abbrev dktX3_shutOf_1 : List UInt8 := dkwX3_shutOf_1 ++ []
def dkwX3_shutOf_0 : List UInt8 := [4, 61, 27, 62, 28, 158, 0, 27, 132, 3, 1, 28, 42, 180, 0, 7, 29, 46, 4, 160, 0, 7, 4]
abbrev dktX3_shutOf_0 : List UInt8 := dkwX3_shutOf_0 ++ dktX3_shutOf_1
theorem dksX3_shutOf_0 : cX3_shutOf.data.toList.drop 0 = dktX3_shutOf_0 := by decide +kernel
theorem dksX3_shutOf_1 : cX3_shutOf.data.toList.drop 23 = dktX3_shutOf_1 := dk_seg dksX3_shutOf_0 23 rfl rfl
theorem dX3_shutOf_0 : decode cX3_shutOf 0 = .ok (.iconst 1, 1) := dk_4 (dk_at dksX3_shutOf_0 0 rfl rfl)
theorem dX3_shutOf_1 : decode cX3_shutOf 1 = .ok (.istore_n 2, 1) := dk_61 (dk_at dksX3_shutOf_0 1 rfl rfl)
theorem dX3_shutOf_2 : decode cX3_shutOf 2 = .ok (.iload_n 1, 1) := dk_27 (dk_at dksX3_shutOf_0 2 rfl rfl)
theorem dX3_shutOf_3 : decode cX3_shutOf 3 = .ok (.istore_n 3, 1) := dk_62 (dk_at dksX3_shutOf_0 3 rfl rfl)
theorem dX3_shutOf_4 : decode cX3_shutOf 4 = .ok (.iload_n 2, 1) := dk_28 (dk_at dksX3_shutOf_0 4 rfl rfl)
theorem dX3_shutOf_5 : decode cX3_shutOf 5 = .ok (.ifCond .le 27, 3) := dk_158 0 27 (dk_at dksX3_shutOf_0 5 rfl rfl)
theorem dX3_shutOf_8 : decode cX3_shutOf 8 = .ok (.iinc 3 1, 3) := dk_132 3 1 (dk_at dksX3_shutOf_0 8 rfl rfl)
theorem dX3_shutOf_11 : decode cX3_shutOf 11 = .ok (.iload_n 2, 1) := dk_28 (dk_at dksX3_shutOf_0 11 rfl rfl)
theorem dX3_shutOf_12 : decode cX3_shutOf 12 = .ok (.aload_n 0, 1) := dk_42 (dk_at dksX3_shutOf_0 12 rfl rfl)
theorem dX3_shutOf_13 : decode cX3_shutOf 13 = .ok (.getfield 7, 3) := dk_180 0 7 (dk_at dksX3_shutOf_0 13 rfl rfl)
theorem dX3_shutOf_16 : decode cX3_shutOf 16 = .ok (.iload_n 3, 1) := dk_29 (dk_at dksX3_shutOf_0 16 rfl rfl)
theorem dX3_shutOf_17 : decode cX3_shutOf 17 = .ok (.iaload, 1) := dk_46 (dk_at dksX3_shutOf_0 17 rfl rfl)
theorem dX3_shutOf_18 : decode cX3_shutOf 18 = .ok (.iconst 1, 1) := dk_4 (dk_at dksX3_shutOf_0 18 rfl rfl)
theorem dX3_shutOf_19 : decode cX3_shutOf 19 = .ok (.if_icmp .ne 7, 3) := dk_160 0 7 (dk_at dksX3_shutOf_0 19 rfl rfl)
theorem dX3_shutOf_22 : decode cX3_shutOf 22 = .ok (.iconst 1, 1) := dk_4 (dk_at dksX3_shutOf_0 22 rfl rfl)
theorem dX3_shutOf_23 : decode cX3_shutOf 23 = .ok (.goto 4, 3) := dk_167 0 4 (dk_at dksX3_shutOf_1 0 rfl rfl)
theorem dX3_shutOf_26 : decode cX3_shutOf 26 = .ok (.iconst (-1), 1) := dk_2 (dk_at dksX3_shutOf_1 3 rfl rfl)
theorem dX3_shutOf_27 : decode cX3_shutOf 27 = .ok (.iadd, 1) := dk_96 (dk_at dksX3_shutOf_1 4 rfl rfl)
theorem dX3_shutOf_28 : decode cX3_shutOf 28 = .ok (.istore_n 2, 1) := dk_61 (dk_at dksX3_shutOf_1 5 rfl rfl)
theorem dX3_shutOf_29 : decode cX3_shutOf 29 = .ok (.goto (-25), 3) := dk_167 255 231 (dk_at dksX3_shutOf_1 6 rfl rfl)
theorem dX3_shutOf_32 : decode cX3_shutOf 32 = .ok (.iload_n 3, 1) := dk_29 (dk_at dksX3_shutOf_1 9 rfl rfl)
theorem dX3_shutOf_33 : decode cX3_shutOf 33 = .ok (.ireturn, 1) := dk_172 (dk_at dksX3_shutOf_1 10 rfl rfl)
abbrev cX3_least : ByteArray := prog_7_method_31_code
def yX3_least : MethodName := ⟨RX3, "least", "(III)I"⟩
def dkwX3_least_7 : List UInt8 := [21, 6, 167, 0, 15, 29, 5, 160, 0, 8, 21, 7, 167, 0, 5, 21, 5, 172]
abbrev dktX3_least_7 : List UInt8 := dkwX3_least_7 ++ []
def dkwX3_least_6 : List UInt8 := [21, 5, 54, 5, 132, 8, 1, 167, 255, 162, 29, 154, 0, 8, 21, 4, 167, 0, 25, 29, 4, 160, 0, 8]
abbrev dktX3_least_6 : List UInt8 := dkwX3_least_6 ++ dktX3_least_7
def dkwX3_least_5 : List UInt8 := [162, 0, 8, 21, 9, 167, 0, 5, 21, 4, 54, 4, 21, 9, 21, 5, 164, 0, 8, 21, 9, 167, 0, 5]
abbrev dktX3_least_5 : List UInt8 := dkwX3_least_5 ++ dktX3_least_6
def dkwX3_least_4 : List UInt8 := [21, 7, 54, 7, 21, 9, 21, 4, 162, 0, 8, 21, 8, 167, 0, 5, 21, 6, 54, 6, 21, 9, 21, 4]
abbrev dktX3_least_4 : List UInt8 := dkwX3_least_4 ++ dktX3_least_5
def dkwX3_least_3 : List UInt8 := [21, 4, 162, 0, 7, 4, 167, 0, 19, 21, 9, 21, 4, 160, 0, 10, 21, 7, 4, 96, 167, 0, 5]
abbrev dktX3_least_3 : List UInt8 := dkwX3_least_3 ++ dktX3_least_4
def dkwX3_least_2 : List UInt8 := [54, 6, 3, 54, 7, 27, 54, 8, 21, 8, 28, 163, 0, 94, 42, 21, 8, 182, 0, 96, 54, 9, 21, 9]
abbrev dktX3_least_2 : List UInt8 := dkwX3_least_2 ++ dktX3_least_3
def dkwX3_least_1 : List UInt8 := [20, 0, 118, 184, 0, 41, 154, 0, 5, 2, 172, 42, 27, 182, 0, 96, 54, 4, 21, 4, 54, 5, 27]
abbrev dktX3_least_1 : List UInt8 := dkwX3_least_1 ++ dktX3_least_2
def dkwX3_least_0 : List UInt8 := [42, 27, 182, 0, 106, 153, 0, 28, 42, 28, 182, 0, 106, 153, 0, 20, 27, 28, 163, 0, 15, 29, 133, 9]
abbrev dktX3_least_0 : List UInt8 := dkwX3_least_0 ++ dktX3_least_1
theorem dksX3_least_0 : cX3_least.data.toList.drop 0 = dktX3_least_0 := by decide +kernel
theorem dksX3_least_1 : cX3_least.data.toList.drop 24 = dktX3_least_1 := dk_seg dksX3_least_0 24 rfl rfl
theorem dksX3_least_2 : cX3_least.data.toList.drop 47 = dktX3_least_2 := dk_seg dksX3_least_1 23 rfl rfl
theorem dksX3_least_3 : cX3_least.data.toList.drop 71 = dktX3_least_3 := dk_seg dksX3_least_2 24 rfl rfl
theorem dksX3_least_4 : cX3_least.data.toList.drop 94 = dktX3_least_4 := dk_seg dksX3_least_3 23 rfl rfl
theorem dksX3_least_5 : cX3_least.data.toList.drop 118 = dktX3_least_5 := dk_seg dksX3_least_4 24 rfl rfl
theorem dksX3_least_6 : cX3_least.data.toList.drop 142 = dktX3_least_6 := dk_seg dksX3_least_5 24 rfl rfl
theorem dksX3_least_7 : cX3_least.data.toList.drop 166 = dktX3_least_7 := dk_seg dksX3_least_6 24 rfl rfl
theorem dX3_least_0 : decode cX3_least 0 = .ok (.aload_n 0, 1) := dk_42 (dk_at dksX3_least_0 0 rfl rfl)
theorem dX3_least_1 : decode cX3_least 1 = .ok (.iload_n 1, 1) := dk_27 (dk_at dksX3_least_0 1 rfl rfl)
theorem dX3_least_2 : decode cX3_least 2 = .ok (.invokevirtual 106, 3) := dk_182 0 106 (dk_at dksX3_least_0 2 rfl rfl)
theorem dX3_least_5 : decode cX3_least 5 = .ok (.ifCond .eq 28, 3) := dk_153 0 28 (dk_at dksX3_least_0 5 rfl rfl)
theorem dX3_least_8 : decode cX3_least 8 = .ok (.aload_n 0, 1) := dk_42 (dk_at dksX3_least_0 8 rfl rfl)
theorem dX3_least_9 : decode cX3_least 9 = .ok (.iload_n 2, 1) := dk_28 (dk_at dksX3_least_0 9 rfl rfl)
theorem dX3_least_10 : decode cX3_least 10 = .ok (.invokevirtual 106, 3) := dk_182 0 106 (dk_at dksX3_least_0 10 rfl rfl)
theorem dX3_least_13 : decode cX3_least 13 = .ok (.ifCond .eq 20, 3) := dk_153 0 20 (dk_at dksX3_least_0 13 rfl rfl)
theorem dX3_least_16 : decode cX3_least 16 = .ok (.iload_n 1, 1) := dk_27 (dk_at dksX3_least_0 16 rfl rfl)
theorem dX3_least_17 : decode cX3_least 17 = .ok (.iload_n 2, 1) := dk_28 (dk_at dksX3_least_0 17 rfl rfl)
theorem dX3_least_18 : decode cX3_least 18 = .ok (.if_icmp .gt 15, 3) := dk_163 0 15 (dk_at dksX3_least_0 18 rfl rfl)
theorem dX3_least_21 : decode cX3_least 21 = .ok (.iload_n 3, 1) := dk_29 (dk_at dksX3_least_0 21 rfl rfl)
theorem dX3_least_22 : decode cX3_least 22 = .ok (.i2l, 1) := dk_133 (dk_at dksX3_least_0 22 rfl rfl)
theorem dX3_least_23 : decode cX3_least 23 = .ok (.lconst 0, 1) := dk_9 (dk_at dksX3_least_0 23 rfl rfl)
theorem dX3_least_24 : decode cX3_least 24 = .ok (.ldc2_w 118, 3) := dk_20 0 118 (dk_at dksX3_least_1 0 rfl rfl)
theorem dX3_least_27 : decode cX3_least 27 = .ok (.invokestatic 41, 3) := dk_184 0 41 (dk_at dksX3_least_1 3 rfl rfl)
theorem dX3_least_30 : decode cX3_least 30 = .ok (.ifCond .ne 5, 3) := dk_154 0 5 (dk_at dksX3_least_1 6 rfl rfl)
theorem dX3_least_33 : decode cX3_least 33 = .ok (.iconst (-1), 1) := dk_2 (dk_at dksX3_least_1 9 rfl rfl)
theorem dX3_least_34 : decode cX3_least 34 = .ok (.ireturn, 1) := dk_172 (dk_at dksX3_least_1 10 rfl rfl)
theorem dX3_least_35 : decode cX3_least 35 = .ok (.aload_n 0, 1) := dk_42 (dk_at dksX3_least_1 11 rfl rfl)
theorem dX3_least_36 : decode cX3_least 36 = .ok (.iload_n 1, 1) := dk_27 (dk_at dksX3_least_1 12 rfl rfl)
theorem dX3_least_37 : decode cX3_least 37 = .ok (.invokevirtual 96, 3) := dk_182 0 96 (dk_at dksX3_least_1 13 rfl rfl)
theorem dX3_least_40 : decode cX3_least 40 = .ok (.istore 4, 2) := dk_54 4 (dk_at dksX3_least_1 16 rfl rfl)
theorem dX3_least_42 : decode cX3_least 42 = .ok (.iload 4, 2) := dk_21 4 (dk_at dksX3_least_1 18 rfl rfl)
theorem dX3_least_44 : decode cX3_least 44 = .ok (.istore 5, 2) := dk_54 5 (dk_at dksX3_least_1 20 rfl rfl)
theorem dX3_least_46 : decode cX3_least 46 = .ok (.iload_n 1, 1) := dk_27 (dk_at dksX3_least_1 22 rfl rfl)
theorem dX3_least_47 : decode cX3_least 47 = .ok (.istore 6, 2) := dk_54 6 (dk_at dksX3_least_2 0 rfl rfl)
theorem dX3_least_49 : decode cX3_least 49 = .ok (.iconst 0, 1) := dk_3 (dk_at dksX3_least_2 2 rfl rfl)
theorem dX3_least_50 : decode cX3_least 50 = .ok (.istore 7, 2) := dk_54 7 (dk_at dksX3_least_2 3 rfl rfl)
theorem dX3_least_52 : decode cX3_least 52 = .ok (.iload_n 1, 1) := dk_27 (dk_at dksX3_least_2 5 rfl rfl)
theorem dX3_least_53 : decode cX3_least 53 = .ok (.istore 8, 2) := dk_54 8 (dk_at dksX3_least_2 6 rfl rfl)
theorem dX3_least_55 : decode cX3_least 55 = .ok (.iload 8, 2) := dk_21 8 (dk_at dksX3_least_2 8 rfl rfl)
theorem dX3_least_57 : decode cX3_least 57 = .ok (.iload_n 2, 1) := dk_28 (dk_at dksX3_least_2 10 rfl rfl)
theorem dX3_least_58 : decode cX3_least 58 = .ok (.if_icmp .gt 94, 3) := dk_163 0 94 (dk_at dksX3_least_2 11 rfl rfl)
theorem dX3_least_61 : decode cX3_least 61 = .ok (.aload_n 0, 1) := dk_42 (dk_at dksX3_least_2 14 rfl rfl)
theorem dX3_least_62 : decode cX3_least 62 = .ok (.iload 8, 2) := dk_21 8 (dk_at dksX3_least_2 15 rfl rfl)
theorem dX3_least_64 : decode cX3_least 64 = .ok (.invokevirtual 96, 3) := dk_182 0 96 (dk_at dksX3_least_2 17 rfl rfl)
theorem dX3_least_67 : decode cX3_least 67 = .ok (.istore 9, 2) := dk_54 9 (dk_at dksX3_least_2 20 rfl rfl)
theorem dX3_least_69 : decode cX3_least 69 = .ok (.iload 9, 2) := dk_21 9 (dk_at dksX3_least_2 22 rfl rfl)
theorem dX3_least_71 : decode cX3_least 71 = .ok (.iload 4, 2) := dk_21 4 (dk_at dksX3_least_3 0 rfl rfl)
theorem dX3_least_73 : decode cX3_least 73 = .ok (.if_icmp .ge 7, 3) := dk_162 0 7 (dk_at dksX3_least_3 2 rfl rfl)
theorem dX3_least_76 : decode cX3_least 76 = .ok (.iconst 1, 1) := dk_4 (dk_at dksX3_least_3 5 rfl rfl)
theorem dX3_least_77 : decode cX3_least 77 = .ok (.goto 19, 3) := dk_167 0 19 (dk_at dksX3_least_3 6 rfl rfl)
theorem dX3_least_80 : decode cX3_least 80 = .ok (.iload 9, 2) := dk_21 9 (dk_at dksX3_least_3 9 rfl rfl)
theorem dX3_least_82 : decode cX3_least 82 = .ok (.iload 4, 2) := dk_21 4 (dk_at dksX3_least_3 11 rfl rfl)
theorem dX3_least_84 : decode cX3_least 84 = .ok (.if_icmp .ne 10, 3) := dk_160 0 10 (dk_at dksX3_least_3 13 rfl rfl)
theorem dX3_least_87 : decode cX3_least 87 = .ok (.iload 7, 2) := dk_21 7 (dk_at dksX3_least_3 16 rfl rfl)
theorem dX3_least_89 : decode cX3_least 89 = .ok (.iconst 1, 1) := dk_4 (dk_at dksX3_least_3 18 rfl rfl)
theorem dX3_least_90 : decode cX3_least 90 = .ok (.iadd, 1) := dk_96 (dk_at dksX3_least_3 19 rfl rfl)
theorem dX3_least_91 : decode cX3_least 91 = .ok (.goto 5, 3) := dk_167 0 5 (dk_at dksX3_least_3 20 rfl rfl)
theorem dX3_least_94 : decode cX3_least 94 = .ok (.iload 7, 2) := dk_21 7 (dk_at dksX3_least_4 0 rfl rfl)
theorem dX3_least_96 : decode cX3_least 96 = .ok (.istore 7, 2) := dk_54 7 (dk_at dksX3_least_4 2 rfl rfl)
theorem dX3_least_98 : decode cX3_least 98 = .ok (.iload 9, 2) := dk_21 9 (dk_at dksX3_least_4 4 rfl rfl)
theorem dX3_least_100 : decode cX3_least 100 = .ok (.iload 4, 2) := dk_21 4 (dk_at dksX3_least_4 6 rfl rfl)
theorem dX3_least_102 : decode cX3_least 102 = .ok (.if_icmp .ge 8, 3) := dk_162 0 8 (dk_at dksX3_least_4 8 rfl rfl)
theorem dX3_least_105 : decode cX3_least 105 = .ok (.iload 8, 2) := dk_21 8 (dk_at dksX3_least_4 11 rfl rfl)
theorem dX3_least_107 : decode cX3_least 107 = .ok (.goto 5, 3) := dk_167 0 5 (dk_at dksX3_least_4 13 rfl rfl)
theorem dX3_least_110 : decode cX3_least 110 = .ok (.iload 6, 2) := dk_21 6 (dk_at dksX3_least_4 16 rfl rfl)
theorem dX3_least_112 : decode cX3_least 112 = .ok (.istore 6, 2) := dk_54 6 (dk_at dksX3_least_4 18 rfl rfl)
theorem dX3_least_114 : decode cX3_least 114 = .ok (.iload 9, 2) := dk_21 9 (dk_at dksX3_least_4 20 rfl rfl)
theorem dX3_least_116 : decode cX3_least 116 = .ok (.iload 4, 2) := dk_21 4 (dk_at dksX3_least_4 22 rfl rfl)
theorem dX3_least_118 : decode cX3_least 118 = .ok (.if_icmp .ge 8, 3) := dk_162 0 8 (dk_at dksX3_least_5 0 rfl rfl)
theorem dX3_least_121 : decode cX3_least 121 = .ok (.iload 9, 2) := dk_21 9 (dk_at dksX3_least_5 3 rfl rfl)
theorem dX3_least_123 : decode cX3_least 123 = .ok (.goto 5, 3) := dk_167 0 5 (dk_at dksX3_least_5 5 rfl rfl)
theorem dX3_least_126 : decode cX3_least 126 = .ok (.iload 4, 2) := dk_21 4 (dk_at dksX3_least_5 8 rfl rfl)
theorem dX3_least_128 : decode cX3_least 128 = .ok (.istore 4, 2) := dk_54 4 (dk_at dksX3_least_5 10 rfl rfl)
theorem dX3_least_130 : decode cX3_least 130 = .ok (.iload 9, 2) := dk_21 9 (dk_at dksX3_least_5 12 rfl rfl)
theorem dX3_least_132 : decode cX3_least 132 = .ok (.iload 5, 2) := dk_21 5 (dk_at dksX3_least_5 14 rfl rfl)
theorem dX3_least_134 : decode cX3_least 134 = .ok (.if_icmp .le 8, 3) := dk_164 0 8 (dk_at dksX3_least_5 16 rfl rfl)
theorem dX3_least_137 : decode cX3_least 137 = .ok (.iload 9, 2) := dk_21 9 (dk_at dksX3_least_5 19 rfl rfl)
theorem dX3_least_139 : decode cX3_least 139 = .ok (.goto 5, 3) := dk_167 0 5 (dk_at dksX3_least_5 21 rfl rfl)
theorem dX3_least_142 : decode cX3_least 142 = .ok (.iload 5, 2) := dk_21 5 (dk_at dksX3_least_6 0 rfl rfl)
theorem dX3_least_144 : decode cX3_least 144 = .ok (.istore 5, 2) := dk_54 5 (dk_at dksX3_least_6 2 rfl rfl)
theorem dX3_least_146 : decode cX3_least 146 = .ok (.iinc 8 1, 3) := dk_132 8 1 (dk_at dksX3_least_6 4 rfl rfl)
theorem dX3_least_149 : decode cX3_least 149 = .ok (.goto (-94), 3) := dk_167 255 162 (dk_at dksX3_least_6 7 rfl rfl)
theorem dX3_least_152 : decode cX3_least 152 = .ok (.iload_n 3, 1) := dk_29 (dk_at dksX3_least_6 10 rfl rfl)
theorem dX3_least_153 : decode cX3_least 153 = .ok (.ifCond .ne 8, 3) := dk_154 0 8 (dk_at dksX3_least_6 11 rfl rfl)
theorem dX3_least_156 : decode cX3_least 156 = .ok (.iload 4, 2) := dk_21 4 (dk_at dksX3_least_6 14 rfl rfl)
theorem dX3_least_158 : decode cX3_least 158 = .ok (.goto 25, 3) := dk_167 0 25 (dk_at dksX3_least_6 16 rfl rfl)
theorem dX3_least_161 : decode cX3_least 161 = .ok (.iload_n 3, 1) := dk_29 (dk_at dksX3_least_6 19 rfl rfl)
theorem dX3_least_162 : decode cX3_least 162 = .ok (.iconst 1, 1) := dk_4 (dk_at dksX3_least_6 20 rfl rfl)
theorem dX3_least_163 : decode cX3_least 163 = .ok (.if_icmp .ne 8, 3) := dk_160 0 8 (dk_at dksX3_least_6 21 rfl rfl)
theorem dX3_least_166 : decode cX3_least 166 = .ok (.iload 6, 2) := dk_21 6 (dk_at dksX3_least_7 0 rfl rfl)
theorem dX3_least_168 : decode cX3_least 168 = .ok (.goto 15, 3) := dk_167 0 15 (dk_at dksX3_least_7 2 rfl rfl)
theorem dX3_least_171 : decode cX3_least 171 = .ok (.iload_n 3, 1) := dk_29 (dk_at dksX3_least_7 5 rfl rfl)
theorem dX3_least_172 : decode cX3_least 172 = .ok (.iconst 2, 1) := dk_5 (dk_at dksX3_least_7 6 rfl rfl)
theorem dX3_least_173 : decode cX3_least 173 = .ok (.if_icmp .ne 8, 3) := dk_160 0 8 (dk_at dksX3_least_7 7 rfl rfl)
theorem dX3_least_176 : decode cX3_least 176 = .ok (.iload 7, 2) := dk_21 7 (dk_at dksX3_least_7 10 rfl rfl)
theorem dX3_least_178 : decode cX3_least 178 = .ok (.goto 5, 3) := dk_167 0 5 (dk_at dksX3_least_7 12 rfl rfl)
theorem dX3_least_181 : decode cX3_least 181 = .ok (.iload 5, 2) := dk_21 5 (dk_at dksX3_least_7 15 rfl rfl)
theorem dX3_least_183 : decode cX3_least 183 = .ok (.ireturn, 1) := dk_172 (dk_at dksX3_least_7 17 rfl rfl)
abbrev cX3_block : ByteArray := prog_7_method_32_code
def yX3_block : MethodName := ⟨RX3, "block", "(II)I"⟩
def dkwX3_block_6 : List UInt8 := [21, 4, 167, 0, 15, 28, 4, 160, 0, 8, 21, 5, 167, 0, 5, 21, 6, 96, 172]
abbrev dktX3_block_6 : List UInt8 := dkwX3_block_6 ++ []
def dkwX3_block_5 : List UInt8 := [164, 0, 8, 21, 4, 167, 0, 5, 21, 6, 54, 6, 132, 7, 1, 167, 255, 188, 16, 100, 28, 154, 0, 8]
abbrev dktX3_block_5 : List UInt8 := dkwX3_block_5 ++ dktX3_block_6
def dkwX3_block_4 : List UInt8 := [54, 4, 21, 4, 21, 5, 162, 0, 8, 21, 4, 167, 0, 5, 21, 5, 54, 5, 21, 4, 21, 6]
abbrev dktX3_block_4 : List UInt8 := dkwX3_block_4 ++ dktX3_block_5
def dkwX3_block_3 : List UInt8 := [96, 162, 0, 62, 21, 7, 42, 182, 0, 93, 162, 0, 53, 42, 21, 7, 4, 96, 182, 0, 96, 29, 100]
abbrev dktX3_block_3 : List UInt8 := dkwX3_block_3 ++ dktX3_block_4
def dkwX3_block_2 : List UInt8 := [17, 3, 232, 54, 5, 17, 252, 24, 54, 6, 16, 16, 27, 104, 54, 7, 21, 7, 16, 16, 27, 104, 16, 16]
abbrev dktX3_block_2 : List UInt8 := dkwX3_block_2 ++ dktX3_block_3
def dkwX3_block_1 : List UInt8 := [20, 0, 109, 184, 0, 41, 154, 0, 5, 2, 172, 42, 16, 16, 27, 104, 182, 0, 96, 62, 3, 54, 4]
abbrev dktX3_block_1 : List UInt8 := dkwX3_block_1 ++ dktX3_block_2
def dkwX3_block_0 : List UInt8 := [27, 155, 0, 30, 20, 0, 120, 27, 133, 105, 42, 182, 0, 93, 133, 148, 156, 0, 15, 28, 133, 9]
abbrev dktX3_block_0 : List UInt8 := dkwX3_block_0 ++ dktX3_block_1
theorem dksX3_block_0 : cX3_block.data.toList.drop 0 = dktX3_block_0 := by decide +kernel
theorem dksX3_block_1 : cX3_block.data.toList.drop 22 = dktX3_block_1 := dk_seg dksX3_block_0 22 rfl rfl
theorem dksX3_block_2 : cX3_block.data.toList.drop 45 = dktX3_block_2 := dk_seg dksX3_block_1 23 rfl rfl
theorem dksX3_block_3 : cX3_block.data.toList.drop 69 = dktX3_block_3 := dk_seg dksX3_block_2 24 rfl rfl
theorem dksX3_block_4 : cX3_block.data.toList.drop 92 = dktX3_block_4 := dk_seg dksX3_block_3 23 rfl rfl
theorem dksX3_block_5 : cX3_block.data.toList.drop 114 = dktX3_block_5 := dk_seg dksX3_block_4 22 rfl rfl
theorem dksX3_block_6 : cX3_block.data.toList.drop 138 = dktX3_block_6 := dk_seg dksX3_block_5 24 rfl rfl
theorem dX3_block_0 : decode cX3_block 0 = .ok (.iload_n 1, 1) := dk_27 (dk_at dksX3_block_0 0 rfl rfl)
theorem dX3_block_1 : decode cX3_block 1 = .ok (.ifCond .lt 30, 3) := dk_155 0 30 (dk_at dksX3_block_0 1 rfl rfl)
theorem dX3_block_4 : decode cX3_block 4 = .ok (.ldc2_w 120, 3) := dk_20 0 120 (dk_at dksX3_block_0 4 rfl rfl)
theorem dX3_block_7 : decode cX3_block 7 = .ok (.iload_n 1, 1) := dk_27 (dk_at dksX3_block_0 7 rfl rfl)
theorem dX3_block_8 : decode cX3_block 8 = .ok (.i2l, 1) := dk_133 (dk_at dksX3_block_0 8 rfl rfl)
theorem dX3_block_9 : decode cX3_block 9 = .ok (.lmul, 1) := dk_105 (dk_at dksX3_block_0 9 rfl rfl)
theorem dX3_block_10 : decode cX3_block 10 = .ok (.aload_n 0, 1) := dk_42 (dk_at dksX3_block_0 10 rfl rfl)
theorem dX3_block_11 : decode cX3_block 11 = .ok (.invokevirtual 93, 3) := dk_182 0 93 (dk_at dksX3_block_0 11 rfl rfl)
theorem dX3_block_14 : decode cX3_block 14 = .ok (.i2l, 1) := dk_133 (dk_at dksX3_block_0 14 rfl rfl)
theorem dX3_block_15 : decode cX3_block 15 = .ok (.lcmp, 1) := dk_148 (dk_at dksX3_block_0 15 rfl rfl)
theorem dX3_block_16 : decode cX3_block 16 = .ok (.ifCond .ge 15, 3) := dk_156 0 15 (dk_at dksX3_block_0 16 rfl rfl)
theorem dX3_block_19 : decode cX3_block 19 = .ok (.iload_n 2, 1) := dk_28 (dk_at dksX3_block_0 19 rfl rfl)
theorem dX3_block_20 : decode cX3_block 20 = .ok (.i2l, 1) := dk_133 (dk_at dksX3_block_0 20 rfl rfl)
theorem dX3_block_21 : decode cX3_block 21 = .ok (.lconst 0, 1) := dk_9 (dk_at dksX3_block_0 21 rfl rfl)
theorem dX3_block_22 : decode cX3_block 22 = .ok (.ldc2_w 109, 3) := dk_20 0 109 (dk_at dksX3_block_1 0 rfl rfl)
theorem dX3_block_25 : decode cX3_block 25 = .ok (.invokestatic 41, 3) := dk_184 0 41 (dk_at dksX3_block_1 3 rfl rfl)
theorem dX3_block_28 : decode cX3_block 28 = .ok (.ifCond .ne 5, 3) := dk_154 0 5 (dk_at dksX3_block_1 6 rfl rfl)
theorem dX3_block_31 : decode cX3_block 31 = .ok (.iconst (-1), 1) := dk_2 (dk_at dksX3_block_1 9 rfl rfl)
theorem dX3_block_32 : decode cX3_block 32 = .ok (.ireturn, 1) := dk_172 (dk_at dksX3_block_1 10 rfl rfl)
theorem dX3_block_33 : decode cX3_block 33 = .ok (.aload_n 0, 1) := dk_42 (dk_at dksX3_block_1 11 rfl rfl)
theorem dX3_block_34 : decode cX3_block 34 = .ok (.bipush 16, 2) := dk_16 16 (dk_at dksX3_block_1 12 rfl rfl)
theorem dX3_block_36 : decode cX3_block 36 = .ok (.iload_n 1, 1) := dk_27 (dk_at dksX3_block_1 14 rfl rfl)
theorem dX3_block_37 : decode cX3_block 37 = .ok (.imul, 1) := dk_104 (dk_at dksX3_block_1 15 rfl rfl)
theorem dX3_block_38 : decode cX3_block 38 = .ok (.invokevirtual 96, 3) := dk_182 0 96 (dk_at dksX3_block_1 16 rfl rfl)
theorem dX3_block_41 : decode cX3_block 41 = .ok (.istore_n 3, 1) := dk_62 (dk_at dksX3_block_1 19 rfl rfl)
theorem dX3_block_42 : decode cX3_block 42 = .ok (.iconst 0, 1) := dk_3 (dk_at dksX3_block_1 20 rfl rfl)
theorem dX3_block_43 : decode cX3_block 43 = .ok (.istore 4, 2) := dk_54 4 (dk_at dksX3_block_1 21 rfl rfl)
theorem dX3_block_45 : decode cX3_block 45 = .ok (.sipush 1000, 3) := dk_17 3 232 (dk_at dksX3_block_2 0 rfl rfl)
theorem dX3_block_48 : decode cX3_block 48 = .ok (.istore 5, 2) := dk_54 5 (dk_at dksX3_block_2 3 rfl rfl)
theorem dX3_block_50 : decode cX3_block 50 = .ok (.sipush (-1000), 3) := dk_17 252 24 (dk_at dksX3_block_2 5 rfl rfl)
theorem dX3_block_53 : decode cX3_block 53 = .ok (.istore 6, 2) := dk_54 6 (dk_at dksX3_block_2 8 rfl rfl)
theorem dX3_block_55 : decode cX3_block 55 = .ok (.bipush 16, 2) := dk_16 16 (dk_at dksX3_block_2 10 rfl rfl)
theorem dX3_block_57 : decode cX3_block 57 = .ok (.iload_n 1, 1) := dk_27 (dk_at dksX3_block_2 12 rfl rfl)
theorem dX3_block_58 : decode cX3_block 58 = .ok (.imul, 1) := dk_104 (dk_at dksX3_block_2 13 rfl rfl)
theorem dX3_block_59 : decode cX3_block 59 = .ok (.istore 7, 2) := dk_54 7 (dk_at dksX3_block_2 14 rfl rfl)
theorem dX3_block_61 : decode cX3_block 61 = .ok (.iload 7, 2) := dk_21 7 (dk_at dksX3_block_2 16 rfl rfl)
theorem dX3_block_63 : decode cX3_block 63 = .ok (.bipush 16, 2) := dk_16 16 (dk_at dksX3_block_2 18 rfl rfl)
theorem dX3_block_65 : decode cX3_block 65 = .ok (.iload_n 1, 1) := dk_27 (dk_at dksX3_block_2 20 rfl rfl)
theorem dX3_block_66 : decode cX3_block 66 = .ok (.imul, 1) := dk_104 (dk_at dksX3_block_2 21 rfl rfl)
theorem dX3_block_67 : decode cX3_block 67 = .ok (.bipush 16, 2) := dk_16 16 (dk_at dksX3_block_2 22 rfl rfl)
theorem dX3_block_69 : decode cX3_block 69 = .ok (.iadd, 1) := dk_96 (dk_at dksX3_block_3 0 rfl rfl)
theorem dX3_block_70 : decode cX3_block 70 = .ok (.if_icmp .ge 62, 3) := dk_162 0 62 (dk_at dksX3_block_3 1 rfl rfl)
theorem dX3_block_73 : decode cX3_block 73 = .ok (.iload 7, 2) := dk_21 7 (dk_at dksX3_block_3 4 rfl rfl)
theorem dX3_block_75 : decode cX3_block 75 = .ok (.aload_n 0, 1) := dk_42 (dk_at dksX3_block_3 6 rfl rfl)
theorem dX3_block_76 : decode cX3_block 76 = .ok (.invokevirtual 93, 3) := dk_182 0 93 (dk_at dksX3_block_3 7 rfl rfl)
theorem dX3_block_79 : decode cX3_block 79 = .ok (.if_icmp .ge 53, 3) := dk_162 0 53 (dk_at dksX3_block_3 10 rfl rfl)
theorem dX3_block_82 : decode cX3_block 82 = .ok (.aload_n 0, 1) := dk_42 (dk_at dksX3_block_3 13 rfl rfl)
theorem dX3_block_83 : decode cX3_block 83 = .ok (.iload 7, 2) := dk_21 7 (dk_at dksX3_block_3 14 rfl rfl)
theorem dX3_block_85 : decode cX3_block 85 = .ok (.iconst 1, 1) := dk_4 (dk_at dksX3_block_3 16 rfl rfl)
theorem dX3_block_86 : decode cX3_block 86 = .ok (.iadd, 1) := dk_96 (dk_at dksX3_block_3 17 rfl rfl)
theorem dX3_block_87 : decode cX3_block 87 = .ok (.invokevirtual 96, 3) := dk_182 0 96 (dk_at dksX3_block_3 18 rfl rfl)
theorem dX3_block_90 : decode cX3_block 90 = .ok (.iload_n 3, 1) := dk_29 (dk_at dksX3_block_3 21 rfl rfl)
theorem dX3_block_91 : decode cX3_block 91 = .ok (.isub, 1) := dk_100 (dk_at dksX3_block_3 22 rfl rfl)
theorem dX3_block_92 : decode cX3_block 92 = .ok (.istore 4, 2) := dk_54 4 (dk_at dksX3_block_4 0 rfl rfl)
theorem dX3_block_94 : decode cX3_block 94 = .ok (.iload 4, 2) := dk_21 4 (dk_at dksX3_block_4 2 rfl rfl)
theorem dX3_block_96 : decode cX3_block 96 = .ok (.iload 5, 2) := dk_21 5 (dk_at dksX3_block_4 4 rfl rfl)
theorem dX3_block_98 : decode cX3_block 98 = .ok (.if_icmp .ge 8, 3) := dk_162 0 8 (dk_at dksX3_block_4 6 rfl rfl)
theorem dX3_block_101 : decode cX3_block 101 = .ok (.iload 4, 2) := dk_21 4 (dk_at dksX3_block_4 9 rfl rfl)
theorem dX3_block_103 : decode cX3_block 103 = .ok (.goto 5, 3) := dk_167 0 5 (dk_at dksX3_block_4 11 rfl rfl)
theorem dX3_block_106 : decode cX3_block 106 = .ok (.iload 5, 2) := dk_21 5 (dk_at dksX3_block_4 14 rfl rfl)
theorem dX3_block_108 : decode cX3_block 108 = .ok (.istore 5, 2) := dk_54 5 (dk_at dksX3_block_4 16 rfl rfl)
theorem dX3_block_110 : decode cX3_block 110 = .ok (.iload 4, 2) := dk_21 4 (dk_at dksX3_block_4 18 rfl rfl)
theorem dX3_block_112 : decode cX3_block 112 = .ok (.iload 6, 2) := dk_21 6 (dk_at dksX3_block_4 20 rfl rfl)
theorem dX3_block_114 : decode cX3_block 114 = .ok (.if_icmp .le 8, 3) := dk_164 0 8 (dk_at dksX3_block_5 0 rfl rfl)
theorem dX3_block_117 : decode cX3_block 117 = .ok (.iload 4, 2) := dk_21 4 (dk_at dksX3_block_5 3 rfl rfl)
theorem dX3_block_119 : decode cX3_block 119 = .ok (.goto 5, 3) := dk_167 0 5 (dk_at dksX3_block_5 5 rfl rfl)
theorem dX3_block_122 : decode cX3_block 122 = .ok (.iload 6, 2) := dk_21 6 (dk_at dksX3_block_5 8 rfl rfl)
theorem dX3_block_124 : decode cX3_block 124 = .ok (.istore 6, 2) := dk_54 6 (dk_at dksX3_block_5 10 rfl rfl)
theorem dX3_block_126 : decode cX3_block 126 = .ok (.iinc 7 1, 3) := dk_132 7 1 (dk_at dksX3_block_5 12 rfl rfl)
theorem dX3_block_129 : decode cX3_block 129 = .ok (.goto (-68), 3) := dk_167 255 188 (dk_at dksX3_block_5 15 rfl rfl)
theorem dX3_block_132 : decode cX3_block 132 = .ok (.bipush 100, 2) := dk_16 100 (dk_at dksX3_block_5 18 rfl rfl)
theorem dX3_block_134 : decode cX3_block 134 = .ok (.iload_n 2, 1) := dk_28 (dk_at dksX3_block_5 20 rfl rfl)
theorem dX3_block_135 : decode cX3_block 135 = .ok (.ifCond .ne 8, 3) := dk_154 0 8 (dk_at dksX3_block_5 21 rfl rfl)
theorem dX3_block_138 : decode cX3_block 138 = .ok (.iload 4, 2) := dk_21 4 (dk_at dksX3_block_6 0 rfl rfl)
theorem dX3_block_140 : decode cX3_block 140 = .ok (.goto 15, 3) := dk_167 0 15 (dk_at dksX3_block_6 2 rfl rfl)
theorem dX3_block_143 : decode cX3_block 143 = .ok (.iload_n 2, 1) := dk_28 (dk_at dksX3_block_6 5 rfl rfl)
theorem dX3_block_144 : decode cX3_block 144 = .ok (.iconst 1, 1) := dk_4 (dk_at dksX3_block_6 6 rfl rfl)
theorem dX3_block_145 : decode cX3_block 145 = .ok (.if_icmp .ne 8, 3) := dk_160 0 8 (dk_at dksX3_block_6 7 rfl rfl)
theorem dX3_block_148 : decode cX3_block 148 = .ok (.iload 5, 2) := dk_21 5 (dk_at dksX3_block_6 10 rfl rfl)
theorem dX3_block_150 : decode cX3_block 150 = .ok (.goto 5, 3) := dk_167 0 5 (dk_at dksX3_block_6 12 rfl rfl)
theorem dX3_block_153 : decode cX3_block 153 = .ok (.iload 6, 2) := dk_21 6 (dk_at dksX3_block_6 15 rfl rfl)
theorem dX3_block_155 : decode cX3_block 155 = .ok (.iadd, 1) := dk_96 (dk_at dksX3_block_6 17 rfl rfl)
theorem dX3_block_156 : decode cX3_block 156 = .ok (.ireturn, 1) := dk_172 (dk_at dksX3_block_6 18 rfl rfl)
abbrev cX3_node : ByteArray := prog_7_method_43_code
def yX3_node : MethodName := ⟨RX3, "node", "(II)I"⟩
def dkwX3_node_6 : List UInt8 := [100, 172, 42, 27, 182, 0, 158, 172, 42, 27, 182, 0, 131, 172, 2, 172]
abbrev dktX3_node_6 : List UInt8 := dkwX3_node_6 ++ []
def dkwX3_node_5 : List UInt8 := [182, 0, 125, 172, 42, 27, 182, 0, 152, 172, 42, 42, 27, 182, 0, 155, 182, 0, 122, 42, 27, 182, 0, 122]
abbrev dktX3_node_5 : List UInt8 := dkwX3_node_5 ++ dktX3_node_6
def dkwX3_node_4 : List UInt8 := [42, 27, 4, 182, 0, 149, 172, 42, 27, 2, 182, 0, 149, 172, 42, 27, 182, 0, 146, 172, 42, 27]
abbrev dktX3_node_4 : List UInt8 := dkwX3_node_4 ++ dktX3_node_5
def dkwX3_node_3 : List UInt8 := [182, 0, 146, 154, 0, 8, 16, 252, 167, 0, 15, 42, 27, 42, 27, 182, 0, 146, 4, 100, 182, 0, 134, 172]
abbrev dktX3_node_3 : List UInt8 := dkwX3_node_3 ++ dktX3_node_4
def dkwX3_node_2 : List UInt8 := [42, 27, 28, 182, 0, 143, 172, 42, 27, 4, 182, 0, 128, 172, 42, 27, 3, 182, 0, 134, 172, 42, 27]
abbrev dktX3_node_2 : List UInt8 := dkwX3_node_2 ++ dktX3_node_3
def dkwX3_node_1 : List UInt8 := [170, 0, 0, 0, 176, 0, 0, 0, 0, 0, 0, 0, 13, 0, 0, 0, 69, 0, 0, 0, 69, 0, 0, 0, 69, 0, 0, 0, 76, 0, 0, 0, 83, 0, 0, 0, 90, 0, 0, 0, 116, 0, 0, 0, 123, 0, 0, 0, 130, 0, 0, 0, 136, 0, 0, 0, 142, 0, 0, 0, 148, 0, 0, 0, 164, 0, 0, 0, 170]
abbrev dktX3_node_1 : List UInt8 := dkwX3_node_1 ++ dktX3_node_2
def dkwX3_node_0 : List UInt8 := [42, 27, 182, 0, 140, 154, 0, 5, 2, 172, 28]
abbrev dktX3_node_0 : List UInt8 := dkwX3_node_0 ++ dktX3_node_1
theorem dksX3_node_0 : cX3_node.data.toList.drop 0 = dktX3_node_0 := by decide +kernel
theorem dksX3_node_1 : cX3_node.data.toList.drop 11 = dktX3_node_1 := dk_seg dksX3_node_0 11 rfl rfl
theorem dksX3_node_2 : cX3_node.data.toList.drop 80 = dktX3_node_2 := dk_seg dksX3_node_1 69 rfl rfl
theorem dksX3_node_3 : cX3_node.data.toList.drop 103 = dktX3_node_3 := dk_seg dksX3_node_2 23 rfl rfl
theorem dksX3_node_4 : cX3_node.data.toList.drop 127 = dktX3_node_4 := dk_seg dksX3_node_3 24 rfl rfl
theorem dksX3_node_5 : cX3_node.data.toList.drop 149 = dktX3_node_5 := dk_seg dksX3_node_4 22 rfl rfl
theorem dksX3_node_6 : cX3_node.data.toList.drop 173 = dktX3_node_6 := dk_seg dksX3_node_5 24 rfl rfl
theorem dX3_node_0 : decode cX3_node 0 = .ok (.aload_n 0, 1) := dk_42 (dk_at dksX3_node_0 0 rfl rfl)
theorem dX3_node_1 : decode cX3_node 1 = .ok (.iload_n 1, 1) := dk_27 (dk_at dksX3_node_0 1 rfl rfl)
theorem dX3_node_2 : decode cX3_node 2 = .ok (.invokevirtual 140, 3) := dk_182 0 140 (dk_at dksX3_node_0 2 rfl rfl)
theorem dX3_node_5 : decode cX3_node 5 = .ok (.ifCond .ne 5, 3) := dk_154 0 5 (dk_at dksX3_node_0 5 rfl rfl)
theorem dX3_node_8 : decode cX3_node 8 = .ok (.iconst (-1), 1) := dk_2 (dk_at dksX3_node_0 8 rfl rfl)
theorem dX3_node_9 : decode cX3_node 9 = .ok (.ireturn, 1) := dk_172 (dk_at dksX3_node_0 9 rfl rfl)
theorem dX3_node_10 : decode cX3_node 10 = .ok (.iload_n 2, 1) := dk_28 (dk_at dksX3_node_0 10 rfl rfl)
theorem dX3_node_11 : decode cX3_node 11 = .ok (.tableswitch 176 0 13 #[69, 69, 69, 76, 83, 90, 116, 123, 130, 136, 142, 148, 164, 170], 69) := by decide +kernel
theorem dX3_node_80 : decode cX3_node 80 = .ok (.aload_n 0, 1) := dk_42 (dk_at dksX3_node_2 0 rfl rfl)
theorem dX3_node_81 : decode cX3_node 81 = .ok (.iload_n 1, 1) := dk_27 (dk_at dksX3_node_2 1 rfl rfl)
theorem dX3_node_82 : decode cX3_node 82 = .ok (.iload_n 2, 1) := dk_28 (dk_at dksX3_node_2 2 rfl rfl)
theorem dX3_node_83 : decode cX3_node 83 = .ok (.invokevirtual 143, 3) := dk_182 0 143 (dk_at dksX3_node_2 3 rfl rfl)
theorem dX3_node_86 : decode cX3_node 86 = .ok (.ireturn, 1) := dk_172 (dk_at dksX3_node_2 6 rfl rfl)
theorem dX3_node_87 : decode cX3_node 87 = .ok (.aload_n 0, 1) := dk_42 (dk_at dksX3_node_2 7 rfl rfl)
theorem dX3_node_88 : decode cX3_node 88 = .ok (.iload_n 1, 1) := dk_27 (dk_at dksX3_node_2 8 rfl rfl)
theorem dX3_node_89 : decode cX3_node 89 = .ok (.iconst 1, 1) := dk_4 (dk_at dksX3_node_2 9 rfl rfl)
theorem dX3_node_90 : decode cX3_node 90 = .ok (.invokevirtual 128, 3) := dk_182 0 128 (dk_at dksX3_node_2 10 rfl rfl)
theorem dX3_node_93 : decode cX3_node 93 = .ok (.ireturn, 1) := dk_172 (dk_at dksX3_node_2 13 rfl rfl)
theorem dX3_node_94 : decode cX3_node 94 = .ok (.aload_n 0, 1) := dk_42 (dk_at dksX3_node_2 14 rfl rfl)
theorem dX3_node_95 : decode cX3_node 95 = .ok (.iload_n 1, 1) := dk_27 (dk_at dksX3_node_2 15 rfl rfl)
theorem dX3_node_96 : decode cX3_node 96 = .ok (.iconst 0, 1) := dk_3 (dk_at dksX3_node_2 16 rfl rfl)
theorem dX3_node_97 : decode cX3_node 97 = .ok (.invokevirtual 134, 3) := dk_182 0 134 (dk_at dksX3_node_2 17 rfl rfl)
theorem dX3_node_100 : decode cX3_node 100 = .ok (.ireturn, 1) := dk_172 (dk_at dksX3_node_2 20 rfl rfl)
theorem dX3_node_101 : decode cX3_node 101 = .ok (.aload_n 0, 1) := dk_42 (dk_at dksX3_node_2 21 rfl rfl)
theorem dX3_node_102 : decode cX3_node 102 = .ok (.iload_n 1, 1) := dk_27 (dk_at dksX3_node_2 22 rfl rfl)
theorem dX3_node_103 : decode cX3_node 103 = .ok (.invokevirtual 146, 3) := dk_182 0 146 (dk_at dksX3_node_3 0 rfl rfl)
theorem dX3_node_106 : decode cX3_node 106 = .ok (.ifCond .ne 8, 3) := dk_154 0 8 (dk_at dksX3_node_3 3 rfl rfl)
theorem dX3_node_109 : decode cX3_node 109 = .ok (.bipush (-4), 2) := dk_16 252 (dk_at dksX3_node_3 6 rfl rfl)
theorem dX3_node_111 : decode cX3_node 111 = .ok (.goto 15, 3) := dk_167 0 15 (dk_at dksX3_node_3 8 rfl rfl)
theorem dX3_node_114 : decode cX3_node 114 = .ok (.aload_n 0, 1) := dk_42 (dk_at dksX3_node_3 11 rfl rfl)
theorem dX3_node_115 : decode cX3_node 115 = .ok (.iload_n 1, 1) := dk_27 (dk_at dksX3_node_3 12 rfl rfl)
theorem dX3_node_116 : decode cX3_node 116 = .ok (.aload_n 0, 1) := dk_42 (dk_at dksX3_node_3 13 rfl rfl)
theorem dX3_node_117 : decode cX3_node 117 = .ok (.iload_n 1, 1) := dk_27 (dk_at dksX3_node_3 14 rfl rfl)
theorem dX3_node_118 : decode cX3_node 118 = .ok (.invokevirtual 146, 3) := dk_182 0 146 (dk_at dksX3_node_3 15 rfl rfl)
theorem dX3_node_121 : decode cX3_node 121 = .ok (.iconst 1, 1) := dk_4 (dk_at dksX3_node_3 18 rfl rfl)
theorem dX3_node_122 : decode cX3_node 122 = .ok (.isub, 1) := dk_100 (dk_at dksX3_node_3 19 rfl rfl)
theorem dX3_node_123 : decode cX3_node 123 = .ok (.invokevirtual 134, 3) := dk_182 0 134 (dk_at dksX3_node_3 20 rfl rfl)
theorem dX3_node_126 : decode cX3_node 126 = .ok (.ireturn, 1) := dk_172 (dk_at dksX3_node_3 23 rfl rfl)
theorem dX3_node_127 : decode cX3_node 127 = .ok (.aload_n 0, 1) := dk_42 (dk_at dksX3_node_4 0 rfl rfl)
theorem dX3_node_128 : decode cX3_node 128 = .ok (.iload_n 1, 1) := dk_27 (dk_at dksX3_node_4 1 rfl rfl)
theorem dX3_node_129 : decode cX3_node 129 = .ok (.iconst 1, 1) := dk_4 (dk_at dksX3_node_4 2 rfl rfl)
theorem dX3_node_130 : decode cX3_node 130 = .ok (.invokevirtual 149, 3) := dk_182 0 149 (dk_at dksX3_node_4 3 rfl rfl)
theorem dX3_node_133 : decode cX3_node 133 = .ok (.ireturn, 1) := dk_172 (dk_at dksX3_node_4 6 rfl rfl)
theorem dX3_node_134 : decode cX3_node 134 = .ok (.aload_n 0, 1) := dk_42 (dk_at dksX3_node_4 7 rfl rfl)
theorem dX3_node_135 : decode cX3_node 135 = .ok (.iload_n 1, 1) := dk_27 (dk_at dksX3_node_4 8 rfl rfl)
theorem dX3_node_136 : decode cX3_node 136 = .ok (.iconst (-1), 1) := dk_2 (dk_at dksX3_node_4 9 rfl rfl)
theorem dX3_node_137 : decode cX3_node 137 = .ok (.invokevirtual 149, 3) := dk_182 0 149 (dk_at dksX3_node_4 10 rfl rfl)
theorem dX3_node_140 : decode cX3_node 140 = .ok (.ireturn, 1) := dk_172 (dk_at dksX3_node_4 13 rfl rfl)
theorem dX3_node_141 : decode cX3_node 141 = .ok (.aload_n 0, 1) := dk_42 (dk_at dksX3_node_4 14 rfl rfl)
theorem dX3_node_142 : decode cX3_node 142 = .ok (.iload_n 1, 1) := dk_27 (dk_at dksX3_node_4 15 rfl rfl)
theorem dX3_node_143 : decode cX3_node 143 = .ok (.invokevirtual 146, 3) := dk_182 0 146 (dk_at dksX3_node_4 16 rfl rfl)
theorem dX3_node_146 : decode cX3_node 146 = .ok (.ireturn, 1) := dk_172 (dk_at dksX3_node_4 19 rfl rfl)
theorem dX3_node_147 : decode cX3_node 147 = .ok (.aload_n 0, 1) := dk_42 (dk_at dksX3_node_4 20 rfl rfl)
theorem dX3_node_148 : decode cX3_node 148 = .ok (.iload_n 1, 1) := dk_27 (dk_at dksX3_node_4 21 rfl rfl)
theorem dX3_node_149 : decode cX3_node 149 = .ok (.invokevirtual 125, 3) := dk_182 0 125 (dk_at dksX3_node_5 0 rfl rfl)
theorem dX3_node_152 : decode cX3_node 152 = .ok (.ireturn, 1) := dk_172 (dk_at dksX3_node_5 3 rfl rfl)
theorem dX3_node_153 : decode cX3_node 153 = .ok (.aload_n 0, 1) := dk_42 (dk_at dksX3_node_5 4 rfl rfl)
theorem dX3_node_154 : decode cX3_node 154 = .ok (.iload_n 1, 1) := dk_27 (dk_at dksX3_node_5 5 rfl rfl)
theorem dX3_node_155 : decode cX3_node 155 = .ok (.invokevirtual 152, 3) := dk_182 0 152 (dk_at dksX3_node_5 6 rfl rfl)
theorem dX3_node_158 : decode cX3_node 158 = .ok (.ireturn, 1) := dk_172 (dk_at dksX3_node_5 9 rfl rfl)
theorem dX3_node_159 : decode cX3_node 159 = .ok (.aload_n 0, 1) := dk_42 (dk_at dksX3_node_5 10 rfl rfl)
theorem dX3_node_160 : decode cX3_node 160 = .ok (.aload_n 0, 1) := dk_42 (dk_at dksX3_node_5 11 rfl rfl)
theorem dX3_node_161 : decode cX3_node 161 = .ok (.iload_n 1, 1) := dk_27 (dk_at dksX3_node_5 12 rfl rfl)
theorem dX3_node_162 : decode cX3_node 162 = .ok (.invokevirtual 155, 3) := dk_182 0 155 (dk_at dksX3_node_5 13 rfl rfl)
theorem dX3_node_165 : decode cX3_node 165 = .ok (.invokevirtual 122, 3) := dk_182 0 122 (dk_at dksX3_node_5 16 rfl rfl)
theorem dX3_node_168 : decode cX3_node 168 = .ok (.aload_n 0, 1) := dk_42 (dk_at dksX3_node_5 19 rfl rfl)
theorem dX3_node_169 : decode cX3_node 169 = .ok (.iload_n 1, 1) := dk_27 (dk_at dksX3_node_5 20 rfl rfl)
theorem dX3_node_170 : decode cX3_node 170 = .ok (.invokevirtual 122, 3) := dk_182 0 122 (dk_at dksX3_node_5 21 rfl rfl)
theorem dX3_node_173 : decode cX3_node 173 = .ok (.isub, 1) := dk_100 (dk_at dksX3_node_6 0 rfl rfl)
theorem dX3_node_174 : decode cX3_node 174 = .ok (.ireturn, 1) := dk_172 (dk_at dksX3_node_6 1 rfl rfl)
theorem dX3_node_175 : decode cX3_node 175 = .ok (.aload_n 0, 1) := dk_42 (dk_at dksX3_node_6 2 rfl rfl)
theorem dX3_node_176 : decode cX3_node 176 = .ok (.iload_n 1, 1) := dk_27 (dk_at dksX3_node_6 3 rfl rfl)
theorem dX3_node_177 : decode cX3_node 177 = .ok (.invokevirtual 158, 3) := dk_182 0 158 (dk_at dksX3_node_6 4 rfl rfl)
theorem dX3_node_180 : decode cX3_node 180 = .ok (.ireturn, 1) := dk_172 (dk_at dksX3_node_6 7 rfl rfl)
theorem dX3_node_181 : decode cX3_node 181 = .ok (.aload_n 0, 1) := dk_42 (dk_at dksX3_node_6 8 rfl rfl)
theorem dX3_node_182 : decode cX3_node 182 = .ok (.iload_n 1, 1) := dk_27 (dk_at dksX3_node_6 9 rfl rfl)
theorem dX3_node_183 : decode cX3_node 183 = .ok (.invokevirtual 131, 3) := dk_182 0 131 (dk_at dksX3_node_6 10 rfl rfl)
theorem dX3_node_186 : decode cX3_node 186 = .ok (.ireturn, 1) := dk_172 (dk_at dksX3_node_6 13 rfl rfl)
theorem dX3_node_187 : decode cX3_node 187 = .ok (.iconst (-1), 1) := dk_2 (dk_at dksX3_node_6 14 rfl rfl)
theorem dX3_node_188 : decode cX3_node 188 = .ok (.ireturn, 1) := dk_172 (dk_at dksX3_node_6 15 rfl rfl)
abbrev cX3_isNode : ByteArray := prog_7_method_14_code
def yX3_isNode : MethodName := ⟨RX3, "isNode", "(I)Z"⟩
def dkwX3_isNode_0 : List UInt8 := [27, 133, 9, 42, 182, 0, 89, 4, 100, 133, 184, 0, 41, 172]
abbrev dktX3_isNode_0 : List UInt8 := dkwX3_isNode_0 ++ []
theorem dksX3_isNode_0 : cX3_isNode.data.toList.drop 0 = dktX3_isNode_0 := by decide +kernel
theorem dX3_isNode_0 : decode cX3_isNode 0 = .ok (.iload_n 1, 1) := dk_27 (dk_at dksX3_isNode_0 0 rfl rfl)
theorem dX3_isNode_1 : decode cX3_isNode 1 = .ok (.i2l, 1) := dk_133 (dk_at dksX3_isNode_0 1 rfl rfl)
theorem dX3_isNode_2 : decode cX3_isNode 2 = .ok (.lconst 0, 1) := dk_9 (dk_at dksX3_isNode_0 2 rfl rfl)
theorem dX3_isNode_3 : decode cX3_isNode 3 = .ok (.aload_n 0, 1) := dk_42 (dk_at dksX3_isNode_0 3 rfl rfl)
theorem dX3_isNode_4 : decode cX3_isNode 4 = .ok (.invokevirtual 89, 3) := dk_182 0 89 (dk_at dksX3_isNode_0 4 rfl rfl)
theorem dX3_isNode_7 : decode cX3_isNode 7 = .ok (.iconst 1, 1) := dk_4 (dk_at dksX3_isNode_0 7 rfl rfl)
theorem dX3_isNode_8 : decode cX3_isNode 8 = .ok (.isub, 1) := dk_100 (dk_at dksX3_isNode_0 8 rfl rfl)
theorem dX3_isNode_9 : decode cX3_isNode 9 = .ok (.i2l, 1) := dk_133 (dk_at dksX3_isNode_0 9 rfl rfl)
theorem dX3_isNode_10 : decode cX3_isNode 10 = .ok (.invokestatic 41, 3) := dk_184 0 41 (dk_at dksX3_isNode_0 10 rfl rfl)
theorem dX3_isNode_13 : decode cX3_isNode 13 = .ok (.ireturn, 1) := dk_172 (dk_at dksX3_isNode_0 13 rfl rfl)
abbrev cX3_placeAsked : ByteArray := prog_7_method_42_code
def yX3_placeAsked : MethodName := ⟨RX3, "placeAsked", "(II)I"⟩
def dkwX3_placeAsked_1 : List UInt8 := [167, 0, 8, 42, 29, 182, 0, 96, 172]
abbrev dktX3_placeAsked_1 : List UInt8 := dkwX3_placeAsked_1 ++ []
def dkwX3_placeAsked_0 : List UInt8 := [42, 27, 182, 0, 99, 62, 28, 154, 0, 7, 29, 167, 0, 21, 28, 4, 160, 0, 11, 42, 29, 182, 0, 115]
abbrev dktX3_placeAsked_0 : List UInt8 := dkwX3_placeAsked_0 ++ dktX3_placeAsked_1
theorem dksX3_placeAsked_0 : cX3_placeAsked.data.toList.drop 0 = dktX3_placeAsked_0 := by decide +kernel
theorem dksX3_placeAsked_1 : cX3_placeAsked.data.toList.drop 24 = dktX3_placeAsked_1 := dk_seg dksX3_placeAsked_0 24 rfl rfl
theorem dX3_placeAsked_0 : decode cX3_placeAsked 0 = .ok (.aload_n 0, 1) := dk_42 (dk_at dksX3_placeAsked_0 0 rfl rfl)
theorem dX3_placeAsked_1 : decode cX3_placeAsked 1 = .ok (.iload_n 1, 1) := dk_27 (dk_at dksX3_placeAsked_0 1 rfl rfl)
theorem dX3_placeAsked_2 : decode cX3_placeAsked 2 = .ok (.invokevirtual 99, 3) := dk_182 0 99 (dk_at dksX3_placeAsked_0 2 rfl rfl)
theorem dX3_placeAsked_5 : decode cX3_placeAsked 5 = .ok (.istore_n 3, 1) := dk_62 (dk_at dksX3_placeAsked_0 5 rfl rfl)
theorem dX3_placeAsked_6 : decode cX3_placeAsked 6 = .ok (.iload_n 2, 1) := dk_28 (dk_at dksX3_placeAsked_0 6 rfl rfl)
theorem dX3_placeAsked_7 : decode cX3_placeAsked 7 = .ok (.ifCond .ne 7, 3) := dk_154 0 7 (dk_at dksX3_placeAsked_0 7 rfl rfl)
theorem dX3_placeAsked_10 : decode cX3_placeAsked 10 = .ok (.iload_n 3, 1) := dk_29 (dk_at dksX3_placeAsked_0 10 rfl rfl)
theorem dX3_placeAsked_11 : decode cX3_placeAsked 11 = .ok (.goto 21, 3) := dk_167 0 21 (dk_at dksX3_placeAsked_0 11 rfl rfl)
theorem dX3_placeAsked_14 : decode cX3_placeAsked 14 = .ok (.iload_n 2, 1) := dk_28 (dk_at dksX3_placeAsked_0 14 rfl rfl)
theorem dX3_placeAsked_15 : decode cX3_placeAsked 15 = .ok (.iconst 1, 1) := dk_4 (dk_at dksX3_placeAsked_0 15 rfl rfl)
theorem dX3_placeAsked_16 : decode cX3_placeAsked 16 = .ok (.if_icmp .ne 11, 3) := dk_160 0 11 (dk_at dksX3_placeAsked_0 16 rfl rfl)
theorem dX3_placeAsked_19 : decode cX3_placeAsked 19 = .ok (.aload_n 0, 1) := dk_42 (dk_at dksX3_placeAsked_0 19 rfl rfl)
theorem dX3_placeAsked_20 : decode cX3_placeAsked 20 = .ok (.iload_n 3, 1) := dk_29 (dk_at dksX3_placeAsked_0 20 rfl rfl)
theorem dX3_placeAsked_21 : decode cX3_placeAsked 21 = .ok (.invokevirtual 115, 3) := dk_182 0 115 (dk_at dksX3_placeAsked_0 21 rfl rfl)
theorem dX3_placeAsked_24 : decode cX3_placeAsked 24 = .ok (.goto 8, 3) := dk_167 0 8 (dk_at dksX3_placeAsked_1 0 rfl rfl)
theorem dX3_placeAsked_27 : decode cX3_placeAsked 27 = .ok (.aload_n 0, 1) := dk_42 (dk_at dksX3_placeAsked_1 3 rfl rfl)
theorem dX3_placeAsked_28 : decode cX3_placeAsked 28 = .ok (.iload_n 3, 1) := dk_29 (dk_at dksX3_placeAsked_1 4 rfl rfl)
theorem dX3_placeAsked_29 : decode cX3_placeAsked 29 = .ok (.invokevirtual 96, 3) := dk_182 0 96 (dk_at dksX3_placeAsked_1 5 rfl rfl)
theorem dX3_placeAsked_32 : decode cX3_placeAsked 32 = .ok (.ireturn, 1) := dk_172 (dk_at dksX3_placeAsked_1 8 rfl rfl)
abbrev cX3_openOf : ByteArray := prog_7_method_18_code
def yX3_openOf : MethodName := ⟨RX3, "openOf", "(I)I"⟩
def dkwX3_openOf_1 : List UInt8 := [167, 255, 244, 132, 3, 255, 167, 255, 231, 28, 172]
abbrev dktX3_openOf_1 : List UInt8 := dkwX3_openOf_1 ++ []
def dkwX3_openOf_0 : List UInt8 := [2, 61, 27, 62, 29, 155, 0, 27, 132, 2, 1, 42, 180, 0, 7, 28, 46, 154, 0, 9, 132, 2, 1]
abbrev dktX3_openOf_0 : List UInt8 := dkwX3_openOf_0 ++ dktX3_openOf_1
theorem dksX3_openOf_0 : cX3_openOf.data.toList.drop 0 = dktX3_openOf_0 := by decide +kernel
theorem dksX3_openOf_1 : cX3_openOf.data.toList.drop 23 = dktX3_openOf_1 := dk_seg dksX3_openOf_0 23 rfl rfl
theorem dX3_openOf_0 : decode cX3_openOf 0 = .ok (.iconst (-1), 1) := dk_2 (dk_at dksX3_openOf_0 0 rfl rfl)
theorem dX3_openOf_1 : decode cX3_openOf 1 = .ok (.istore_n 2, 1) := dk_61 (dk_at dksX3_openOf_0 1 rfl rfl)
theorem dX3_openOf_2 : decode cX3_openOf 2 = .ok (.iload_n 1, 1) := dk_27 (dk_at dksX3_openOf_0 2 rfl rfl)
theorem dX3_openOf_3 : decode cX3_openOf 3 = .ok (.istore_n 3, 1) := dk_62 (dk_at dksX3_openOf_0 3 rfl rfl)
theorem dX3_openOf_4 : decode cX3_openOf 4 = .ok (.iload_n 3, 1) := dk_29 (dk_at dksX3_openOf_0 4 rfl rfl)
theorem dX3_openOf_5 : decode cX3_openOf 5 = .ok (.ifCond .lt 27, 3) := dk_155 0 27 (dk_at dksX3_openOf_0 5 rfl rfl)
theorem dX3_openOf_8 : decode cX3_openOf 8 = .ok (.iinc 2 1, 3) := dk_132 2 1 (dk_at dksX3_openOf_0 8 rfl rfl)
theorem dX3_openOf_11 : decode cX3_openOf 11 = .ok (.aload_n 0, 1) := dk_42 (dk_at dksX3_openOf_0 11 rfl rfl)
theorem dX3_openOf_12 : decode cX3_openOf 12 = .ok (.getfield 7, 3) := dk_180 0 7 (dk_at dksX3_openOf_0 12 rfl rfl)
theorem dX3_openOf_15 : decode cX3_openOf 15 = .ok (.iload_n 2, 1) := dk_28 (dk_at dksX3_openOf_0 15 rfl rfl)
theorem dX3_openOf_16 : decode cX3_openOf 16 = .ok (.iaload, 1) := dk_46 (dk_at dksX3_openOf_0 16 rfl rfl)
theorem dX3_openOf_17 : decode cX3_openOf 17 = .ok (.ifCond .ne 9, 3) := dk_154 0 9 (dk_at dksX3_openOf_0 17 rfl rfl)
theorem dX3_openOf_20 : decode cX3_openOf 20 = .ok (.iinc 2 1, 3) := dk_132 2 1 (dk_at dksX3_openOf_0 20 rfl rfl)
theorem dX3_openOf_23 : decode cX3_openOf 23 = .ok (.goto (-12), 3) := dk_167 255 244 (dk_at dksX3_openOf_1 0 rfl rfl)
theorem dX3_openOf_26 : decode cX3_openOf 26 = .ok (.iinc 3 (-1), 3) := dk_132 3 255 (dk_at dksX3_openOf_1 3 rfl rfl)
theorem dX3_openOf_29 : decode cX3_openOf 29 = .ok (.goto (-25), 3) := dk_167 255 231 (dk_at dksX3_openOf_1 6 rfl rfl)
theorem dX3_openOf_32 : decode cX3_openOf 32 = .ok (.iload_n 2, 1) := dk_28 (dk_at dksX3_openOf_1 9 rfl rfl)
theorem dX3_openOf_33 : decode cX3_openOf 33 = .ok (.ireturn, 1) := dk_172 (dk_at dksX3_openOf_1 10 rfl rfl)
abbrev cX3_upFrom : ByteArray := prog_7_method_34_code
def yX3_upFrom : MethodName := ⟨RX3, "upFrom", "(II)I"⟩
def dkwX3_upFrom_3 : List UInt8 := [167, 255, 192, 29, 172]
abbrev dktX3_upFrom_3 : List UInt8 := dkwX3_upFrom_3 ++ []
def dkwX3_upFrom_2 : List UInt8 := [132, 6, 255, 167, 255, 235, 21, 6, 156, 0, 8, 16, 252, 167, 0, 5, 21, 6, 62, 132, 4, 1]
abbrev dktX3_upFrom_2 : List UInt8 := dkwX3_upFrom_2 ++ dktX3_upFrom_3
def dkwX3_upFrom_1 : List UInt8 := [29, 4, 100, 54, 6, 21, 6, 155, 0, 22, 42, 21, 6, 182, 0, 122, 21, 5, 4, 100, 159, 0, 9]
abbrev dktX3_upFrom_1 : List UInt8 := dkwX3_upFrom_1 ++ dktX3_upFrom_2
def dkwX3_upFrom_0 : List UInt8 := [27, 62, 3, 54, 4, 21, 4, 28, 162, 0, 64, 29, 16, 252, 159, 0, 58, 42, 29, 182, 0, 122, 54, 5]
abbrev dktX3_upFrom_0 : List UInt8 := dkwX3_upFrom_0 ++ dktX3_upFrom_1
theorem dksX3_upFrom_0 : cX3_upFrom.data.toList.drop 0 = dktX3_upFrom_0 := by decide +kernel
theorem dksX3_upFrom_1 : cX3_upFrom.data.toList.drop 24 = dktX3_upFrom_1 := dk_seg dksX3_upFrom_0 24 rfl rfl
theorem dksX3_upFrom_2 : cX3_upFrom.data.toList.drop 47 = dktX3_upFrom_2 := dk_seg dksX3_upFrom_1 23 rfl rfl
theorem dksX3_upFrom_3 : cX3_upFrom.data.toList.drop 69 = dktX3_upFrom_3 := dk_seg dksX3_upFrom_2 22 rfl rfl
theorem dX3_upFrom_0 : decode cX3_upFrom 0 = .ok (.iload_n 1, 1) := dk_27 (dk_at dksX3_upFrom_0 0 rfl rfl)
theorem dX3_upFrom_1 : decode cX3_upFrom 1 = .ok (.istore_n 3, 1) := dk_62 (dk_at dksX3_upFrom_0 1 rfl rfl)
theorem dX3_upFrom_2 : decode cX3_upFrom 2 = .ok (.iconst 0, 1) := dk_3 (dk_at dksX3_upFrom_0 2 rfl rfl)
theorem dX3_upFrom_3 : decode cX3_upFrom 3 = .ok (.istore 4, 2) := dk_54 4 (dk_at dksX3_upFrom_0 3 rfl rfl)
theorem dX3_upFrom_5 : decode cX3_upFrom 5 = .ok (.iload 4, 2) := dk_21 4 (dk_at dksX3_upFrom_0 5 rfl rfl)
theorem dX3_upFrom_7 : decode cX3_upFrom 7 = .ok (.iload_n 2, 1) := dk_28 (dk_at dksX3_upFrom_0 7 rfl rfl)
theorem dX3_upFrom_8 : decode cX3_upFrom 8 = .ok (.if_icmp .ge 64, 3) := dk_162 0 64 (dk_at dksX3_upFrom_0 8 rfl rfl)
theorem dX3_upFrom_11 : decode cX3_upFrom 11 = .ok (.iload_n 3, 1) := dk_29 (dk_at dksX3_upFrom_0 11 rfl rfl)
theorem dX3_upFrom_12 : decode cX3_upFrom 12 = .ok (.bipush (-4), 2) := dk_16 252 (dk_at dksX3_upFrom_0 12 rfl rfl)
theorem dX3_upFrom_14 : decode cX3_upFrom 14 = .ok (.if_icmp .eq 58, 3) := dk_159 0 58 (dk_at dksX3_upFrom_0 14 rfl rfl)
theorem dX3_upFrom_17 : decode cX3_upFrom 17 = .ok (.aload_n 0, 1) := dk_42 (dk_at dksX3_upFrom_0 17 rfl rfl)
theorem dX3_upFrom_18 : decode cX3_upFrom 18 = .ok (.iload_n 3, 1) := dk_29 (dk_at dksX3_upFrom_0 18 rfl rfl)
theorem dX3_upFrom_19 : decode cX3_upFrom 19 = .ok (.invokevirtual 122, 3) := dk_182 0 122 (dk_at dksX3_upFrom_0 19 rfl rfl)
theorem dX3_upFrom_22 : decode cX3_upFrom 22 = .ok (.istore 5, 2) := dk_54 5 (dk_at dksX3_upFrom_0 22 rfl rfl)
theorem dX3_upFrom_24 : decode cX3_upFrom 24 = .ok (.iload_n 3, 1) := dk_29 (dk_at dksX3_upFrom_1 0 rfl rfl)
theorem dX3_upFrom_25 : decode cX3_upFrom 25 = .ok (.iconst 1, 1) := dk_4 (dk_at dksX3_upFrom_1 1 rfl rfl)
theorem dX3_upFrom_26 : decode cX3_upFrom 26 = .ok (.isub, 1) := dk_100 (dk_at dksX3_upFrom_1 2 rfl rfl)
theorem dX3_upFrom_27 : decode cX3_upFrom 27 = .ok (.istore 6, 2) := dk_54 6 (dk_at dksX3_upFrom_1 3 rfl rfl)
theorem dX3_upFrom_29 : decode cX3_upFrom 29 = .ok (.iload 6, 2) := dk_21 6 (dk_at dksX3_upFrom_1 5 rfl rfl)
theorem dX3_upFrom_31 : decode cX3_upFrom 31 = .ok (.ifCond .lt 22, 3) := dk_155 0 22 (dk_at dksX3_upFrom_1 7 rfl rfl)
theorem dX3_upFrom_34 : decode cX3_upFrom 34 = .ok (.aload_n 0, 1) := dk_42 (dk_at dksX3_upFrom_1 10 rfl rfl)
theorem dX3_upFrom_35 : decode cX3_upFrom 35 = .ok (.iload 6, 2) := dk_21 6 (dk_at dksX3_upFrom_1 11 rfl rfl)
theorem dX3_upFrom_37 : decode cX3_upFrom 37 = .ok (.invokevirtual 122, 3) := dk_182 0 122 (dk_at dksX3_upFrom_1 13 rfl rfl)
theorem dX3_upFrom_40 : decode cX3_upFrom 40 = .ok (.iload 5, 2) := dk_21 5 (dk_at dksX3_upFrom_1 16 rfl rfl)
theorem dX3_upFrom_42 : decode cX3_upFrom 42 = .ok (.iconst 1, 1) := dk_4 (dk_at dksX3_upFrom_1 18 rfl rfl)
theorem dX3_upFrom_43 : decode cX3_upFrom 43 = .ok (.isub, 1) := dk_100 (dk_at dksX3_upFrom_1 19 rfl rfl)
theorem dX3_upFrom_44 : decode cX3_upFrom 44 = .ok (.if_icmp .eq 9, 3) := dk_159 0 9 (dk_at dksX3_upFrom_1 20 rfl rfl)
theorem dX3_upFrom_47 : decode cX3_upFrom 47 = .ok (.iinc 6 (-1), 3) := dk_132 6 255 (dk_at dksX3_upFrom_2 0 rfl rfl)
theorem dX3_upFrom_50 : decode cX3_upFrom 50 = .ok (.goto (-21), 3) := dk_167 255 235 (dk_at dksX3_upFrom_2 3 rfl rfl)
theorem dX3_upFrom_53 : decode cX3_upFrom 53 = .ok (.iload 6, 2) := dk_21 6 (dk_at dksX3_upFrom_2 6 rfl rfl)
theorem dX3_upFrom_55 : decode cX3_upFrom 55 = .ok (.ifCond .ge 8, 3) := dk_156 0 8 (dk_at dksX3_upFrom_2 8 rfl rfl)
theorem dX3_upFrom_58 : decode cX3_upFrom 58 = .ok (.bipush (-4), 2) := dk_16 252 (dk_at dksX3_upFrom_2 11 rfl rfl)
theorem dX3_upFrom_60 : decode cX3_upFrom 60 = .ok (.goto 5, 3) := dk_167 0 5 (dk_at dksX3_upFrom_2 13 rfl rfl)
theorem dX3_upFrom_63 : decode cX3_upFrom 63 = .ok (.iload 6, 2) := dk_21 6 (dk_at dksX3_upFrom_2 16 rfl rfl)
theorem dX3_upFrom_65 : decode cX3_upFrom 65 = .ok (.istore_n 3, 1) := dk_62 (dk_at dksX3_upFrom_2 18 rfl rfl)
theorem dX3_upFrom_66 : decode cX3_upFrom 66 = .ok (.iinc 4 1, 3) := dk_132 4 1 (dk_at dksX3_upFrom_2 19 rfl rfl)
theorem dX3_upFrom_69 : decode cX3_upFrom 69 = .ok (.goto (-64), 3) := dk_167 255 192 (dk_at dksX3_upFrom_3 0 rfl rfl)
theorem dX3_upFrom_72 : decode cX3_upFrom 72 = .ok (.iload_n 3, 1) := dk_29 (dk_at dksX3_upFrom_3 3 rfl rfl)
theorem dX3_upFrom_73 : decode cX3_upFrom 73 = .ok (.ireturn, 1) := dk_172 (dk_at dksX3_upFrom_3 4 rfl rfl)
abbrev cX3_depthOf : ByteArray := prog_7_method_20_code
def yX3_depthOf : MethodName := ⟨RX3, "depthOf", "(I)I"⟩
def dkwX3_depthOf_0 : List UInt8 := [42, 42, 27, 182, 0, 99, 182, 0, 96, 172]
abbrev dktX3_depthOf_0 : List UInt8 := dkwX3_depthOf_0 ++ []
theorem dksX3_depthOf_0 : cX3_depthOf.data.toList.drop 0 = dktX3_depthOf_0 := by decide +kernel
theorem dX3_depthOf_0 : decode cX3_depthOf 0 = .ok (.aload_n 0, 1) := dk_42 (dk_at dksX3_depthOf_0 0 rfl rfl)
theorem dX3_depthOf_1 : decode cX3_depthOf 1 = .ok (.aload_n 0, 1) := dk_42 (dk_at dksX3_depthOf_0 1 rfl rfl)
theorem dX3_depthOf_2 : decode cX3_depthOf 2 = .ok (.iload_n 1, 1) := dk_27 (dk_at dksX3_depthOf_0 2 rfl rfl)
theorem dX3_depthOf_3 : decode cX3_depthOf 3 = .ok (.invokevirtual 99, 3) := dk_182 0 99 (dk_at dksX3_depthOf_0 3 rfl rfl)
theorem dX3_depthOf_6 : decode cX3_depthOf 6 = .ok (.invokevirtual 96, 3) := dk_182 0 96 (dk_at dksX3_depthOf_0 6 rfl rfl)
theorem dX3_depthOf_9 : decode cX3_depthOf 9 = .ok (.ireturn, 1) := dk_172 (dk_at dksX3_depthOf_0 9 rfl rfl)
abbrev cX3_childOf : ByteArray := prog_7_method_36_code
def yX3_childOf : MethodName := ⟨RX3, "childOf", "(II)I"⟩
def dkwX3_childOf_2 : List UInt8 := [132, 4, 1, 167, 255, 215, 16, 252, 172]
abbrev dktX3_childOf_2 : List UInt8 := dkwX3_childOf_2 ++ []
def dkwX3_childOf_1 : List UInt8 := [182, 0, 122, 42, 27, 182, 0, 122, 4, 96, 160, 0, 13, 29, 154, 0, 6, 21, 4, 172, 132, 3, 255]
abbrev dktX3_childOf_1 : List UInt8 := dkwX3_childOf_1 ++ dktX3_childOf_2
def dkwX3_childOf_0 : List UInt8 := [28, 62, 27, 4, 96, 54, 4, 21, 4, 27, 42, 27, 182, 0, 125, 96, 162, 0, 35, 42, 21, 4]
abbrev dktX3_childOf_0 : List UInt8 := dkwX3_childOf_0 ++ dktX3_childOf_1
theorem dksX3_childOf_0 : cX3_childOf.data.toList.drop 0 = dktX3_childOf_0 := by decide +kernel
theorem dksX3_childOf_1 : cX3_childOf.data.toList.drop 22 = dktX3_childOf_1 := dk_seg dksX3_childOf_0 22 rfl rfl
theorem dksX3_childOf_2 : cX3_childOf.data.toList.drop 45 = dktX3_childOf_2 := dk_seg dksX3_childOf_1 23 rfl rfl
theorem dX3_childOf_0 : decode cX3_childOf 0 = .ok (.iload_n 2, 1) := dk_28 (dk_at dksX3_childOf_0 0 rfl rfl)
theorem dX3_childOf_1 : decode cX3_childOf 1 = .ok (.istore_n 3, 1) := dk_62 (dk_at dksX3_childOf_0 1 rfl rfl)
theorem dX3_childOf_2 : decode cX3_childOf 2 = .ok (.iload_n 1, 1) := dk_27 (dk_at dksX3_childOf_0 2 rfl rfl)
theorem dX3_childOf_3 : decode cX3_childOf 3 = .ok (.iconst 1, 1) := dk_4 (dk_at dksX3_childOf_0 3 rfl rfl)
theorem dX3_childOf_4 : decode cX3_childOf 4 = .ok (.iadd, 1) := dk_96 (dk_at dksX3_childOf_0 4 rfl rfl)
theorem dX3_childOf_5 : decode cX3_childOf 5 = .ok (.istore 4, 2) := dk_54 4 (dk_at dksX3_childOf_0 5 rfl rfl)
theorem dX3_childOf_7 : decode cX3_childOf 7 = .ok (.iload 4, 2) := dk_21 4 (dk_at dksX3_childOf_0 7 rfl rfl)
theorem dX3_childOf_9 : decode cX3_childOf 9 = .ok (.iload_n 1, 1) := dk_27 (dk_at dksX3_childOf_0 9 rfl rfl)
theorem dX3_childOf_10 : decode cX3_childOf 10 = .ok (.aload_n 0, 1) := dk_42 (dk_at dksX3_childOf_0 10 rfl rfl)
theorem dX3_childOf_11 : decode cX3_childOf 11 = .ok (.iload_n 1, 1) := dk_27 (dk_at dksX3_childOf_0 11 rfl rfl)
theorem dX3_childOf_12 : decode cX3_childOf 12 = .ok (.invokevirtual 125, 3) := dk_182 0 125 (dk_at dksX3_childOf_0 12 rfl rfl)
theorem dX3_childOf_15 : decode cX3_childOf 15 = .ok (.iadd, 1) := dk_96 (dk_at dksX3_childOf_0 15 rfl rfl)
theorem dX3_childOf_16 : decode cX3_childOf 16 = .ok (.if_icmp .ge 35, 3) := dk_162 0 35 (dk_at dksX3_childOf_0 16 rfl rfl)
theorem dX3_childOf_19 : decode cX3_childOf 19 = .ok (.aload_n 0, 1) := dk_42 (dk_at dksX3_childOf_0 19 rfl rfl)
theorem dX3_childOf_20 : decode cX3_childOf 20 = .ok (.iload 4, 2) := dk_21 4 (dk_at dksX3_childOf_0 20 rfl rfl)
theorem dX3_childOf_22 : decode cX3_childOf 22 = .ok (.invokevirtual 122, 3) := dk_182 0 122 (dk_at dksX3_childOf_1 0 rfl rfl)
theorem dX3_childOf_25 : decode cX3_childOf 25 = .ok (.aload_n 0, 1) := dk_42 (dk_at dksX3_childOf_1 3 rfl rfl)
theorem dX3_childOf_26 : decode cX3_childOf 26 = .ok (.iload_n 1, 1) := dk_27 (dk_at dksX3_childOf_1 4 rfl rfl)
theorem dX3_childOf_27 : decode cX3_childOf 27 = .ok (.invokevirtual 122, 3) := dk_182 0 122 (dk_at dksX3_childOf_1 5 rfl rfl)
theorem dX3_childOf_30 : decode cX3_childOf 30 = .ok (.iconst 1, 1) := dk_4 (dk_at dksX3_childOf_1 8 rfl rfl)
theorem dX3_childOf_31 : decode cX3_childOf 31 = .ok (.iadd, 1) := dk_96 (dk_at dksX3_childOf_1 9 rfl rfl)
theorem dX3_childOf_32 : decode cX3_childOf 32 = .ok (.if_icmp .ne 13, 3) := dk_160 0 13 (dk_at dksX3_childOf_1 10 rfl rfl)
theorem dX3_childOf_35 : decode cX3_childOf 35 = .ok (.iload_n 3, 1) := dk_29 (dk_at dksX3_childOf_1 13 rfl rfl)
theorem dX3_childOf_36 : decode cX3_childOf 36 = .ok (.ifCond .ne 6, 3) := dk_154 0 6 (dk_at dksX3_childOf_1 14 rfl rfl)
theorem dX3_childOf_39 : decode cX3_childOf 39 = .ok (.iload 4, 2) := dk_21 4 (dk_at dksX3_childOf_1 17 rfl rfl)
theorem dX3_childOf_41 : decode cX3_childOf 41 = .ok (.ireturn, 1) := dk_172 (dk_at dksX3_childOf_1 19 rfl rfl)
theorem dX3_childOf_42 : decode cX3_childOf 42 = .ok (.iinc 3 (-1), 3) := dk_132 3 255 (dk_at dksX3_childOf_1 20 rfl rfl)
theorem dX3_childOf_45 : decode cX3_childOf 45 = .ok (.iinc 4 1, 3) := dk_132 4 1 (dk_at dksX3_childOf_2 0 rfl rfl)
theorem dX3_childOf_48 : decode cX3_childOf 48 = .ok (.goto (-41), 3) := dk_167 255 215 (dk_at dksX3_childOf_2 3 rfl rfl)
theorem dX3_childOf_51 : decode cX3_childOf 51 = .ok (.bipush (-4), 2) := dk_16 252 (dk_at dksX3_childOf_2 6 rfl rfl)
theorem dX3_childOf_53 : decode cX3_childOf 53 = .ok (.ireturn, 1) := dk_172 (dk_at dksX3_childOf_2 8 rfl rfl)
abbrev cX3_sizeOf : ByteArray := prog_7_method_33_code
def yX3_sizeOf : MethodName := ⟨RX3, "sizeOf", "(I)I"⟩
def dkwX3_sizeOf_0 : List UInt8 := [42, 27, 182, 0, 99, 61, 42, 28, 182, 0, 115, 28, 100, 4, 96, 5, 108, 172]
abbrev dktX3_sizeOf_0 : List UInt8 := dkwX3_sizeOf_0 ++ []
theorem dksX3_sizeOf_0 : cX3_sizeOf.data.toList.drop 0 = dktX3_sizeOf_0 := by decide +kernel
theorem dX3_sizeOf_0 : decode cX3_sizeOf 0 = .ok (.aload_n 0, 1) := dk_42 (dk_at dksX3_sizeOf_0 0 rfl rfl)
theorem dX3_sizeOf_1 : decode cX3_sizeOf 1 = .ok (.iload_n 1, 1) := dk_27 (dk_at dksX3_sizeOf_0 1 rfl rfl)
theorem dX3_sizeOf_2 : decode cX3_sizeOf 2 = .ok (.invokevirtual 99, 3) := dk_182 0 99 (dk_at dksX3_sizeOf_0 2 rfl rfl)
theorem dX3_sizeOf_5 : decode cX3_sizeOf 5 = .ok (.istore_n 2, 1) := dk_61 (dk_at dksX3_sizeOf_0 5 rfl rfl)
theorem dX3_sizeOf_6 : decode cX3_sizeOf 6 = .ok (.aload_n 0, 1) := dk_42 (dk_at dksX3_sizeOf_0 6 rfl rfl)
theorem dX3_sizeOf_7 : decode cX3_sizeOf 7 = .ok (.iload_n 2, 1) := dk_28 (dk_at dksX3_sizeOf_0 7 rfl rfl)
theorem dX3_sizeOf_8 : decode cX3_sizeOf 8 = .ok (.invokevirtual 115, 3) := dk_182 0 115 (dk_at dksX3_sizeOf_0 8 rfl rfl)
theorem dX3_sizeOf_11 : decode cX3_sizeOf 11 = .ok (.iload_n 2, 1) := dk_28 (dk_at dksX3_sizeOf_0 11 rfl rfl)
theorem dX3_sizeOf_12 : decode cX3_sizeOf 12 = .ok (.isub, 1) := dk_100 (dk_at dksX3_sizeOf_0 12 rfl rfl)
theorem dX3_sizeOf_13 : decode cX3_sizeOf 13 = .ok (.iconst 1, 1) := dk_4 (dk_at dksX3_sizeOf_0 13 rfl rfl)
theorem dX3_sizeOf_14 : decode cX3_sizeOf 14 = .ok (.iadd, 1) := dk_96 (dk_at dksX3_sizeOf_0 14 rfl rfl)
theorem dX3_sizeOf_15 : decode cX3_sizeOf 15 = .ok (.iconst 2, 1) := dk_5 (dk_at dksX3_sizeOf_0 15 rfl rfl)
theorem dX3_sizeOf_16 : decode cX3_sizeOf 16 = .ok (.idiv, 1) := dk_108 (dk_at dksX3_sizeOf_0 16 rfl rfl)
theorem dX3_sizeOf_17 : decode cX3_sizeOf 17 = .ok (.ireturn, 1) := dk_172 (dk_at dksX3_sizeOf_0 17 rfl rfl)
abbrev cX3_childrenOf : ByteArray := prog_7_method_35_code
def yX3_childrenOf : MethodName := ⟨RX3, "childrenOf", "(I)I"⟩
def dkwX3_childrenOf_1 : List UInt8 := [27, 182, 0, 122, 4, 96, 160, 0, 7, 4, 167, 0, 4, 3, 96, 61, 132, 3, 1, 167, 255, 219, 28, 172]
abbrev dktX3_childrenOf_1 : List UInt8 := dkwX3_childrenOf_1 ++ []
def dkwX3_childrenOf_0 : List UInt8 := [3, 61, 27, 4, 96, 62, 29, 27, 42, 27, 182, 0, 125, 96, 162, 0, 32, 28, 42, 29, 182, 0, 122, 42]
abbrev dktX3_childrenOf_0 : List UInt8 := dkwX3_childrenOf_0 ++ dktX3_childrenOf_1
theorem dksX3_childrenOf_0 : cX3_childrenOf.data.toList.drop 0 = dktX3_childrenOf_0 := by decide +kernel
theorem dksX3_childrenOf_1 : cX3_childrenOf.data.toList.drop 24 = dktX3_childrenOf_1 := dk_seg dksX3_childrenOf_0 24 rfl rfl
theorem dX3_childrenOf_0 : decode cX3_childrenOf 0 = .ok (.iconst 0, 1) := dk_3 (dk_at dksX3_childrenOf_0 0 rfl rfl)
theorem dX3_childrenOf_1 : decode cX3_childrenOf 1 = .ok (.istore_n 2, 1) := dk_61 (dk_at dksX3_childrenOf_0 1 rfl rfl)
theorem dX3_childrenOf_2 : decode cX3_childrenOf 2 = .ok (.iload_n 1, 1) := dk_27 (dk_at dksX3_childrenOf_0 2 rfl rfl)
theorem dX3_childrenOf_3 : decode cX3_childrenOf 3 = .ok (.iconst 1, 1) := dk_4 (dk_at dksX3_childrenOf_0 3 rfl rfl)
theorem dX3_childrenOf_4 : decode cX3_childrenOf 4 = .ok (.iadd, 1) := dk_96 (dk_at dksX3_childrenOf_0 4 rfl rfl)
theorem dX3_childrenOf_5 : decode cX3_childrenOf 5 = .ok (.istore_n 3, 1) := dk_62 (dk_at dksX3_childrenOf_0 5 rfl rfl)
theorem dX3_childrenOf_6 : decode cX3_childrenOf 6 = .ok (.iload_n 3, 1) := dk_29 (dk_at dksX3_childrenOf_0 6 rfl rfl)
theorem dX3_childrenOf_7 : decode cX3_childrenOf 7 = .ok (.iload_n 1, 1) := dk_27 (dk_at dksX3_childrenOf_0 7 rfl rfl)
theorem dX3_childrenOf_8 : decode cX3_childrenOf 8 = .ok (.aload_n 0, 1) := dk_42 (dk_at dksX3_childrenOf_0 8 rfl rfl)
theorem dX3_childrenOf_9 : decode cX3_childrenOf 9 = .ok (.iload_n 1, 1) := dk_27 (dk_at dksX3_childrenOf_0 9 rfl rfl)
theorem dX3_childrenOf_10 : decode cX3_childrenOf 10 = .ok (.invokevirtual 125, 3) := dk_182 0 125 (dk_at dksX3_childrenOf_0 10 rfl rfl)
theorem dX3_childrenOf_13 : decode cX3_childrenOf 13 = .ok (.iadd, 1) := dk_96 (dk_at dksX3_childrenOf_0 13 rfl rfl)
theorem dX3_childrenOf_14 : decode cX3_childrenOf 14 = .ok (.if_icmp .ge 32, 3) := dk_162 0 32 (dk_at dksX3_childrenOf_0 14 rfl rfl)
theorem dX3_childrenOf_17 : decode cX3_childrenOf 17 = .ok (.iload_n 2, 1) := dk_28 (dk_at dksX3_childrenOf_0 17 rfl rfl)
theorem dX3_childrenOf_18 : decode cX3_childrenOf 18 = .ok (.aload_n 0, 1) := dk_42 (dk_at dksX3_childrenOf_0 18 rfl rfl)
theorem dX3_childrenOf_19 : decode cX3_childrenOf 19 = .ok (.iload_n 3, 1) := dk_29 (dk_at dksX3_childrenOf_0 19 rfl rfl)
theorem dX3_childrenOf_20 : decode cX3_childrenOf 20 = .ok (.invokevirtual 122, 3) := dk_182 0 122 (dk_at dksX3_childrenOf_0 20 rfl rfl)
theorem dX3_childrenOf_23 : decode cX3_childrenOf 23 = .ok (.aload_n 0, 1) := dk_42 (dk_at dksX3_childrenOf_0 23 rfl rfl)
theorem dX3_childrenOf_24 : decode cX3_childrenOf 24 = .ok (.iload_n 1, 1) := dk_27 (dk_at dksX3_childrenOf_1 0 rfl rfl)
theorem dX3_childrenOf_25 : decode cX3_childrenOf 25 = .ok (.invokevirtual 122, 3) := dk_182 0 122 (dk_at dksX3_childrenOf_1 1 rfl rfl)
theorem dX3_childrenOf_28 : decode cX3_childrenOf 28 = .ok (.iconst 1, 1) := dk_4 (dk_at dksX3_childrenOf_1 4 rfl rfl)
theorem dX3_childrenOf_29 : decode cX3_childrenOf 29 = .ok (.iadd, 1) := dk_96 (dk_at dksX3_childrenOf_1 5 rfl rfl)
theorem dX3_childrenOf_30 : decode cX3_childrenOf 30 = .ok (.if_icmp .ne 7, 3) := dk_160 0 7 (dk_at dksX3_childrenOf_1 6 rfl rfl)
theorem dX3_childrenOf_33 : decode cX3_childrenOf 33 = .ok (.iconst 1, 1) := dk_4 (dk_at dksX3_childrenOf_1 9 rfl rfl)
theorem dX3_childrenOf_34 : decode cX3_childrenOf 34 = .ok (.goto 4, 3) := dk_167 0 4 (dk_at dksX3_childrenOf_1 10 rfl rfl)
theorem dX3_childrenOf_37 : decode cX3_childrenOf 37 = .ok (.iconst 0, 1) := dk_3 (dk_at dksX3_childrenOf_1 13 rfl rfl)
theorem dX3_childrenOf_38 : decode cX3_childrenOf 38 = .ok (.iadd, 1) := dk_96 (dk_at dksX3_childrenOf_1 14 rfl rfl)
theorem dX3_childrenOf_39 : decode cX3_childrenOf 39 = .ok (.istore_n 2, 1) := dk_61 (dk_at dksX3_childrenOf_1 15 rfl rfl)
theorem dX3_childrenOf_40 : decode cX3_childrenOf 40 = .ok (.iinc 3 1, 3) := dk_132 3 1 (dk_at dksX3_childrenOf_1 16 rfl rfl)
theorem dX3_childrenOf_43 : decode cX3_childrenOf 43 = .ok (.goto (-37), 3) := dk_167 255 219 (dk_at dksX3_childrenOf_1 19 rfl rfl)
theorem dX3_childrenOf_46 : decode cX3_childrenOf 46 = .ok (.iload_n 2, 1) := dk_28 (dk_at dksX3_childrenOf_1 22 rfl rfl)
theorem dX3_childrenOf_47 : decode cX3_childrenOf 47 = .ok (.ireturn, 1) := dk_172 (dk_at dksX3_childrenOf_1 23 rfl rfl)
abbrev cX3_nextOf : ByteArray := prog_7_method_38_code
def yX3_nextOf : MethodName := ⟨RX3, "nextOf", "(II)I"⟩
def dkwX3_nextOf_1 : List UInt8 := [156, 0, 8, 16, 252, 167, 0, 10, 42, 29, 21, 4, 182, 0, 134, 172]
abbrev dktX3_nextOf_1 : List UInt8 := dkwX3_nextOf_1 ++ []
def dkwX3_nextOf_0 : List UInt8 := [42, 27, 4, 182, 0, 128, 62, 42, 27, 182, 0, 131, 28, 96, 54, 4, 29, 16, 252, 159, 0, 8, 21, 4]
abbrev dktX3_nextOf_0 : List UInt8 := dkwX3_nextOf_0 ++ dktX3_nextOf_1
theorem dksX3_nextOf_0 : cX3_nextOf.data.toList.drop 0 = dktX3_nextOf_0 := by decide +kernel
theorem dksX3_nextOf_1 : cX3_nextOf.data.toList.drop 24 = dktX3_nextOf_1 := dk_seg dksX3_nextOf_0 24 rfl rfl
theorem dX3_nextOf_0 : decode cX3_nextOf 0 = .ok (.aload_n 0, 1) := dk_42 (dk_at dksX3_nextOf_0 0 rfl rfl)
theorem dX3_nextOf_1 : decode cX3_nextOf 1 = .ok (.iload_n 1, 1) := dk_27 (dk_at dksX3_nextOf_0 1 rfl rfl)
theorem dX3_nextOf_2 : decode cX3_nextOf 2 = .ok (.iconst 1, 1) := dk_4 (dk_at dksX3_nextOf_0 2 rfl rfl)
theorem dX3_nextOf_3 : decode cX3_nextOf 3 = .ok (.invokevirtual 128, 3) := dk_182 0 128 (dk_at dksX3_nextOf_0 3 rfl rfl)
theorem dX3_nextOf_6 : decode cX3_nextOf 6 = .ok (.istore_n 3, 1) := dk_62 (dk_at dksX3_nextOf_0 6 rfl rfl)
theorem dX3_nextOf_7 : decode cX3_nextOf 7 = .ok (.aload_n 0, 1) := dk_42 (dk_at dksX3_nextOf_0 7 rfl rfl)
theorem dX3_nextOf_8 : decode cX3_nextOf 8 = .ok (.iload_n 1, 1) := dk_27 (dk_at dksX3_nextOf_0 8 rfl rfl)
theorem dX3_nextOf_9 : decode cX3_nextOf 9 = .ok (.invokevirtual 131, 3) := dk_182 0 131 (dk_at dksX3_nextOf_0 9 rfl rfl)
theorem dX3_nextOf_12 : decode cX3_nextOf 12 = .ok (.iload_n 2, 1) := dk_28 (dk_at dksX3_nextOf_0 12 rfl rfl)
theorem dX3_nextOf_13 : decode cX3_nextOf 13 = .ok (.iadd, 1) := dk_96 (dk_at dksX3_nextOf_0 13 rfl rfl)
theorem dX3_nextOf_14 : decode cX3_nextOf 14 = .ok (.istore 4, 2) := dk_54 4 (dk_at dksX3_nextOf_0 14 rfl rfl)
theorem dX3_nextOf_16 : decode cX3_nextOf 16 = .ok (.iload_n 3, 1) := dk_29 (dk_at dksX3_nextOf_0 16 rfl rfl)
theorem dX3_nextOf_17 : decode cX3_nextOf 17 = .ok (.bipush (-4), 2) := dk_16 252 (dk_at dksX3_nextOf_0 17 rfl rfl)
theorem dX3_nextOf_19 : decode cX3_nextOf 19 = .ok (.if_icmp .eq 8, 3) := dk_159 0 8 (dk_at dksX3_nextOf_0 19 rfl rfl)
theorem dX3_nextOf_22 : decode cX3_nextOf 22 = .ok (.iload 4, 2) := dk_21 4 (dk_at dksX3_nextOf_0 22 rfl rfl)
theorem dX3_nextOf_24 : decode cX3_nextOf 24 = .ok (.ifCond .ge 8, 3) := dk_156 0 8 (dk_at dksX3_nextOf_1 0 rfl rfl)
theorem dX3_nextOf_27 : decode cX3_nextOf 27 = .ok (.bipush (-4), 2) := dk_16 252 (dk_at dksX3_nextOf_1 3 rfl rfl)
theorem dX3_nextOf_29 : decode cX3_nextOf 29 = .ok (.goto 10, 3) := dk_167 0 10 (dk_at dksX3_nextOf_1 5 rfl rfl)
theorem dX3_nextOf_32 : decode cX3_nextOf 32 = .ok (.aload_n 0, 1) := dk_42 (dk_at dksX3_nextOf_1 8 rfl rfl)
theorem dX3_nextOf_33 : decode cX3_nextOf 33 = .ok (.iload_n 3, 1) := dk_29 (dk_at dksX3_nextOf_1 9 rfl rfl)
theorem dX3_nextOf_34 : decode cX3_nextOf 34 = .ok (.iload 4, 2) := dk_21 4 (dk_at dksX3_nextOf_1 10 rfl rfl)
theorem dX3_nextOf_36 : decode cX3_nextOf 36 = .ok (.invokevirtual 134, 3) := dk_182 0 134 (dk_at dksX3_nextOf_1 12 rfl rfl)
theorem dX3_nextOf_39 : decode cX3_nextOf 39 = .ok (.ireturn, 1) := dk_172 (dk_at dksX3_nextOf_1 15 rfl rfl)
abbrev cX3_whichOf : ByteArray := prog_7_method_37_code
def yX3_whichOf : MethodName := ⟨RX3, "whichOf", "(I)I"⟩
def dkwX3_whichOf_2 : List UInt8 := [167, 0, 4, 3, 96, 54, 4, 132, 5, 1, 167, 255, 221, 21, 4, 172]
abbrev dktX3_whichOf_2 : List UInt8 := dkwX3_whichOf_2 ++ []
def dkwX3_whichOf_1 : List UInt8 := [159, 0, 35, 21, 5, 27, 162, 0, 29, 21, 4, 42, 21, 5, 182, 0, 122, 29, 160, 0, 7, 4]
abbrev dktX3_whichOf_1 : List UInt8 := dkwX3_whichOf_1 ++ dktX3_whichOf_2
def dkwX3_whichOf_0 : List UInt8 := [42, 27, 4, 182, 0, 128, 61, 42, 27, 182, 0, 122, 62, 3, 54, 4, 28, 4, 96, 54, 5, 28, 16, 252]
abbrev dktX3_whichOf_0 : List UInt8 := dkwX3_whichOf_0 ++ dktX3_whichOf_1
theorem dksX3_whichOf_0 : cX3_whichOf.data.toList.drop 0 = dktX3_whichOf_0 := by decide +kernel
theorem dksX3_whichOf_1 : cX3_whichOf.data.toList.drop 24 = dktX3_whichOf_1 := dk_seg dksX3_whichOf_0 24 rfl rfl
theorem dksX3_whichOf_2 : cX3_whichOf.data.toList.drop 46 = dktX3_whichOf_2 := dk_seg dksX3_whichOf_1 22 rfl rfl
theorem dX3_whichOf_0 : decode cX3_whichOf 0 = .ok (.aload_n 0, 1) := dk_42 (dk_at dksX3_whichOf_0 0 rfl rfl)
theorem dX3_whichOf_1 : decode cX3_whichOf 1 = .ok (.iload_n 1, 1) := dk_27 (dk_at dksX3_whichOf_0 1 rfl rfl)
theorem dX3_whichOf_2 : decode cX3_whichOf 2 = .ok (.iconst 1, 1) := dk_4 (dk_at dksX3_whichOf_0 2 rfl rfl)
theorem dX3_whichOf_3 : decode cX3_whichOf 3 = .ok (.invokevirtual 128, 3) := dk_182 0 128 (dk_at dksX3_whichOf_0 3 rfl rfl)
theorem dX3_whichOf_6 : decode cX3_whichOf 6 = .ok (.istore_n 2, 1) := dk_61 (dk_at dksX3_whichOf_0 6 rfl rfl)
theorem dX3_whichOf_7 : decode cX3_whichOf 7 = .ok (.aload_n 0, 1) := dk_42 (dk_at dksX3_whichOf_0 7 rfl rfl)
theorem dX3_whichOf_8 : decode cX3_whichOf 8 = .ok (.iload_n 1, 1) := dk_27 (dk_at dksX3_whichOf_0 8 rfl rfl)
theorem dX3_whichOf_9 : decode cX3_whichOf 9 = .ok (.invokevirtual 122, 3) := dk_182 0 122 (dk_at dksX3_whichOf_0 9 rfl rfl)
theorem dX3_whichOf_12 : decode cX3_whichOf 12 = .ok (.istore_n 3, 1) := dk_62 (dk_at dksX3_whichOf_0 12 rfl rfl)
theorem dX3_whichOf_13 : decode cX3_whichOf 13 = .ok (.iconst 0, 1) := dk_3 (dk_at dksX3_whichOf_0 13 rfl rfl)
theorem dX3_whichOf_14 : decode cX3_whichOf 14 = .ok (.istore 4, 2) := dk_54 4 (dk_at dksX3_whichOf_0 14 rfl rfl)
theorem dX3_whichOf_16 : decode cX3_whichOf 16 = .ok (.iload_n 2, 1) := dk_28 (dk_at dksX3_whichOf_0 16 rfl rfl)
theorem dX3_whichOf_17 : decode cX3_whichOf 17 = .ok (.iconst 1, 1) := dk_4 (dk_at dksX3_whichOf_0 17 rfl rfl)
theorem dX3_whichOf_18 : decode cX3_whichOf 18 = .ok (.iadd, 1) := dk_96 (dk_at dksX3_whichOf_0 18 rfl rfl)
theorem dX3_whichOf_19 : decode cX3_whichOf 19 = .ok (.istore 5, 2) := dk_54 5 (dk_at dksX3_whichOf_0 19 rfl rfl)
theorem dX3_whichOf_21 : decode cX3_whichOf 21 = .ok (.iload_n 2, 1) := dk_28 (dk_at dksX3_whichOf_0 21 rfl rfl)
theorem dX3_whichOf_22 : decode cX3_whichOf 22 = .ok (.bipush (-4), 2) := dk_16 252 (dk_at dksX3_whichOf_0 22 rfl rfl)
theorem dX3_whichOf_24 : decode cX3_whichOf 24 = .ok (.if_icmp .eq 35, 3) := dk_159 0 35 (dk_at dksX3_whichOf_1 0 rfl rfl)
theorem dX3_whichOf_27 : decode cX3_whichOf 27 = .ok (.iload 5, 2) := dk_21 5 (dk_at dksX3_whichOf_1 3 rfl rfl)
theorem dX3_whichOf_29 : decode cX3_whichOf 29 = .ok (.iload_n 1, 1) := dk_27 (dk_at dksX3_whichOf_1 5 rfl rfl)
theorem dX3_whichOf_30 : decode cX3_whichOf 30 = .ok (.if_icmp .ge 29, 3) := dk_162 0 29 (dk_at dksX3_whichOf_1 6 rfl rfl)
theorem dX3_whichOf_33 : decode cX3_whichOf 33 = .ok (.iload 4, 2) := dk_21 4 (dk_at dksX3_whichOf_1 9 rfl rfl)
theorem dX3_whichOf_35 : decode cX3_whichOf 35 = .ok (.aload_n 0, 1) := dk_42 (dk_at dksX3_whichOf_1 11 rfl rfl)
theorem dX3_whichOf_36 : decode cX3_whichOf 36 = .ok (.iload 5, 2) := dk_21 5 (dk_at dksX3_whichOf_1 12 rfl rfl)
theorem dX3_whichOf_38 : decode cX3_whichOf 38 = .ok (.invokevirtual 122, 3) := dk_182 0 122 (dk_at dksX3_whichOf_1 14 rfl rfl)
theorem dX3_whichOf_41 : decode cX3_whichOf 41 = .ok (.iload_n 3, 1) := dk_29 (dk_at dksX3_whichOf_1 17 rfl rfl)
theorem dX3_whichOf_42 : decode cX3_whichOf 42 = .ok (.if_icmp .ne 7, 3) := dk_160 0 7 (dk_at dksX3_whichOf_1 18 rfl rfl)
theorem dX3_whichOf_45 : decode cX3_whichOf 45 = .ok (.iconst 1, 1) := dk_4 (dk_at dksX3_whichOf_1 21 rfl rfl)
theorem dX3_whichOf_46 : decode cX3_whichOf 46 = .ok (.goto 4, 3) := dk_167 0 4 (dk_at dksX3_whichOf_2 0 rfl rfl)
theorem dX3_whichOf_49 : decode cX3_whichOf 49 = .ok (.iconst 0, 1) := dk_3 (dk_at dksX3_whichOf_2 3 rfl rfl)
theorem dX3_whichOf_50 : decode cX3_whichOf 50 = .ok (.iadd, 1) := dk_96 (dk_at dksX3_whichOf_2 4 rfl rfl)
theorem dX3_whichOf_51 : decode cX3_whichOf 51 = .ok (.istore 4, 2) := dk_54 4 (dk_at dksX3_whichOf_2 5 rfl rfl)
theorem dX3_whichOf_53 : decode cX3_whichOf 53 = .ok (.iinc 5 1, 3) := dk_132 5 1 (dk_at dksX3_whichOf_2 7 rfl rfl)
theorem dX3_whichOf_56 : decode cX3_whichOf 56 = .ok (.goto (-35), 3) := dk_167 255 221 (dk_at dksX3_whichOf_2 10 rfl rfl)
theorem dX3_whichOf_59 : decode cX3_whichOf 59 = .ok (.iload 4, 2) := dk_21 4 (dk_at dksX3_whichOf_2 13 rfl rfl)
theorem dX3_whichOf_61 : decode cX3_whichOf 61 = .ok (.ireturn, 1) := dk_172 (dk_at dksX3_whichOf_2 15 rfl rfl)
abbrev cX3_leavesOf : ByteArray := prog_7_method_39_code
def yX3_leavesOf : MethodName := ⟨RX3, "leavesOf", "(I)I"⟩
def dkwX3_leavesOf_1 : List UInt8 := [160, 0, 7, 4, 167, 0, 4, 3, 96, 61, 132, 3, 1, 167, 255, 225, 28, 172]
abbrev dktX3_leavesOf_1 : List UInt8 := dkwX3_leavesOf_1 ++ []
def dkwX3_leavesOf_0 : List UInt8 := [3, 61, 27, 62, 29, 27, 42, 27, 182, 0, 125, 96, 162, 0, 26, 28, 42, 29, 182, 0, 125, 4]
abbrev dktX3_leavesOf_0 : List UInt8 := dkwX3_leavesOf_0 ++ dktX3_leavesOf_1
theorem dksX3_leavesOf_0 : cX3_leavesOf.data.toList.drop 0 = dktX3_leavesOf_0 := by decide +kernel
theorem dksX3_leavesOf_1 : cX3_leavesOf.data.toList.drop 22 = dktX3_leavesOf_1 := dk_seg dksX3_leavesOf_0 22 rfl rfl
theorem dX3_leavesOf_0 : decode cX3_leavesOf 0 = .ok (.iconst 0, 1) := dk_3 (dk_at dksX3_leavesOf_0 0 rfl rfl)
theorem dX3_leavesOf_1 : decode cX3_leavesOf 1 = .ok (.istore_n 2, 1) := dk_61 (dk_at dksX3_leavesOf_0 1 rfl rfl)
theorem dX3_leavesOf_2 : decode cX3_leavesOf 2 = .ok (.iload_n 1, 1) := dk_27 (dk_at dksX3_leavesOf_0 2 rfl rfl)
theorem dX3_leavesOf_3 : decode cX3_leavesOf 3 = .ok (.istore_n 3, 1) := dk_62 (dk_at dksX3_leavesOf_0 3 rfl rfl)
theorem dX3_leavesOf_4 : decode cX3_leavesOf 4 = .ok (.iload_n 3, 1) := dk_29 (dk_at dksX3_leavesOf_0 4 rfl rfl)
theorem dX3_leavesOf_5 : decode cX3_leavesOf 5 = .ok (.iload_n 1, 1) := dk_27 (dk_at dksX3_leavesOf_0 5 rfl rfl)
theorem dX3_leavesOf_6 : decode cX3_leavesOf 6 = .ok (.aload_n 0, 1) := dk_42 (dk_at dksX3_leavesOf_0 6 rfl rfl)
theorem dX3_leavesOf_7 : decode cX3_leavesOf 7 = .ok (.iload_n 1, 1) := dk_27 (dk_at dksX3_leavesOf_0 7 rfl rfl)
theorem dX3_leavesOf_8 : decode cX3_leavesOf 8 = .ok (.invokevirtual 125, 3) := dk_182 0 125 (dk_at dksX3_leavesOf_0 8 rfl rfl)
theorem dX3_leavesOf_11 : decode cX3_leavesOf 11 = .ok (.iadd, 1) := dk_96 (dk_at dksX3_leavesOf_0 11 rfl rfl)
theorem dX3_leavesOf_12 : decode cX3_leavesOf 12 = .ok (.if_icmp .ge 26, 3) := dk_162 0 26 (dk_at dksX3_leavesOf_0 12 rfl rfl)
theorem dX3_leavesOf_15 : decode cX3_leavesOf 15 = .ok (.iload_n 2, 1) := dk_28 (dk_at dksX3_leavesOf_0 15 rfl rfl)
theorem dX3_leavesOf_16 : decode cX3_leavesOf 16 = .ok (.aload_n 0, 1) := dk_42 (dk_at dksX3_leavesOf_0 16 rfl rfl)
theorem dX3_leavesOf_17 : decode cX3_leavesOf 17 = .ok (.iload_n 3, 1) := dk_29 (dk_at dksX3_leavesOf_0 17 rfl rfl)
theorem dX3_leavesOf_18 : decode cX3_leavesOf 18 = .ok (.invokevirtual 125, 3) := dk_182 0 125 (dk_at dksX3_leavesOf_0 18 rfl rfl)
theorem dX3_leavesOf_21 : decode cX3_leavesOf 21 = .ok (.iconst 1, 1) := dk_4 (dk_at dksX3_leavesOf_0 21 rfl rfl)
theorem dX3_leavesOf_22 : decode cX3_leavesOf 22 = .ok (.if_icmp .ne 7, 3) := dk_160 0 7 (dk_at dksX3_leavesOf_1 0 rfl rfl)
theorem dX3_leavesOf_25 : decode cX3_leavesOf 25 = .ok (.iconst 1, 1) := dk_4 (dk_at dksX3_leavesOf_1 3 rfl rfl)
theorem dX3_leavesOf_26 : decode cX3_leavesOf 26 = .ok (.goto 4, 3) := dk_167 0 4 (dk_at dksX3_leavesOf_1 4 rfl rfl)
theorem dX3_leavesOf_29 : decode cX3_leavesOf 29 = .ok (.iconst 0, 1) := dk_3 (dk_at dksX3_leavesOf_1 7 rfl rfl)
theorem dX3_leavesOf_30 : decode cX3_leavesOf 30 = .ok (.iadd, 1) := dk_96 (dk_at dksX3_leavesOf_1 8 rfl rfl)
theorem dX3_leavesOf_31 : decode cX3_leavesOf 31 = .ok (.istore_n 2, 1) := dk_61 (dk_at dksX3_leavesOf_1 9 rfl rfl)
theorem dX3_leavesOf_32 : decode cX3_leavesOf 32 = .ok (.iinc 3 1, 3) := dk_132 3 1 (dk_at dksX3_leavesOf_1 10 rfl rfl)
theorem dX3_leavesOf_35 : decode cX3_leavesOf 35 = .ok (.goto (-31), 3) := dk_167 255 225 (dk_at dksX3_leavesOf_1 13 rfl rfl)
theorem dX3_leavesOf_38 : decode cX3_leavesOf 38 = .ok (.iload_n 2, 1) := dk_28 (dk_at dksX3_leavesOf_1 16 rfl rfl)
theorem dX3_leavesOf_39 : decode cX3_leavesOf 39 = .ok (.ireturn, 1) := dk_172 (dk_at dksX3_leavesOf_1 17 rfl rfl)
abbrev cX3_deepestOf : ByteArray := prog_7_method_40_code
def yX3_deepestOf : MethodName := ⟨RX3, "deepestOf", "(I)I"⟩
def dkwX3_deepestOf_1 : List UInt8 := [182, 0, 122, 164, 0, 7, 29, 167, 0, 4, 28, 61, 132, 3, 1, 167, 255, 223, 28, 172]
abbrev dktX3_deepestOf_1 : List UInt8 := dkwX3_deepestOf_1 ++ []
def dkwX3_deepestOf_0 : List UInt8 := [27, 61, 27, 62, 29, 27, 42, 27, 182, 0, 125, 96, 162, 0, 28, 42, 29, 182, 0, 122, 42, 28]
abbrev dktX3_deepestOf_0 : List UInt8 := dkwX3_deepestOf_0 ++ dktX3_deepestOf_1
theorem dksX3_deepestOf_0 : cX3_deepestOf.data.toList.drop 0 = dktX3_deepestOf_0 := by decide +kernel
theorem dksX3_deepestOf_1 : cX3_deepestOf.data.toList.drop 22 = dktX3_deepestOf_1 := dk_seg dksX3_deepestOf_0 22 rfl rfl
theorem dX3_deepestOf_0 : decode cX3_deepestOf 0 = .ok (.iload_n 1, 1) := dk_27 (dk_at dksX3_deepestOf_0 0 rfl rfl)
theorem dX3_deepestOf_1 : decode cX3_deepestOf 1 = .ok (.istore_n 2, 1) := dk_61 (dk_at dksX3_deepestOf_0 1 rfl rfl)
theorem dX3_deepestOf_2 : decode cX3_deepestOf 2 = .ok (.iload_n 1, 1) := dk_27 (dk_at dksX3_deepestOf_0 2 rfl rfl)
theorem dX3_deepestOf_3 : decode cX3_deepestOf 3 = .ok (.istore_n 3, 1) := dk_62 (dk_at dksX3_deepestOf_0 3 rfl rfl)
theorem dX3_deepestOf_4 : decode cX3_deepestOf 4 = .ok (.iload_n 3, 1) := dk_29 (dk_at dksX3_deepestOf_0 4 rfl rfl)
theorem dX3_deepestOf_5 : decode cX3_deepestOf 5 = .ok (.iload_n 1, 1) := dk_27 (dk_at dksX3_deepestOf_0 5 rfl rfl)
theorem dX3_deepestOf_6 : decode cX3_deepestOf 6 = .ok (.aload_n 0, 1) := dk_42 (dk_at dksX3_deepestOf_0 6 rfl rfl)
theorem dX3_deepestOf_7 : decode cX3_deepestOf 7 = .ok (.iload_n 1, 1) := dk_27 (dk_at dksX3_deepestOf_0 7 rfl rfl)
theorem dX3_deepestOf_8 : decode cX3_deepestOf 8 = .ok (.invokevirtual 125, 3) := dk_182 0 125 (dk_at dksX3_deepestOf_0 8 rfl rfl)
theorem dX3_deepestOf_11 : decode cX3_deepestOf 11 = .ok (.iadd, 1) := dk_96 (dk_at dksX3_deepestOf_0 11 rfl rfl)
theorem dX3_deepestOf_12 : decode cX3_deepestOf 12 = .ok (.if_icmp .ge 28, 3) := dk_162 0 28 (dk_at dksX3_deepestOf_0 12 rfl rfl)
theorem dX3_deepestOf_15 : decode cX3_deepestOf 15 = .ok (.aload_n 0, 1) := dk_42 (dk_at dksX3_deepestOf_0 15 rfl rfl)
theorem dX3_deepestOf_16 : decode cX3_deepestOf 16 = .ok (.iload_n 3, 1) := dk_29 (dk_at dksX3_deepestOf_0 16 rfl rfl)
theorem dX3_deepestOf_17 : decode cX3_deepestOf 17 = .ok (.invokevirtual 122, 3) := dk_182 0 122 (dk_at dksX3_deepestOf_0 17 rfl rfl)
theorem dX3_deepestOf_20 : decode cX3_deepestOf 20 = .ok (.aload_n 0, 1) := dk_42 (dk_at dksX3_deepestOf_0 20 rfl rfl)
theorem dX3_deepestOf_21 : decode cX3_deepestOf 21 = .ok (.iload_n 2, 1) := dk_28 (dk_at dksX3_deepestOf_0 21 rfl rfl)
theorem dX3_deepestOf_22 : decode cX3_deepestOf 22 = .ok (.invokevirtual 122, 3) := dk_182 0 122 (dk_at dksX3_deepestOf_1 0 rfl rfl)
theorem dX3_deepestOf_25 : decode cX3_deepestOf 25 = .ok (.if_icmp .le 7, 3) := dk_164 0 7 (dk_at dksX3_deepestOf_1 3 rfl rfl)
theorem dX3_deepestOf_28 : decode cX3_deepestOf 28 = .ok (.iload_n 3, 1) := dk_29 (dk_at dksX3_deepestOf_1 6 rfl rfl)
theorem dX3_deepestOf_29 : decode cX3_deepestOf 29 = .ok (.goto 4, 3) := dk_167 0 4 (dk_at dksX3_deepestOf_1 7 rfl rfl)
theorem dX3_deepestOf_32 : decode cX3_deepestOf 32 = .ok (.iload_n 2, 1) := dk_28 (dk_at dksX3_deepestOf_1 10 rfl rfl)
theorem dX3_deepestOf_33 : decode cX3_deepestOf 33 = .ok (.istore_n 2, 1) := dk_61 (dk_at dksX3_deepestOf_1 11 rfl rfl)
theorem dX3_deepestOf_34 : decode cX3_deepestOf 34 = .ok (.iinc 3 1, 3) := dk_132 3 1 (dk_at dksX3_deepestOf_1 12 rfl rfl)
theorem dX3_deepestOf_37 : decode cX3_deepestOf 37 = .ok (.goto (-33), 3) := dk_167 255 223 (dk_at dksX3_deepestOf_1 15 rfl rfl)
theorem dX3_deepestOf_40 : decode cX3_deepestOf 40 = .ok (.iload_n 2, 1) := dk_28 (dk_at dksX3_deepestOf_1 18 rfl rfl)
theorem dX3_deepestOf_41 : decode cX3_deepestOf 41 = .ok (.ireturn, 1) := dk_172 (dk_at dksX3_deepestOf_1 19 rfl rfl)
abbrev cX3_fromBelow : ByteArray := prog_7_method_41_code
def yX3_fromBelow : MethodName := ⟨RX3, "fromBelow", "(I)I"⟩
def dkwX3_fromBelow_0 : List UInt8 := [42, 42, 27, 182, 0, 99, 182, 0, 115, 61, 28, 42, 28, 182, 0, 137, 100, 172]
abbrev dktX3_fromBelow_0 : List UInt8 := dkwX3_fromBelow_0 ++ []
theorem dksX3_fromBelow_0 : cX3_fromBelow.data.toList.drop 0 = dktX3_fromBelow_0 := by decide +kernel
theorem dX3_fromBelow_0 : decode cX3_fromBelow 0 = .ok (.aload_n 0, 1) := dk_42 (dk_at dksX3_fromBelow_0 0 rfl rfl)
theorem dX3_fromBelow_1 : decode cX3_fromBelow 1 = .ok (.aload_n 0, 1) := dk_42 (dk_at dksX3_fromBelow_0 1 rfl rfl)
theorem dX3_fromBelow_2 : decode cX3_fromBelow 2 = .ok (.iload_n 1, 1) := dk_27 (dk_at dksX3_fromBelow_0 2 rfl rfl)
theorem dX3_fromBelow_3 : decode cX3_fromBelow 3 = .ok (.invokevirtual 99, 3) := dk_182 0 99 (dk_at dksX3_fromBelow_0 3 rfl rfl)
theorem dX3_fromBelow_6 : decode cX3_fromBelow 6 = .ok (.invokevirtual 115, 3) := dk_182 0 115 (dk_at dksX3_fromBelow_0 6 rfl rfl)
theorem dX3_fromBelow_9 : decode cX3_fromBelow 9 = .ok (.istore_n 2, 1) := dk_61 (dk_at dksX3_fromBelow_0 9 rfl rfl)
theorem dX3_fromBelow_10 : decode cX3_fromBelow 10 = .ok (.iload_n 2, 1) := dk_28 (dk_at dksX3_fromBelow_0 10 rfl rfl)
theorem dX3_fromBelow_11 : decode cX3_fromBelow 11 = .ok (.aload_n 0, 1) := dk_42 (dk_at dksX3_fromBelow_0 11 rfl rfl)
theorem dX3_fromBelow_12 : decode cX3_fromBelow 12 = .ok (.iload_n 2, 1) := dk_28 (dk_at dksX3_fromBelow_0 12 rfl rfl)
theorem dX3_fromBelow_13 : decode cX3_fromBelow 13 = .ok (.invokevirtual 137, 3) := dk_182 0 137 (dk_at dksX3_fromBelow_0 13 rfl rfl)
theorem dX3_fromBelow_16 : decode cX3_fromBelow 16 = .ok (.isub, 1) := dk_100 (dk_at dksX3_fromBelow_0 16 rfl rfl)
theorem dX3_fromBelow_17 : decode cX3_fromBelow 17 = .ok (.ireturn, 1) := dk_172 (dk_at dksX3_fromBelow_0 17 rfl rfl)
abbrev cX3_opensAt : ByteArray := prog_7_method_17_code
def yX3_opensAt : MethodName := ⟨RX3, "opensAt", "(I)I"⟩
def dkwX3_opensAt_0 : List UInt8 := [27, 42, 27, 182, 0, 96, 96, 5, 108, 172]
abbrev dktX3_opensAt_0 : List UInt8 := dkwX3_opensAt_0 ++ []
theorem dksX3_opensAt_0 : cX3_opensAt.data.toList.drop 0 = dktX3_opensAt_0 := by decide +kernel
theorem dX3_opensAt_0 : decode cX3_opensAt 0 = .ok (.iload_n 1, 1) := dk_27 (dk_at dksX3_opensAt_0 0 rfl rfl)
theorem dX3_opensAt_1 : decode cX3_opensAt 1 = .ok (.aload_n 0, 1) := dk_42 (dk_at dksX3_opensAt_0 1 rfl rfl)
theorem dX3_opensAt_2 : decode cX3_opensAt 2 = .ok (.iload_n 1, 1) := dk_27 (dk_at dksX3_opensAt_0 2 rfl rfl)
theorem dX3_opensAt_3 : decode cX3_opensAt 3 = .ok (.invokevirtual 96, 3) := dk_182 0 96 (dk_at dksX3_opensAt_0 3 rfl rfl)
theorem dX3_opensAt_6 : decode cX3_opensAt 6 = .ok (.iadd, 1) := dk_96 (dk_at dksX3_opensAt_0 6 rfl rfl)
theorem dX3_opensAt_7 : decode cX3_opensAt 7 = .ok (.iconst 2, 1) := dk_5 (dk_at dksX3_opensAt_0 7 rfl rfl)
theorem dX3_opensAt_8 : decode cX3_opensAt 8 = .ok (.idiv, 1) := dk_108 (dk_at dksX3_opensAt_0 8 rfl rfl)
theorem dX3_opensAt_9 : decode cX3_opensAt 9 = .ok (.ireturn, 1) := dk_172 (dk_at dksX3_opensAt_0 9 rfl rfl)
abbrev cX3_child : ByteArray := prog_7_method_44_code
def yX3_child : MethodName := ⟨RX3, "child", "(II)I"⟩
def dkwX3_child_0 : List UInt8 := [42, 27, 182, 0, 140, 153, 0, 7, 28, 156, 0, 7, 2, 167, 0, 9, 42, 27, 28, 182, 0, 134, 172]
abbrev dktX3_child_0 : List UInt8 := dkwX3_child_0 ++ []
theorem dksX3_child_0 : cX3_child.data.toList.drop 0 = dktX3_child_0 := by decide +kernel
theorem dX3_child_0 : decode cX3_child 0 = .ok (.aload_n 0, 1) := dk_42 (dk_at dksX3_child_0 0 rfl rfl)
theorem dX3_child_1 : decode cX3_child 1 = .ok (.iload_n 1, 1) := dk_27 (dk_at dksX3_child_0 1 rfl rfl)
theorem dX3_child_2 : decode cX3_child 2 = .ok (.invokevirtual 140, 3) := dk_182 0 140 (dk_at dksX3_child_0 2 rfl rfl)
theorem dX3_child_5 : decode cX3_child 5 = .ok (.ifCond .eq 7, 3) := dk_153 0 7 (dk_at dksX3_child_0 5 rfl rfl)
theorem dX3_child_8 : decode cX3_child 8 = .ok (.iload_n 2, 1) := dk_28 (dk_at dksX3_child_0 8 rfl rfl)
theorem dX3_child_9 : decode cX3_child 9 = .ok (.ifCond .ge 7, 3) := dk_156 0 7 (dk_at dksX3_child_0 9 rfl rfl)
theorem dX3_child_12 : decode cX3_child 12 = .ok (.iconst (-1), 1) := dk_2 (dk_at dksX3_child_0 12 rfl rfl)
theorem dX3_child_13 : decode cX3_child 13 = .ok (.goto 9, 3) := dk_167 0 9 (dk_at dksX3_child_0 13 rfl rfl)
theorem dX3_child_16 : decode cX3_child 16 = .ok (.aload_n 0, 1) := dk_42 (dk_at dksX3_child_0 16 rfl rfl)
theorem dX3_child_17 : decode cX3_child 17 = .ok (.iload_n 1, 1) := dk_27 (dk_at dksX3_child_0 17 rfl rfl)
theorem dX3_child_18 : decode cX3_child 18 = .ok (.iload_n 2, 1) := dk_28 (dk_at dksX3_child_0 18 rfl rfl)
theorem dX3_child_19 : decode cX3_child 19 = .ok (.invokevirtual 134, 3) := dk_182 0 134 (dk_at dksX3_child_0 19 rfl rfl)
theorem dX3_child_22 : decode cX3_child 22 = .ok (.ireturn, 1) := dk_172 (dk_at dksX3_child_0 22 rfl rfl)
abbrev cX3_below : ByteArray := prog_7_method_45_code
def yX3_below : MethodName := ⟨RX3, "below", "(I)I"⟩
def dkwX3_below_1 : List UInt8 := [160, 0, 5, 28, 172, 132, 2, 1, 167, 255, 226, 2, 172]
abbrev dktX3_below_1 : List UInt8 := dkwX3_below_1 ++ []
def dkwX3_below_0 : List UInt8 := [3, 61, 28, 42, 182, 0, 89, 162, 0, 28, 42, 27, 182, 0, 140, 153, 0, 20, 42, 28, 182, 0, 158, 27]
abbrev dktX3_below_0 : List UInt8 := dkwX3_below_0 ++ dktX3_below_1
theorem dksX3_below_0 : cX3_below.data.toList.drop 0 = dktX3_below_0 := by decide +kernel
theorem dksX3_below_1 : cX3_below.data.toList.drop 24 = dktX3_below_1 := dk_seg dksX3_below_0 24 rfl rfl
theorem dX3_below_0 : decode cX3_below 0 = .ok (.iconst 0, 1) := dk_3 (dk_at dksX3_below_0 0 rfl rfl)
theorem dX3_below_1 : decode cX3_below 1 = .ok (.istore_n 2, 1) := dk_61 (dk_at dksX3_below_0 1 rfl rfl)
theorem dX3_below_2 : decode cX3_below 2 = .ok (.iload_n 2, 1) := dk_28 (dk_at dksX3_below_0 2 rfl rfl)
theorem dX3_below_3 : decode cX3_below 3 = .ok (.aload_n 0, 1) := dk_42 (dk_at dksX3_below_0 3 rfl rfl)
theorem dX3_below_4 : decode cX3_below 4 = .ok (.invokevirtual 89, 3) := dk_182 0 89 (dk_at dksX3_below_0 4 rfl rfl)
theorem dX3_below_7 : decode cX3_below 7 = .ok (.if_icmp .ge 28, 3) := dk_162 0 28 (dk_at dksX3_below_0 7 rfl rfl)
theorem dX3_below_10 : decode cX3_below 10 = .ok (.aload_n 0, 1) := dk_42 (dk_at dksX3_below_0 10 rfl rfl)
theorem dX3_below_11 : decode cX3_below 11 = .ok (.iload_n 1, 1) := dk_27 (dk_at dksX3_below_0 11 rfl rfl)
theorem dX3_below_12 : decode cX3_below 12 = .ok (.invokevirtual 140, 3) := dk_182 0 140 (dk_at dksX3_below_0 12 rfl rfl)
theorem dX3_below_15 : decode cX3_below 15 = .ok (.ifCond .eq 20, 3) := dk_153 0 20 (dk_at dksX3_below_0 15 rfl rfl)
theorem dX3_below_18 : decode cX3_below 18 = .ok (.aload_n 0, 1) := dk_42 (dk_at dksX3_below_0 18 rfl rfl)
theorem dX3_below_19 : decode cX3_below 19 = .ok (.iload_n 2, 1) := dk_28 (dk_at dksX3_below_0 19 rfl rfl)
theorem dX3_below_20 : decode cX3_below 20 = .ok (.invokevirtual 158, 3) := dk_182 0 158 (dk_at dksX3_below_0 20 rfl rfl)
theorem dX3_below_23 : decode cX3_below 23 = .ok (.iload_n 1, 1) := dk_27 (dk_at dksX3_below_0 23 rfl rfl)
theorem dX3_below_24 : decode cX3_below 24 = .ok (.if_icmp .ne 5, 3) := dk_160 0 5 (dk_at dksX3_below_1 0 rfl rfl)
theorem dX3_below_27 : decode cX3_below 27 = .ok (.iload_n 2, 1) := dk_28 (dk_at dksX3_below_1 3 rfl rfl)
theorem dX3_below_28 : decode cX3_below 28 = .ok (.ireturn, 1) := dk_172 (dk_at dksX3_below_1 4 rfl rfl)
theorem dX3_below_29 : decode cX3_below 29 = .ok (.iinc 2 1, 3) := dk_132 2 1 (dk_at dksX3_below_1 5 rfl rfl)
theorem dX3_below_32 : decode cX3_below 32 = .ok (.goto (-30), 3) := dk_167 255 226 (dk_at dksX3_below_1 8 rfl rfl)
theorem dX3_below_35 : decode cX3_below 35 = .ok (.iconst (-1), 1) := dk_2 (dk_at dksX3_below_1 11 rfl rfl)
theorem dX3_below_36 : decode cX3_below 36 = .ok (.ireturn, 1) := dk_172 (dk_at dksX3_below_1 12 rfl rfl)
abbrev cX3_up : ByteArray := prog_7_method_46_code
def yX3_up : MethodName := ⟨RX3, "up", "(II)I"⟩
def dkwX3_up_0 : List UInt8 := [42, 27, 182, 0, 140, 153, 0, 7, 28, 156, 0, 7, 2, 167, 0, 9, 42, 27, 28, 182, 0, 128, 172]
abbrev dktX3_up_0 : List UInt8 := dkwX3_up_0 ++ []
theorem dksX3_up_0 : cX3_up.data.toList.drop 0 = dktX3_up_0 := by decide +kernel
theorem dX3_up_0 : decode cX3_up 0 = .ok (.aload_n 0, 1) := dk_42 (dk_at dksX3_up_0 0 rfl rfl)
theorem dX3_up_1 : decode cX3_up 1 = .ok (.iload_n 1, 1) := dk_27 (dk_at dksX3_up_0 1 rfl rfl)
theorem dX3_up_2 : decode cX3_up 2 = .ok (.invokevirtual 140, 3) := dk_182 0 140 (dk_at dksX3_up_0 2 rfl rfl)
theorem dX3_up_5 : decode cX3_up 5 = .ok (.ifCond .eq 7, 3) := dk_153 0 7 (dk_at dksX3_up_0 5 rfl rfl)
theorem dX3_up_8 : decode cX3_up 8 = .ok (.iload_n 2, 1) := dk_28 (dk_at dksX3_up_0 8 rfl rfl)
theorem dX3_up_9 : decode cX3_up 9 = .ok (.ifCond .ge 7, 3) := dk_156 0 7 (dk_at dksX3_up_0 9 rfl rfl)
theorem dX3_up_12 : decode cX3_up 12 = .ok (.iconst (-1), 1) := dk_2 (dk_at dksX3_up_0 12 rfl rfl)
theorem dX3_up_13 : decode cX3_up 13 = .ok (.goto 9, 3) := dk_167 0 9 (dk_at dksX3_up_0 13 rfl rfl)
theorem dX3_up_16 : decode cX3_up 16 = .ok (.aload_n 0, 1) := dk_42 (dk_at dksX3_up_0 16 rfl rfl)
theorem dX3_up_17 : decode cX3_up 17 = .ok (.iload_n 1, 1) := dk_27 (dk_at dksX3_up_0 17 rfl rfl)
theorem dX3_up_18 : decode cX3_up 18 = .ok (.iload_n 2, 1) := dk_28 (dk_at dksX3_up_0 18 rfl rfl)
theorem dX3_up_19 : decode cX3_up 19 = .ok (.invokevirtual 128, 3) := dk_182 0 128 (dk_at dksX3_up_0 19 rfl rfl)
theorem dX3_up_22 : decode cX3_up 22 = .ok (.ireturn, 1) := dk_172 (dk_at dksX3_up_0 22 rfl rfl)
abbrev cX3_meet : ByteArray := prog_7_method_49_code
def yX3_meet : MethodName := ⟨RX3, "meet", "(II)I"⟩
def dkwX3_meet_1 : List UInt8 := [167, 0, 4, 2, 172]
abbrev dktX3_meet_1 : List UInt8 := dkwX3_meet_1 ++ []
def dkwX3_meet_0 : List UInt8 := [42, 27, 182, 0, 140, 153, 0, 20, 42, 28, 182, 0, 140, 153, 0, 12, 42, 27, 28, 182, 0, 164]
abbrev dktX3_meet_0 : List UInt8 := dkwX3_meet_0 ++ dktX3_meet_1
theorem dksX3_meet_0 : cX3_meet.data.toList.drop 0 = dktX3_meet_0 := by decide +kernel
theorem dksX3_meet_1 : cX3_meet.data.toList.drop 22 = dktX3_meet_1 := dk_seg dksX3_meet_0 22 rfl rfl
theorem dX3_meet_0 : decode cX3_meet 0 = .ok (.aload_n 0, 1) := dk_42 (dk_at dksX3_meet_0 0 rfl rfl)
theorem dX3_meet_1 : decode cX3_meet 1 = .ok (.iload_n 1, 1) := dk_27 (dk_at dksX3_meet_0 1 rfl rfl)
theorem dX3_meet_2 : decode cX3_meet 2 = .ok (.invokevirtual 140, 3) := dk_182 0 140 (dk_at dksX3_meet_0 2 rfl rfl)
theorem dX3_meet_5 : decode cX3_meet 5 = .ok (.ifCond .eq 20, 3) := dk_153 0 20 (dk_at dksX3_meet_0 5 rfl rfl)
theorem dX3_meet_8 : decode cX3_meet 8 = .ok (.aload_n 0, 1) := dk_42 (dk_at dksX3_meet_0 8 rfl rfl)
theorem dX3_meet_9 : decode cX3_meet 9 = .ok (.iload_n 2, 1) := dk_28 (dk_at dksX3_meet_0 9 rfl rfl)
theorem dX3_meet_10 : decode cX3_meet 10 = .ok (.invokevirtual 140, 3) := dk_182 0 140 (dk_at dksX3_meet_0 10 rfl rfl)
theorem dX3_meet_13 : decode cX3_meet 13 = .ok (.ifCond .eq 12, 3) := dk_153 0 12 (dk_at dksX3_meet_0 13 rfl rfl)
theorem dX3_meet_16 : decode cX3_meet 16 = .ok (.aload_n 0, 1) := dk_42 (dk_at dksX3_meet_0 16 rfl rfl)
theorem dX3_meet_17 : decode cX3_meet 17 = .ok (.iload_n 1, 1) := dk_27 (dk_at dksX3_meet_0 17 rfl rfl)
theorem dX3_meet_18 : decode cX3_meet 18 = .ok (.iload_n 2, 1) := dk_28 (dk_at dksX3_meet_0 18 rfl rfl)
theorem dX3_meet_19 : decode cX3_meet 19 = .ok (.invokevirtual 164, 3) := dk_182 0 164 (dk_at dksX3_meet_0 19 rfl rfl)
theorem dX3_meet_22 : decode cX3_meet 22 = .ok (.goto 4, 3) := dk_167 0 4 (dk_at dksX3_meet_1 0 rfl rfl)
theorem dX3_meet_25 : decode cX3_meet 25 = .ok (.iconst (-1), 1) := dk_2 (dk_at dksX3_meet_1 3 rfl rfl)
theorem dX3_meet_26 : decode cX3_meet 26 = .ok (.ireturn, 1) := dk_172 (dk_at dksX3_meet_1 4 rfl rfl)
abbrev cX3_meetOf : ByteArray := prog_7_method_48_code
def yX3_meetOf : MethodName := ⟨RX3, "meetOf", "(II)I"⟩
def dkwX3_meetOf_0 : List UInt8 := [27, 62, 42, 29, 28, 182, 0, 161, 154, 0, 13, 42, 29, 4, 182, 0, 128, 62, 167, 255, 240, 29, 172]
abbrev dktX3_meetOf_0 : List UInt8 := dkwX3_meetOf_0 ++ []
theorem dksX3_meetOf_0 : cX3_meetOf.data.toList.drop 0 = dktX3_meetOf_0 := by decide +kernel
theorem dX3_meetOf_0 : decode cX3_meetOf 0 = .ok (.iload_n 1, 1) := dk_27 (dk_at dksX3_meetOf_0 0 rfl rfl)
theorem dX3_meetOf_1 : decode cX3_meetOf 1 = .ok (.istore_n 3, 1) := dk_62 (dk_at dksX3_meetOf_0 1 rfl rfl)
theorem dX3_meetOf_2 : decode cX3_meetOf 2 = .ok (.aload_n 0, 1) := dk_42 (dk_at dksX3_meetOf_0 2 rfl rfl)
theorem dX3_meetOf_3 : decode cX3_meetOf 3 = .ok (.iload_n 3, 1) := dk_29 (dk_at dksX3_meetOf_0 3 rfl rfl)
theorem dX3_meetOf_4 : decode cX3_meetOf 4 = .ok (.iload_n 2, 1) := dk_28 (dk_at dksX3_meetOf_0 4 rfl rfl)
theorem dX3_meetOf_5 : decode cX3_meetOf 5 = .ok (.invokevirtual 161, 3) := dk_182 0 161 (dk_at dksX3_meetOf_0 5 rfl rfl)
theorem dX3_meetOf_8 : decode cX3_meetOf 8 = .ok (.ifCond .ne 13, 3) := dk_154 0 13 (dk_at dksX3_meetOf_0 8 rfl rfl)
theorem dX3_meetOf_11 : decode cX3_meetOf 11 = .ok (.aload_n 0, 1) := dk_42 (dk_at dksX3_meetOf_0 11 rfl rfl)
theorem dX3_meetOf_12 : decode cX3_meetOf 12 = .ok (.iload_n 3, 1) := dk_29 (dk_at dksX3_meetOf_0 12 rfl rfl)
theorem dX3_meetOf_13 : decode cX3_meetOf 13 = .ok (.iconst 1, 1) := dk_4 (dk_at dksX3_meetOf_0 13 rfl rfl)
theorem dX3_meetOf_14 : decode cX3_meetOf 14 = .ok (.invokevirtual 128, 3) := dk_182 0 128 (dk_at dksX3_meetOf_0 14 rfl rfl)
theorem dX3_meetOf_17 : decode cX3_meetOf 17 = .ok (.istore_n 3, 1) := dk_62 (dk_at dksX3_meetOf_0 17 rfl rfl)
theorem dX3_meetOf_18 : decode cX3_meetOf 18 = .ok (.goto (-16), 3) := dk_167 255 240 (dk_at dksX3_meetOf_0 18 rfl rfl)
theorem dX3_meetOf_21 : decode cX3_meetOf 21 = .ok (.iload_n 3, 1) := dk_29 (dk_at dksX3_meetOf_0 21 rfl rfl)
theorem dX3_meetOf_22 : decode cX3_meetOf 22 = .ok (.ireturn, 1) := dk_172 (dk_at dksX3_meetOf_0 22 rfl rfl)
abbrev cX3_isAbove : ByteArray := prog_7_method_47_code
def yX3_isAbove : MethodName := ⟨RX3, "isAbove", "(II)Z"⟩
def dkwX3_isAbove_0 : List UInt8 := [28, 27, 161, 0, 18, 28, 27, 42, 27, 182, 0, 125, 96, 162, 0, 7, 4, 167, 0, 4, 3, 172]
abbrev dktX3_isAbove_0 : List UInt8 := dkwX3_isAbove_0 ++ []
theorem dksX3_isAbove_0 : cX3_isAbove.data.toList.drop 0 = dktX3_isAbove_0 := by decide +kernel
theorem dX3_isAbove_0 : decode cX3_isAbove 0 = .ok (.iload_n 2, 1) := dk_28 (dk_at dksX3_isAbove_0 0 rfl rfl)
theorem dX3_isAbove_1 : decode cX3_isAbove 1 = .ok (.iload_n 1, 1) := dk_27 (dk_at dksX3_isAbove_0 1 rfl rfl)
theorem dX3_isAbove_2 : decode cX3_isAbove 2 = .ok (.if_icmp .lt 18, 3) := dk_161 0 18 (dk_at dksX3_isAbove_0 2 rfl rfl)
theorem dX3_isAbove_5 : decode cX3_isAbove 5 = .ok (.iload_n 2, 1) := dk_28 (dk_at dksX3_isAbove_0 5 rfl rfl)
theorem dX3_isAbove_6 : decode cX3_isAbove 6 = .ok (.iload_n 1, 1) := dk_27 (dk_at dksX3_isAbove_0 6 rfl rfl)
theorem dX3_isAbove_7 : decode cX3_isAbove 7 = .ok (.aload_n 0, 1) := dk_42 (dk_at dksX3_isAbove_0 7 rfl rfl)
theorem dX3_isAbove_8 : decode cX3_isAbove 8 = .ok (.iload_n 1, 1) := dk_27 (dk_at dksX3_isAbove_0 8 rfl rfl)
theorem dX3_isAbove_9 : decode cX3_isAbove 9 = .ok (.invokevirtual 125, 3) := dk_182 0 125 (dk_at dksX3_isAbove_0 9 rfl rfl)
theorem dX3_isAbove_12 : decode cX3_isAbove 12 = .ok (.iadd, 1) := dk_96 (dk_at dksX3_isAbove_0 12 rfl rfl)
theorem dX3_isAbove_13 : decode cX3_isAbove 13 = .ok (.if_icmp .ge 7, 3) := dk_162 0 7 (dk_at dksX3_isAbove_0 13 rfl rfl)
theorem dX3_isAbove_16 : decode cX3_isAbove 16 = .ok (.iconst 1, 1) := dk_4 (dk_at dksX3_isAbove_0 16 rfl rfl)
theorem dX3_isAbove_17 : decode cX3_isAbove 17 = .ok (.goto 4, 3) := dk_167 0 4 (dk_at dksX3_isAbove_0 17 rfl rfl)
theorem dX3_isAbove_20 : decode cX3_isAbove 20 = .ok (.iconst 0, 1) := dk_3 (dk_at dksX3_isAbove_0 20 rfl rfl)
theorem dX3_isAbove_21 : decode cX3_isAbove 21 = .ok (.ireturn, 1) := dk_172 (dk_at dksX3_isAbove_0 21 rfl rfl)
abbrev cX3_way : ByteArray := prog_7_method_50_code
def yX3_way : MethodName := ⟨RX3, "way", "(II)I"⟩
def dkwX3_way_1 : List UInt8 := [182, 0, 122, 96, 5, 42, 42, 27, 28, 182, 0, 164, 182, 0, 122, 104, 100, 167, 0, 4, 2, 172]
abbrev dktX3_way_1 : List UInt8 := dkwX3_way_1 ++ []
def dkwX3_way_0 : List UInt8 := [42, 27, 182, 0, 140, 153, 0, 38, 42, 28, 182, 0, 140, 153, 0, 30, 42, 27, 182, 0, 122, 42, 28]
abbrev dktX3_way_0 : List UInt8 := dkwX3_way_0 ++ dktX3_way_1
theorem dksX3_way_0 : cX3_way.data.toList.drop 0 = dktX3_way_0 := by decide +kernel
theorem dksX3_way_1 : cX3_way.data.toList.drop 23 = dktX3_way_1 := dk_seg dksX3_way_0 23 rfl rfl
theorem dX3_way_0 : decode cX3_way 0 = .ok (.aload_n 0, 1) := dk_42 (dk_at dksX3_way_0 0 rfl rfl)
theorem dX3_way_1 : decode cX3_way 1 = .ok (.iload_n 1, 1) := dk_27 (dk_at dksX3_way_0 1 rfl rfl)
theorem dX3_way_2 : decode cX3_way 2 = .ok (.invokevirtual 140, 3) := dk_182 0 140 (dk_at dksX3_way_0 2 rfl rfl)
theorem dX3_way_5 : decode cX3_way 5 = .ok (.ifCond .eq 38, 3) := dk_153 0 38 (dk_at dksX3_way_0 5 rfl rfl)
theorem dX3_way_8 : decode cX3_way 8 = .ok (.aload_n 0, 1) := dk_42 (dk_at dksX3_way_0 8 rfl rfl)
theorem dX3_way_9 : decode cX3_way 9 = .ok (.iload_n 2, 1) := dk_28 (dk_at dksX3_way_0 9 rfl rfl)
theorem dX3_way_10 : decode cX3_way 10 = .ok (.invokevirtual 140, 3) := dk_182 0 140 (dk_at dksX3_way_0 10 rfl rfl)
theorem dX3_way_13 : decode cX3_way 13 = .ok (.ifCond .eq 30, 3) := dk_153 0 30 (dk_at dksX3_way_0 13 rfl rfl)
theorem dX3_way_16 : decode cX3_way 16 = .ok (.aload_n 0, 1) := dk_42 (dk_at dksX3_way_0 16 rfl rfl)
theorem dX3_way_17 : decode cX3_way 17 = .ok (.iload_n 1, 1) := dk_27 (dk_at dksX3_way_0 17 rfl rfl)
theorem dX3_way_18 : decode cX3_way 18 = .ok (.invokevirtual 122, 3) := dk_182 0 122 (dk_at dksX3_way_0 18 rfl rfl)
theorem dX3_way_21 : decode cX3_way 21 = .ok (.aload_n 0, 1) := dk_42 (dk_at dksX3_way_0 21 rfl rfl)
theorem dX3_way_22 : decode cX3_way 22 = .ok (.iload_n 2, 1) := dk_28 (dk_at dksX3_way_0 22 rfl rfl)
theorem dX3_way_23 : decode cX3_way 23 = .ok (.invokevirtual 122, 3) := dk_182 0 122 (dk_at dksX3_way_1 0 rfl rfl)
theorem dX3_way_26 : decode cX3_way 26 = .ok (.iadd, 1) := dk_96 (dk_at dksX3_way_1 3 rfl rfl)
theorem dX3_way_27 : decode cX3_way 27 = .ok (.iconst 2, 1) := dk_5 (dk_at dksX3_way_1 4 rfl rfl)
theorem dX3_way_28 : decode cX3_way 28 = .ok (.aload_n 0, 1) := dk_42 (dk_at dksX3_way_1 5 rfl rfl)
theorem dX3_way_29 : decode cX3_way 29 = .ok (.aload_n 0, 1) := dk_42 (dk_at dksX3_way_1 6 rfl rfl)
theorem dX3_way_30 : decode cX3_way 30 = .ok (.iload_n 1, 1) := dk_27 (dk_at dksX3_way_1 7 rfl rfl)
theorem dX3_way_31 : decode cX3_way 31 = .ok (.iload_n 2, 1) := dk_28 (dk_at dksX3_way_1 8 rfl rfl)
theorem dX3_way_32 : decode cX3_way 32 = .ok (.invokevirtual 164, 3) := dk_182 0 164 (dk_at dksX3_way_1 9 rfl rfl)
theorem dX3_way_35 : decode cX3_way 35 = .ok (.invokevirtual 122, 3) := dk_182 0 122 (dk_at dksX3_way_1 12 rfl rfl)
theorem dX3_way_38 : decode cX3_way 38 = .ok (.imul, 1) := dk_104 (dk_at dksX3_way_1 15 rfl rfl)
theorem dX3_way_39 : decode cX3_way 39 = .ok (.isub, 1) := dk_100 (dk_at dksX3_way_1 16 rfl rfl)
theorem dX3_way_40 : decode cX3_way 40 = .ok (.goto 4, 3) := dk_167 0 4 (dk_at dksX3_way_1 17 rfl rfl)
theorem dX3_way_43 : decode cX3_way 43 = .ok (.iconst (-1), 1) := dk_2 (dk_at dksX3_way_1 20 rfl rfl)
theorem dX3_way_44 : decode cX3_way 44 = .ok (.ireturn, 1) := dk_172 (dk_at dksX3_way_1 21 rfl rfl)
abbrev cX3_level : ByteArray := prog_7_method_51_code
def yX3_level : MethodName := ⟨RX3, "level", "(II)I"⟩
def dkwX3_level_4 : List UInt8 := [21, 5, 172]
abbrev dktX3_level_4 : List UInt8 := dkwX3_level_4 ++ []
def dkwX3_level_3 : List UInt8 := [132, 6, 1, 167, 255, 214, 28, 154, 0, 7, 29, 167, 0, 15, 28, 4, 160, 0, 8, 21, 4, 167, 0, 5]
abbrev dktX3_level_3 : List UInt8 := dkwX3_level_3 ++ dktX3_level_4
def dkwX3_level_2 : List UInt8 := [160, 0, 23, 29, 16, 252, 160, 0, 8, 21, 6, 167, 0, 4, 29, 62, 21, 6, 54, 4, 132, 5, 1]
abbrev dktX3_level_2 : List UInt8 := dkwX3_level_2 ++ dktX3_level_3
def dkwX3_level_1 : List UInt8 := [54, 4, 3, 54, 5, 3, 54, 6, 21, 6, 42, 182, 0, 89, 162, 0, 39, 42, 21, 6, 182, 0, 122, 27]
abbrev dktX3_level_1 : List UInt8 := dkwX3_level_1 ++ dktX3_level_2
def dkwX3_level_0 : List UInt8 := [27, 155, 0, 15, 28, 133, 9, 20, 0, 109, 184, 0, 41, 154, 0, 5, 2, 172, 16, 252, 62, 16, 252]
abbrev dktX3_level_0 : List UInt8 := dkwX3_level_0 ++ dktX3_level_1
theorem dksX3_level_0 : cX3_level.data.toList.drop 0 = dktX3_level_0 := by decide +kernel
theorem dksX3_level_1 : cX3_level.data.toList.drop 23 = dktX3_level_1 := dk_seg dksX3_level_0 23 rfl rfl
theorem dksX3_level_2 : cX3_level.data.toList.drop 47 = dktX3_level_2 := dk_seg dksX3_level_1 24 rfl rfl
theorem dksX3_level_3 : cX3_level.data.toList.drop 70 = dktX3_level_3 := dk_seg dksX3_level_2 23 rfl rfl
theorem dksX3_level_4 : cX3_level.data.toList.drop 94 = dktX3_level_4 := dk_seg dksX3_level_3 24 rfl rfl
theorem dX3_level_0 : decode cX3_level 0 = .ok (.iload_n 1, 1) := dk_27 (dk_at dksX3_level_0 0 rfl rfl)
theorem dX3_level_1 : decode cX3_level 1 = .ok (.ifCond .lt 15, 3) := dk_155 0 15 (dk_at dksX3_level_0 1 rfl rfl)
theorem dX3_level_4 : decode cX3_level 4 = .ok (.iload_n 2, 1) := dk_28 (dk_at dksX3_level_0 4 rfl rfl)
theorem dX3_level_5 : decode cX3_level 5 = .ok (.i2l, 1) := dk_133 (dk_at dksX3_level_0 5 rfl rfl)
theorem dX3_level_6 : decode cX3_level 6 = .ok (.lconst 0, 1) := dk_9 (dk_at dksX3_level_0 6 rfl rfl)
theorem dX3_level_7 : decode cX3_level 7 = .ok (.ldc2_w 109, 3) := dk_20 0 109 (dk_at dksX3_level_0 7 rfl rfl)
theorem dX3_level_10 : decode cX3_level 10 = .ok (.invokestatic 41, 3) := dk_184 0 41 (dk_at dksX3_level_0 10 rfl rfl)
theorem dX3_level_13 : decode cX3_level 13 = .ok (.ifCond .ne 5, 3) := dk_154 0 5 (dk_at dksX3_level_0 13 rfl rfl)
theorem dX3_level_16 : decode cX3_level 16 = .ok (.iconst (-1), 1) := dk_2 (dk_at dksX3_level_0 16 rfl rfl)
theorem dX3_level_17 : decode cX3_level 17 = .ok (.ireturn, 1) := dk_172 (dk_at dksX3_level_0 17 rfl rfl)
theorem dX3_level_18 : decode cX3_level 18 = .ok (.bipush (-4), 2) := dk_16 252 (dk_at dksX3_level_0 18 rfl rfl)
theorem dX3_level_20 : decode cX3_level 20 = .ok (.istore_n 3, 1) := dk_62 (dk_at dksX3_level_0 20 rfl rfl)
theorem dX3_level_21 : decode cX3_level 21 = .ok (.bipush (-4), 2) := dk_16 252 (dk_at dksX3_level_0 21 rfl rfl)
theorem dX3_level_23 : decode cX3_level 23 = .ok (.istore 4, 2) := dk_54 4 (dk_at dksX3_level_1 0 rfl rfl)
theorem dX3_level_25 : decode cX3_level 25 = .ok (.iconst 0, 1) := dk_3 (dk_at dksX3_level_1 2 rfl rfl)
theorem dX3_level_26 : decode cX3_level 26 = .ok (.istore 5, 2) := dk_54 5 (dk_at dksX3_level_1 3 rfl rfl)
theorem dX3_level_28 : decode cX3_level 28 = .ok (.iconst 0, 1) := dk_3 (dk_at dksX3_level_1 5 rfl rfl)
theorem dX3_level_29 : decode cX3_level 29 = .ok (.istore 6, 2) := dk_54 6 (dk_at dksX3_level_1 6 rfl rfl)
theorem dX3_level_31 : decode cX3_level 31 = .ok (.iload 6, 2) := dk_21 6 (dk_at dksX3_level_1 8 rfl rfl)
theorem dX3_level_33 : decode cX3_level 33 = .ok (.aload_n 0, 1) := dk_42 (dk_at dksX3_level_1 10 rfl rfl)
theorem dX3_level_34 : decode cX3_level 34 = .ok (.invokevirtual 89, 3) := dk_182 0 89 (dk_at dksX3_level_1 11 rfl rfl)
theorem dX3_level_37 : decode cX3_level 37 = .ok (.if_icmp .ge 39, 3) := dk_162 0 39 (dk_at dksX3_level_1 14 rfl rfl)
theorem dX3_level_40 : decode cX3_level 40 = .ok (.aload_n 0, 1) := dk_42 (dk_at dksX3_level_1 17 rfl rfl)
theorem dX3_level_41 : decode cX3_level 41 = .ok (.iload 6, 2) := dk_21 6 (dk_at dksX3_level_1 18 rfl rfl)
theorem dX3_level_43 : decode cX3_level 43 = .ok (.invokevirtual 122, 3) := dk_182 0 122 (dk_at dksX3_level_1 20 rfl rfl)
theorem dX3_level_46 : decode cX3_level 46 = .ok (.iload_n 1, 1) := dk_27 (dk_at dksX3_level_1 23 rfl rfl)
theorem dX3_level_47 : decode cX3_level 47 = .ok (.if_icmp .ne 23, 3) := dk_160 0 23 (dk_at dksX3_level_2 0 rfl rfl)
theorem dX3_level_50 : decode cX3_level 50 = .ok (.iload_n 3, 1) := dk_29 (dk_at dksX3_level_2 3 rfl rfl)
theorem dX3_level_51 : decode cX3_level 51 = .ok (.bipush (-4), 2) := dk_16 252 (dk_at dksX3_level_2 4 rfl rfl)
theorem dX3_level_53 : decode cX3_level 53 = .ok (.if_icmp .ne 8, 3) := dk_160 0 8 (dk_at dksX3_level_2 6 rfl rfl)
theorem dX3_level_56 : decode cX3_level 56 = .ok (.iload 6, 2) := dk_21 6 (dk_at dksX3_level_2 9 rfl rfl)
theorem dX3_level_58 : decode cX3_level 58 = .ok (.goto 4, 3) := dk_167 0 4 (dk_at dksX3_level_2 11 rfl rfl)
theorem dX3_level_61 : decode cX3_level 61 = .ok (.iload_n 3, 1) := dk_29 (dk_at dksX3_level_2 14 rfl rfl)
theorem dX3_level_62 : decode cX3_level 62 = .ok (.istore_n 3, 1) := dk_62 (dk_at dksX3_level_2 15 rfl rfl)
theorem dX3_level_63 : decode cX3_level 63 = .ok (.iload 6, 2) := dk_21 6 (dk_at dksX3_level_2 16 rfl rfl)
theorem dX3_level_65 : decode cX3_level 65 = .ok (.istore 4, 2) := dk_54 4 (dk_at dksX3_level_2 18 rfl rfl)
theorem dX3_level_67 : decode cX3_level 67 = .ok (.iinc 5 1, 3) := dk_132 5 1 (dk_at dksX3_level_2 20 rfl rfl)
theorem dX3_level_70 : decode cX3_level 70 = .ok (.iinc 6 1, 3) := dk_132 6 1 (dk_at dksX3_level_3 0 rfl rfl)
theorem dX3_level_73 : decode cX3_level 73 = .ok (.goto (-42), 3) := dk_167 255 214 (dk_at dksX3_level_3 3 rfl rfl)
theorem dX3_level_76 : decode cX3_level 76 = .ok (.iload_n 2, 1) := dk_28 (dk_at dksX3_level_3 6 rfl rfl)
theorem dX3_level_77 : decode cX3_level 77 = .ok (.ifCond .ne 7, 3) := dk_154 0 7 (dk_at dksX3_level_3 7 rfl rfl)
theorem dX3_level_80 : decode cX3_level 80 = .ok (.iload_n 3, 1) := dk_29 (dk_at dksX3_level_3 10 rfl rfl)
theorem dX3_level_81 : decode cX3_level 81 = .ok (.goto 15, 3) := dk_167 0 15 (dk_at dksX3_level_3 11 rfl rfl)
theorem dX3_level_84 : decode cX3_level 84 = .ok (.iload_n 2, 1) := dk_28 (dk_at dksX3_level_3 14 rfl rfl)
theorem dX3_level_85 : decode cX3_level 85 = .ok (.iconst 1, 1) := dk_4 (dk_at dksX3_level_3 15 rfl rfl)
theorem dX3_level_86 : decode cX3_level 86 = .ok (.if_icmp .ne 8, 3) := dk_160 0 8 (dk_at dksX3_level_3 16 rfl rfl)
theorem dX3_level_89 : decode cX3_level 89 = .ok (.iload 4, 2) := dk_21 4 (dk_at dksX3_level_3 19 rfl rfl)
theorem dX3_level_91 : decode cX3_level 91 = .ok (.goto 5, 3) := dk_167 0 5 (dk_at dksX3_level_3 21 rfl rfl)
theorem dX3_level_94 : decode cX3_level 94 = .ok (.iload 5, 2) := dk_21 5 (dk_at dksX3_level_4 0 rfl rfl)
theorem dX3_level_96 : decode cX3_level 96 = .ok (.ireturn, 1) := dk_172 (dk_at dksX3_level_4 2 rfl rfl)
abbrev cX3_beside : ByteArray := prog_7_method_52_code
def yX3_beside : MethodName := ⟨RX3, "beside", "(II)I"⟩
def dkwX3_beside_3 : List UInt8 := [182, 0, 140, 153, 0, 8, 21, 4, 167, 0, 5, 16, 252, 172]
abbrev dktX3_beside_3 : List UInt8 := dkwX3_beside_3 ++ []
def dkwX3_beside_2 : List UInt8 := [182, 0, 122, 42, 27, 182, 0, 122, 159, 0, 12, 21, 4, 29, 96, 54, 4, 167, 255, 227, 42, 21, 4]
abbrev dktX3_beside_2 : List UInt8 := dkwX3_beside_2 ++ dktX3_beside_3
def dkwX3_beside_1 : List UInt8 := [4, 167, 0, 4, 2, 62, 27, 29, 96, 54, 4, 42, 21, 4, 182, 0, 140, 153, 0, 26, 42, 21, 4]
abbrev dktX3_beside_1 : List UInt8 := dkwX3_beside_1 ++ dktX3_beside_2
def dkwX3_beside_0 : List UInt8 := [42, 27, 182, 0, 140, 153, 0, 13, 28, 133, 9, 10, 184, 0, 41, 154, 0, 5, 2, 172, 28, 154, 0, 7]
abbrev dktX3_beside_0 : List UInt8 := dkwX3_beside_0 ++ dktX3_beside_1
theorem dksX3_beside_0 : cX3_beside.data.toList.drop 0 = dktX3_beside_0 := by decide +kernel
theorem dksX3_beside_1 : cX3_beside.data.toList.drop 24 = dktX3_beside_1 := dk_seg dksX3_beside_0 24 rfl rfl
theorem dksX3_beside_2 : cX3_beside.data.toList.drop 47 = dktX3_beside_2 := dk_seg dksX3_beside_1 23 rfl rfl
theorem dksX3_beside_3 : cX3_beside.data.toList.drop 70 = dktX3_beside_3 := dk_seg dksX3_beside_2 23 rfl rfl
theorem dX3_beside_0 : decode cX3_beside 0 = .ok (.aload_n 0, 1) := dk_42 (dk_at dksX3_beside_0 0 rfl rfl)
theorem dX3_beside_1 : decode cX3_beside 1 = .ok (.iload_n 1, 1) := dk_27 (dk_at dksX3_beside_0 1 rfl rfl)
theorem dX3_beside_2 : decode cX3_beside 2 = .ok (.invokevirtual 140, 3) := dk_182 0 140 (dk_at dksX3_beside_0 2 rfl rfl)
theorem dX3_beside_5 : decode cX3_beside 5 = .ok (.ifCond .eq 13, 3) := dk_153 0 13 (dk_at dksX3_beside_0 5 rfl rfl)
theorem dX3_beside_8 : decode cX3_beside 8 = .ok (.iload_n 2, 1) := dk_28 (dk_at dksX3_beside_0 8 rfl rfl)
theorem dX3_beside_9 : decode cX3_beside 9 = .ok (.i2l, 1) := dk_133 (dk_at dksX3_beside_0 9 rfl rfl)
theorem dX3_beside_10 : decode cX3_beside 10 = .ok (.lconst 0, 1) := dk_9 (dk_at dksX3_beside_0 10 rfl rfl)
theorem dX3_beside_11 : decode cX3_beside 11 = .ok (.lconst 1, 1) := dk_10 (dk_at dksX3_beside_0 11 rfl rfl)
theorem dX3_beside_12 : decode cX3_beside 12 = .ok (.invokestatic 41, 3) := dk_184 0 41 (dk_at dksX3_beside_0 12 rfl rfl)
theorem dX3_beside_15 : decode cX3_beside 15 = .ok (.ifCond .ne 5, 3) := dk_154 0 5 (dk_at dksX3_beside_0 15 rfl rfl)
theorem dX3_beside_18 : decode cX3_beside 18 = .ok (.iconst (-1), 1) := dk_2 (dk_at dksX3_beside_0 18 rfl rfl)
theorem dX3_beside_19 : decode cX3_beside 19 = .ok (.ireturn, 1) := dk_172 (dk_at dksX3_beside_0 19 rfl rfl)
theorem dX3_beside_20 : decode cX3_beside 20 = .ok (.iload_n 2, 1) := dk_28 (dk_at dksX3_beside_0 20 rfl rfl)
theorem dX3_beside_21 : decode cX3_beside 21 = .ok (.ifCond .ne 7, 3) := dk_154 0 7 (dk_at dksX3_beside_0 21 rfl rfl)
theorem dX3_beside_24 : decode cX3_beside 24 = .ok (.iconst 1, 1) := dk_4 (dk_at dksX3_beside_1 0 rfl rfl)
theorem dX3_beside_25 : decode cX3_beside 25 = .ok (.goto 4, 3) := dk_167 0 4 (dk_at dksX3_beside_1 1 rfl rfl)
theorem dX3_beside_28 : decode cX3_beside 28 = .ok (.iconst (-1), 1) := dk_2 (dk_at dksX3_beside_1 4 rfl rfl)
theorem dX3_beside_29 : decode cX3_beside 29 = .ok (.istore_n 3, 1) := dk_62 (dk_at dksX3_beside_1 5 rfl rfl)
theorem dX3_beside_30 : decode cX3_beside 30 = .ok (.iload_n 1, 1) := dk_27 (dk_at dksX3_beside_1 6 rfl rfl)
theorem dX3_beside_31 : decode cX3_beside 31 = .ok (.iload_n 3, 1) := dk_29 (dk_at dksX3_beside_1 7 rfl rfl)
theorem dX3_beside_32 : decode cX3_beside 32 = .ok (.iadd, 1) := dk_96 (dk_at dksX3_beside_1 8 rfl rfl)
theorem dX3_beside_33 : decode cX3_beside 33 = .ok (.istore 4, 2) := dk_54 4 (dk_at dksX3_beside_1 9 rfl rfl)
theorem dX3_beside_35 : decode cX3_beside 35 = .ok (.aload_n 0, 1) := dk_42 (dk_at dksX3_beside_1 11 rfl rfl)
theorem dX3_beside_36 : decode cX3_beside 36 = .ok (.iload 4, 2) := dk_21 4 (dk_at dksX3_beside_1 12 rfl rfl)
theorem dX3_beside_38 : decode cX3_beside 38 = .ok (.invokevirtual 140, 3) := dk_182 0 140 (dk_at dksX3_beside_1 14 rfl rfl)
theorem dX3_beside_41 : decode cX3_beside 41 = .ok (.ifCond .eq 26, 3) := dk_153 0 26 (dk_at dksX3_beside_1 17 rfl rfl)
theorem dX3_beside_44 : decode cX3_beside 44 = .ok (.aload_n 0, 1) := dk_42 (dk_at dksX3_beside_1 20 rfl rfl)
theorem dX3_beside_45 : decode cX3_beside 45 = .ok (.iload 4, 2) := dk_21 4 (dk_at dksX3_beside_1 21 rfl rfl)
theorem dX3_beside_47 : decode cX3_beside 47 = .ok (.invokevirtual 122, 3) := dk_182 0 122 (dk_at dksX3_beside_2 0 rfl rfl)
theorem dX3_beside_50 : decode cX3_beside 50 = .ok (.aload_n 0, 1) := dk_42 (dk_at dksX3_beside_2 3 rfl rfl)
theorem dX3_beside_51 : decode cX3_beside 51 = .ok (.iload_n 1, 1) := dk_27 (dk_at dksX3_beside_2 4 rfl rfl)
theorem dX3_beside_52 : decode cX3_beside 52 = .ok (.invokevirtual 122, 3) := dk_182 0 122 (dk_at dksX3_beside_2 5 rfl rfl)
theorem dX3_beside_55 : decode cX3_beside 55 = .ok (.if_icmp .eq 12, 3) := dk_159 0 12 (dk_at dksX3_beside_2 8 rfl rfl)
theorem dX3_beside_58 : decode cX3_beside 58 = .ok (.iload 4, 2) := dk_21 4 (dk_at dksX3_beside_2 11 rfl rfl)
theorem dX3_beside_60 : decode cX3_beside 60 = .ok (.iload_n 3, 1) := dk_29 (dk_at dksX3_beside_2 13 rfl rfl)
theorem dX3_beside_61 : decode cX3_beside 61 = .ok (.iadd, 1) := dk_96 (dk_at dksX3_beside_2 14 rfl rfl)
theorem dX3_beside_62 : decode cX3_beside 62 = .ok (.istore 4, 2) := dk_54 4 (dk_at dksX3_beside_2 15 rfl rfl)
theorem dX3_beside_64 : decode cX3_beside 64 = .ok (.goto (-29), 3) := dk_167 255 227 (dk_at dksX3_beside_2 17 rfl rfl)
theorem dX3_beside_67 : decode cX3_beside 67 = .ok (.aload_n 0, 1) := dk_42 (dk_at dksX3_beside_2 20 rfl rfl)
theorem dX3_beside_68 : decode cX3_beside 68 = .ok (.iload 4, 2) := dk_21 4 (dk_at dksX3_beside_2 21 rfl rfl)
theorem dX3_beside_70 : decode cX3_beside 70 = .ok (.invokevirtual 140, 3) := dk_182 0 140 (dk_at dksX3_beside_3 0 rfl rfl)
theorem dX3_beside_73 : decode cX3_beside 73 = .ok (.ifCond .eq 8, 3) := dk_153 0 8 (dk_at dksX3_beside_3 3 rfl rfl)
theorem dX3_beside_76 : decode cX3_beside 76 = .ok (.iload 4, 2) := dk_21 4 (dk_at dksX3_beside_3 6 rfl rfl)
theorem dX3_beside_78 : decode cX3_beside 78 = .ok (.goto 5, 3) := dk_167 0 5 (dk_at dksX3_beside_3 8 rfl rfl)
theorem dX3_beside_81 : decode cX3_beside 81 = .ok (.bipush (-4), 2) := dk_16 252 (dk_at dksX3_beside_3 11 rfl rfl)
theorem dX3_beside_83 : decode cX3_beside 83 = .ok (.ireturn, 1) := dk_172 (dk_at dksX3_beside_3 13 rfl rfl)
abbrev cX3_deepest : ByteArray := prog_7_method_53_code
def yX3_deepest : MethodName := ⟨RX3, "deepest", "(I)I"⟩
def dkwX3_deepest_0 : List UInt8 := [42, 27, 182, 0, 140, 153, 0, 11, 42, 27, 182, 0, 155, 167, 0, 4, 2, 172]
abbrev dktX3_deepest_0 : List UInt8 := dkwX3_deepest_0 ++ []
theorem dksX3_deepest_0 : cX3_deepest.data.toList.drop 0 = dktX3_deepest_0 := by decide +kernel
theorem dX3_deepest_0 : decode cX3_deepest 0 = .ok (.aload_n 0, 1) := dk_42 (dk_at dksX3_deepest_0 0 rfl rfl)
theorem dX3_deepest_1 : decode cX3_deepest 1 = .ok (.iload_n 1, 1) := dk_27 (dk_at dksX3_deepest_0 1 rfl rfl)
theorem dX3_deepest_2 : decode cX3_deepest 2 = .ok (.invokevirtual 140, 3) := dk_182 0 140 (dk_at dksX3_deepest_0 2 rfl rfl)
theorem dX3_deepest_5 : decode cX3_deepest 5 = .ok (.ifCond .eq 11, 3) := dk_153 0 11 (dk_at dksX3_deepest_0 5 rfl rfl)
theorem dX3_deepest_8 : decode cX3_deepest 8 = .ok (.aload_n 0, 1) := dk_42 (dk_at dksX3_deepest_0 8 rfl rfl)
theorem dX3_deepest_9 : decode cX3_deepest 9 = .ok (.iload_n 1, 1) := dk_27 (dk_at dksX3_deepest_0 9 rfl rfl)
theorem dX3_deepest_10 : decode cX3_deepest 10 = .ok (.invokevirtual 155, 3) := dk_182 0 155 (dk_at dksX3_deepest_0 10 rfl rfl)
theorem dX3_deepest_13 : decode cX3_deepest 13 = .ok (.goto 4, 3) := dk_167 0 4 (dk_at dksX3_deepest_0 13 rfl rfl)
theorem dX3_deepest_16 : decode cX3_deepest 16 = .ok (.iconst (-1), 1) := dk_2 (dk_at dksX3_deepest_0 16 rfl rfl)
theorem dX3_deepest_17 : decode cX3_deepest 17 = .ok (.ireturn, 1) := dk_172 (dk_at dksX3_deepest_0 17 rfl rfl)
abbrev cX3_alike : ByteArray := prog_7_method_54_code
def yX3_alike : MethodName := ⟨RX3, "alike", "(II)I"⟩
def dkwX3_alike_4 : List UInt8 := [167, 0, 4, 3, 62, 132, 6, 1, 167, 255, 208, 29, 153, 0, 7, 4, 167, 0, 4, 3, 172]
abbrev dktX3_alike_4 : List UInt8 := dkwX3_alike_4 ++ []
def dkwX3_alike_3 : List UInt8 := [42, 180, 0, 7, 21, 4, 21, 6, 96, 46, 42, 180, 0, 7, 21, 5, 21, 6, 96, 46, 160, 0, 7, 4]
abbrev dktX3_alike_3 : List UInt8 := dkwX3_alike_3 ++ dktX3_alike_4
def dkwX3_alike_2 : List UInt8 := [182, 0, 99, 54, 5, 3, 54, 6, 29, 153, 0, 50, 21, 6, 5, 42, 27, 182, 0, 125, 104, 162, 0, 38]
abbrev dktX3_alike_2 : List UInt8 := dkwX3_alike_2 ++ dktX3_alike_3
def dkwX3_alike_1 : List UInt8 := [28, 182, 0, 125, 160, 0, 7, 4, 167, 0, 4, 3, 62, 42, 27, 182, 0, 99, 54, 4, 42, 28]
abbrev dktX3_alike_1 : List UInt8 := dkwX3_alike_1 ++ dktX3_alike_2
def dkwX3_alike_0 : List UInt8 := [42, 27, 182, 0, 140, 153, 0, 11, 42, 28, 182, 0, 140, 154, 0, 5, 2, 172, 42, 27, 182, 0, 125, 42]
abbrev dktX3_alike_0 : List UInt8 := dkwX3_alike_0 ++ dktX3_alike_1
theorem dksX3_alike_0 : cX3_alike.data.toList.drop 0 = dktX3_alike_0 := by decide +kernel
theorem dksX3_alike_1 : cX3_alike.data.toList.drop 24 = dktX3_alike_1 := dk_seg dksX3_alike_0 24 rfl rfl
theorem dksX3_alike_2 : cX3_alike.data.toList.drop 46 = dktX3_alike_2 := dk_seg dksX3_alike_1 22 rfl rfl
theorem dksX3_alike_3 : cX3_alike.data.toList.drop 70 = dktX3_alike_3 := dk_seg dksX3_alike_2 24 rfl rfl
theorem dksX3_alike_4 : cX3_alike.data.toList.drop 94 = dktX3_alike_4 := dk_seg dksX3_alike_3 24 rfl rfl
theorem dX3_alike_0 : decode cX3_alike 0 = .ok (.aload_n 0, 1) := dk_42 (dk_at dksX3_alike_0 0 rfl rfl)
theorem dX3_alike_1 : decode cX3_alike 1 = .ok (.iload_n 1, 1) := dk_27 (dk_at dksX3_alike_0 1 rfl rfl)
theorem dX3_alike_2 : decode cX3_alike 2 = .ok (.invokevirtual 140, 3) := dk_182 0 140 (dk_at dksX3_alike_0 2 rfl rfl)
theorem dX3_alike_5 : decode cX3_alike 5 = .ok (.ifCond .eq 11, 3) := dk_153 0 11 (dk_at dksX3_alike_0 5 rfl rfl)
theorem dX3_alike_8 : decode cX3_alike 8 = .ok (.aload_n 0, 1) := dk_42 (dk_at dksX3_alike_0 8 rfl rfl)
theorem dX3_alike_9 : decode cX3_alike 9 = .ok (.iload_n 2, 1) := dk_28 (dk_at dksX3_alike_0 9 rfl rfl)
theorem dX3_alike_10 : decode cX3_alike 10 = .ok (.invokevirtual 140, 3) := dk_182 0 140 (dk_at dksX3_alike_0 10 rfl rfl)
theorem dX3_alike_13 : decode cX3_alike 13 = .ok (.ifCond .ne 5, 3) := dk_154 0 5 (dk_at dksX3_alike_0 13 rfl rfl)
theorem dX3_alike_16 : decode cX3_alike 16 = .ok (.iconst (-1), 1) := dk_2 (dk_at dksX3_alike_0 16 rfl rfl)
theorem dX3_alike_17 : decode cX3_alike 17 = .ok (.ireturn, 1) := dk_172 (dk_at dksX3_alike_0 17 rfl rfl)
theorem dX3_alike_18 : decode cX3_alike 18 = .ok (.aload_n 0, 1) := dk_42 (dk_at dksX3_alike_0 18 rfl rfl)
theorem dX3_alike_19 : decode cX3_alike 19 = .ok (.iload_n 1, 1) := dk_27 (dk_at dksX3_alike_0 19 rfl rfl)
theorem dX3_alike_20 : decode cX3_alike 20 = .ok (.invokevirtual 125, 3) := dk_182 0 125 (dk_at dksX3_alike_0 20 rfl rfl)
theorem dX3_alike_23 : decode cX3_alike 23 = .ok (.aload_n 0, 1) := dk_42 (dk_at dksX3_alike_0 23 rfl rfl)
theorem dX3_alike_24 : decode cX3_alike 24 = .ok (.iload_n 2, 1) := dk_28 (dk_at dksX3_alike_1 0 rfl rfl)
theorem dX3_alike_25 : decode cX3_alike 25 = .ok (.invokevirtual 125, 3) := dk_182 0 125 (dk_at dksX3_alike_1 1 rfl rfl)
theorem dX3_alike_28 : decode cX3_alike 28 = .ok (.if_icmp .ne 7, 3) := dk_160 0 7 (dk_at dksX3_alike_1 4 rfl rfl)
theorem dX3_alike_31 : decode cX3_alike 31 = .ok (.iconst 1, 1) := dk_4 (dk_at dksX3_alike_1 7 rfl rfl)
theorem dX3_alike_32 : decode cX3_alike 32 = .ok (.goto 4, 3) := dk_167 0 4 (dk_at dksX3_alike_1 8 rfl rfl)
theorem dX3_alike_35 : decode cX3_alike 35 = .ok (.iconst 0, 1) := dk_3 (dk_at dksX3_alike_1 11 rfl rfl)
theorem dX3_alike_36 : decode cX3_alike 36 = .ok (.istore_n 3, 1) := dk_62 (dk_at dksX3_alike_1 12 rfl rfl)
theorem dX3_alike_37 : decode cX3_alike 37 = .ok (.aload_n 0, 1) := dk_42 (dk_at dksX3_alike_1 13 rfl rfl)
theorem dX3_alike_38 : decode cX3_alike 38 = .ok (.iload_n 1, 1) := dk_27 (dk_at dksX3_alike_1 14 rfl rfl)
theorem dX3_alike_39 : decode cX3_alike 39 = .ok (.invokevirtual 99, 3) := dk_182 0 99 (dk_at dksX3_alike_1 15 rfl rfl)
theorem dX3_alike_42 : decode cX3_alike 42 = .ok (.istore 4, 2) := dk_54 4 (dk_at dksX3_alike_1 18 rfl rfl)
theorem dX3_alike_44 : decode cX3_alike 44 = .ok (.aload_n 0, 1) := dk_42 (dk_at dksX3_alike_1 20 rfl rfl)
theorem dX3_alike_45 : decode cX3_alike 45 = .ok (.iload_n 2, 1) := dk_28 (dk_at dksX3_alike_1 21 rfl rfl)
theorem dX3_alike_46 : decode cX3_alike 46 = .ok (.invokevirtual 99, 3) := dk_182 0 99 (dk_at dksX3_alike_2 0 rfl rfl)
theorem dX3_alike_49 : decode cX3_alike 49 = .ok (.istore 5, 2) := dk_54 5 (dk_at dksX3_alike_2 3 rfl rfl)
theorem dX3_alike_51 : decode cX3_alike 51 = .ok (.iconst 0, 1) := dk_3 (dk_at dksX3_alike_2 5 rfl rfl)
theorem dX3_alike_52 : decode cX3_alike 52 = .ok (.istore 6, 2) := dk_54 6 (dk_at dksX3_alike_2 6 rfl rfl)
theorem dX3_alike_54 : decode cX3_alike 54 = .ok (.iload_n 3, 1) := dk_29 (dk_at dksX3_alike_2 8 rfl rfl)
theorem dX3_alike_55 : decode cX3_alike 55 = .ok (.ifCond .eq 50, 3) := dk_153 0 50 (dk_at dksX3_alike_2 9 rfl rfl)
theorem dX3_alike_58 : decode cX3_alike 58 = .ok (.iload 6, 2) := dk_21 6 (dk_at dksX3_alike_2 12 rfl rfl)
theorem dX3_alike_60 : decode cX3_alike 60 = .ok (.iconst 2, 1) := dk_5 (dk_at dksX3_alike_2 14 rfl rfl)
theorem dX3_alike_61 : decode cX3_alike 61 = .ok (.aload_n 0, 1) := dk_42 (dk_at dksX3_alike_2 15 rfl rfl)
theorem dX3_alike_62 : decode cX3_alike 62 = .ok (.iload_n 1, 1) := dk_27 (dk_at dksX3_alike_2 16 rfl rfl)
theorem dX3_alike_63 : decode cX3_alike 63 = .ok (.invokevirtual 125, 3) := dk_182 0 125 (dk_at dksX3_alike_2 17 rfl rfl)
theorem dX3_alike_66 : decode cX3_alike 66 = .ok (.imul, 1) := dk_104 (dk_at dksX3_alike_2 20 rfl rfl)
theorem dX3_alike_67 : decode cX3_alike 67 = .ok (.if_icmp .ge 38, 3) := dk_162 0 38 (dk_at dksX3_alike_2 21 rfl rfl)
theorem dX3_alike_70 : decode cX3_alike 70 = .ok (.aload_n 0, 1) := dk_42 (dk_at dksX3_alike_3 0 rfl rfl)
theorem dX3_alike_71 : decode cX3_alike 71 = .ok (.getfield 7, 3) := dk_180 0 7 (dk_at dksX3_alike_3 1 rfl rfl)
theorem dX3_alike_74 : decode cX3_alike 74 = .ok (.iload 4, 2) := dk_21 4 (dk_at dksX3_alike_3 4 rfl rfl)
theorem dX3_alike_76 : decode cX3_alike 76 = .ok (.iload 6, 2) := dk_21 6 (dk_at dksX3_alike_3 6 rfl rfl)
theorem dX3_alike_78 : decode cX3_alike 78 = .ok (.iadd, 1) := dk_96 (dk_at dksX3_alike_3 8 rfl rfl)
theorem dX3_alike_79 : decode cX3_alike 79 = .ok (.iaload, 1) := dk_46 (dk_at dksX3_alike_3 9 rfl rfl)
theorem dX3_alike_80 : decode cX3_alike 80 = .ok (.aload_n 0, 1) := dk_42 (dk_at dksX3_alike_3 10 rfl rfl)
theorem dX3_alike_81 : decode cX3_alike 81 = .ok (.getfield 7, 3) := dk_180 0 7 (dk_at dksX3_alike_3 11 rfl rfl)
theorem dX3_alike_84 : decode cX3_alike 84 = .ok (.iload 5, 2) := dk_21 5 (dk_at dksX3_alike_3 14 rfl rfl)
theorem dX3_alike_86 : decode cX3_alike 86 = .ok (.iload 6, 2) := dk_21 6 (dk_at dksX3_alike_3 16 rfl rfl)
theorem dX3_alike_88 : decode cX3_alike 88 = .ok (.iadd, 1) := dk_96 (dk_at dksX3_alike_3 18 rfl rfl)
theorem dX3_alike_89 : decode cX3_alike 89 = .ok (.iaload, 1) := dk_46 (dk_at dksX3_alike_3 19 rfl rfl)
theorem dX3_alike_90 : decode cX3_alike 90 = .ok (.if_icmp .ne 7, 3) := dk_160 0 7 (dk_at dksX3_alike_3 20 rfl rfl)
theorem dX3_alike_93 : decode cX3_alike 93 = .ok (.iconst 1, 1) := dk_4 (dk_at dksX3_alike_3 23 rfl rfl)
theorem dX3_alike_94 : decode cX3_alike 94 = .ok (.goto 4, 3) := dk_167 0 4 (dk_at dksX3_alike_4 0 rfl rfl)
theorem dX3_alike_97 : decode cX3_alike 97 = .ok (.iconst 0, 1) := dk_3 (dk_at dksX3_alike_4 3 rfl rfl)
theorem dX3_alike_98 : decode cX3_alike 98 = .ok (.istore_n 3, 1) := dk_62 (dk_at dksX3_alike_4 4 rfl rfl)
theorem dX3_alike_99 : decode cX3_alike 99 = .ok (.iinc 6 1, 3) := dk_132 6 1 (dk_at dksX3_alike_4 5 rfl rfl)
theorem dX3_alike_102 : decode cX3_alike 102 = .ok (.goto (-48), 3) := dk_167 255 208 (dk_at dksX3_alike_4 8 rfl rfl)
theorem dX3_alike_105 : decode cX3_alike 105 = .ok (.iload_n 3, 1) := dk_29 (dk_at dksX3_alike_4 11 rfl rfl)
theorem dX3_alike_106 : decode cX3_alike 106 = .ok (.ifCond .eq 7, 3) := dk_153 0 7 (dk_at dksX3_alike_4 12 rfl rfl)
theorem dX3_alike_109 : decode cX3_alike 109 = .ok (.iconst 1, 1) := dk_4 (dk_at dksX3_alike_4 15 rfl rfl)
theorem dX3_alike_110 : decode cX3_alike 110 = .ok (.goto 4, 3) := dk_167 0 4 (dk_at dksX3_alike_4 16 rfl rfl)
theorem dX3_alike_113 : decode cX3_alike 113 = .ok (.iconst 0, 1) := dk_3 (dk_at dksX3_alike_4 19 rfl rfl)
theorem dX3_alike_114 : decode cX3_alike 114 = .ok (.ireturn, 1) := dk_172 (dk_at dksX3_alike_4 20 rfl rfl)
abbrev cX3_weight : ByteArray := prog_7_method_55_code
def yX3_weight : MethodName := ⟨RX3, "weight", "(I)I"⟩
def dkwX3_weight_0 : List UInt8 := [42, 27, 182, 0, 140, 153, 0, 16, 42, 180, 0, 7, 17, 0, 128, 27, 96, 46, 167, 0, 4, 2, 172]
abbrev dktX3_weight_0 : List UInt8 := dkwX3_weight_0 ++ []
theorem dksX3_weight_0 : cX3_weight.data.toList.drop 0 = dktX3_weight_0 := by decide +kernel
theorem dX3_weight_0 : decode cX3_weight 0 = .ok (.aload_n 0, 1) := dk_42 (dk_at dksX3_weight_0 0 rfl rfl)
theorem dX3_weight_1 : decode cX3_weight 1 = .ok (.iload_n 1, 1) := dk_27 (dk_at dksX3_weight_0 1 rfl rfl)
theorem dX3_weight_2 : decode cX3_weight 2 = .ok (.invokevirtual 140, 3) := dk_182 0 140 (dk_at dksX3_weight_0 2 rfl rfl)
theorem dX3_weight_5 : decode cX3_weight 5 = .ok (.ifCond .eq 16, 3) := dk_153 0 16 (dk_at dksX3_weight_0 5 rfl rfl)
theorem dX3_weight_8 : decode cX3_weight 8 = .ok (.aload_n 0, 1) := dk_42 (dk_at dksX3_weight_0 8 rfl rfl)
theorem dX3_weight_9 : decode cX3_weight 9 = .ok (.getfield 7, 3) := dk_180 0 7 (dk_at dksX3_weight_0 9 rfl rfl)
theorem dX3_weight_12 : decode cX3_weight 12 = .ok (.sipush 128, 3) := dk_17 0 128 (dk_at dksX3_weight_0 12 rfl rfl)
theorem dX3_weight_15 : decode cX3_weight 15 = .ok (.iload_n 1, 1) := dk_27 (dk_at dksX3_weight_0 15 rfl rfl)
theorem dX3_weight_16 : decode cX3_weight 16 = .ok (.iadd, 1) := dk_96 (dk_at dksX3_weight_0 16 rfl rfl)
theorem dX3_weight_17 : decode cX3_weight 17 = .ok (.iaload, 1) := dk_46 (dk_at dksX3_weight_0 17 rfl rfl)
theorem dX3_weight_18 : decode cX3_weight 18 = .ok (.goto 4, 3) := dk_167 0 4 (dk_at dksX3_weight_0 18 rfl rfl)
theorem dX3_weight_21 : decode cX3_weight 21 = .ok (.iconst (-1), 1) := dk_2 (dk_at dksX3_weight_0 21 rfl rfl)
theorem dX3_weight_22 : decode cX3_weight 22 = .ok (.ireturn, 1) := dk_172 (dk_at dksX3_weight_0 22 rfl rfl)
abbrev cX3_set : ByteArray := prog_7_method_56_code
def yX3_set : MethodName := ⟨RX3, "set", "(II)I"⟩
def dkwX3_set_1 : List UInt8 := [62, 42, 180, 0, 7, 17, 0, 128, 27, 96, 28, 79, 29, 172]
abbrev dktX3_set_1 : List UInt8 := dkwX3_set_1 ++ []
def dkwX3_set_0 : List UInt8 := [42, 27, 182, 0, 140, 153, 0, 7, 28, 156, 0, 5, 2, 172, 42, 180, 0, 7, 17, 0, 128, 27, 96, 46]
abbrev dktX3_set_0 : List UInt8 := dkwX3_set_0 ++ dktX3_set_1
theorem dksX3_set_0 : cX3_set.data.toList.drop 0 = dktX3_set_0 := by decide +kernel
theorem dksX3_set_1 : cX3_set.data.toList.drop 24 = dktX3_set_1 := dk_seg dksX3_set_0 24 rfl rfl
theorem dX3_set_0 : decode cX3_set 0 = .ok (.aload_n 0, 1) := dk_42 (dk_at dksX3_set_0 0 rfl rfl)
theorem dX3_set_1 : decode cX3_set 1 = .ok (.iload_n 1, 1) := dk_27 (dk_at dksX3_set_0 1 rfl rfl)
theorem dX3_set_2 : decode cX3_set 2 = .ok (.invokevirtual 140, 3) := dk_182 0 140 (dk_at dksX3_set_0 2 rfl rfl)
theorem dX3_set_5 : decode cX3_set 5 = .ok (.ifCond .eq 7, 3) := dk_153 0 7 (dk_at dksX3_set_0 5 rfl rfl)
theorem dX3_set_8 : decode cX3_set 8 = .ok (.iload_n 2, 1) := dk_28 (dk_at dksX3_set_0 8 rfl rfl)
theorem dX3_set_9 : decode cX3_set 9 = .ok (.ifCond .ge 5, 3) := dk_156 0 5 (dk_at dksX3_set_0 9 rfl rfl)
theorem dX3_set_12 : decode cX3_set 12 = .ok (.iconst (-1), 1) := dk_2 (dk_at dksX3_set_0 12 rfl rfl)
theorem dX3_set_13 : decode cX3_set 13 = .ok (.ireturn, 1) := dk_172 (dk_at dksX3_set_0 13 rfl rfl)
theorem dX3_set_14 : decode cX3_set 14 = .ok (.aload_n 0, 1) := dk_42 (dk_at dksX3_set_0 14 rfl rfl)
theorem dX3_set_15 : decode cX3_set 15 = .ok (.getfield 7, 3) := dk_180 0 7 (dk_at dksX3_set_0 15 rfl rfl)
theorem dX3_set_18 : decode cX3_set 18 = .ok (.sipush 128, 3) := dk_17 0 128 (dk_at dksX3_set_0 18 rfl rfl)
theorem dX3_set_21 : decode cX3_set 21 = .ok (.iload_n 1, 1) := dk_27 (dk_at dksX3_set_0 21 rfl rfl)
theorem dX3_set_22 : decode cX3_set 22 = .ok (.iadd, 1) := dk_96 (dk_at dksX3_set_0 22 rfl rfl)
theorem dX3_set_23 : decode cX3_set 23 = .ok (.iaload, 1) := dk_46 (dk_at dksX3_set_0 23 rfl rfl)
theorem dX3_set_24 : decode cX3_set 24 = .ok (.istore_n 3, 1) := dk_62 (dk_at dksX3_set_1 0 rfl rfl)
theorem dX3_set_25 : decode cX3_set 25 = .ok (.aload_n 0, 1) := dk_42 (dk_at dksX3_set_1 1 rfl rfl)
theorem dX3_set_26 : decode cX3_set 26 = .ok (.getfield 7, 3) := dk_180 0 7 (dk_at dksX3_set_1 2 rfl rfl)
theorem dX3_set_29 : decode cX3_set 29 = .ok (.sipush 128, 3) := dk_17 0 128 (dk_at dksX3_set_1 5 rfl rfl)
theorem dX3_set_32 : decode cX3_set 32 = .ok (.iload_n 1, 1) := dk_27 (dk_at dksX3_set_1 8 rfl rfl)
theorem dX3_set_33 : decode cX3_set 33 = .ok (.iadd, 1) := dk_96 (dk_at dksX3_set_1 9 rfl rfl)
theorem dX3_set_34 : decode cX3_set 34 = .ok (.iload_n 2, 1) := dk_28 (dk_at dksX3_set_1 10 rfl rfl)
theorem dX3_set_35 : decode cX3_set 35 = .ok (.iastore, 1) := dk_79 (dk_at dksX3_set_1 11 rfl rfl)
theorem dX3_set_36 : decode cX3_set 36 = .ok (.iload_n 3, 1) := dk_29 (dk_at dksX3_set_1 12 rfl rfl)
theorem dX3_set_37 : decode cX3_set 37 = .ok (.ireturn, 1) := dk_172 (dk_at dksX3_set_1 13 rfl rfl)
abbrev cX3_sum : ByteArray := prog_7_method_57_code
def yX3_sum : MethodName := ⟨RX3, "sum", "(II)I"⟩
def dkwX3_sum_4 : List UInt8 := [148, 158, 0, 8, 16, 251, 167, 0, 5, 33, 136, 172]
abbrev dktX3_sum_4 : List UInt8 := dkwX3_sum_4 ++ []
def dkwX3_sum_3 : List UInt8 := [17, 0, 128, 21, 5, 96, 46, 133, 167, 0, 4, 9, 97, 66, 132, 5, 1, 167, 255, 197, 33, 20, 0, 167]
abbrev dktX3_sum_3 : List UInt8 := dkwX3_sum_3 ++ dktX3_sum_4
def dkwX3_sum_2 : List UInt8 := [167, 0, 10, 42, 21, 5, 27, 182, 0, 161, 54, 6, 33, 21, 6, 153, 0, 18, 42, 180, 0, 7]
abbrev dktX3_sum_2 : List UInt8 := dkwX3_sum_2 ++ dktX3_sum_3
def dkwX3_sum_1 : List UInt8 := [54, 5, 21, 5, 42, 182, 0, 89, 162, 0, 56, 28, 154, 0, 13, 42, 27, 21, 5, 182, 0, 161]
abbrev dktX3_sum_1 : List UInt8 := dkwX3_sum_1 ++ dktX3_sum_2
def dkwX3_sum_0 : List UInt8 := [42, 27, 182, 0, 140, 153, 0, 13, 28, 133, 9, 10, 184, 0, 41, 154, 0, 5, 2, 172, 9, 66, 3]
abbrev dktX3_sum_0 : List UInt8 := dkwX3_sum_0 ++ dktX3_sum_1
theorem dksX3_sum_0 : cX3_sum.data.toList.drop 0 = dktX3_sum_0 := by decide +kernel
theorem dksX3_sum_1 : cX3_sum.data.toList.drop 23 = dktX3_sum_1 := dk_seg dksX3_sum_0 23 rfl rfl
theorem dksX3_sum_2 : cX3_sum.data.toList.drop 45 = dktX3_sum_2 := dk_seg dksX3_sum_1 22 rfl rfl
theorem dksX3_sum_3 : cX3_sum.data.toList.drop 67 = dktX3_sum_3 := dk_seg dksX3_sum_2 22 rfl rfl
theorem dksX3_sum_4 : cX3_sum.data.toList.drop 91 = dktX3_sum_4 := dk_seg dksX3_sum_3 24 rfl rfl
theorem dX3_sum_0 : decode cX3_sum 0 = .ok (.aload_n 0, 1) := dk_42 (dk_at dksX3_sum_0 0 rfl rfl)
theorem dX3_sum_1 : decode cX3_sum 1 = .ok (.iload_n 1, 1) := dk_27 (dk_at dksX3_sum_0 1 rfl rfl)
theorem dX3_sum_2 : decode cX3_sum 2 = .ok (.invokevirtual 140, 3) := dk_182 0 140 (dk_at dksX3_sum_0 2 rfl rfl)
theorem dX3_sum_5 : decode cX3_sum 5 = .ok (.ifCond .eq 13, 3) := dk_153 0 13 (dk_at dksX3_sum_0 5 rfl rfl)
theorem dX3_sum_8 : decode cX3_sum 8 = .ok (.iload_n 2, 1) := dk_28 (dk_at dksX3_sum_0 8 rfl rfl)
theorem dX3_sum_9 : decode cX3_sum 9 = .ok (.i2l, 1) := dk_133 (dk_at dksX3_sum_0 9 rfl rfl)
theorem dX3_sum_10 : decode cX3_sum 10 = .ok (.lconst 0, 1) := dk_9 (dk_at dksX3_sum_0 10 rfl rfl)
theorem dX3_sum_11 : decode cX3_sum 11 = .ok (.lconst 1, 1) := dk_10 (dk_at dksX3_sum_0 11 rfl rfl)
theorem dX3_sum_12 : decode cX3_sum 12 = .ok (.invokestatic 41, 3) := dk_184 0 41 (dk_at dksX3_sum_0 12 rfl rfl)
theorem dX3_sum_15 : decode cX3_sum 15 = .ok (.ifCond .ne 5, 3) := dk_154 0 5 (dk_at dksX3_sum_0 15 rfl rfl)
theorem dX3_sum_18 : decode cX3_sum 18 = .ok (.iconst (-1), 1) := dk_2 (dk_at dksX3_sum_0 18 rfl rfl)
theorem dX3_sum_19 : decode cX3_sum 19 = .ok (.ireturn, 1) := dk_172 (dk_at dksX3_sum_0 19 rfl rfl)
theorem dX3_sum_20 : decode cX3_sum 20 = .ok (.lconst 0, 1) := dk_9 (dk_at dksX3_sum_0 20 rfl rfl)
theorem dX3_sum_21 : decode cX3_sum 21 = .ok (.lstore_n 3, 1) := dk_66 (dk_at dksX3_sum_0 21 rfl rfl)
theorem dX3_sum_22 : decode cX3_sum 22 = .ok (.iconst 0, 1) := dk_3 (dk_at dksX3_sum_0 22 rfl rfl)
theorem dX3_sum_23 : decode cX3_sum 23 = .ok (.istore 5, 2) := dk_54 5 (dk_at dksX3_sum_1 0 rfl rfl)
theorem dX3_sum_25 : decode cX3_sum 25 = .ok (.iload 5, 2) := dk_21 5 (dk_at dksX3_sum_1 2 rfl rfl)
theorem dX3_sum_27 : decode cX3_sum 27 = .ok (.aload_n 0, 1) := dk_42 (dk_at dksX3_sum_1 4 rfl rfl)
theorem dX3_sum_28 : decode cX3_sum 28 = .ok (.invokevirtual 89, 3) := dk_182 0 89 (dk_at dksX3_sum_1 5 rfl rfl)
theorem dX3_sum_31 : decode cX3_sum 31 = .ok (.if_icmp .ge 56, 3) := dk_162 0 56 (dk_at dksX3_sum_1 8 rfl rfl)
theorem dX3_sum_34 : decode cX3_sum 34 = .ok (.iload_n 2, 1) := dk_28 (dk_at dksX3_sum_1 11 rfl rfl)
theorem dX3_sum_35 : decode cX3_sum 35 = .ok (.ifCond .ne 13, 3) := dk_154 0 13 (dk_at dksX3_sum_1 12 rfl rfl)
theorem dX3_sum_38 : decode cX3_sum 38 = .ok (.aload_n 0, 1) := dk_42 (dk_at dksX3_sum_1 15 rfl rfl)
theorem dX3_sum_39 : decode cX3_sum 39 = .ok (.iload_n 1, 1) := dk_27 (dk_at dksX3_sum_1 16 rfl rfl)
theorem dX3_sum_40 : decode cX3_sum 40 = .ok (.iload 5, 2) := dk_21 5 (dk_at dksX3_sum_1 17 rfl rfl)
theorem dX3_sum_42 : decode cX3_sum 42 = .ok (.invokevirtual 161, 3) := dk_182 0 161 (dk_at dksX3_sum_1 19 rfl rfl)
theorem dX3_sum_45 : decode cX3_sum 45 = .ok (.goto 10, 3) := dk_167 0 10 (dk_at dksX3_sum_2 0 rfl rfl)
theorem dX3_sum_48 : decode cX3_sum 48 = .ok (.aload_n 0, 1) := dk_42 (dk_at dksX3_sum_2 3 rfl rfl)
theorem dX3_sum_49 : decode cX3_sum 49 = .ok (.iload 5, 2) := dk_21 5 (dk_at dksX3_sum_2 4 rfl rfl)
theorem dX3_sum_51 : decode cX3_sum 51 = .ok (.iload_n 1, 1) := dk_27 (dk_at dksX3_sum_2 6 rfl rfl)
theorem dX3_sum_52 : decode cX3_sum 52 = .ok (.invokevirtual 161, 3) := dk_182 0 161 (dk_at dksX3_sum_2 7 rfl rfl)
theorem dX3_sum_55 : decode cX3_sum 55 = .ok (.istore 6, 2) := dk_54 6 (dk_at dksX3_sum_2 10 rfl rfl)
theorem dX3_sum_57 : decode cX3_sum 57 = .ok (.lload_n 3, 1) := dk_33 (dk_at dksX3_sum_2 12 rfl rfl)
theorem dX3_sum_58 : decode cX3_sum 58 = .ok (.iload 6, 2) := dk_21 6 (dk_at dksX3_sum_2 13 rfl rfl)
theorem dX3_sum_60 : decode cX3_sum 60 = .ok (.ifCond .eq 18, 3) := dk_153 0 18 (dk_at dksX3_sum_2 15 rfl rfl)
theorem dX3_sum_63 : decode cX3_sum 63 = .ok (.aload_n 0, 1) := dk_42 (dk_at dksX3_sum_2 18 rfl rfl)
theorem dX3_sum_64 : decode cX3_sum 64 = .ok (.getfield 7, 3) := dk_180 0 7 (dk_at dksX3_sum_2 19 rfl rfl)
theorem dX3_sum_67 : decode cX3_sum 67 = .ok (.sipush 128, 3) := dk_17 0 128 (dk_at dksX3_sum_3 0 rfl rfl)
theorem dX3_sum_70 : decode cX3_sum 70 = .ok (.iload 5, 2) := dk_21 5 (dk_at dksX3_sum_3 3 rfl rfl)
theorem dX3_sum_72 : decode cX3_sum 72 = .ok (.iadd, 1) := dk_96 (dk_at dksX3_sum_3 5 rfl rfl)
theorem dX3_sum_73 : decode cX3_sum 73 = .ok (.iaload, 1) := dk_46 (dk_at dksX3_sum_3 6 rfl rfl)
theorem dX3_sum_74 : decode cX3_sum 74 = .ok (.i2l, 1) := dk_133 (dk_at dksX3_sum_3 7 rfl rfl)
theorem dX3_sum_75 : decode cX3_sum 75 = .ok (.goto 4, 3) := dk_167 0 4 (dk_at dksX3_sum_3 8 rfl rfl)
theorem dX3_sum_78 : decode cX3_sum 78 = .ok (.lconst 0, 1) := dk_9 (dk_at dksX3_sum_3 11 rfl rfl)
theorem dX3_sum_79 : decode cX3_sum 79 = .ok (.ladd, 1) := dk_97 (dk_at dksX3_sum_3 12 rfl rfl)
theorem dX3_sum_80 : decode cX3_sum 80 = .ok (.lstore_n 3, 1) := dk_66 (dk_at dksX3_sum_3 13 rfl rfl)
theorem dX3_sum_81 : decode cX3_sum 81 = .ok (.iinc 5 1, 3) := dk_132 5 1 (dk_at dksX3_sum_3 14 rfl rfl)
theorem dX3_sum_84 : decode cX3_sum 84 = .ok (.goto (-59), 3) := dk_167 255 197 (dk_at dksX3_sum_3 17 rfl rfl)
theorem dX3_sum_87 : decode cX3_sum 87 = .ok (.lload_n 3, 1) := dk_33 (dk_at dksX3_sum_3 20 rfl rfl)
theorem dX3_sum_88 : decode cX3_sum 88 = .ok (.ldc2_w 167, 3) := dk_20 0 167 (dk_at dksX3_sum_3 21 rfl rfl)
theorem dX3_sum_91 : decode cX3_sum 91 = .ok (.lcmp, 1) := dk_148 (dk_at dksX3_sum_4 0 rfl rfl)
theorem dX3_sum_92 : decode cX3_sum 92 = .ok (.ifCond .le 8, 3) := dk_158 0 8 (dk_at dksX3_sum_4 1 rfl rfl)
theorem dX3_sum_95 : decode cX3_sum 95 = .ok (.bipush (-5), 2) := dk_16 251 (dk_at dksX3_sum_4 4 rfl rfl)
theorem dX3_sum_97 : decode cX3_sum 97 = .ok (.goto 5, 3) := dk_167 0 5 (dk_at dksX3_sum_4 6 rfl rfl)
theorem dX3_sum_100 : decode cX3_sum 100 = .ok (.lload_n 3, 1) := dk_33 (dk_at dksX3_sum_4 9 rfl rfl)
theorem dX3_sum_101 : decode cX3_sum 101 = .ok (.l2i, 1) := dk_136 (dk_at dksX3_sum_4 10 rfl rfl)
theorem dX3_sum_102 : decode cX3_sum 102 = .ok (.ireturn, 1) := dk_172 (dk_at dksX3_sum_4 11 rfl rfl)
abbrev cX3_heaviest : ByteArray := prog_7_method_58_code
def yX3_heaviest : MethodName := ⟨RX3, "heaviest", "(I)I"⟩
def dkwX3_heaviest_2 : List UInt8 := [164, 0, 7, 29, 167, 0, 4, 28, 61, 132, 3, 1, 167, 255, 213, 28, 172]
abbrev dktX3_heaviest_2 : List UInt8 := dkwX3_heaviest_2 ++ []
def dkwX3_heaviest_1 : List UInt8 := [162, 0, 38, 42, 180, 0, 7, 17, 0, 128, 29, 96, 46, 42, 180, 0, 7, 17, 0, 128, 28, 96, 46]
abbrev dktX3_heaviest_1 : List UInt8 := dkwX3_heaviest_1 ++ dktX3_heaviest_2
def dkwX3_heaviest_0 : List UInt8 := [42, 27, 182, 0, 140, 154, 0, 5, 2, 172, 27, 61, 27, 62, 29, 27, 42, 27, 182, 0, 125, 96]
abbrev dktX3_heaviest_0 : List UInt8 := dkwX3_heaviest_0 ++ dktX3_heaviest_1
theorem dksX3_heaviest_0 : cX3_heaviest.data.toList.drop 0 = dktX3_heaviest_0 := by decide +kernel
theorem dksX3_heaviest_1 : cX3_heaviest.data.toList.drop 22 = dktX3_heaviest_1 := dk_seg dksX3_heaviest_0 22 rfl rfl
theorem dksX3_heaviest_2 : cX3_heaviest.data.toList.drop 45 = dktX3_heaviest_2 := dk_seg dksX3_heaviest_1 23 rfl rfl
theorem dX3_heaviest_0 : decode cX3_heaviest 0 = .ok (.aload_n 0, 1) := dk_42 (dk_at dksX3_heaviest_0 0 rfl rfl)
theorem dX3_heaviest_1 : decode cX3_heaviest 1 = .ok (.iload_n 1, 1) := dk_27 (dk_at dksX3_heaviest_0 1 rfl rfl)
theorem dX3_heaviest_2 : decode cX3_heaviest 2 = .ok (.invokevirtual 140, 3) := dk_182 0 140 (dk_at dksX3_heaviest_0 2 rfl rfl)
theorem dX3_heaviest_5 : decode cX3_heaviest 5 = .ok (.ifCond .ne 5, 3) := dk_154 0 5 (dk_at dksX3_heaviest_0 5 rfl rfl)
theorem dX3_heaviest_8 : decode cX3_heaviest 8 = .ok (.iconst (-1), 1) := dk_2 (dk_at dksX3_heaviest_0 8 rfl rfl)
theorem dX3_heaviest_9 : decode cX3_heaviest 9 = .ok (.ireturn, 1) := dk_172 (dk_at dksX3_heaviest_0 9 rfl rfl)
theorem dX3_heaviest_10 : decode cX3_heaviest 10 = .ok (.iload_n 1, 1) := dk_27 (dk_at dksX3_heaviest_0 10 rfl rfl)
theorem dX3_heaviest_11 : decode cX3_heaviest 11 = .ok (.istore_n 2, 1) := dk_61 (dk_at dksX3_heaviest_0 11 rfl rfl)
theorem dX3_heaviest_12 : decode cX3_heaviest 12 = .ok (.iload_n 1, 1) := dk_27 (dk_at dksX3_heaviest_0 12 rfl rfl)
theorem dX3_heaviest_13 : decode cX3_heaviest 13 = .ok (.istore_n 3, 1) := dk_62 (dk_at dksX3_heaviest_0 13 rfl rfl)
theorem dX3_heaviest_14 : decode cX3_heaviest 14 = .ok (.iload_n 3, 1) := dk_29 (dk_at dksX3_heaviest_0 14 rfl rfl)
theorem dX3_heaviest_15 : decode cX3_heaviest 15 = .ok (.iload_n 1, 1) := dk_27 (dk_at dksX3_heaviest_0 15 rfl rfl)
theorem dX3_heaviest_16 : decode cX3_heaviest 16 = .ok (.aload_n 0, 1) := dk_42 (dk_at dksX3_heaviest_0 16 rfl rfl)
theorem dX3_heaviest_17 : decode cX3_heaviest 17 = .ok (.iload_n 1, 1) := dk_27 (dk_at dksX3_heaviest_0 17 rfl rfl)
theorem dX3_heaviest_18 : decode cX3_heaviest 18 = .ok (.invokevirtual 125, 3) := dk_182 0 125 (dk_at dksX3_heaviest_0 18 rfl rfl)
theorem dX3_heaviest_21 : decode cX3_heaviest 21 = .ok (.iadd, 1) := dk_96 (dk_at dksX3_heaviest_0 21 rfl rfl)
theorem dX3_heaviest_22 : decode cX3_heaviest 22 = .ok (.if_icmp .ge 38, 3) := dk_162 0 38 (dk_at dksX3_heaviest_1 0 rfl rfl)
theorem dX3_heaviest_25 : decode cX3_heaviest 25 = .ok (.aload_n 0, 1) := dk_42 (dk_at dksX3_heaviest_1 3 rfl rfl)
theorem dX3_heaviest_26 : decode cX3_heaviest 26 = .ok (.getfield 7, 3) := dk_180 0 7 (dk_at dksX3_heaviest_1 4 rfl rfl)
theorem dX3_heaviest_29 : decode cX3_heaviest 29 = .ok (.sipush 128, 3) := dk_17 0 128 (dk_at dksX3_heaviest_1 7 rfl rfl)
theorem dX3_heaviest_32 : decode cX3_heaviest 32 = .ok (.iload_n 3, 1) := dk_29 (dk_at dksX3_heaviest_1 10 rfl rfl)
theorem dX3_heaviest_33 : decode cX3_heaviest 33 = .ok (.iadd, 1) := dk_96 (dk_at dksX3_heaviest_1 11 rfl rfl)
theorem dX3_heaviest_34 : decode cX3_heaviest 34 = .ok (.iaload, 1) := dk_46 (dk_at dksX3_heaviest_1 12 rfl rfl)
theorem dX3_heaviest_35 : decode cX3_heaviest 35 = .ok (.aload_n 0, 1) := dk_42 (dk_at dksX3_heaviest_1 13 rfl rfl)
theorem dX3_heaviest_36 : decode cX3_heaviest 36 = .ok (.getfield 7, 3) := dk_180 0 7 (dk_at dksX3_heaviest_1 14 rfl rfl)
theorem dX3_heaviest_39 : decode cX3_heaviest 39 = .ok (.sipush 128, 3) := dk_17 0 128 (dk_at dksX3_heaviest_1 17 rfl rfl)
theorem dX3_heaviest_42 : decode cX3_heaviest 42 = .ok (.iload_n 2, 1) := dk_28 (dk_at dksX3_heaviest_1 20 rfl rfl)
theorem dX3_heaviest_43 : decode cX3_heaviest 43 = .ok (.iadd, 1) := dk_96 (dk_at dksX3_heaviest_1 21 rfl rfl)
theorem dX3_heaviest_44 : decode cX3_heaviest 44 = .ok (.iaload, 1) := dk_46 (dk_at dksX3_heaviest_1 22 rfl rfl)
theorem dX3_heaviest_45 : decode cX3_heaviest 45 = .ok (.if_icmp .le 7, 3) := dk_164 0 7 (dk_at dksX3_heaviest_2 0 rfl rfl)
theorem dX3_heaviest_48 : decode cX3_heaviest 48 = .ok (.iload_n 3, 1) := dk_29 (dk_at dksX3_heaviest_2 3 rfl rfl)
theorem dX3_heaviest_49 : decode cX3_heaviest 49 = .ok (.goto 4, 3) := dk_167 0 4 (dk_at dksX3_heaviest_2 4 rfl rfl)
theorem dX3_heaviest_52 : decode cX3_heaviest 52 = .ok (.iload_n 2, 1) := dk_28 (dk_at dksX3_heaviest_2 7 rfl rfl)
theorem dX3_heaviest_53 : decode cX3_heaviest 53 = .ok (.istore_n 2, 1) := dk_61 (dk_at dksX3_heaviest_2 8 rfl rfl)
theorem dX3_heaviest_54 : decode cX3_heaviest 54 = .ok (.iinc 3 1, 3) := dk_132 3 1 (dk_at dksX3_heaviest_2 9 rfl rfl)
theorem dX3_heaviest_57 : decode cX3_heaviest 57 = .ok (.goto (-43), 3) := dk_167 255 213 (dk_at dksX3_heaviest_2 12 rfl rfl)
theorem dX3_heaviest_60 : decode cX3_heaviest 60 = .ok (.iload_n 2, 1) := dk_28 (dk_at dksX3_heaviest_2 15 rfl rfl)
theorem dX3_heaviest_61 : decode cX3_heaviest 61 = .ok (.ireturn, 1) := dk_172 (dk_at dksX3_heaviest_2 16 rfl rfl)
abbrev cX3_plant : ByteArray := prog_7_method_64_code
def yX3_plant : MethodName := ⟨RX3, "plant", "(I)I"⟩
def dkwX3_plant_2 : List UInt8 := [3, 172]
abbrev dktX3_plant_2 : List UInt8 := dkwX3_plant_2 ++ []
def dkwX3_plant_1 : List UInt8 := [180, 0, 7, 4, 3, 79, 42, 180, 0, 7, 17, 0, 128, 27, 79, 42, 180, 0, 7, 17, 0, 192, 4, 79]
abbrev dktX3_plant_1 : List UInt8 := dkwX3_plant_1 ++ dktX3_plant_2
def dkwX3_plant_0 : List UInt8 := [27, 156, 0, 5, 2, 172, 42, 182, 0, 89, 158, 0, 6, 16, 254, 172, 42, 180, 0, 7, 3, 4, 79, 42]
abbrev dktX3_plant_0 : List UInt8 := dkwX3_plant_0 ++ dktX3_plant_1
theorem dksX3_plant_0 : cX3_plant.data.toList.drop 0 = dktX3_plant_0 := by decide +kernel
theorem dksX3_plant_1 : cX3_plant.data.toList.drop 24 = dktX3_plant_1 := dk_seg dksX3_plant_0 24 rfl rfl
theorem dksX3_plant_2 : cX3_plant.data.toList.drop 48 = dktX3_plant_2 := dk_seg dksX3_plant_1 24 rfl rfl
theorem dX3_plant_0 : decode cX3_plant 0 = .ok (.iload_n 1, 1) := dk_27 (dk_at dksX3_plant_0 0 rfl rfl)
theorem dX3_plant_1 : decode cX3_plant 1 = .ok (.ifCond .ge 5, 3) := dk_156 0 5 (dk_at dksX3_plant_0 1 rfl rfl)
theorem dX3_plant_4 : decode cX3_plant 4 = .ok (.iconst (-1), 1) := dk_2 (dk_at dksX3_plant_0 4 rfl rfl)
theorem dX3_plant_5 : decode cX3_plant 5 = .ok (.ireturn, 1) := dk_172 (dk_at dksX3_plant_0 5 rfl rfl)
theorem dX3_plant_6 : decode cX3_plant 6 = .ok (.aload_n 0, 1) := dk_42 (dk_at dksX3_plant_0 6 rfl rfl)
theorem dX3_plant_7 : decode cX3_plant 7 = .ok (.invokevirtual 89, 3) := dk_182 0 89 (dk_at dksX3_plant_0 7 rfl rfl)
theorem dX3_plant_10 : decode cX3_plant 10 = .ok (.ifCond .le 6, 3) := dk_158 0 6 (dk_at dksX3_plant_0 10 rfl rfl)
theorem dX3_plant_13 : decode cX3_plant 13 = .ok (.bipush (-2), 2) := dk_16 254 (dk_at dksX3_plant_0 13 rfl rfl)
theorem dX3_plant_15 : decode cX3_plant 15 = .ok (.ireturn, 1) := dk_172 (dk_at dksX3_plant_0 15 rfl rfl)
theorem dX3_plant_16 : decode cX3_plant 16 = .ok (.aload_n 0, 1) := dk_42 (dk_at dksX3_plant_0 16 rfl rfl)
theorem dX3_plant_17 : decode cX3_plant 17 = .ok (.getfield 7, 3) := dk_180 0 7 (dk_at dksX3_plant_0 17 rfl rfl)
theorem dX3_plant_20 : decode cX3_plant 20 = .ok (.iconst 0, 1) := dk_3 (dk_at dksX3_plant_0 20 rfl rfl)
theorem dX3_plant_21 : decode cX3_plant 21 = .ok (.iconst 1, 1) := dk_4 (dk_at dksX3_plant_0 21 rfl rfl)
theorem dX3_plant_22 : decode cX3_plant 22 = .ok (.iastore, 1) := dk_79 (dk_at dksX3_plant_0 22 rfl rfl)
theorem dX3_plant_23 : decode cX3_plant 23 = .ok (.aload_n 0, 1) := dk_42 (dk_at dksX3_plant_0 23 rfl rfl)
theorem dX3_plant_24 : decode cX3_plant 24 = .ok (.getfield 7, 3) := dk_180 0 7 (dk_at dksX3_plant_1 0 rfl rfl)
theorem dX3_plant_27 : decode cX3_plant 27 = .ok (.iconst 1, 1) := dk_4 (dk_at dksX3_plant_1 3 rfl rfl)
theorem dX3_plant_28 : decode cX3_plant 28 = .ok (.iconst 0, 1) := dk_3 (dk_at dksX3_plant_1 4 rfl rfl)
theorem dX3_plant_29 : decode cX3_plant 29 = .ok (.iastore, 1) := dk_79 (dk_at dksX3_plant_1 5 rfl rfl)
theorem dX3_plant_30 : decode cX3_plant 30 = .ok (.aload_n 0, 1) := dk_42 (dk_at dksX3_plant_1 6 rfl rfl)
theorem dX3_plant_31 : decode cX3_plant 31 = .ok (.getfield 7, 3) := dk_180 0 7 (dk_at dksX3_plant_1 7 rfl rfl)
theorem dX3_plant_34 : decode cX3_plant 34 = .ok (.sipush 128, 3) := dk_17 0 128 (dk_at dksX3_plant_1 10 rfl rfl)
theorem dX3_plant_37 : decode cX3_plant 37 = .ok (.iload_n 1, 1) := dk_27 (dk_at dksX3_plant_1 13 rfl rfl)
theorem dX3_plant_38 : decode cX3_plant 38 = .ok (.iastore, 1) := dk_79 (dk_at dksX3_plant_1 14 rfl rfl)
theorem dX3_plant_39 : decode cX3_plant 39 = .ok (.aload_n 0, 1) := dk_42 (dk_at dksX3_plant_1 15 rfl rfl)
theorem dX3_plant_40 : decode cX3_plant 40 = .ok (.getfield 7, 3) := dk_180 0 7 (dk_at dksX3_plant_1 16 rfl rfl)
theorem dX3_plant_43 : decode cX3_plant 43 = .ok (.sipush 192, 3) := dk_17 0 192 (dk_at dksX3_plant_1 19 rfl rfl)
theorem dX3_plant_46 : decode cX3_plant 46 = .ok (.iconst 1, 1) := dk_4 (dk_at dksX3_plant_1 22 rfl rfl)
theorem dX3_plant_47 : decode cX3_plant 47 = .ok (.iastore, 1) := dk_79 (dk_at dksX3_plant_1 23 rfl rfl)
theorem dX3_plant_48 : decode cX3_plant 48 = .ok (.iconst 0, 1) := dk_3 (dk_at dksX3_plant_2 0 rfl rfl)
theorem dX3_plant_49 : decode cX3_plant 49 = .ok (.ireturn, 1) := dk_172 (dk_at dksX3_plant_2 1 rfl rfl)
abbrev cX3_leaf : ByteArray := prog_7_method_66_code
def yX3_leaf : MethodName := ⟨RX3, "leaf", "(III)I"⟩
def dkwX3_leaf_2 : List UInt8 := [182, 0, 183, 172]
abbrev dktX3_leaf_2 : List UInt8 := dkwX3_leaf_2 ++ []
def dkwX3_leaf_1 : List UInt8 := [156, 0, 5, 2, 172, 42, 182, 0, 89, 16, 64, 160, 0, 8, 16, 253, 167, 0, 10, 42, 27, 28, 29]
abbrev dktX3_leaf_1 : List UInt8 := dkwX3_leaf_1 ++ dktX3_leaf_2
def dkwX3_leaf_0 : List UInt8 := [42, 27, 182, 0, 140, 153, 0, 22, 28, 133, 9, 42, 27, 182, 0, 146, 133, 184, 0, 41, 153, 0, 7, 29]
abbrev dktX3_leaf_0 : List UInt8 := dkwX3_leaf_0 ++ dktX3_leaf_1
theorem dksX3_leaf_0 : cX3_leaf.data.toList.drop 0 = dktX3_leaf_0 := by decide +kernel
theorem dksX3_leaf_1 : cX3_leaf.data.toList.drop 24 = dktX3_leaf_1 := dk_seg dksX3_leaf_0 24 rfl rfl
theorem dksX3_leaf_2 : cX3_leaf.data.toList.drop 47 = dktX3_leaf_2 := dk_seg dksX3_leaf_1 23 rfl rfl
theorem dX3_leaf_0 : decode cX3_leaf 0 = .ok (.aload_n 0, 1) := dk_42 (dk_at dksX3_leaf_0 0 rfl rfl)
theorem dX3_leaf_1 : decode cX3_leaf 1 = .ok (.iload_n 1, 1) := dk_27 (dk_at dksX3_leaf_0 1 rfl rfl)
theorem dX3_leaf_2 : decode cX3_leaf 2 = .ok (.invokevirtual 140, 3) := dk_182 0 140 (dk_at dksX3_leaf_0 2 rfl rfl)
theorem dX3_leaf_5 : decode cX3_leaf 5 = .ok (.ifCond .eq 22, 3) := dk_153 0 22 (dk_at dksX3_leaf_0 5 rfl rfl)
theorem dX3_leaf_8 : decode cX3_leaf 8 = .ok (.iload_n 2, 1) := dk_28 (dk_at dksX3_leaf_0 8 rfl rfl)
theorem dX3_leaf_9 : decode cX3_leaf 9 = .ok (.i2l, 1) := dk_133 (dk_at dksX3_leaf_0 9 rfl rfl)
theorem dX3_leaf_10 : decode cX3_leaf 10 = .ok (.lconst 0, 1) := dk_9 (dk_at dksX3_leaf_0 10 rfl rfl)
theorem dX3_leaf_11 : decode cX3_leaf 11 = .ok (.aload_n 0, 1) := dk_42 (dk_at dksX3_leaf_0 11 rfl rfl)
theorem dX3_leaf_12 : decode cX3_leaf 12 = .ok (.iload_n 1, 1) := dk_27 (dk_at dksX3_leaf_0 12 rfl rfl)
theorem dX3_leaf_13 : decode cX3_leaf 13 = .ok (.invokevirtual 146, 3) := dk_182 0 146 (dk_at dksX3_leaf_0 13 rfl rfl)
theorem dX3_leaf_16 : decode cX3_leaf 16 = .ok (.i2l, 1) := dk_133 (dk_at dksX3_leaf_0 16 rfl rfl)
theorem dX3_leaf_17 : decode cX3_leaf 17 = .ok (.invokestatic 41, 3) := dk_184 0 41 (dk_at dksX3_leaf_0 17 rfl rfl)
theorem dX3_leaf_20 : decode cX3_leaf 20 = .ok (.ifCond .eq 7, 3) := dk_153 0 7 (dk_at dksX3_leaf_0 20 rfl rfl)
theorem dX3_leaf_23 : decode cX3_leaf 23 = .ok (.iload_n 3, 1) := dk_29 (dk_at dksX3_leaf_0 23 rfl rfl)
theorem dX3_leaf_24 : decode cX3_leaf 24 = .ok (.ifCond .ge 5, 3) := dk_156 0 5 (dk_at dksX3_leaf_1 0 rfl rfl)
theorem dX3_leaf_27 : decode cX3_leaf 27 = .ok (.iconst (-1), 1) := dk_2 (dk_at dksX3_leaf_1 3 rfl rfl)
theorem dX3_leaf_28 : decode cX3_leaf 28 = .ok (.ireturn, 1) := dk_172 (dk_at dksX3_leaf_1 4 rfl rfl)
theorem dX3_leaf_29 : decode cX3_leaf 29 = .ok (.aload_n 0, 1) := dk_42 (dk_at dksX3_leaf_1 5 rfl rfl)
theorem dX3_leaf_30 : decode cX3_leaf 30 = .ok (.invokevirtual 89, 3) := dk_182 0 89 (dk_at dksX3_leaf_1 6 rfl rfl)
theorem dX3_leaf_33 : decode cX3_leaf 33 = .ok (.bipush 64, 2) := dk_16 64 (dk_at dksX3_leaf_1 9 rfl rfl)
theorem dX3_leaf_35 : decode cX3_leaf 35 = .ok (.if_icmp .ne 8, 3) := dk_160 0 8 (dk_at dksX3_leaf_1 11 rfl rfl)
theorem dX3_leaf_38 : decode cX3_leaf 38 = .ok (.bipush (-3), 2) := dk_16 253 (dk_at dksX3_leaf_1 14 rfl rfl)
theorem dX3_leaf_40 : decode cX3_leaf 40 = .ok (.goto 10, 3) := dk_167 0 10 (dk_at dksX3_leaf_1 16 rfl rfl)
theorem dX3_leaf_43 : decode cX3_leaf 43 = .ok (.aload_n 0, 1) := dk_42 (dk_at dksX3_leaf_1 19 rfl rfl)
theorem dX3_leaf_44 : decode cX3_leaf 44 = .ok (.iload_n 1, 1) := dk_27 (dk_at dksX3_leaf_1 20 rfl rfl)
theorem dX3_leaf_45 : decode cX3_leaf 45 = .ok (.iload_n 2, 1) := dk_28 (dk_at dksX3_leaf_1 21 rfl rfl)
theorem dX3_leaf_46 : decode cX3_leaf 46 = .ok (.iload_n 3, 1) := dk_29 (dk_at dksX3_leaf_1 22 rfl rfl)
theorem dX3_leaf_47 : decode cX3_leaf 47 = .ok (.invokevirtual 183, 3) := dk_182 0 183 (dk_at dksX3_leaf_2 0 rfl rfl)
theorem dX3_leaf_50 : decode cX3_leaf 50 = .ok (.ireturn, 1) := dk_172 (dk_at dksX3_leaf_2 3 rfl rfl)
abbrev cX3_leafs : ByteArray := prog_7_method_65_code
def yX3_leafs : MethodName := ⟨RX3, "leafs", "(III)I"⟩
def dkwX3_leafs_0 : List UInt8 := [42, 27, 28, 182, 0, 176, 54, 4, 42, 21, 4, 21, 4, 29, 182, 0, 179, 42, 21, 4, 182, 0, 137, 172]
abbrev dktX3_leafs_0 : List UInt8 := dkwX3_leafs_0 ++ []
theorem dksX3_leafs_0 : cX3_leafs.data.toList.drop 0 = dktX3_leafs_0 := by decide +kernel
theorem dX3_leafs_0 : decode cX3_leafs 0 = .ok (.aload_n 0, 1) := dk_42 (dk_at dksX3_leafs_0 0 rfl rfl)
theorem dX3_leafs_1 : decode cX3_leafs 1 = .ok (.iload_n 1, 1) := dk_27 (dk_at dksX3_leafs_0 1 rfl rfl)
theorem dX3_leafs_2 : decode cX3_leafs 2 = .ok (.iload_n 2, 1) := dk_28 (dk_at dksX3_leafs_0 2 rfl rfl)
theorem dX3_leafs_3 : decode cX3_leafs 3 = .ok (.invokevirtual 176, 3) := dk_182 0 176 (dk_at dksX3_leafs_0 3 rfl rfl)
theorem dX3_leafs_6 : decode cX3_leafs 6 = .ok (.istore 4, 2) := dk_54 4 (dk_at dksX3_leafs_0 6 rfl rfl)
theorem dX3_leafs_8 : decode cX3_leafs 8 = .ok (.aload_n 0, 1) := dk_42 (dk_at dksX3_leafs_0 8 rfl rfl)
theorem dX3_leafs_9 : decode cX3_leafs 9 = .ok (.iload 4, 2) := dk_21 4 (dk_at dksX3_leafs_0 9 rfl rfl)
theorem dX3_leafs_11 : decode cX3_leafs 11 = .ok (.iload 4, 2) := dk_21 4 (dk_at dksX3_leafs_0 11 rfl rfl)
theorem dX3_leafs_13 : decode cX3_leafs 13 = .ok (.iload_n 3, 1) := dk_29 (dk_at dksX3_leafs_0 13 rfl rfl)
theorem dX3_leafs_14 : decode cX3_leafs 14 = .ok (.invokevirtual 179, 3) := dk_182 0 179 (dk_at dksX3_leafs_0 14 rfl rfl)
theorem dX3_leafs_17 : decode cX3_leafs 17 = .ok (.aload_n 0, 1) := dk_42 (dk_at dksX3_leafs_0 17 rfl rfl)
theorem dX3_leafs_18 : decode cX3_leafs 18 = .ok (.iload 4, 2) := dk_21 4 (dk_at dksX3_leafs_0 18 rfl rfl)
theorem dX3_leafs_20 : decode cX3_leafs 20 = .ok (.invokevirtual 137, 3) := dk_182 0 137 (dk_at dksX3_leafs_0 20 rfl rfl)
theorem dX3_leafs_23 : decode cX3_leafs 23 = .ok (.ireturn, 1) := dk_172 (dk_at dksX3_leafs_0 23 rfl rfl)
abbrev cX3_edgeOf : ByteArray := prog_7_method_63_code
def yX3_edgeOf : MethodName := ⟨RX3, "edgeOf", "(II)I"⟩
def dkwX3_edgeOf_1 : List UInt8 := [167, 0, 8, 42, 29, 182, 0, 99, 172]
abbrev dktX3_edgeOf_1 : List UInt8 := dkwX3_edgeOf_1 ++ []
def dkwX3_edgeOf_0 : List UInt8 := [42, 27, 28, 182, 0, 134, 62, 29, 16, 252, 160, 0, 15, 42, 42, 27, 182, 0, 99, 182, 0, 115]
abbrev dktX3_edgeOf_0 : List UInt8 := dkwX3_edgeOf_0 ++ dktX3_edgeOf_1
theorem dksX3_edgeOf_0 : cX3_edgeOf.data.toList.drop 0 = dktX3_edgeOf_0 := by decide +kernel
theorem dksX3_edgeOf_1 : cX3_edgeOf.data.toList.drop 22 = dktX3_edgeOf_1 := dk_seg dksX3_edgeOf_0 22 rfl rfl
theorem dX3_edgeOf_0 : decode cX3_edgeOf 0 = .ok (.aload_n 0, 1) := dk_42 (dk_at dksX3_edgeOf_0 0 rfl rfl)
theorem dX3_edgeOf_1 : decode cX3_edgeOf 1 = .ok (.iload_n 1, 1) := dk_27 (dk_at dksX3_edgeOf_0 1 rfl rfl)
theorem dX3_edgeOf_2 : decode cX3_edgeOf 2 = .ok (.iload_n 2, 1) := dk_28 (dk_at dksX3_edgeOf_0 2 rfl rfl)
theorem dX3_edgeOf_3 : decode cX3_edgeOf 3 = .ok (.invokevirtual 134, 3) := dk_182 0 134 (dk_at dksX3_edgeOf_0 3 rfl rfl)
theorem dX3_edgeOf_6 : decode cX3_edgeOf 6 = .ok (.istore_n 3, 1) := dk_62 (dk_at dksX3_edgeOf_0 6 rfl rfl)
theorem dX3_edgeOf_7 : decode cX3_edgeOf 7 = .ok (.iload_n 3, 1) := dk_29 (dk_at dksX3_edgeOf_0 7 rfl rfl)
theorem dX3_edgeOf_8 : decode cX3_edgeOf 8 = .ok (.bipush (-4), 2) := dk_16 252 (dk_at dksX3_edgeOf_0 8 rfl rfl)
theorem dX3_edgeOf_10 : decode cX3_edgeOf 10 = .ok (.if_icmp .ne 15, 3) := dk_160 0 15 (dk_at dksX3_edgeOf_0 10 rfl rfl)
theorem dX3_edgeOf_13 : decode cX3_edgeOf 13 = .ok (.aload_n 0, 1) := dk_42 (dk_at dksX3_edgeOf_0 13 rfl rfl)
theorem dX3_edgeOf_14 : decode cX3_edgeOf 14 = .ok (.aload_n 0, 1) := dk_42 (dk_at dksX3_edgeOf_0 14 rfl rfl)
theorem dX3_edgeOf_15 : decode cX3_edgeOf 15 = .ok (.iload_n 1, 1) := dk_27 (dk_at dksX3_edgeOf_0 15 rfl rfl)
theorem dX3_edgeOf_16 : decode cX3_edgeOf 16 = .ok (.invokevirtual 99, 3) := dk_182 0 99 (dk_at dksX3_edgeOf_0 16 rfl rfl)
theorem dX3_edgeOf_19 : decode cX3_edgeOf 19 = .ok (.invokevirtual 115, 3) := dk_182 0 115 (dk_at dksX3_edgeOf_0 19 rfl rfl)
theorem dX3_edgeOf_22 : decode cX3_edgeOf 22 = .ok (.goto 8, 3) := dk_167 0 8 (dk_at dksX3_edgeOf_1 0 rfl rfl)
theorem dX3_edgeOf_25 : decode cX3_edgeOf 25 = .ok (.aload_n 0, 1) := dk_42 (dk_at dksX3_edgeOf_1 3 rfl rfl)
theorem dX3_edgeOf_26 : decode cX3_edgeOf 26 = .ok (.iload_n 3, 1) := dk_29 (dk_at dksX3_edgeOf_1 4 rfl rfl)
theorem dX3_edgeOf_27 : decode cX3_edgeOf 27 = .ok (.invokevirtual 99, 3) := dk_182 0 99 (dk_at dksX3_edgeOf_1 5 rfl rfl)
theorem dX3_edgeOf_30 : decode cX3_edgeOf 30 = .ok (.ireturn, 1) := dk_172 (dk_at dksX3_edgeOf_1 8 rfl rfl)
abbrev cX3_comesIn : ByteArray := prog_7_method_61_code
def yX3_comesIn : MethodName := ⟨RX3, "comesIn", "(III)V"⟩
def dkwX3_comesIn_3 : List UInt8 := [79, 42, 180, 0, 7, 17, 0, 192, 92, 46, 4, 96, 79, 177]
abbrev dktX3_comesIn_3 : List UInt8 := dkwX3_comesIn_3 ++ []
def dkwX3_comesIn_2 : List UInt8 := [21, 5, 96, 4, 100, 46, 79, 132, 5, 255, 167, 255, 222, 42, 180, 0, 7, 17, 0, 128, 21, 4, 96, 29]
abbrev dktX3_comesIn_2 : List UInt8 := dkwX3_comesIn_2 ++ dktX3_comesIn_3
def dkwX3_comesIn_1 : List UInt8 := [21, 5, 21, 4, 164, 0, 33, 42, 180, 0, 7, 17, 0, 128, 21, 5, 96, 42, 180, 0, 7, 17, 0, 128]
abbrev dktX3_comesIn_1 : List UInt8 := dkwX3_comesIn_1 ++ dktX3_comesIn_2
def dkwX3_comesIn_0 : List UInt8 := [42, 27, 182, 0, 137, 54, 4, 42, 28, 3, 182, 0, 169, 42, 27, 4, 182, 0, 169, 16, 63, 54, 5]
abbrev dktX3_comesIn_0 : List UInt8 := dkwX3_comesIn_0 ++ dktX3_comesIn_1
theorem dksX3_comesIn_0 : cX3_comesIn.data.toList.drop 0 = dktX3_comesIn_0 := by decide +kernel
theorem dksX3_comesIn_1 : cX3_comesIn.data.toList.drop 23 = dktX3_comesIn_1 := dk_seg dksX3_comesIn_0 23 rfl rfl
theorem dksX3_comesIn_2 : cX3_comesIn.data.toList.drop 47 = dktX3_comesIn_2 := dk_seg dksX3_comesIn_1 24 rfl rfl
theorem dksX3_comesIn_3 : cX3_comesIn.data.toList.drop 71 = dktX3_comesIn_3 := dk_seg dksX3_comesIn_2 24 rfl rfl
theorem dX3_comesIn_0 : decode cX3_comesIn 0 = .ok (.aload_n 0, 1) := dk_42 (dk_at dksX3_comesIn_0 0 rfl rfl)
theorem dX3_comesIn_1 : decode cX3_comesIn 1 = .ok (.iload_n 1, 1) := dk_27 (dk_at dksX3_comesIn_0 1 rfl rfl)
theorem dX3_comesIn_2 : decode cX3_comesIn 2 = .ok (.invokevirtual 137, 3) := dk_182 0 137 (dk_at dksX3_comesIn_0 2 rfl rfl)
theorem dX3_comesIn_5 : decode cX3_comesIn 5 = .ok (.istore 4, 2) := dk_54 4 (dk_at dksX3_comesIn_0 5 rfl rfl)
theorem dX3_comesIn_7 : decode cX3_comesIn 7 = .ok (.aload_n 0, 1) := dk_42 (dk_at dksX3_comesIn_0 7 rfl rfl)
theorem dX3_comesIn_8 : decode cX3_comesIn 8 = .ok (.iload_n 2, 1) := dk_28 (dk_at dksX3_comesIn_0 8 rfl rfl)
theorem dX3_comesIn_9 : decode cX3_comesIn 9 = .ok (.iconst 0, 1) := dk_3 (dk_at dksX3_comesIn_0 9 rfl rfl)
theorem dX3_comesIn_10 : decode cX3_comesIn 10 = .ok (.invokevirtual 169, 3) := dk_182 0 169 (dk_at dksX3_comesIn_0 10 rfl rfl)
theorem dX3_comesIn_13 : decode cX3_comesIn 13 = .ok (.aload_n 0, 1) := dk_42 (dk_at dksX3_comesIn_0 13 rfl rfl)
theorem dX3_comesIn_14 : decode cX3_comesIn 14 = .ok (.iload_n 1, 1) := dk_27 (dk_at dksX3_comesIn_0 14 rfl rfl)
theorem dX3_comesIn_15 : decode cX3_comesIn 15 = .ok (.iconst 1, 1) := dk_4 (dk_at dksX3_comesIn_0 15 rfl rfl)
theorem dX3_comesIn_16 : decode cX3_comesIn 16 = .ok (.invokevirtual 169, 3) := dk_182 0 169 (dk_at dksX3_comesIn_0 16 rfl rfl)
theorem dX3_comesIn_19 : decode cX3_comesIn 19 = .ok (.bipush 63, 2) := dk_16 63 (dk_at dksX3_comesIn_0 19 rfl rfl)
theorem dX3_comesIn_21 : decode cX3_comesIn 21 = .ok (.istore 5, 2) := dk_54 5 (dk_at dksX3_comesIn_0 21 rfl rfl)
theorem dX3_comesIn_23 : decode cX3_comesIn 23 = .ok (.iload 5, 2) := dk_21 5 (dk_at dksX3_comesIn_1 0 rfl rfl)
theorem dX3_comesIn_25 : decode cX3_comesIn 25 = .ok (.iload 4, 2) := dk_21 4 (dk_at dksX3_comesIn_1 2 rfl rfl)
theorem dX3_comesIn_27 : decode cX3_comesIn 27 = .ok (.if_icmp .le 33, 3) := dk_164 0 33 (dk_at dksX3_comesIn_1 4 rfl rfl)
theorem dX3_comesIn_30 : decode cX3_comesIn 30 = .ok (.aload_n 0, 1) := dk_42 (dk_at dksX3_comesIn_1 7 rfl rfl)
theorem dX3_comesIn_31 : decode cX3_comesIn 31 = .ok (.getfield 7, 3) := dk_180 0 7 (dk_at dksX3_comesIn_1 8 rfl rfl)
theorem dX3_comesIn_34 : decode cX3_comesIn 34 = .ok (.sipush 128, 3) := dk_17 0 128 (dk_at dksX3_comesIn_1 11 rfl rfl)
theorem dX3_comesIn_37 : decode cX3_comesIn 37 = .ok (.iload 5, 2) := dk_21 5 (dk_at dksX3_comesIn_1 14 rfl rfl)
theorem dX3_comesIn_39 : decode cX3_comesIn 39 = .ok (.iadd, 1) := dk_96 (dk_at dksX3_comesIn_1 16 rfl rfl)
theorem dX3_comesIn_40 : decode cX3_comesIn 40 = .ok (.aload_n 0, 1) := dk_42 (dk_at dksX3_comesIn_1 17 rfl rfl)
theorem dX3_comesIn_41 : decode cX3_comesIn 41 = .ok (.getfield 7, 3) := dk_180 0 7 (dk_at dksX3_comesIn_1 18 rfl rfl)
theorem dX3_comesIn_44 : decode cX3_comesIn 44 = .ok (.sipush 128, 3) := dk_17 0 128 (dk_at dksX3_comesIn_1 21 rfl rfl)
theorem dX3_comesIn_47 : decode cX3_comesIn 47 = .ok (.iload 5, 2) := dk_21 5 (dk_at dksX3_comesIn_2 0 rfl rfl)
theorem dX3_comesIn_49 : decode cX3_comesIn 49 = .ok (.iadd, 1) := dk_96 (dk_at dksX3_comesIn_2 2 rfl rfl)
theorem dX3_comesIn_50 : decode cX3_comesIn 50 = .ok (.iconst 1, 1) := dk_4 (dk_at dksX3_comesIn_2 3 rfl rfl)
theorem dX3_comesIn_51 : decode cX3_comesIn 51 = .ok (.isub, 1) := dk_100 (dk_at dksX3_comesIn_2 4 rfl rfl)
theorem dX3_comesIn_52 : decode cX3_comesIn 52 = .ok (.iaload, 1) := dk_46 (dk_at dksX3_comesIn_2 5 rfl rfl)
theorem dX3_comesIn_53 : decode cX3_comesIn 53 = .ok (.iastore, 1) := dk_79 (dk_at dksX3_comesIn_2 6 rfl rfl)
theorem dX3_comesIn_54 : decode cX3_comesIn 54 = .ok (.iinc 5 (-1), 3) := dk_132 5 255 (dk_at dksX3_comesIn_2 7 rfl rfl)
theorem dX3_comesIn_57 : decode cX3_comesIn 57 = .ok (.goto (-34), 3) := dk_167 255 222 (dk_at dksX3_comesIn_2 10 rfl rfl)
theorem dX3_comesIn_60 : decode cX3_comesIn 60 = .ok (.aload_n 0, 1) := dk_42 (dk_at dksX3_comesIn_2 13 rfl rfl)
theorem dX3_comesIn_61 : decode cX3_comesIn 61 = .ok (.getfield 7, 3) := dk_180 0 7 (dk_at dksX3_comesIn_2 14 rfl rfl)
theorem dX3_comesIn_64 : decode cX3_comesIn 64 = .ok (.sipush 128, 3) := dk_17 0 128 (dk_at dksX3_comesIn_2 17 rfl rfl)
theorem dX3_comesIn_67 : decode cX3_comesIn 67 = .ok (.iload 4, 2) := dk_21 4 (dk_at dksX3_comesIn_2 20 rfl rfl)
theorem dX3_comesIn_69 : decode cX3_comesIn 69 = .ok (.iadd, 1) := dk_96 (dk_at dksX3_comesIn_2 22 rfl rfl)
theorem dX3_comesIn_70 : decode cX3_comesIn 70 = .ok (.iload_n 3, 1) := dk_29 (dk_at dksX3_comesIn_2 23 rfl rfl)
theorem dX3_comesIn_71 : decode cX3_comesIn 71 = .ok (.iastore, 1) := dk_79 (dk_at dksX3_comesIn_3 0 rfl rfl)
theorem dX3_comesIn_72 : decode cX3_comesIn 72 = .ok (.aload_n 0, 1) := dk_42 (dk_at dksX3_comesIn_3 1 rfl rfl)
theorem dX3_comesIn_73 : decode cX3_comesIn 73 = .ok (.getfield 7, 3) := dk_180 0 7 (dk_at dksX3_comesIn_3 2 rfl rfl)
theorem dX3_comesIn_76 : decode cX3_comesIn 76 = .ok (.sipush 192, 3) := dk_17 0 192 (dk_at dksX3_comesIn_3 5 rfl rfl)
theorem dX3_comesIn_79 : decode cX3_comesIn 79 = .ok (.dup2, 1) := dk_92 (dk_at dksX3_comesIn_3 8 rfl rfl)
theorem dX3_comesIn_80 : decode cX3_comesIn 80 = .ok (.iaload, 1) := dk_46 (dk_at dksX3_comesIn_3 9 rfl rfl)
theorem dX3_comesIn_81 : decode cX3_comesIn 81 = .ok (.iconst 1, 1) := dk_4 (dk_at dksX3_comesIn_3 10 rfl rfl)
theorem dX3_comesIn_82 : decode cX3_comesIn 82 = .ok (.iadd, 1) := dk_96 (dk_at dksX3_comesIn_3 11 rfl rfl)
theorem dX3_comesIn_83 : decode cX3_comesIn 83 = .ok (.iastore, 1) := dk_79 (dk_at dksX3_comesIn_3 12 rfl rfl)
theorem dX3_comesIn_84 : decode cX3_comesIn 84 = .ok (.return_, 1) := dk_177 (dk_at dksX3_comesIn_3 13 rfl rfl)
abbrev cX3_opensPlace : ByteArray := prog_7_method_59_code
def yX3_opensPlace : MethodName := ⟨RX3, "opensPlace", "(II)V"⟩
def dkwX3_opensPlace_1 : List UInt8 := [132, 3, 255, 167, 255, 234, 42, 180, 0, 7, 27, 28, 79, 177]
abbrev dktX3_opensPlace_1 : List UInt8 := dkwX3_opensPlace_1 ++ []
def dkwX3_opensPlace_0 : List UInt8 := [16, 127, 62, 29, 27, 164, 0, 23, 42, 180, 0, 7, 29, 42, 180, 0, 7, 29, 4, 100, 46, 79]
abbrev dktX3_opensPlace_0 : List UInt8 := dkwX3_opensPlace_0 ++ dktX3_opensPlace_1
theorem dksX3_opensPlace_0 : cX3_opensPlace.data.toList.drop 0 = dktX3_opensPlace_0 := by decide +kernel
theorem dksX3_opensPlace_1 : cX3_opensPlace.data.toList.drop 22 = dktX3_opensPlace_1 := dk_seg dksX3_opensPlace_0 22 rfl rfl
theorem dX3_opensPlace_0 : decode cX3_opensPlace 0 = .ok (.bipush 127, 2) := dk_16 127 (dk_at dksX3_opensPlace_0 0 rfl rfl)
theorem dX3_opensPlace_2 : decode cX3_opensPlace 2 = .ok (.istore_n 3, 1) := dk_62 (dk_at dksX3_opensPlace_0 2 rfl rfl)
theorem dX3_opensPlace_3 : decode cX3_opensPlace 3 = .ok (.iload_n 3, 1) := dk_29 (dk_at dksX3_opensPlace_0 3 rfl rfl)
theorem dX3_opensPlace_4 : decode cX3_opensPlace 4 = .ok (.iload_n 1, 1) := dk_27 (dk_at dksX3_opensPlace_0 4 rfl rfl)
theorem dX3_opensPlace_5 : decode cX3_opensPlace 5 = .ok (.if_icmp .le 23, 3) := dk_164 0 23 (dk_at dksX3_opensPlace_0 5 rfl rfl)
theorem dX3_opensPlace_8 : decode cX3_opensPlace 8 = .ok (.aload_n 0, 1) := dk_42 (dk_at dksX3_opensPlace_0 8 rfl rfl)
theorem dX3_opensPlace_9 : decode cX3_opensPlace 9 = .ok (.getfield 7, 3) := dk_180 0 7 (dk_at dksX3_opensPlace_0 9 rfl rfl)
theorem dX3_opensPlace_12 : decode cX3_opensPlace 12 = .ok (.iload_n 3, 1) := dk_29 (dk_at dksX3_opensPlace_0 12 rfl rfl)
theorem dX3_opensPlace_13 : decode cX3_opensPlace 13 = .ok (.aload_n 0, 1) := dk_42 (dk_at dksX3_opensPlace_0 13 rfl rfl)
theorem dX3_opensPlace_14 : decode cX3_opensPlace 14 = .ok (.getfield 7, 3) := dk_180 0 7 (dk_at dksX3_opensPlace_0 14 rfl rfl)
theorem dX3_opensPlace_17 : decode cX3_opensPlace 17 = .ok (.iload_n 3, 1) := dk_29 (dk_at dksX3_opensPlace_0 17 rfl rfl)
theorem dX3_opensPlace_18 : decode cX3_opensPlace 18 = .ok (.iconst 1, 1) := dk_4 (dk_at dksX3_opensPlace_0 18 rfl rfl)
theorem dX3_opensPlace_19 : decode cX3_opensPlace 19 = .ok (.isub, 1) := dk_100 (dk_at dksX3_opensPlace_0 19 rfl rfl)
theorem dX3_opensPlace_20 : decode cX3_opensPlace 20 = .ok (.iaload, 1) := dk_46 (dk_at dksX3_opensPlace_0 20 rfl rfl)
theorem dX3_opensPlace_21 : decode cX3_opensPlace 21 = .ok (.iastore, 1) := dk_79 (dk_at dksX3_opensPlace_0 21 rfl rfl)
theorem dX3_opensPlace_22 : decode cX3_opensPlace 22 = .ok (.iinc 3 (-1), 3) := dk_132 3 255 (dk_at dksX3_opensPlace_1 0 rfl rfl)
theorem dX3_opensPlace_25 : decode cX3_opensPlace 25 = .ok (.goto (-22), 3) := dk_167 255 234 (dk_at dksX3_opensPlace_1 3 rfl rfl)
theorem dX3_opensPlace_28 : decode cX3_opensPlace 28 = .ok (.aload_n 0, 1) := dk_42 (dk_at dksX3_opensPlace_1 6 rfl rfl)
theorem dX3_opensPlace_29 : decode cX3_opensPlace 29 = .ok (.getfield 7, 3) := dk_180 0 7 (dk_at dksX3_opensPlace_1 7 rfl rfl)
theorem dX3_opensPlace_32 : decode cX3_opensPlace 32 = .ok (.iload_n 1, 1) := dk_27 (dk_at dksX3_opensPlace_1 10 rfl rfl)
theorem dX3_opensPlace_33 : decode cX3_opensPlace 33 = .ok (.iload_n 2, 1) := dk_28 (dk_at dksX3_opensPlace_1 11 rfl rfl)
theorem dX3_opensPlace_34 : decode cX3_opensPlace 34 = .ok (.iastore, 1) := dk_79 (dk_at dksX3_opensPlace_1 12 rfl rfl)
theorem dX3_opensPlace_35 : decode cX3_opensPlace 35 = .ok (.return_, 1) := dk_177 (dk_at dksX3_opensPlace_1 13 rfl rfl)
abbrev cX3_prune : ByteArray := prog_7_method_67_code
def yX3_prune : MethodName := ⟨RX3, "prune", "(I)I"⟩
def dkwX3_prune_1 : List UInt8 := [182, 0, 187, 42, 182, 0, 89, 172]
abbrev dktX3_prune_1 : List UInt8 := dkwX3_prune_1 ++ []
def dkwX3_prune_0 : List UInt8 := [42, 27, 182, 0, 140, 154, 0, 5, 2, 172, 42, 27, 182, 0, 125, 4, 164, 0, 6, 16, 254, 172, 42, 27]
abbrev dktX3_prune_0 : List UInt8 := dkwX3_prune_0 ++ dktX3_prune_1
theorem dksX3_prune_0 : cX3_prune.data.toList.drop 0 = dktX3_prune_0 := by decide +kernel
theorem dksX3_prune_1 : cX3_prune.data.toList.drop 24 = dktX3_prune_1 := dk_seg dksX3_prune_0 24 rfl rfl
theorem dX3_prune_0 : decode cX3_prune 0 = .ok (.aload_n 0, 1) := dk_42 (dk_at dksX3_prune_0 0 rfl rfl)
theorem dX3_prune_1 : decode cX3_prune 1 = .ok (.iload_n 1, 1) := dk_27 (dk_at dksX3_prune_0 1 rfl rfl)
theorem dX3_prune_2 : decode cX3_prune 2 = .ok (.invokevirtual 140, 3) := dk_182 0 140 (dk_at dksX3_prune_0 2 rfl rfl)
theorem dX3_prune_5 : decode cX3_prune 5 = .ok (.ifCond .ne 5, 3) := dk_154 0 5 (dk_at dksX3_prune_0 5 rfl rfl)
theorem dX3_prune_8 : decode cX3_prune 8 = .ok (.iconst (-1), 1) := dk_2 (dk_at dksX3_prune_0 8 rfl rfl)
theorem dX3_prune_9 : decode cX3_prune 9 = .ok (.ireturn, 1) := dk_172 (dk_at dksX3_prune_0 9 rfl rfl)
theorem dX3_prune_10 : decode cX3_prune 10 = .ok (.aload_n 0, 1) := dk_42 (dk_at dksX3_prune_0 10 rfl rfl)
theorem dX3_prune_11 : decode cX3_prune 11 = .ok (.iload_n 1, 1) := dk_27 (dk_at dksX3_prune_0 11 rfl rfl)
theorem dX3_prune_12 : decode cX3_prune 12 = .ok (.invokevirtual 125, 3) := dk_182 0 125 (dk_at dksX3_prune_0 12 rfl rfl)
theorem dX3_prune_15 : decode cX3_prune 15 = .ok (.iconst 1, 1) := dk_4 (dk_at dksX3_prune_0 15 rfl rfl)
theorem dX3_prune_16 : decode cX3_prune 16 = .ok (.if_icmp .le 6, 3) := dk_164 0 6 (dk_at dksX3_prune_0 16 rfl rfl)
theorem dX3_prune_19 : decode cX3_prune 19 = .ok (.bipush (-2), 2) := dk_16 254 (dk_at dksX3_prune_0 19 rfl rfl)
theorem dX3_prune_21 : decode cX3_prune 21 = .ok (.ireturn, 1) := dk_172 (dk_at dksX3_prune_0 21 rfl rfl)
theorem dX3_prune_22 : decode cX3_prune 22 = .ok (.aload_n 0, 1) := dk_42 (dk_at dksX3_prune_0 22 rfl rfl)
theorem dX3_prune_23 : decode cX3_prune 23 = .ok (.iload_n 1, 1) := dk_27 (dk_at dksX3_prune_0 23 rfl rfl)
theorem dX3_prune_24 : decode cX3_prune 24 = .ok (.invokevirtual 187, 3) := dk_182 0 187 (dk_at dksX3_prune_1 0 rfl rfl)
theorem dX3_prune_27 : decode cX3_prune 27 = .ok (.aload_n 0, 1) := dk_42 (dk_at dksX3_prune_1 3 rfl rfl)
theorem dX3_prune_28 : decode cX3_prune 28 = .ok (.invokevirtual 89, 3) := dk_182 0 89 (dk_at dksX3_prune_1 4 rfl rfl)
theorem dX3_prune_31 : decode cX3_prune 31 = .ok (.ireturn, 1) := dk_172 (dk_at dksX3_prune_1 7 rfl rfl)
abbrev cX3_goesOut : ByteArray := prog_7_method_62_code
def yX3_goesOut : MethodName := ⟨RX3, "goesOut", "(I)V"⟩
def dkwX3_goesOut_2 : List UInt8 := [4, 96, 46, 79, 132, 3, 1, 167, 255, 223, 42, 180, 0, 7, 17, 0, 192, 92, 46, 4, 100, 79, 177]
abbrev dktX3_goesOut_2 : List UInt8 := dkwX3_goesOut_2 ++ []
def dkwX3_goesOut_1 : List UInt8 := [96, 16, 64, 162, 0, 31, 42, 180, 0, 7, 17, 0, 128, 29, 96, 42, 180, 0, 7, 17, 0, 128, 29, 96]
abbrev dktX3_goesOut_1 : List UInt8 := dkwX3_goesOut_1 ++ dktX3_goesOut_2
def dkwX3_goesOut_0 : List UInt8 := [42, 27, 182, 0, 99, 61, 42, 42, 28, 182, 0, 115, 182, 0, 173, 42, 28, 182, 0, 173, 27, 62, 29, 4]
abbrev dktX3_goesOut_0 : List UInt8 := dkwX3_goesOut_0 ++ dktX3_goesOut_1
theorem dksX3_goesOut_0 : cX3_goesOut.data.toList.drop 0 = dktX3_goesOut_0 := by decide +kernel
theorem dksX3_goesOut_1 : cX3_goesOut.data.toList.drop 24 = dktX3_goesOut_1 := dk_seg dksX3_goesOut_0 24 rfl rfl
theorem dksX3_goesOut_2 : cX3_goesOut.data.toList.drop 48 = dktX3_goesOut_2 := dk_seg dksX3_goesOut_1 24 rfl rfl
theorem dX3_goesOut_0 : decode cX3_goesOut 0 = .ok (.aload_n 0, 1) := dk_42 (dk_at dksX3_goesOut_0 0 rfl rfl)
theorem dX3_goesOut_1 : decode cX3_goesOut 1 = .ok (.iload_n 1, 1) := dk_27 (dk_at dksX3_goesOut_0 1 rfl rfl)
theorem dX3_goesOut_2 : decode cX3_goesOut 2 = .ok (.invokevirtual 99, 3) := dk_182 0 99 (dk_at dksX3_goesOut_0 2 rfl rfl)
theorem dX3_goesOut_5 : decode cX3_goesOut 5 = .ok (.istore_n 2, 1) := dk_61 (dk_at dksX3_goesOut_0 5 rfl rfl)
theorem dX3_goesOut_6 : decode cX3_goesOut 6 = .ok (.aload_n 0, 1) := dk_42 (dk_at dksX3_goesOut_0 6 rfl rfl)
theorem dX3_goesOut_7 : decode cX3_goesOut 7 = .ok (.aload_n 0, 1) := dk_42 (dk_at dksX3_goesOut_0 7 rfl rfl)
theorem dX3_goesOut_8 : decode cX3_goesOut 8 = .ok (.iload_n 2, 1) := dk_28 (dk_at dksX3_goesOut_0 8 rfl rfl)
theorem dX3_goesOut_9 : decode cX3_goesOut 9 = .ok (.invokevirtual 115, 3) := dk_182 0 115 (dk_at dksX3_goesOut_0 9 rfl rfl)
theorem dX3_goesOut_12 : decode cX3_goesOut 12 = .ok (.invokevirtual 173, 3) := dk_182 0 173 (dk_at dksX3_goesOut_0 12 rfl rfl)
theorem dX3_goesOut_15 : decode cX3_goesOut 15 = .ok (.aload_n 0, 1) := dk_42 (dk_at dksX3_goesOut_0 15 rfl rfl)
theorem dX3_goesOut_16 : decode cX3_goesOut 16 = .ok (.iload_n 2, 1) := dk_28 (dk_at dksX3_goesOut_0 16 rfl rfl)
theorem dX3_goesOut_17 : decode cX3_goesOut 17 = .ok (.invokevirtual 173, 3) := dk_182 0 173 (dk_at dksX3_goesOut_0 17 rfl rfl)
theorem dX3_goesOut_20 : decode cX3_goesOut 20 = .ok (.iload_n 1, 1) := dk_27 (dk_at dksX3_goesOut_0 20 rfl rfl)
theorem dX3_goesOut_21 : decode cX3_goesOut 21 = .ok (.istore_n 3, 1) := dk_62 (dk_at dksX3_goesOut_0 21 rfl rfl)
theorem dX3_goesOut_22 : decode cX3_goesOut 22 = .ok (.iload_n 3, 1) := dk_29 (dk_at dksX3_goesOut_0 22 rfl rfl)
theorem dX3_goesOut_23 : decode cX3_goesOut 23 = .ok (.iconst 1, 1) := dk_4 (dk_at dksX3_goesOut_0 23 rfl rfl)
theorem dX3_goesOut_24 : decode cX3_goesOut 24 = .ok (.iadd, 1) := dk_96 (dk_at dksX3_goesOut_1 0 rfl rfl)
theorem dX3_goesOut_25 : decode cX3_goesOut 25 = .ok (.bipush 64, 2) := dk_16 64 (dk_at dksX3_goesOut_1 1 rfl rfl)
theorem dX3_goesOut_27 : decode cX3_goesOut 27 = .ok (.if_icmp .ge 31, 3) := dk_162 0 31 (dk_at dksX3_goesOut_1 3 rfl rfl)
theorem dX3_goesOut_30 : decode cX3_goesOut 30 = .ok (.aload_n 0, 1) := dk_42 (dk_at dksX3_goesOut_1 6 rfl rfl)
theorem dX3_goesOut_31 : decode cX3_goesOut 31 = .ok (.getfield 7, 3) := dk_180 0 7 (dk_at dksX3_goesOut_1 7 rfl rfl)
theorem dX3_goesOut_34 : decode cX3_goesOut 34 = .ok (.sipush 128, 3) := dk_17 0 128 (dk_at dksX3_goesOut_1 10 rfl rfl)
theorem dX3_goesOut_37 : decode cX3_goesOut 37 = .ok (.iload_n 3, 1) := dk_29 (dk_at dksX3_goesOut_1 13 rfl rfl)
theorem dX3_goesOut_38 : decode cX3_goesOut 38 = .ok (.iadd, 1) := dk_96 (dk_at dksX3_goesOut_1 14 rfl rfl)
theorem dX3_goesOut_39 : decode cX3_goesOut 39 = .ok (.aload_n 0, 1) := dk_42 (dk_at dksX3_goesOut_1 15 rfl rfl)
theorem dX3_goesOut_40 : decode cX3_goesOut 40 = .ok (.getfield 7, 3) := dk_180 0 7 (dk_at dksX3_goesOut_1 16 rfl rfl)
theorem dX3_goesOut_43 : decode cX3_goesOut 43 = .ok (.sipush 128, 3) := dk_17 0 128 (dk_at dksX3_goesOut_1 19 rfl rfl)
theorem dX3_goesOut_46 : decode cX3_goesOut 46 = .ok (.iload_n 3, 1) := dk_29 (dk_at dksX3_goesOut_1 22 rfl rfl)
theorem dX3_goesOut_47 : decode cX3_goesOut 47 = .ok (.iadd, 1) := dk_96 (dk_at dksX3_goesOut_1 23 rfl rfl)
theorem dX3_goesOut_48 : decode cX3_goesOut 48 = .ok (.iconst 1, 1) := dk_4 (dk_at dksX3_goesOut_2 0 rfl rfl)
theorem dX3_goesOut_49 : decode cX3_goesOut 49 = .ok (.iadd, 1) := dk_96 (dk_at dksX3_goesOut_2 1 rfl rfl)
theorem dX3_goesOut_50 : decode cX3_goesOut 50 = .ok (.iaload, 1) := dk_46 (dk_at dksX3_goesOut_2 2 rfl rfl)
theorem dX3_goesOut_51 : decode cX3_goesOut 51 = .ok (.iastore, 1) := dk_79 (dk_at dksX3_goesOut_2 3 rfl rfl)
theorem dX3_goesOut_52 : decode cX3_goesOut 52 = .ok (.iinc 3 1, 3) := dk_132 3 1 (dk_at dksX3_goesOut_2 4 rfl rfl)
theorem dX3_goesOut_55 : decode cX3_goesOut 55 = .ok (.goto (-33), 3) := dk_167 255 223 (dk_at dksX3_goesOut_2 7 rfl rfl)
theorem dX3_goesOut_58 : decode cX3_goesOut 58 = .ok (.aload_n 0, 1) := dk_42 (dk_at dksX3_goesOut_2 10 rfl rfl)
theorem dX3_goesOut_59 : decode cX3_goesOut 59 = .ok (.getfield 7, 3) := dk_180 0 7 (dk_at dksX3_goesOut_2 11 rfl rfl)
theorem dX3_goesOut_62 : decode cX3_goesOut 62 = .ok (.sipush 192, 3) := dk_17 0 192 (dk_at dksX3_goesOut_2 14 rfl rfl)
theorem dX3_goesOut_65 : decode cX3_goesOut 65 = .ok (.dup2, 1) := dk_92 (dk_at dksX3_goesOut_2 17 rfl rfl)
theorem dX3_goesOut_66 : decode cX3_goesOut 66 = .ok (.iaload, 1) := dk_46 (dk_at dksX3_goesOut_2 18 rfl rfl)
theorem dX3_goesOut_67 : decode cX3_goesOut 67 = .ok (.iconst 1, 1) := dk_4 (dk_at dksX3_goesOut_2 19 rfl rfl)
theorem dX3_goesOut_68 : decode cX3_goesOut 68 = .ok (.isub, 1) := dk_100 (dk_at dksX3_goesOut_2 20 rfl rfl)
theorem dX3_goesOut_69 : decode cX3_goesOut 69 = .ok (.iastore, 1) := dk_79 (dk_at dksX3_goesOut_2 21 rfl rfl)
theorem dX3_goesOut_70 : decode cX3_goesOut 70 = .ok (.return_, 1) := dk_177 (dk_at dksX3_goesOut_2 22 rfl rfl)
abbrev cX3_shutsPlace : ByteArray := prog_7_method_60_code
def yX3_shutsPlace : MethodName := ⟨RX3, "shutsPlace", "(I)V"⟩
def dkwX3_shutsPlace_1 : List UInt8 := [79, 132, 2, 1, 167, 255, 230, 177]
abbrev dktX3_shutsPlace_1 : List UInt8 := dkwX3_shutsPlace_1 ++ []
def dkwX3_shutsPlace_0 : List UInt8 := [27, 61, 28, 4, 96, 17, 0, 128, 162, 0, 23, 42, 180, 0, 7, 28, 42, 180, 0, 7, 28, 4, 96, 46]
abbrev dktX3_shutsPlace_0 : List UInt8 := dkwX3_shutsPlace_0 ++ dktX3_shutsPlace_1
theorem dksX3_shutsPlace_0 : cX3_shutsPlace.data.toList.drop 0 = dktX3_shutsPlace_0 := by decide +kernel
theorem dksX3_shutsPlace_1 : cX3_shutsPlace.data.toList.drop 24 = dktX3_shutsPlace_1 := dk_seg dksX3_shutsPlace_0 24 rfl rfl
theorem dX3_shutsPlace_0 : decode cX3_shutsPlace 0 = .ok (.iload_n 1, 1) := dk_27 (dk_at dksX3_shutsPlace_0 0 rfl rfl)
theorem dX3_shutsPlace_1 : decode cX3_shutsPlace 1 = .ok (.istore_n 2, 1) := dk_61 (dk_at dksX3_shutsPlace_0 1 rfl rfl)
theorem dX3_shutsPlace_2 : decode cX3_shutsPlace 2 = .ok (.iload_n 2, 1) := dk_28 (dk_at dksX3_shutsPlace_0 2 rfl rfl)
theorem dX3_shutsPlace_3 : decode cX3_shutsPlace 3 = .ok (.iconst 1, 1) := dk_4 (dk_at dksX3_shutsPlace_0 3 rfl rfl)
theorem dX3_shutsPlace_4 : decode cX3_shutsPlace 4 = .ok (.iadd, 1) := dk_96 (dk_at dksX3_shutsPlace_0 4 rfl rfl)
theorem dX3_shutsPlace_5 : decode cX3_shutsPlace 5 = .ok (.sipush 128, 3) := dk_17 0 128 (dk_at dksX3_shutsPlace_0 5 rfl rfl)
theorem dX3_shutsPlace_8 : decode cX3_shutsPlace 8 = .ok (.if_icmp .ge 23, 3) := dk_162 0 23 (dk_at dksX3_shutsPlace_0 8 rfl rfl)
theorem dX3_shutsPlace_11 : decode cX3_shutsPlace 11 = .ok (.aload_n 0, 1) := dk_42 (dk_at dksX3_shutsPlace_0 11 rfl rfl)
theorem dX3_shutsPlace_12 : decode cX3_shutsPlace 12 = .ok (.getfield 7, 3) := dk_180 0 7 (dk_at dksX3_shutsPlace_0 12 rfl rfl)
theorem dX3_shutsPlace_15 : decode cX3_shutsPlace 15 = .ok (.iload_n 2, 1) := dk_28 (dk_at dksX3_shutsPlace_0 15 rfl rfl)
theorem dX3_shutsPlace_16 : decode cX3_shutsPlace 16 = .ok (.aload_n 0, 1) := dk_42 (dk_at dksX3_shutsPlace_0 16 rfl rfl)
theorem dX3_shutsPlace_17 : decode cX3_shutsPlace 17 = .ok (.getfield 7, 3) := dk_180 0 7 (dk_at dksX3_shutsPlace_0 17 rfl rfl)
theorem dX3_shutsPlace_20 : decode cX3_shutsPlace 20 = .ok (.iload_n 2, 1) := dk_28 (dk_at dksX3_shutsPlace_0 20 rfl rfl)
theorem dX3_shutsPlace_21 : decode cX3_shutsPlace 21 = .ok (.iconst 1, 1) := dk_4 (dk_at dksX3_shutsPlace_0 21 rfl rfl)
theorem dX3_shutsPlace_22 : decode cX3_shutsPlace 22 = .ok (.iadd, 1) := dk_96 (dk_at dksX3_shutsPlace_0 22 rfl rfl)
theorem dX3_shutsPlace_23 : decode cX3_shutsPlace 23 = .ok (.iaload, 1) := dk_46 (dk_at dksX3_shutsPlace_0 23 rfl rfl)
theorem dX3_shutsPlace_24 : decode cX3_shutsPlace 24 = .ok (.iastore, 1) := dk_79 (dk_at dksX3_shutsPlace_1 0 rfl rfl)
theorem dX3_shutsPlace_25 : decode cX3_shutsPlace 25 = .ok (.iinc 2 1, 3) := dk_132 2 1 (dk_at dksX3_shutsPlace_1 1 rfl rfl)
theorem dX3_shutsPlace_28 : decode cX3_shutsPlace 28 = .ok (.goto (-26), 3) := dk_167 255 230 (dk_at dksX3_shutsPlace_1 4 rfl rfl)
theorem dX3_shutsPlace_31 : decode cX3_shutsPlace 31 = .ok (.return_, 1) := dk_177 (dk_at dksX3_shutsPlace_1 7 rfl rfl)
abbrev cX3_fell : ByteArray := prog_7_method_68_code
def yX3_fell : MethodName := ⟨RX3, "fell", "(I)I"⟩
def dkwX3_fell_1 : List UInt8 := [42, 27, 29, 96, 182, 0, 187, 132, 3, 255, 167, 255, 242, 28, 172]
abbrev dktX3_fell_1 : List UInt8 := dkwX3_fell_1 ++ []
def dkwX3_fell_0 : List UInt8 := [42, 27, 182, 0, 140, 154, 0, 5, 2, 172, 42, 27, 182, 0, 125, 61, 28, 4, 100, 62, 29, 155, 0, 16]
abbrev dktX3_fell_0 : List UInt8 := dkwX3_fell_0 ++ dktX3_fell_1
theorem dksX3_fell_0 : cX3_fell.data.toList.drop 0 = dktX3_fell_0 := by decide +kernel
theorem dksX3_fell_1 : cX3_fell.data.toList.drop 24 = dktX3_fell_1 := dk_seg dksX3_fell_0 24 rfl rfl
theorem dX3_fell_0 : decode cX3_fell 0 = .ok (.aload_n 0, 1) := dk_42 (dk_at dksX3_fell_0 0 rfl rfl)
theorem dX3_fell_1 : decode cX3_fell 1 = .ok (.iload_n 1, 1) := dk_27 (dk_at dksX3_fell_0 1 rfl rfl)
theorem dX3_fell_2 : decode cX3_fell 2 = .ok (.invokevirtual 140, 3) := dk_182 0 140 (dk_at dksX3_fell_0 2 rfl rfl)
theorem dX3_fell_5 : decode cX3_fell 5 = .ok (.ifCond .ne 5, 3) := dk_154 0 5 (dk_at dksX3_fell_0 5 rfl rfl)
theorem dX3_fell_8 : decode cX3_fell 8 = .ok (.iconst (-1), 1) := dk_2 (dk_at dksX3_fell_0 8 rfl rfl)
theorem dX3_fell_9 : decode cX3_fell 9 = .ok (.ireturn, 1) := dk_172 (dk_at dksX3_fell_0 9 rfl rfl)
theorem dX3_fell_10 : decode cX3_fell 10 = .ok (.aload_n 0, 1) := dk_42 (dk_at dksX3_fell_0 10 rfl rfl)
theorem dX3_fell_11 : decode cX3_fell 11 = .ok (.iload_n 1, 1) := dk_27 (dk_at dksX3_fell_0 11 rfl rfl)
theorem dX3_fell_12 : decode cX3_fell 12 = .ok (.invokevirtual 125, 3) := dk_182 0 125 (dk_at dksX3_fell_0 12 rfl rfl)
theorem dX3_fell_15 : decode cX3_fell 15 = .ok (.istore_n 2, 1) := dk_61 (dk_at dksX3_fell_0 15 rfl rfl)
theorem dX3_fell_16 : decode cX3_fell 16 = .ok (.iload_n 2, 1) := dk_28 (dk_at dksX3_fell_0 16 rfl rfl)
theorem dX3_fell_17 : decode cX3_fell 17 = .ok (.iconst 1, 1) := dk_4 (dk_at dksX3_fell_0 17 rfl rfl)
theorem dX3_fell_18 : decode cX3_fell 18 = .ok (.isub, 1) := dk_100 (dk_at dksX3_fell_0 18 rfl rfl)
theorem dX3_fell_19 : decode cX3_fell 19 = .ok (.istore_n 3, 1) := dk_62 (dk_at dksX3_fell_0 19 rfl rfl)
theorem dX3_fell_20 : decode cX3_fell 20 = .ok (.iload_n 3, 1) := dk_29 (dk_at dksX3_fell_0 20 rfl rfl)
theorem dX3_fell_21 : decode cX3_fell 21 = .ok (.ifCond .lt 16, 3) := dk_155 0 16 (dk_at dksX3_fell_0 21 rfl rfl)
theorem dX3_fell_24 : decode cX3_fell 24 = .ok (.aload_n 0, 1) := dk_42 (dk_at dksX3_fell_1 0 rfl rfl)
theorem dX3_fell_25 : decode cX3_fell 25 = .ok (.iload_n 1, 1) := dk_27 (dk_at dksX3_fell_1 1 rfl rfl)
theorem dX3_fell_26 : decode cX3_fell 26 = .ok (.iload_n 3, 1) := dk_29 (dk_at dksX3_fell_1 2 rfl rfl)
theorem dX3_fell_27 : decode cX3_fell 27 = .ok (.iadd, 1) := dk_96 (dk_at dksX3_fell_1 3 rfl rfl)
theorem dX3_fell_28 : decode cX3_fell 28 = .ok (.invokevirtual 187, 3) := dk_182 0 187 (dk_at dksX3_fell_1 4 rfl rfl)
theorem dX3_fell_31 : decode cX3_fell 31 = .ok (.iinc 3 (-1), 3) := dk_132 3 255 (dk_at dksX3_fell_1 7 rfl rfl)
theorem dX3_fell_34 : decode cX3_fell 34 = .ok (.goto (-14), 3) := dk_167 255 242 (dk_at dksX3_fell_1 10 rfl rfl)
theorem dX3_fell_37 : decode cX3_fell 37 = .ok (.iload_n 2, 1) := dk_28 (dk_at dksX3_fell_1 13 rfl rfl)
theorem dX3_fell_38 : decode cX3_fell 38 = .ok (.ireturn, 1) := dk_172 (dk_at dksX3_fell_1 14 rfl rfl)
abbrev cX3_wrap : ByteArray := prog_7_method_69_code
def yX3_wrap : MethodName := ⟨RX3, "wrap", "(IIII)I"⟩
def dkwX3_wrap_3 : List UInt8 := [182, 0, 179, 42, 21, 5, 182, 0, 137, 172]
abbrev dktX3_wrap_3 : List UInt8 := dkwX3_wrap_3 ++ []
def dkwX3_wrap_2 : List UInt8 := [16, 253, 172, 42, 27, 28, 182, 0, 176, 54, 5, 42, 21, 5, 42, 27, 28, 29, 96, 182, 0, 176, 21, 4]
abbrev dktX3_wrap_2 : List UInt8 := dkwX3_wrap_2 ++ dktX3_wrap_3
def dkwX3_wrap_1 : List UInt8 := [182, 0, 146, 133, 148, 157, 0, 8, 21, 4, 156, 0, 5, 2, 172, 42, 182, 0, 89, 16, 64, 160, 0, 6]
abbrev dktX3_wrap_1 : List UInt8 := dkwX3_wrap_1 ++ dktX3_wrap_2
def dkwX3_wrap_0 : List UInt8 := [42, 27, 182, 0, 140, 153, 0, 31, 28, 155, 0, 27, 29, 155, 0, 23, 28, 133, 29, 133, 97, 42, 27]
abbrev dktX3_wrap_0 : List UInt8 := dkwX3_wrap_0 ++ dktX3_wrap_1
theorem dksX3_wrap_0 : cX3_wrap.data.toList.drop 0 = dktX3_wrap_0 := by decide +kernel
theorem dksX3_wrap_1 : cX3_wrap.data.toList.drop 23 = dktX3_wrap_1 := dk_seg dksX3_wrap_0 23 rfl rfl
theorem dksX3_wrap_2 : cX3_wrap.data.toList.drop 47 = dktX3_wrap_2 := dk_seg dksX3_wrap_1 24 rfl rfl
theorem dksX3_wrap_3 : cX3_wrap.data.toList.drop 71 = dktX3_wrap_3 := dk_seg dksX3_wrap_2 24 rfl rfl
theorem dX3_wrap_0 : decode cX3_wrap 0 = .ok (.aload_n 0, 1) := dk_42 (dk_at dksX3_wrap_0 0 rfl rfl)
theorem dX3_wrap_1 : decode cX3_wrap 1 = .ok (.iload_n 1, 1) := dk_27 (dk_at dksX3_wrap_0 1 rfl rfl)
theorem dX3_wrap_2 : decode cX3_wrap 2 = .ok (.invokevirtual 140, 3) := dk_182 0 140 (dk_at dksX3_wrap_0 2 rfl rfl)
theorem dX3_wrap_5 : decode cX3_wrap 5 = .ok (.ifCond .eq 31, 3) := dk_153 0 31 (dk_at dksX3_wrap_0 5 rfl rfl)
theorem dX3_wrap_8 : decode cX3_wrap 8 = .ok (.iload_n 2, 1) := dk_28 (dk_at dksX3_wrap_0 8 rfl rfl)
theorem dX3_wrap_9 : decode cX3_wrap 9 = .ok (.ifCond .lt 27, 3) := dk_155 0 27 (dk_at dksX3_wrap_0 9 rfl rfl)
theorem dX3_wrap_12 : decode cX3_wrap 12 = .ok (.iload_n 3, 1) := dk_29 (dk_at dksX3_wrap_0 12 rfl rfl)
theorem dX3_wrap_13 : decode cX3_wrap 13 = .ok (.ifCond .lt 23, 3) := dk_155 0 23 (dk_at dksX3_wrap_0 13 rfl rfl)
theorem dX3_wrap_16 : decode cX3_wrap 16 = .ok (.iload_n 2, 1) := dk_28 (dk_at dksX3_wrap_0 16 rfl rfl)
theorem dX3_wrap_17 : decode cX3_wrap 17 = .ok (.i2l, 1) := dk_133 (dk_at dksX3_wrap_0 17 rfl rfl)
theorem dX3_wrap_18 : decode cX3_wrap 18 = .ok (.iload_n 3, 1) := dk_29 (dk_at dksX3_wrap_0 18 rfl rfl)
theorem dX3_wrap_19 : decode cX3_wrap 19 = .ok (.i2l, 1) := dk_133 (dk_at dksX3_wrap_0 19 rfl rfl)
theorem dX3_wrap_20 : decode cX3_wrap 20 = .ok (.ladd, 1) := dk_97 (dk_at dksX3_wrap_0 20 rfl rfl)
theorem dX3_wrap_21 : decode cX3_wrap 21 = .ok (.aload_n 0, 1) := dk_42 (dk_at dksX3_wrap_0 21 rfl rfl)
theorem dX3_wrap_22 : decode cX3_wrap 22 = .ok (.iload_n 1, 1) := dk_27 (dk_at dksX3_wrap_0 22 rfl rfl)
theorem dX3_wrap_23 : decode cX3_wrap 23 = .ok (.invokevirtual 146, 3) := dk_182 0 146 (dk_at dksX3_wrap_1 0 rfl rfl)
theorem dX3_wrap_26 : decode cX3_wrap 26 = .ok (.i2l, 1) := dk_133 (dk_at dksX3_wrap_1 3 rfl rfl)
theorem dX3_wrap_27 : decode cX3_wrap 27 = .ok (.lcmp, 1) := dk_148 (dk_at dksX3_wrap_1 4 rfl rfl)
theorem dX3_wrap_28 : decode cX3_wrap 28 = .ok (.ifCond .gt 8, 3) := dk_157 0 8 (dk_at dksX3_wrap_1 5 rfl rfl)
theorem dX3_wrap_31 : decode cX3_wrap 31 = .ok (.iload 4, 2) := dk_21 4 (dk_at dksX3_wrap_1 8 rfl rfl)
theorem dX3_wrap_33 : decode cX3_wrap 33 = .ok (.ifCond .ge 5, 3) := dk_156 0 5 (dk_at dksX3_wrap_1 10 rfl rfl)
theorem dX3_wrap_36 : decode cX3_wrap 36 = .ok (.iconst (-1), 1) := dk_2 (dk_at dksX3_wrap_1 13 rfl rfl)
theorem dX3_wrap_37 : decode cX3_wrap 37 = .ok (.ireturn, 1) := dk_172 (dk_at dksX3_wrap_1 14 rfl rfl)
theorem dX3_wrap_38 : decode cX3_wrap 38 = .ok (.aload_n 0, 1) := dk_42 (dk_at dksX3_wrap_1 15 rfl rfl)
theorem dX3_wrap_39 : decode cX3_wrap 39 = .ok (.invokevirtual 89, 3) := dk_182 0 89 (dk_at dksX3_wrap_1 16 rfl rfl)
theorem dX3_wrap_42 : decode cX3_wrap 42 = .ok (.bipush 64, 2) := dk_16 64 (dk_at dksX3_wrap_1 19 rfl rfl)
theorem dX3_wrap_44 : decode cX3_wrap 44 = .ok (.if_icmp .ne 6, 3) := dk_160 0 6 (dk_at dksX3_wrap_1 21 rfl rfl)
theorem dX3_wrap_47 : decode cX3_wrap 47 = .ok (.bipush (-3), 2) := dk_16 253 (dk_at dksX3_wrap_2 0 rfl rfl)
theorem dX3_wrap_49 : decode cX3_wrap 49 = .ok (.ireturn, 1) := dk_172 (dk_at dksX3_wrap_2 2 rfl rfl)
theorem dX3_wrap_50 : decode cX3_wrap 50 = .ok (.aload_n 0, 1) := dk_42 (dk_at dksX3_wrap_2 3 rfl rfl)
theorem dX3_wrap_51 : decode cX3_wrap 51 = .ok (.iload_n 1, 1) := dk_27 (dk_at dksX3_wrap_2 4 rfl rfl)
theorem dX3_wrap_52 : decode cX3_wrap 52 = .ok (.iload_n 2, 1) := dk_28 (dk_at dksX3_wrap_2 5 rfl rfl)
theorem dX3_wrap_53 : decode cX3_wrap 53 = .ok (.invokevirtual 176, 3) := dk_182 0 176 (dk_at dksX3_wrap_2 6 rfl rfl)
theorem dX3_wrap_56 : decode cX3_wrap 56 = .ok (.istore 5, 2) := dk_54 5 (dk_at dksX3_wrap_2 9 rfl rfl)
theorem dX3_wrap_58 : decode cX3_wrap 58 = .ok (.aload_n 0, 1) := dk_42 (dk_at dksX3_wrap_2 11 rfl rfl)
theorem dX3_wrap_59 : decode cX3_wrap 59 = .ok (.iload 5, 2) := dk_21 5 (dk_at dksX3_wrap_2 12 rfl rfl)
theorem dX3_wrap_61 : decode cX3_wrap 61 = .ok (.aload_n 0, 1) := dk_42 (dk_at dksX3_wrap_2 14 rfl rfl)
theorem dX3_wrap_62 : decode cX3_wrap 62 = .ok (.iload_n 1, 1) := dk_27 (dk_at dksX3_wrap_2 15 rfl rfl)
theorem dX3_wrap_63 : decode cX3_wrap 63 = .ok (.iload_n 2, 1) := dk_28 (dk_at dksX3_wrap_2 16 rfl rfl)
theorem dX3_wrap_64 : decode cX3_wrap 64 = .ok (.iload_n 3, 1) := dk_29 (dk_at dksX3_wrap_2 17 rfl rfl)
theorem dX3_wrap_65 : decode cX3_wrap 65 = .ok (.iadd, 1) := dk_96 (dk_at dksX3_wrap_2 18 rfl rfl)
theorem dX3_wrap_66 : decode cX3_wrap 66 = .ok (.invokevirtual 176, 3) := dk_182 0 176 (dk_at dksX3_wrap_2 19 rfl rfl)
theorem dX3_wrap_69 : decode cX3_wrap 69 = .ok (.iload 4, 2) := dk_21 4 (dk_at dksX3_wrap_2 22 rfl rfl)
theorem dX3_wrap_71 : decode cX3_wrap 71 = .ok (.invokevirtual 179, 3) := dk_182 0 179 (dk_at dksX3_wrap_3 0 rfl rfl)
theorem dX3_wrap_74 : decode cX3_wrap 74 = .ok (.aload_n 0, 1) := dk_42 (dk_at dksX3_wrap_3 3 rfl rfl)
theorem dX3_wrap_75 : decode cX3_wrap 75 = .ok (.iload 5, 2) := dk_21 5 (dk_at dksX3_wrap_3 4 rfl rfl)
theorem dX3_wrap_77 : decode cX3_wrap 77 = .ok (.invokevirtual 137, 3) := dk_182 0 137 (dk_at dksX3_wrap_3 6 rfl rfl)
theorem dX3_wrap_80 : decode cX3_wrap 80 = .ok (.ireturn, 1) := dk_172 (dk_at dksX3_wrap_3 9 rfl rfl)
abbrev cX3_melt : ByteArray := prog_7_method_70_code
def yX3_melt : MethodName := ⟨RX3, "melt", "(I)I"⟩
def dkwX3_melt_1 : List UInt8 := [16, 254, 172, 42, 27, 182, 0, 187, 42, 182, 0, 89, 172]
abbrev dktX3_melt_1 : List UInt8 := dkwX3_melt_1 ++ []
def dkwX3_melt_0 : List UInt8 := [42, 27, 182, 0, 140, 154, 0, 5, 2, 172, 27, 154, 0, 15, 42, 3, 182, 0, 146, 4, 159, 0, 6]
abbrev dktX3_melt_0 : List UInt8 := dkwX3_melt_0 ++ dktX3_melt_1
theorem dksX3_melt_0 : cX3_melt.data.toList.drop 0 = dktX3_melt_0 := by decide +kernel
theorem dksX3_melt_1 : cX3_melt.data.toList.drop 23 = dktX3_melt_1 := dk_seg dksX3_melt_0 23 rfl rfl
theorem dX3_melt_0 : decode cX3_melt 0 = .ok (.aload_n 0, 1) := dk_42 (dk_at dksX3_melt_0 0 rfl rfl)
theorem dX3_melt_1 : decode cX3_melt 1 = .ok (.iload_n 1, 1) := dk_27 (dk_at dksX3_melt_0 1 rfl rfl)
theorem dX3_melt_2 : decode cX3_melt 2 = .ok (.invokevirtual 140, 3) := dk_182 0 140 (dk_at dksX3_melt_0 2 rfl rfl)
theorem dX3_melt_5 : decode cX3_melt 5 = .ok (.ifCond .ne 5, 3) := dk_154 0 5 (dk_at dksX3_melt_0 5 rfl rfl)
theorem dX3_melt_8 : decode cX3_melt 8 = .ok (.iconst (-1), 1) := dk_2 (dk_at dksX3_melt_0 8 rfl rfl)
theorem dX3_melt_9 : decode cX3_melt 9 = .ok (.ireturn, 1) := dk_172 (dk_at dksX3_melt_0 9 rfl rfl)
theorem dX3_melt_10 : decode cX3_melt 10 = .ok (.iload_n 1, 1) := dk_27 (dk_at dksX3_melt_0 10 rfl rfl)
theorem dX3_melt_11 : decode cX3_melt 11 = .ok (.ifCond .ne 15, 3) := dk_154 0 15 (dk_at dksX3_melt_0 11 rfl rfl)
theorem dX3_melt_14 : decode cX3_melt 14 = .ok (.aload_n 0, 1) := dk_42 (dk_at dksX3_melt_0 14 rfl rfl)
theorem dX3_melt_15 : decode cX3_melt 15 = .ok (.iconst 0, 1) := dk_3 (dk_at dksX3_melt_0 15 rfl rfl)
theorem dX3_melt_16 : decode cX3_melt 16 = .ok (.invokevirtual 146, 3) := dk_182 0 146 (dk_at dksX3_melt_0 16 rfl rfl)
theorem dX3_melt_19 : decode cX3_melt 19 = .ok (.iconst 1, 1) := dk_4 (dk_at dksX3_melt_0 19 rfl rfl)
theorem dX3_melt_20 : decode cX3_melt 20 = .ok (.if_icmp .eq 6, 3) := dk_159 0 6 (dk_at dksX3_melt_0 20 rfl rfl)
theorem dX3_melt_23 : decode cX3_melt 23 = .ok (.bipush (-2), 2) := dk_16 254 (dk_at dksX3_melt_1 0 rfl rfl)
theorem dX3_melt_25 : decode cX3_melt 25 = .ok (.ireturn, 1) := dk_172 (dk_at dksX3_melt_1 2 rfl rfl)
theorem dX3_melt_26 : decode cX3_melt 26 = .ok (.aload_n 0, 1) := dk_42 (dk_at dksX3_melt_1 3 rfl rfl)
theorem dX3_melt_27 : decode cX3_melt 27 = .ok (.iload_n 1, 1) := dk_27 (dk_at dksX3_melt_1 4 rfl rfl)
theorem dX3_melt_28 : decode cX3_melt 28 = .ok (.invokevirtual 187, 3) := dk_182 0 187 (dk_at dksX3_melt_1 5 rfl rfl)
theorem dX3_melt_31 : decode cX3_melt 31 = .ok (.aload_n 0, 1) := dk_42 (dk_at dksX3_melt_1 8 rfl rfl)
theorem dX3_melt_32 : decode cX3_melt 32 = .ok (.invokevirtual 89, 3) := dk_182 0 89 (dk_at dksX3_melt_1 9 rfl rfl)
theorem dX3_melt_35 : decode cX3_melt 35 = .ok (.ireturn, 1) := dk_172 (dk_at dksX3_melt_1 12 rfl rfl)
abbrev cX3_graft : ByteArray := prog_7_method_71_code
def yX3_graft : MethodName := ⟨RX3, "graft", "(III)I"⟩
def dkwX3_graft_14 : List UInt8 := [17, 0, 192, 92, 46, 21, 4, 96, 79, 21, 8, 172]
abbrev dktX3_graft_14 : List UInt8 := dkwX3_graft_14 ++ []
def dkwX3_graft_13 : List UInt8 := [21, 8, 96, 21, 9, 96, 42, 180, 0, 22, 21, 9, 46, 79, 132, 9, 1, 167, 255, 225, 42, 180, 0, 7]
abbrev dktX3_graft_13 : List UInt8 := dkwX3_graft_13 ++ dktX3_graft_14
def dkwX3_graft_12 : List UInt8 := [132, 9, 255, 167, 255, 218, 3, 54, 9, 21, 9, 21, 4, 162, 0, 30, 42, 180, 0, 7, 17, 0, 128]
abbrev dktX3_graft_12 : List UInt8 := dkwX3_graft_12 ++ dktX3_graft_13
def dkwX3_graft_11 : List UInt8 := [180, 0, 7, 17, 0, 128, 21, 9, 96, 42, 180, 0, 7, 17, 0, 128, 21, 9, 96, 21, 4, 100, 46, 79]
abbrev dktX3_graft_11 : List UInt8 := dkwX3_graft_11 ++ dktX3_graft_12
def dkwX3_graft_10 : List UInt8 := [182, 0, 169, 132, 9, 1, 167, 255, 228, 16, 63, 54, 9, 21, 9, 21, 8, 21, 4, 96, 161, 0, 34, 42]
abbrev dktX3_graft_10 : List UInt8 := dkwX3_graft_10 ++ dktX3_graft_11
def dkwX3_graft_9 : List UInt8 := [21, 9, 5, 21, 4, 104, 162, 0, 25, 42, 21, 7, 21, 9, 96, 42, 180, 0, 19, 21, 9, 46]
abbrev dktX3_graft_9 : List UInt8 := dkwX3_graft_9 ++ dktX3_graft_10
def dkwX3_graft_8 : List UInt8 := [21, 4, 100, 167, 0, 4, 28, 29, 182, 0, 176, 54, 7, 42, 21, 7, 182, 0, 137, 54, 8, 3, 54, 9]
abbrev dktX3_graft_8 : List UInt8 := dkwX3_graft_8 ++ dktX3_graft_9
def dkwX3_graft_7 : List UInt8 := [155, 0, 17, 42, 27, 21, 7, 96, 182, 0, 187, 132, 7, 255, 167, 255, 240, 42, 28, 27, 164, 0, 10, 28]
abbrev dktX3_graft_7 : List UInt8 := dkwX3_graft_7 ++ dktX3_graft_8
def dkwX3_graft_6 : List UInt8 := [17, 0, 128, 27, 96, 21, 7, 96, 46, 79, 132, 7, 1, 167, 255, 226, 21, 4, 4, 100, 54, 7, 21, 7]
abbrev dktX3_graft_6 : List UInt8 := dkwX3_graft_6 ++ dktX3_graft_7
def dkwX3_graft_5 : List UInt8 := [167, 255, 227, 3, 54, 7, 21, 7, 21, 4, 162, 0, 29, 42, 180, 0, 22, 21, 7, 42, 180, 0, 7]
abbrev dktX3_graft_5 : List UInt8 := dkwX3_graft_5 ++ dktX3_graft_6
def dkwX3_graft_4 : List UInt8 := [162, 0, 26, 42, 180, 0, 19, 21, 7, 42, 180, 0, 7, 21, 6, 21, 7, 96, 46, 79, 132, 7, 1]
abbrev dktX3_graft_4 : List UInt8 := dkwX3_graft_4 ++ dktX3_graft_5
def dkwX3_graft_3 : List UInt8 := [184, 0, 41, 154, 0, 5, 2, 172, 42, 27, 182, 0, 99, 54, 6, 3, 54, 7, 21, 7, 5, 21, 4, 104]
abbrev dktX3_graft_3 : List UInt8 := dkwX3_graft_3 ++ dktX3_graft_4
def dkwX3_graft_2 : List UInt8 := [4, 182, 0, 128, 28, 160, 0, 7, 4, 167, 0, 4, 3, 100, 54, 5, 29, 133, 9, 21, 5, 133]
abbrev dktX3_graft_2 : List UInt8 := dkwX3_graft_2 ++ dktX3_graft_3
def dkwX3_graft_1 : List UInt8 := [28, 182, 0, 161, 153, 0, 6, 16, 254, 172, 42, 27, 182, 0, 125, 54, 4, 42, 28, 182, 0, 146, 42, 27]
abbrev dktX3_graft_1 : List UInt8 := dkwX3_graft_1 ++ dktX3_graft_2
def dkwX3_graft_0 : List UInt8 := [42, 27, 182, 0, 140, 153, 0, 11, 42, 28, 182, 0, 140, 154, 0, 5, 2, 172, 27, 153, 0, 12, 42, 27]
abbrev dktX3_graft_0 : List UInt8 := dkwX3_graft_0 ++ dktX3_graft_1
theorem dksX3_graft_0 : cX3_graft.data.toList.drop 0 = dktX3_graft_0 := by decide +kernel
theorem dksX3_graft_1 : cX3_graft.data.toList.drop 24 = dktX3_graft_1 := dk_seg dksX3_graft_0 24 rfl rfl
theorem dksX3_graft_2 : cX3_graft.data.toList.drop 48 = dktX3_graft_2 := dk_seg dksX3_graft_1 24 rfl rfl
theorem dksX3_graft_3 : cX3_graft.data.toList.drop 70 = dktX3_graft_3 := dk_seg dksX3_graft_2 22 rfl rfl
theorem dksX3_graft_4 : cX3_graft.data.toList.drop 94 = dktX3_graft_4 := dk_seg dksX3_graft_3 24 rfl rfl
theorem dksX3_graft_5 : cX3_graft.data.toList.drop 117 = dktX3_graft_5 := dk_seg dksX3_graft_4 23 rfl rfl
theorem dksX3_graft_6 : cX3_graft.data.toList.drop 140 = dktX3_graft_6 := dk_seg dksX3_graft_5 23 rfl rfl
theorem dksX3_graft_7 : cX3_graft.data.toList.drop 164 = dktX3_graft_7 := dk_seg dksX3_graft_6 24 rfl rfl
theorem dksX3_graft_8 : cX3_graft.data.toList.drop 188 = dktX3_graft_8 := dk_seg dksX3_graft_7 24 rfl rfl
theorem dksX3_graft_9 : cX3_graft.data.toList.drop 212 = dktX3_graft_9 := dk_seg dksX3_graft_8 24 rfl rfl
theorem dksX3_graft_10 : cX3_graft.data.toList.drop 234 = dktX3_graft_10 := dk_seg dksX3_graft_9 22 rfl rfl
theorem dksX3_graft_11 : cX3_graft.data.toList.drop 258 = dktX3_graft_11 := dk_seg dksX3_graft_10 24 rfl rfl
theorem dksX3_graft_12 : cX3_graft.data.toList.drop 282 = dktX3_graft_12 := dk_seg dksX3_graft_11 24 rfl rfl
theorem dksX3_graft_13 : cX3_graft.data.toList.drop 305 = dktX3_graft_13 := dk_seg dksX3_graft_12 23 rfl rfl
theorem dksX3_graft_14 : cX3_graft.data.toList.drop 329 = dktX3_graft_14 := dk_seg dksX3_graft_13 24 rfl rfl
theorem dX3_graft_0 : decode cX3_graft 0 = .ok (.aload_n 0, 1) := dk_42 (dk_at dksX3_graft_0 0 rfl rfl)
theorem dX3_graft_1 : decode cX3_graft 1 = .ok (.iload_n 1, 1) := dk_27 (dk_at dksX3_graft_0 1 rfl rfl)
theorem dX3_graft_2 : decode cX3_graft 2 = .ok (.invokevirtual 140, 3) := dk_182 0 140 (dk_at dksX3_graft_0 2 rfl rfl)
theorem dX3_graft_5 : decode cX3_graft 5 = .ok (.ifCond .eq 11, 3) := dk_153 0 11 (dk_at dksX3_graft_0 5 rfl rfl)
theorem dX3_graft_8 : decode cX3_graft 8 = .ok (.aload_n 0, 1) := dk_42 (dk_at dksX3_graft_0 8 rfl rfl)
theorem dX3_graft_9 : decode cX3_graft 9 = .ok (.iload_n 2, 1) := dk_28 (dk_at dksX3_graft_0 9 rfl rfl)
theorem dX3_graft_10 : decode cX3_graft 10 = .ok (.invokevirtual 140, 3) := dk_182 0 140 (dk_at dksX3_graft_0 10 rfl rfl)
theorem dX3_graft_13 : decode cX3_graft 13 = .ok (.ifCond .ne 5, 3) := dk_154 0 5 (dk_at dksX3_graft_0 13 rfl rfl)
theorem dX3_graft_16 : decode cX3_graft 16 = .ok (.iconst (-1), 1) := dk_2 (dk_at dksX3_graft_0 16 rfl rfl)
theorem dX3_graft_17 : decode cX3_graft 17 = .ok (.ireturn, 1) := dk_172 (dk_at dksX3_graft_0 17 rfl rfl)
theorem dX3_graft_18 : decode cX3_graft 18 = .ok (.iload_n 1, 1) := dk_27 (dk_at dksX3_graft_0 18 rfl rfl)
theorem dX3_graft_19 : decode cX3_graft 19 = .ok (.ifCond .eq 12, 3) := dk_153 0 12 (dk_at dksX3_graft_0 19 rfl rfl)
theorem dX3_graft_22 : decode cX3_graft 22 = .ok (.aload_n 0, 1) := dk_42 (dk_at dksX3_graft_0 22 rfl rfl)
theorem dX3_graft_23 : decode cX3_graft 23 = .ok (.iload_n 1, 1) := dk_27 (dk_at dksX3_graft_0 23 rfl rfl)
theorem dX3_graft_24 : decode cX3_graft 24 = .ok (.iload_n 2, 1) := dk_28 (dk_at dksX3_graft_1 0 rfl rfl)
theorem dX3_graft_25 : decode cX3_graft 25 = .ok (.invokevirtual 161, 3) := dk_182 0 161 (dk_at dksX3_graft_1 1 rfl rfl)
theorem dX3_graft_28 : decode cX3_graft 28 = .ok (.ifCond .eq 6, 3) := dk_153 0 6 (dk_at dksX3_graft_1 4 rfl rfl)
theorem dX3_graft_31 : decode cX3_graft 31 = .ok (.bipush (-2), 2) := dk_16 254 (dk_at dksX3_graft_1 7 rfl rfl)
theorem dX3_graft_33 : decode cX3_graft 33 = .ok (.ireturn, 1) := dk_172 (dk_at dksX3_graft_1 9 rfl rfl)
theorem dX3_graft_34 : decode cX3_graft 34 = .ok (.aload_n 0, 1) := dk_42 (dk_at dksX3_graft_1 10 rfl rfl)
theorem dX3_graft_35 : decode cX3_graft 35 = .ok (.iload_n 1, 1) := dk_27 (dk_at dksX3_graft_1 11 rfl rfl)
theorem dX3_graft_36 : decode cX3_graft 36 = .ok (.invokevirtual 125, 3) := dk_182 0 125 (dk_at dksX3_graft_1 12 rfl rfl)
theorem dX3_graft_39 : decode cX3_graft 39 = .ok (.istore 4, 2) := dk_54 4 (dk_at dksX3_graft_1 15 rfl rfl)
theorem dX3_graft_41 : decode cX3_graft 41 = .ok (.aload_n 0, 1) := dk_42 (dk_at dksX3_graft_1 17 rfl rfl)
theorem dX3_graft_42 : decode cX3_graft 42 = .ok (.iload_n 2, 1) := dk_28 (dk_at dksX3_graft_1 18 rfl rfl)
theorem dX3_graft_43 : decode cX3_graft 43 = .ok (.invokevirtual 146, 3) := dk_182 0 146 (dk_at dksX3_graft_1 19 rfl rfl)
theorem dX3_graft_46 : decode cX3_graft 46 = .ok (.aload_n 0, 1) := dk_42 (dk_at dksX3_graft_1 22 rfl rfl)
theorem dX3_graft_47 : decode cX3_graft 47 = .ok (.iload_n 1, 1) := dk_27 (dk_at dksX3_graft_1 23 rfl rfl)
theorem dX3_graft_48 : decode cX3_graft 48 = .ok (.iconst 1, 1) := dk_4 (dk_at dksX3_graft_2 0 rfl rfl)
theorem dX3_graft_49 : decode cX3_graft 49 = .ok (.invokevirtual 128, 3) := dk_182 0 128 (dk_at dksX3_graft_2 1 rfl rfl)
theorem dX3_graft_52 : decode cX3_graft 52 = .ok (.iload_n 2, 1) := dk_28 (dk_at dksX3_graft_2 4 rfl rfl)
theorem dX3_graft_53 : decode cX3_graft 53 = .ok (.if_icmp .ne 7, 3) := dk_160 0 7 (dk_at dksX3_graft_2 5 rfl rfl)
theorem dX3_graft_56 : decode cX3_graft 56 = .ok (.iconst 1, 1) := dk_4 (dk_at dksX3_graft_2 8 rfl rfl)
theorem dX3_graft_57 : decode cX3_graft 57 = .ok (.goto 4, 3) := dk_167 0 4 (dk_at dksX3_graft_2 9 rfl rfl)
theorem dX3_graft_60 : decode cX3_graft 60 = .ok (.iconst 0, 1) := dk_3 (dk_at dksX3_graft_2 12 rfl rfl)
theorem dX3_graft_61 : decode cX3_graft 61 = .ok (.isub, 1) := dk_100 (dk_at dksX3_graft_2 13 rfl rfl)
theorem dX3_graft_62 : decode cX3_graft 62 = .ok (.istore 5, 2) := dk_54 5 (dk_at dksX3_graft_2 14 rfl rfl)
theorem dX3_graft_64 : decode cX3_graft 64 = .ok (.iload_n 3, 1) := dk_29 (dk_at dksX3_graft_2 16 rfl rfl)
theorem dX3_graft_65 : decode cX3_graft 65 = .ok (.i2l, 1) := dk_133 (dk_at dksX3_graft_2 17 rfl rfl)
theorem dX3_graft_66 : decode cX3_graft 66 = .ok (.lconst 0, 1) := dk_9 (dk_at dksX3_graft_2 18 rfl rfl)
theorem dX3_graft_67 : decode cX3_graft 67 = .ok (.iload 5, 2) := dk_21 5 (dk_at dksX3_graft_2 19 rfl rfl)
theorem dX3_graft_69 : decode cX3_graft 69 = .ok (.i2l, 1) := dk_133 (dk_at dksX3_graft_2 21 rfl rfl)
theorem dX3_graft_70 : decode cX3_graft 70 = .ok (.invokestatic 41, 3) := dk_184 0 41 (dk_at dksX3_graft_3 0 rfl rfl)
theorem dX3_graft_73 : decode cX3_graft 73 = .ok (.ifCond .ne 5, 3) := dk_154 0 5 (dk_at dksX3_graft_3 3 rfl rfl)
theorem dX3_graft_76 : decode cX3_graft 76 = .ok (.iconst (-1), 1) := dk_2 (dk_at dksX3_graft_3 6 rfl rfl)
theorem dX3_graft_77 : decode cX3_graft 77 = .ok (.ireturn, 1) := dk_172 (dk_at dksX3_graft_3 7 rfl rfl)
theorem dX3_graft_78 : decode cX3_graft 78 = .ok (.aload_n 0, 1) := dk_42 (dk_at dksX3_graft_3 8 rfl rfl)
theorem dX3_graft_79 : decode cX3_graft 79 = .ok (.iload_n 1, 1) := dk_27 (dk_at dksX3_graft_3 9 rfl rfl)
theorem dX3_graft_80 : decode cX3_graft 80 = .ok (.invokevirtual 99, 3) := dk_182 0 99 (dk_at dksX3_graft_3 10 rfl rfl)
theorem dX3_graft_83 : decode cX3_graft 83 = .ok (.istore 6, 2) := dk_54 6 (dk_at dksX3_graft_3 13 rfl rfl)
theorem dX3_graft_85 : decode cX3_graft 85 = .ok (.iconst 0, 1) := dk_3 (dk_at dksX3_graft_3 15 rfl rfl)
theorem dX3_graft_86 : decode cX3_graft 86 = .ok (.istore 7, 2) := dk_54 7 (dk_at dksX3_graft_3 16 rfl rfl)
theorem dX3_graft_88 : decode cX3_graft 88 = .ok (.iload 7, 2) := dk_21 7 (dk_at dksX3_graft_3 18 rfl rfl)
theorem dX3_graft_90 : decode cX3_graft 90 = .ok (.iconst 2, 1) := dk_5 (dk_at dksX3_graft_3 20 rfl rfl)
theorem dX3_graft_91 : decode cX3_graft 91 = .ok (.iload 4, 2) := dk_21 4 (dk_at dksX3_graft_3 21 rfl rfl)
theorem dX3_graft_93 : decode cX3_graft 93 = .ok (.imul, 1) := dk_104 (dk_at dksX3_graft_3 23 rfl rfl)
theorem dX3_graft_94 : decode cX3_graft 94 = .ok (.if_icmp .ge 26, 3) := dk_162 0 26 (dk_at dksX3_graft_4 0 rfl rfl)
theorem dX3_graft_97 : decode cX3_graft 97 = .ok (.aload_n 0, 1) := dk_42 (dk_at dksX3_graft_4 3 rfl rfl)
theorem dX3_graft_98 : decode cX3_graft 98 = .ok (.getfield 19, 3) := dk_180 0 19 (dk_at dksX3_graft_4 4 rfl rfl)
theorem dX3_graft_101 : decode cX3_graft 101 = .ok (.iload 7, 2) := dk_21 7 (dk_at dksX3_graft_4 7 rfl rfl)
theorem dX3_graft_103 : decode cX3_graft 103 = .ok (.aload_n 0, 1) := dk_42 (dk_at dksX3_graft_4 9 rfl rfl)
theorem dX3_graft_104 : decode cX3_graft 104 = .ok (.getfield 7, 3) := dk_180 0 7 (dk_at dksX3_graft_4 10 rfl rfl)
theorem dX3_graft_107 : decode cX3_graft 107 = .ok (.iload 6, 2) := dk_21 6 (dk_at dksX3_graft_4 13 rfl rfl)
theorem dX3_graft_109 : decode cX3_graft 109 = .ok (.iload 7, 2) := dk_21 7 (dk_at dksX3_graft_4 15 rfl rfl)
theorem dX3_graft_111 : decode cX3_graft 111 = .ok (.iadd, 1) := dk_96 (dk_at dksX3_graft_4 17 rfl rfl)
theorem dX3_graft_112 : decode cX3_graft 112 = .ok (.iaload, 1) := dk_46 (dk_at dksX3_graft_4 18 rfl rfl)
theorem dX3_graft_113 : decode cX3_graft 113 = .ok (.iastore, 1) := dk_79 (dk_at dksX3_graft_4 19 rfl rfl)
theorem dX3_graft_114 : decode cX3_graft 114 = .ok (.iinc 7 1, 3) := dk_132 7 1 (dk_at dksX3_graft_4 20 rfl rfl)
theorem dX3_graft_117 : decode cX3_graft 117 = .ok (.goto (-29), 3) := dk_167 255 227 (dk_at dksX3_graft_5 0 rfl rfl)
theorem dX3_graft_120 : decode cX3_graft 120 = .ok (.iconst 0, 1) := dk_3 (dk_at dksX3_graft_5 3 rfl rfl)
theorem dX3_graft_121 : decode cX3_graft 121 = .ok (.istore 7, 2) := dk_54 7 (dk_at dksX3_graft_5 4 rfl rfl)
theorem dX3_graft_123 : decode cX3_graft 123 = .ok (.iload 7, 2) := dk_21 7 (dk_at dksX3_graft_5 6 rfl rfl)
theorem dX3_graft_125 : decode cX3_graft 125 = .ok (.iload 4, 2) := dk_21 4 (dk_at dksX3_graft_5 8 rfl rfl)
theorem dX3_graft_127 : decode cX3_graft 127 = .ok (.if_icmp .ge 29, 3) := dk_162 0 29 (dk_at dksX3_graft_5 10 rfl rfl)
theorem dX3_graft_130 : decode cX3_graft 130 = .ok (.aload_n 0, 1) := dk_42 (dk_at dksX3_graft_5 13 rfl rfl)
theorem dX3_graft_131 : decode cX3_graft 131 = .ok (.getfield 22, 3) := dk_180 0 22 (dk_at dksX3_graft_5 14 rfl rfl)
theorem dX3_graft_134 : decode cX3_graft 134 = .ok (.iload 7, 2) := dk_21 7 (dk_at dksX3_graft_5 17 rfl rfl)
theorem dX3_graft_136 : decode cX3_graft 136 = .ok (.aload_n 0, 1) := dk_42 (dk_at dksX3_graft_5 19 rfl rfl)
theorem dX3_graft_137 : decode cX3_graft 137 = .ok (.getfield 7, 3) := dk_180 0 7 (dk_at dksX3_graft_5 20 rfl rfl)
theorem dX3_graft_140 : decode cX3_graft 140 = .ok (.sipush 128, 3) := dk_17 0 128 (dk_at dksX3_graft_6 0 rfl rfl)
theorem dX3_graft_143 : decode cX3_graft 143 = .ok (.iload_n 1, 1) := dk_27 (dk_at dksX3_graft_6 3 rfl rfl)
theorem dX3_graft_144 : decode cX3_graft 144 = .ok (.iadd, 1) := dk_96 (dk_at dksX3_graft_6 4 rfl rfl)
theorem dX3_graft_145 : decode cX3_graft 145 = .ok (.iload 7, 2) := dk_21 7 (dk_at dksX3_graft_6 5 rfl rfl)
theorem dX3_graft_147 : decode cX3_graft 147 = .ok (.iadd, 1) := dk_96 (dk_at dksX3_graft_6 7 rfl rfl)
theorem dX3_graft_148 : decode cX3_graft 148 = .ok (.iaload, 1) := dk_46 (dk_at dksX3_graft_6 8 rfl rfl)
theorem dX3_graft_149 : decode cX3_graft 149 = .ok (.iastore, 1) := dk_79 (dk_at dksX3_graft_6 9 rfl rfl)
theorem dX3_graft_150 : decode cX3_graft 150 = .ok (.iinc 7 1, 3) := dk_132 7 1 (dk_at dksX3_graft_6 10 rfl rfl)
theorem dX3_graft_153 : decode cX3_graft 153 = .ok (.goto (-30), 3) := dk_167 255 226 (dk_at dksX3_graft_6 13 rfl rfl)
theorem dX3_graft_156 : decode cX3_graft 156 = .ok (.iload 4, 2) := dk_21 4 (dk_at dksX3_graft_6 16 rfl rfl)
theorem dX3_graft_158 : decode cX3_graft 158 = .ok (.iconst 1, 1) := dk_4 (dk_at dksX3_graft_6 18 rfl rfl)
theorem dX3_graft_159 : decode cX3_graft 159 = .ok (.isub, 1) := dk_100 (dk_at dksX3_graft_6 19 rfl rfl)
theorem dX3_graft_160 : decode cX3_graft 160 = .ok (.istore 7, 2) := dk_54 7 (dk_at dksX3_graft_6 20 rfl rfl)
theorem dX3_graft_162 : decode cX3_graft 162 = .ok (.iload 7, 2) := dk_21 7 (dk_at dksX3_graft_6 22 rfl rfl)
theorem dX3_graft_164 : decode cX3_graft 164 = .ok (.ifCond .lt 17, 3) := dk_155 0 17 (dk_at dksX3_graft_7 0 rfl rfl)
theorem dX3_graft_167 : decode cX3_graft 167 = .ok (.aload_n 0, 1) := dk_42 (dk_at dksX3_graft_7 3 rfl rfl)
theorem dX3_graft_168 : decode cX3_graft 168 = .ok (.iload_n 1, 1) := dk_27 (dk_at dksX3_graft_7 4 rfl rfl)
theorem dX3_graft_169 : decode cX3_graft 169 = .ok (.iload 7, 2) := dk_21 7 (dk_at dksX3_graft_7 5 rfl rfl)
theorem dX3_graft_171 : decode cX3_graft 171 = .ok (.iadd, 1) := dk_96 (dk_at dksX3_graft_7 7 rfl rfl)
theorem dX3_graft_172 : decode cX3_graft 172 = .ok (.invokevirtual 187, 3) := dk_182 0 187 (dk_at dksX3_graft_7 8 rfl rfl)
theorem dX3_graft_175 : decode cX3_graft 175 = .ok (.iinc 7 (-1), 3) := dk_132 7 255 (dk_at dksX3_graft_7 11 rfl rfl)
theorem dX3_graft_178 : decode cX3_graft 178 = .ok (.goto (-16), 3) := dk_167 255 240 (dk_at dksX3_graft_7 14 rfl rfl)
theorem dX3_graft_181 : decode cX3_graft 181 = .ok (.aload_n 0, 1) := dk_42 (dk_at dksX3_graft_7 17 rfl rfl)
theorem dX3_graft_182 : decode cX3_graft 182 = .ok (.iload_n 2, 1) := dk_28 (dk_at dksX3_graft_7 18 rfl rfl)
theorem dX3_graft_183 : decode cX3_graft 183 = .ok (.iload_n 1, 1) := dk_27 (dk_at dksX3_graft_7 19 rfl rfl)
theorem dX3_graft_184 : decode cX3_graft 184 = .ok (.if_icmp .le 10, 3) := dk_164 0 10 (dk_at dksX3_graft_7 20 rfl rfl)
theorem dX3_graft_187 : decode cX3_graft 187 = .ok (.iload_n 2, 1) := dk_28 (dk_at dksX3_graft_7 23 rfl rfl)
theorem dX3_graft_188 : decode cX3_graft 188 = .ok (.iload 4, 2) := dk_21 4 (dk_at dksX3_graft_8 0 rfl rfl)
theorem dX3_graft_190 : decode cX3_graft 190 = .ok (.isub, 1) := dk_100 (dk_at dksX3_graft_8 2 rfl rfl)
theorem dX3_graft_191 : decode cX3_graft 191 = .ok (.goto 4, 3) := dk_167 0 4 (dk_at dksX3_graft_8 3 rfl rfl)
theorem dX3_graft_194 : decode cX3_graft 194 = .ok (.iload_n 2, 1) := dk_28 (dk_at dksX3_graft_8 6 rfl rfl)
theorem dX3_graft_195 : decode cX3_graft 195 = .ok (.iload_n 3, 1) := dk_29 (dk_at dksX3_graft_8 7 rfl rfl)
theorem dX3_graft_196 : decode cX3_graft 196 = .ok (.invokevirtual 176, 3) := dk_182 0 176 (dk_at dksX3_graft_8 8 rfl rfl)
theorem dX3_graft_199 : decode cX3_graft 199 = .ok (.istore 7, 2) := dk_54 7 (dk_at dksX3_graft_8 11 rfl rfl)
theorem dX3_graft_201 : decode cX3_graft 201 = .ok (.aload_n 0, 1) := dk_42 (dk_at dksX3_graft_8 13 rfl rfl)
theorem dX3_graft_202 : decode cX3_graft 202 = .ok (.iload 7, 2) := dk_21 7 (dk_at dksX3_graft_8 14 rfl rfl)
theorem dX3_graft_204 : decode cX3_graft 204 = .ok (.invokevirtual 137, 3) := dk_182 0 137 (dk_at dksX3_graft_8 16 rfl rfl)
theorem dX3_graft_207 : decode cX3_graft 207 = .ok (.istore 8, 2) := dk_54 8 (dk_at dksX3_graft_8 19 rfl rfl)
theorem dX3_graft_209 : decode cX3_graft 209 = .ok (.iconst 0, 1) := dk_3 (dk_at dksX3_graft_8 21 rfl rfl)
theorem dX3_graft_210 : decode cX3_graft 210 = .ok (.istore 9, 2) := dk_54 9 (dk_at dksX3_graft_8 22 rfl rfl)
theorem dX3_graft_212 : decode cX3_graft 212 = .ok (.iload 9, 2) := dk_21 9 (dk_at dksX3_graft_9 0 rfl rfl)
theorem dX3_graft_214 : decode cX3_graft 214 = .ok (.iconst 2, 1) := dk_5 (dk_at dksX3_graft_9 2 rfl rfl)
theorem dX3_graft_215 : decode cX3_graft 215 = .ok (.iload 4, 2) := dk_21 4 (dk_at dksX3_graft_9 3 rfl rfl)
theorem dX3_graft_217 : decode cX3_graft 217 = .ok (.imul, 1) := dk_104 (dk_at dksX3_graft_9 5 rfl rfl)
theorem dX3_graft_218 : decode cX3_graft 218 = .ok (.if_icmp .ge 25, 3) := dk_162 0 25 (dk_at dksX3_graft_9 6 rfl rfl)
theorem dX3_graft_221 : decode cX3_graft 221 = .ok (.aload_n 0, 1) := dk_42 (dk_at dksX3_graft_9 9 rfl rfl)
theorem dX3_graft_222 : decode cX3_graft 222 = .ok (.iload 7, 2) := dk_21 7 (dk_at dksX3_graft_9 10 rfl rfl)
theorem dX3_graft_224 : decode cX3_graft 224 = .ok (.iload 9, 2) := dk_21 9 (dk_at dksX3_graft_9 12 rfl rfl)
theorem dX3_graft_226 : decode cX3_graft 226 = .ok (.iadd, 1) := dk_96 (dk_at dksX3_graft_9 14 rfl rfl)
theorem dX3_graft_227 : decode cX3_graft 227 = .ok (.aload_n 0, 1) := dk_42 (dk_at dksX3_graft_9 15 rfl rfl)
theorem dX3_graft_228 : decode cX3_graft 228 = .ok (.getfield 19, 3) := dk_180 0 19 (dk_at dksX3_graft_9 16 rfl rfl)
theorem dX3_graft_231 : decode cX3_graft 231 = .ok (.iload 9, 2) := dk_21 9 (dk_at dksX3_graft_9 19 rfl rfl)
theorem dX3_graft_233 : decode cX3_graft 233 = .ok (.iaload, 1) := dk_46 (dk_at dksX3_graft_9 21 rfl rfl)
theorem dX3_graft_234 : decode cX3_graft 234 = .ok (.invokevirtual 169, 3) := dk_182 0 169 (dk_at dksX3_graft_10 0 rfl rfl)
theorem dX3_graft_237 : decode cX3_graft 237 = .ok (.iinc 9 1, 3) := dk_132 9 1 (dk_at dksX3_graft_10 3 rfl rfl)
theorem dX3_graft_240 : decode cX3_graft 240 = .ok (.goto (-28), 3) := dk_167 255 228 (dk_at dksX3_graft_10 6 rfl rfl)
theorem dX3_graft_243 : decode cX3_graft 243 = .ok (.bipush 63, 2) := dk_16 63 (dk_at dksX3_graft_10 9 rfl rfl)
theorem dX3_graft_245 : decode cX3_graft 245 = .ok (.istore 9, 2) := dk_54 9 (dk_at dksX3_graft_10 11 rfl rfl)
theorem dX3_graft_247 : decode cX3_graft 247 = .ok (.iload 9, 2) := dk_21 9 (dk_at dksX3_graft_10 13 rfl rfl)
theorem dX3_graft_249 : decode cX3_graft 249 = .ok (.iload 8, 2) := dk_21 8 (dk_at dksX3_graft_10 15 rfl rfl)
theorem dX3_graft_251 : decode cX3_graft 251 = .ok (.iload 4, 2) := dk_21 4 (dk_at dksX3_graft_10 17 rfl rfl)
theorem dX3_graft_253 : decode cX3_graft 253 = .ok (.iadd, 1) := dk_96 (dk_at dksX3_graft_10 19 rfl rfl)
theorem dX3_graft_254 : decode cX3_graft 254 = .ok (.if_icmp .lt 34, 3) := dk_161 0 34 (dk_at dksX3_graft_10 20 rfl rfl)
theorem dX3_graft_257 : decode cX3_graft 257 = .ok (.aload_n 0, 1) := dk_42 (dk_at dksX3_graft_10 23 rfl rfl)
theorem dX3_graft_258 : decode cX3_graft 258 = .ok (.getfield 7, 3) := dk_180 0 7 (dk_at dksX3_graft_11 0 rfl rfl)
theorem dX3_graft_261 : decode cX3_graft 261 = .ok (.sipush 128, 3) := dk_17 0 128 (dk_at dksX3_graft_11 3 rfl rfl)
theorem dX3_graft_264 : decode cX3_graft 264 = .ok (.iload 9, 2) := dk_21 9 (dk_at dksX3_graft_11 6 rfl rfl)
theorem dX3_graft_266 : decode cX3_graft 266 = .ok (.iadd, 1) := dk_96 (dk_at dksX3_graft_11 8 rfl rfl)
theorem dX3_graft_267 : decode cX3_graft 267 = .ok (.aload_n 0, 1) := dk_42 (dk_at dksX3_graft_11 9 rfl rfl)
theorem dX3_graft_268 : decode cX3_graft 268 = .ok (.getfield 7, 3) := dk_180 0 7 (dk_at dksX3_graft_11 10 rfl rfl)
theorem dX3_graft_271 : decode cX3_graft 271 = .ok (.sipush 128, 3) := dk_17 0 128 (dk_at dksX3_graft_11 13 rfl rfl)
theorem dX3_graft_274 : decode cX3_graft 274 = .ok (.iload 9, 2) := dk_21 9 (dk_at dksX3_graft_11 16 rfl rfl)
theorem dX3_graft_276 : decode cX3_graft 276 = .ok (.iadd, 1) := dk_96 (dk_at dksX3_graft_11 18 rfl rfl)
theorem dX3_graft_277 : decode cX3_graft 277 = .ok (.iload 4, 2) := dk_21 4 (dk_at dksX3_graft_11 19 rfl rfl)
theorem dX3_graft_279 : decode cX3_graft 279 = .ok (.isub, 1) := dk_100 (dk_at dksX3_graft_11 21 rfl rfl)
theorem dX3_graft_280 : decode cX3_graft 280 = .ok (.iaload, 1) := dk_46 (dk_at dksX3_graft_11 22 rfl rfl)
theorem dX3_graft_281 : decode cX3_graft 281 = .ok (.iastore, 1) := dk_79 (dk_at dksX3_graft_11 23 rfl rfl)
theorem dX3_graft_282 : decode cX3_graft 282 = .ok (.iinc 9 (-1), 3) := dk_132 9 255 (dk_at dksX3_graft_12 0 rfl rfl)
theorem dX3_graft_285 : decode cX3_graft 285 = .ok (.goto (-38), 3) := dk_167 255 218 (dk_at dksX3_graft_12 3 rfl rfl)
theorem dX3_graft_288 : decode cX3_graft 288 = .ok (.iconst 0, 1) := dk_3 (dk_at dksX3_graft_12 6 rfl rfl)
theorem dX3_graft_289 : decode cX3_graft 289 = .ok (.istore 9, 2) := dk_54 9 (dk_at dksX3_graft_12 7 rfl rfl)
theorem dX3_graft_291 : decode cX3_graft 291 = .ok (.iload 9, 2) := dk_21 9 (dk_at dksX3_graft_12 9 rfl rfl)
theorem dX3_graft_293 : decode cX3_graft 293 = .ok (.iload 4, 2) := dk_21 4 (dk_at dksX3_graft_12 11 rfl rfl)
theorem dX3_graft_295 : decode cX3_graft 295 = .ok (.if_icmp .ge 30, 3) := dk_162 0 30 (dk_at dksX3_graft_12 13 rfl rfl)
theorem dX3_graft_298 : decode cX3_graft 298 = .ok (.aload_n 0, 1) := dk_42 (dk_at dksX3_graft_12 16 rfl rfl)
theorem dX3_graft_299 : decode cX3_graft 299 = .ok (.getfield 7, 3) := dk_180 0 7 (dk_at dksX3_graft_12 17 rfl rfl)
theorem dX3_graft_302 : decode cX3_graft 302 = .ok (.sipush 128, 3) := dk_17 0 128 (dk_at dksX3_graft_12 20 rfl rfl)
theorem dX3_graft_305 : decode cX3_graft 305 = .ok (.iload 8, 2) := dk_21 8 (dk_at dksX3_graft_13 0 rfl rfl)
theorem dX3_graft_307 : decode cX3_graft 307 = .ok (.iadd, 1) := dk_96 (dk_at dksX3_graft_13 2 rfl rfl)
theorem dX3_graft_308 : decode cX3_graft 308 = .ok (.iload 9, 2) := dk_21 9 (dk_at dksX3_graft_13 3 rfl rfl)
theorem dX3_graft_310 : decode cX3_graft 310 = .ok (.iadd, 1) := dk_96 (dk_at dksX3_graft_13 5 rfl rfl)
theorem dX3_graft_311 : decode cX3_graft 311 = .ok (.aload_n 0, 1) := dk_42 (dk_at dksX3_graft_13 6 rfl rfl)
theorem dX3_graft_312 : decode cX3_graft 312 = .ok (.getfield 22, 3) := dk_180 0 22 (dk_at dksX3_graft_13 7 rfl rfl)
theorem dX3_graft_315 : decode cX3_graft 315 = .ok (.iload 9, 2) := dk_21 9 (dk_at dksX3_graft_13 10 rfl rfl)
theorem dX3_graft_317 : decode cX3_graft 317 = .ok (.iaload, 1) := dk_46 (dk_at dksX3_graft_13 12 rfl rfl)
theorem dX3_graft_318 : decode cX3_graft 318 = .ok (.iastore, 1) := dk_79 (dk_at dksX3_graft_13 13 rfl rfl)
theorem dX3_graft_319 : decode cX3_graft 319 = .ok (.iinc 9 1, 3) := dk_132 9 1 (dk_at dksX3_graft_13 14 rfl rfl)
theorem dX3_graft_322 : decode cX3_graft 322 = .ok (.goto (-31), 3) := dk_167 255 225 (dk_at dksX3_graft_13 17 rfl rfl)
theorem dX3_graft_325 : decode cX3_graft 325 = .ok (.aload_n 0, 1) := dk_42 (dk_at dksX3_graft_13 20 rfl rfl)
theorem dX3_graft_326 : decode cX3_graft 326 = .ok (.getfield 7, 3) := dk_180 0 7 (dk_at dksX3_graft_13 21 rfl rfl)
theorem dX3_graft_329 : decode cX3_graft 329 = .ok (.sipush 192, 3) := dk_17 0 192 (dk_at dksX3_graft_14 0 rfl rfl)
theorem dX3_graft_332 : decode cX3_graft 332 = .ok (.dup2, 1) := dk_92 (dk_at dksX3_graft_14 3 rfl rfl)
theorem dX3_graft_333 : decode cX3_graft 333 = .ok (.iaload, 1) := dk_46 (dk_at dksX3_graft_14 4 rfl rfl)
theorem dX3_graft_334 : decode cX3_graft 334 = .ok (.iload 4, 2) := dk_21 4 (dk_at dksX3_graft_14 5 rfl rfl)
theorem dX3_graft_336 : decode cX3_graft 336 = .ok (.iadd, 1) := dk_96 (dk_at dksX3_graft_14 7 rfl rfl)
theorem dX3_graft_337 : decode cX3_graft 337 = .ok (.iastore, 1) := dk_79 (dk_at dksX3_graft_14 8 rfl rfl)
theorem dX3_graft_338 : decode cX3_graft 338 = .ok (.iload 8, 2) := dk_21 8 (dk_at dksX3_graft_14 9 rfl rfl)
theorem dX3_graft_340 : decode cX3_graft 340 = .ok (.ireturn, 1) := dk_172 (dk_at dksX3_graft_14 11 rfl rfl)
abbrev cX3_grow : ByteArray := prog_7_method_72_code
def yX3_grow : MethodName := ⟨RX3, "grow", "(II)I"⟩
def dkwX3_grow_3 : List UInt8 := [182, 0, 146, 3, 182, 0, 183, 87, 132, 4, 1, 167, 255, 209, 42, 5, 182, 0, 196, 172]
abbrev dktX3_grow_3 : List UInt8 := dkwX3_grow_3 ++ []
def dkwX3_grow_2 : List UInt8 := [62, 29, 16, 16, 122, 17, 127, 255, 126, 42, 182, 0, 89, 112, 54, 5, 42, 21, 5, 42, 21, 5]
abbrev dktX3_grow_2 : List UInt8 := dkwX3_grow_2 ++ dktX3_grow_3
def dkwX3_grow_1 : List UInt8 := [3, 182, 0, 192, 87, 27, 62, 4, 54, 4, 21, 4, 28, 162, 0, 47, 29, 18, 195, 104, 17, 48, 57, 96]
abbrev dktX3_grow_1 : List UInt8 := dkwX3_grow_1 ++ dktX3_grow_2
def dkwX3_grow_0 : List UInt8 := [28, 133, 10, 20, 0, 190, 184, 0, 41, 154, 0, 5, 2, 172, 42, 180, 0, 7, 17, 0, 192, 3, 79, 42]
abbrev dktX3_grow_0 : List UInt8 := dkwX3_grow_0 ++ dktX3_grow_1
theorem dksX3_grow_0 : cX3_grow.data.toList.drop 0 = dktX3_grow_0 := by decide +kernel
theorem dksX3_grow_1 : cX3_grow.data.toList.drop 24 = dktX3_grow_1 := dk_seg dksX3_grow_0 24 rfl rfl
theorem dksX3_grow_2 : cX3_grow.data.toList.drop 48 = dktX3_grow_2 := dk_seg dksX3_grow_1 24 rfl rfl
theorem dksX3_grow_3 : cX3_grow.data.toList.drop 70 = dktX3_grow_3 := dk_seg dksX3_grow_2 22 rfl rfl
theorem dX3_grow_0 : decode cX3_grow 0 = .ok (.iload_n 2, 1) := dk_28 (dk_at dksX3_grow_0 0 rfl rfl)
theorem dX3_grow_1 : decode cX3_grow 1 = .ok (.i2l, 1) := dk_133 (dk_at dksX3_grow_0 1 rfl rfl)
theorem dX3_grow_2 : decode cX3_grow 2 = .ok (.lconst 1, 1) := dk_10 (dk_at dksX3_grow_0 2 rfl rfl)
theorem dX3_grow_3 : decode cX3_grow 3 = .ok (.ldc2_w 190, 3) := dk_20 0 190 (dk_at dksX3_grow_0 3 rfl rfl)
theorem dX3_grow_6 : decode cX3_grow 6 = .ok (.invokestatic 41, 3) := dk_184 0 41 (dk_at dksX3_grow_0 6 rfl rfl)
theorem dX3_grow_9 : decode cX3_grow 9 = .ok (.ifCond .ne 5, 3) := dk_154 0 5 (dk_at dksX3_grow_0 9 rfl rfl)
theorem dX3_grow_12 : decode cX3_grow 12 = .ok (.iconst (-1), 1) := dk_2 (dk_at dksX3_grow_0 12 rfl rfl)
theorem dX3_grow_13 : decode cX3_grow 13 = .ok (.ireturn, 1) := dk_172 (dk_at dksX3_grow_0 13 rfl rfl)
theorem dX3_grow_14 : decode cX3_grow 14 = .ok (.aload_n 0, 1) := dk_42 (dk_at dksX3_grow_0 14 rfl rfl)
theorem dX3_grow_15 : decode cX3_grow 15 = .ok (.getfield 7, 3) := dk_180 0 7 (dk_at dksX3_grow_0 15 rfl rfl)
theorem dX3_grow_18 : decode cX3_grow 18 = .ok (.sipush 192, 3) := dk_17 0 192 (dk_at dksX3_grow_0 18 rfl rfl)
theorem dX3_grow_21 : decode cX3_grow 21 = .ok (.iconst 0, 1) := dk_3 (dk_at dksX3_grow_0 21 rfl rfl)
theorem dX3_grow_22 : decode cX3_grow 22 = .ok (.iastore, 1) := dk_79 (dk_at dksX3_grow_0 22 rfl rfl)
theorem dX3_grow_23 : decode cX3_grow 23 = .ok (.aload_n 0, 1) := dk_42 (dk_at dksX3_grow_0 23 rfl rfl)
theorem dX3_grow_24 : decode cX3_grow 24 = .ok (.iconst 0, 1) := dk_3 (dk_at dksX3_grow_1 0 rfl rfl)
theorem dX3_grow_25 : decode cX3_grow 25 = .ok (.invokevirtual 192, 3) := dk_182 0 192 (dk_at dksX3_grow_1 1 rfl rfl)
theorem dX3_grow_28 : decode cX3_grow 28 = .ok (.pop, 1) := dk_87 (dk_at dksX3_grow_1 4 rfl rfl)
theorem dX3_grow_29 : decode cX3_grow 29 = .ok (.iload_n 1, 1) := dk_27 (dk_at dksX3_grow_1 5 rfl rfl)
theorem dX3_grow_30 : decode cX3_grow 30 = .ok (.istore_n 3, 1) := dk_62 (dk_at dksX3_grow_1 6 rfl rfl)
theorem dX3_grow_31 : decode cX3_grow 31 = .ok (.iconst 1, 1) := dk_4 (dk_at dksX3_grow_1 7 rfl rfl)
theorem dX3_grow_32 : decode cX3_grow 32 = .ok (.istore 4, 2) := dk_54 4 (dk_at dksX3_grow_1 8 rfl rfl)
theorem dX3_grow_34 : decode cX3_grow 34 = .ok (.iload 4, 2) := dk_21 4 (dk_at dksX3_grow_1 10 rfl rfl)
theorem dX3_grow_36 : decode cX3_grow 36 = .ok (.iload_n 2, 1) := dk_28 (dk_at dksX3_grow_1 12 rfl rfl)
theorem dX3_grow_37 : decode cX3_grow 37 = .ok (.if_icmp .ge 47, 3) := dk_162 0 47 (dk_at dksX3_grow_1 13 rfl rfl)
theorem dX3_grow_40 : decode cX3_grow 40 = .ok (.iload_n 3, 1) := dk_29 (dk_at dksX3_grow_1 16 rfl rfl)
theorem dX3_grow_41 : decode cX3_grow 41 = .ok (.ldc 195, 2) := dk_18 195 (dk_at dksX3_grow_1 17 rfl rfl)
theorem dX3_grow_43 : decode cX3_grow 43 = .ok (.imul, 1) := dk_104 (dk_at dksX3_grow_1 19 rfl rfl)
theorem dX3_grow_44 : decode cX3_grow 44 = .ok (.sipush 12345, 3) := dk_17 48 57 (dk_at dksX3_grow_1 20 rfl rfl)
theorem dX3_grow_47 : decode cX3_grow 47 = .ok (.iadd, 1) := dk_96 (dk_at dksX3_grow_1 23 rfl rfl)
theorem dX3_grow_48 : decode cX3_grow 48 = .ok (.istore_n 3, 1) := dk_62 (dk_at dksX3_grow_2 0 rfl rfl)
theorem dX3_grow_49 : decode cX3_grow 49 = .ok (.iload_n 3, 1) := dk_29 (dk_at dksX3_grow_2 1 rfl rfl)
theorem dX3_grow_50 : decode cX3_grow 50 = .ok (.bipush 16, 2) := dk_16 16 (dk_at dksX3_grow_2 2 rfl rfl)
theorem dX3_grow_52 : decode cX3_grow 52 = .ok (.ishr, 1) := dk_122 (dk_at dksX3_grow_2 4 rfl rfl)
theorem dX3_grow_53 : decode cX3_grow 53 = .ok (.sipush 32767, 3) := dk_17 127 255 (dk_at dksX3_grow_2 5 rfl rfl)
theorem dX3_grow_56 : decode cX3_grow 56 = .ok (.iand, 1) := dk_126 (dk_at dksX3_grow_2 8 rfl rfl)
theorem dX3_grow_57 : decode cX3_grow 57 = .ok (.aload_n 0, 1) := dk_42 (dk_at dksX3_grow_2 9 rfl rfl)
theorem dX3_grow_58 : decode cX3_grow 58 = .ok (.invokevirtual 89, 3) := dk_182 0 89 (dk_at dksX3_grow_2 10 rfl rfl)
theorem dX3_grow_61 : decode cX3_grow 61 = .ok (.irem, 1) := dk_112 (dk_at dksX3_grow_2 13 rfl rfl)
theorem dX3_grow_62 : decode cX3_grow 62 = .ok (.istore 5, 2) := dk_54 5 (dk_at dksX3_grow_2 14 rfl rfl)
theorem dX3_grow_64 : decode cX3_grow 64 = .ok (.aload_n 0, 1) := dk_42 (dk_at dksX3_grow_2 16 rfl rfl)
theorem dX3_grow_65 : decode cX3_grow 65 = .ok (.iload 5, 2) := dk_21 5 (dk_at dksX3_grow_2 17 rfl rfl)
theorem dX3_grow_67 : decode cX3_grow 67 = .ok (.aload_n 0, 1) := dk_42 (dk_at dksX3_grow_2 19 rfl rfl)
theorem dX3_grow_68 : decode cX3_grow 68 = .ok (.iload 5, 2) := dk_21 5 (dk_at dksX3_grow_2 20 rfl rfl)
theorem dX3_grow_70 : decode cX3_grow 70 = .ok (.invokevirtual 146, 3) := dk_182 0 146 (dk_at dksX3_grow_3 0 rfl rfl)
theorem dX3_grow_73 : decode cX3_grow 73 = .ok (.iconst 0, 1) := dk_3 (dk_at dksX3_grow_3 3 rfl rfl)
theorem dX3_grow_74 : decode cX3_grow 74 = .ok (.invokevirtual 183, 3) := dk_182 0 183 (dk_at dksX3_grow_3 4 rfl rfl)
theorem dX3_grow_77 : decode cX3_grow 77 = .ok (.pop, 1) := dk_87 (dk_at dksX3_grow_3 7 rfl rfl)
theorem dX3_grow_78 : decode cX3_grow 78 = .ok (.iinc 4 1, 3) := dk_132 4 1 (dk_at dksX3_grow_3 8 rfl rfl)
theorem dX3_grow_81 : decode cX3_grow 81 = .ok (.goto (-47), 3) := dk_167 255 209 (dk_at dksX3_grow_3 11 rfl rfl)
theorem dX3_grow_84 : decode cX3_grow 84 = .ok (.aload_n 0, 1) := dk_42 (dk_at dksX3_grow_3 14 rfl rfl)
theorem dX3_grow_85 : decode cX3_grow 85 = .ok (.iconst 2, 1) := dk_5 (dk_at dksX3_grow_3 15 rfl rfl)
theorem dX3_grow_86 : decode cX3_grow 86 = .ok (.invokevirtual 196, 3) := dk_182 0 196 (dk_at dksX3_grow_3 16 rfl rfl)
theorem dX3_grow_89 : decode cX3_grow 89 = .ok (.ireturn, 1) := dk_172 (dk_at dksX3_grow_3 19 rfl rfl)
abbrev cX3_keep : ByteArray := prog_7_method_73_code
def yX3_keep : MethodName := ⟨RX3, "keep", "(I)I"⟩
def dkwX3_keep_3 : List UInt8 := [4, 84, 28, 172]
abbrev dktX3_keep_3 : List UInt8 := dkwX3_keep_3 ++ []
def dkwX3_keep_2 : List UInt8 := [17, 0, 193, 96, 29, 96, 42, 180, 0, 7, 29, 46, 79, 132, 3, 1, 167, 255, 224, 42, 180, 0, 25, 27]
abbrev dktX3_keep_2 : List UInt8 := dkwX3_keep_2 ++ dktX3_keep_3
def dkwX3_keep_1 : List UInt8 := [167, 0, 4, 3, 61, 3, 62, 29, 17, 0, 193, 162, 0, 31, 42, 180, 0, 7, 17, 0, 193, 27, 104]
abbrev dktX3_keep_1 : List UInt8 := dkwX3_keep_1 ++ dktX3_keep_2
def dkwX3_keep_0 : List UInt8 := [27, 133, 9, 10, 184, 0, 41, 154, 0, 5, 2, 172, 42, 180, 0, 25, 27, 51, 153, 0, 7, 4]
abbrev dktX3_keep_0 : List UInt8 := dkwX3_keep_0 ++ dktX3_keep_1
theorem dksX3_keep_0 : cX3_keep.data.toList.drop 0 = dktX3_keep_0 := by decide +kernel
theorem dksX3_keep_1 : cX3_keep.data.toList.drop 22 = dktX3_keep_1 := dk_seg dksX3_keep_0 22 rfl rfl
theorem dksX3_keep_2 : cX3_keep.data.toList.drop 45 = dktX3_keep_2 := dk_seg dksX3_keep_1 23 rfl rfl
theorem dksX3_keep_3 : cX3_keep.data.toList.drop 69 = dktX3_keep_3 := dk_seg dksX3_keep_2 24 rfl rfl
theorem dX3_keep_0 : decode cX3_keep 0 = .ok (.iload_n 1, 1) := dk_27 (dk_at dksX3_keep_0 0 rfl rfl)
theorem dX3_keep_1 : decode cX3_keep 1 = .ok (.i2l, 1) := dk_133 (dk_at dksX3_keep_0 1 rfl rfl)
theorem dX3_keep_2 : decode cX3_keep 2 = .ok (.lconst 0, 1) := dk_9 (dk_at dksX3_keep_0 2 rfl rfl)
theorem dX3_keep_3 : decode cX3_keep 3 = .ok (.lconst 1, 1) := dk_10 (dk_at dksX3_keep_0 3 rfl rfl)
theorem dX3_keep_4 : decode cX3_keep 4 = .ok (.invokestatic 41, 3) := dk_184 0 41 (dk_at dksX3_keep_0 4 rfl rfl)
theorem dX3_keep_7 : decode cX3_keep 7 = .ok (.ifCond .ne 5, 3) := dk_154 0 5 (dk_at dksX3_keep_0 7 rfl rfl)
theorem dX3_keep_10 : decode cX3_keep 10 = .ok (.iconst (-1), 1) := dk_2 (dk_at dksX3_keep_0 10 rfl rfl)
theorem dX3_keep_11 : decode cX3_keep 11 = .ok (.ireturn, 1) := dk_172 (dk_at dksX3_keep_0 11 rfl rfl)
theorem dX3_keep_12 : decode cX3_keep 12 = .ok (.aload_n 0, 1) := dk_42 (dk_at dksX3_keep_0 12 rfl rfl)
theorem dX3_keep_13 : decode cX3_keep 13 = .ok (.getfield 25, 3) := dk_180 0 25 (dk_at dksX3_keep_0 13 rfl rfl)
theorem dX3_keep_16 : decode cX3_keep 16 = .ok (.iload_n 1, 1) := dk_27 (dk_at dksX3_keep_0 16 rfl rfl)
theorem dX3_keep_17 : decode cX3_keep 17 = .ok (.baload, 1) := dk_51 (dk_at dksX3_keep_0 17 rfl rfl)
theorem dX3_keep_18 : decode cX3_keep 18 = .ok (.ifCond .eq 7, 3) := dk_153 0 7 (dk_at dksX3_keep_0 18 rfl rfl)
theorem dX3_keep_21 : decode cX3_keep 21 = .ok (.iconst 1, 1) := dk_4 (dk_at dksX3_keep_0 21 rfl rfl)
theorem dX3_keep_22 : decode cX3_keep 22 = .ok (.goto 4, 3) := dk_167 0 4 (dk_at dksX3_keep_1 0 rfl rfl)
theorem dX3_keep_25 : decode cX3_keep 25 = .ok (.iconst 0, 1) := dk_3 (dk_at dksX3_keep_1 3 rfl rfl)
theorem dX3_keep_26 : decode cX3_keep 26 = .ok (.istore_n 2, 1) := dk_61 (dk_at dksX3_keep_1 4 rfl rfl)
theorem dX3_keep_27 : decode cX3_keep 27 = .ok (.iconst 0, 1) := dk_3 (dk_at dksX3_keep_1 5 rfl rfl)
theorem dX3_keep_28 : decode cX3_keep 28 = .ok (.istore_n 3, 1) := dk_62 (dk_at dksX3_keep_1 6 rfl rfl)
theorem dX3_keep_29 : decode cX3_keep 29 = .ok (.iload_n 3, 1) := dk_29 (dk_at dksX3_keep_1 7 rfl rfl)
theorem dX3_keep_30 : decode cX3_keep 30 = .ok (.sipush 193, 3) := dk_17 0 193 (dk_at dksX3_keep_1 8 rfl rfl)
theorem dX3_keep_33 : decode cX3_keep 33 = .ok (.if_icmp .ge 31, 3) := dk_162 0 31 (dk_at dksX3_keep_1 11 rfl rfl)
theorem dX3_keep_36 : decode cX3_keep 36 = .ok (.aload_n 0, 1) := dk_42 (dk_at dksX3_keep_1 14 rfl rfl)
theorem dX3_keep_37 : decode cX3_keep 37 = .ok (.getfield 7, 3) := dk_180 0 7 (dk_at dksX3_keep_1 15 rfl rfl)
theorem dX3_keep_40 : decode cX3_keep 40 = .ok (.sipush 193, 3) := dk_17 0 193 (dk_at dksX3_keep_1 18 rfl rfl)
theorem dX3_keep_43 : decode cX3_keep 43 = .ok (.iload_n 1, 1) := dk_27 (dk_at dksX3_keep_1 21 rfl rfl)
theorem dX3_keep_44 : decode cX3_keep 44 = .ok (.imul, 1) := dk_104 (dk_at dksX3_keep_1 22 rfl rfl)
theorem dX3_keep_45 : decode cX3_keep 45 = .ok (.sipush 193, 3) := dk_17 0 193 (dk_at dksX3_keep_2 0 rfl rfl)
theorem dX3_keep_48 : decode cX3_keep 48 = .ok (.iadd, 1) := dk_96 (dk_at dksX3_keep_2 3 rfl rfl)
theorem dX3_keep_49 : decode cX3_keep 49 = .ok (.iload_n 3, 1) := dk_29 (dk_at dksX3_keep_2 4 rfl rfl)
theorem dX3_keep_50 : decode cX3_keep 50 = .ok (.iadd, 1) := dk_96 (dk_at dksX3_keep_2 5 rfl rfl)
theorem dX3_keep_51 : decode cX3_keep 51 = .ok (.aload_n 0, 1) := dk_42 (dk_at dksX3_keep_2 6 rfl rfl)
theorem dX3_keep_52 : decode cX3_keep 52 = .ok (.getfield 7, 3) := dk_180 0 7 (dk_at dksX3_keep_2 7 rfl rfl)
theorem dX3_keep_55 : decode cX3_keep 55 = .ok (.iload_n 3, 1) := dk_29 (dk_at dksX3_keep_2 10 rfl rfl)
theorem dX3_keep_56 : decode cX3_keep 56 = .ok (.iaload, 1) := dk_46 (dk_at dksX3_keep_2 11 rfl rfl)
theorem dX3_keep_57 : decode cX3_keep 57 = .ok (.iastore, 1) := dk_79 (dk_at dksX3_keep_2 12 rfl rfl)
theorem dX3_keep_58 : decode cX3_keep 58 = .ok (.iinc 3 1, 3) := dk_132 3 1 (dk_at dksX3_keep_2 13 rfl rfl)
theorem dX3_keep_61 : decode cX3_keep 61 = .ok (.goto (-32), 3) := dk_167 255 224 (dk_at dksX3_keep_2 16 rfl rfl)
theorem dX3_keep_64 : decode cX3_keep 64 = .ok (.aload_n 0, 1) := dk_42 (dk_at dksX3_keep_2 19 rfl rfl)
theorem dX3_keep_65 : decode cX3_keep 65 = .ok (.getfield 25, 3) := dk_180 0 25 (dk_at dksX3_keep_2 20 rfl rfl)
theorem dX3_keep_68 : decode cX3_keep 68 = .ok (.iload_n 1, 1) := dk_27 (dk_at dksX3_keep_2 23 rfl rfl)
theorem dX3_keep_69 : decode cX3_keep 69 = .ok (.iconst 1, 1) := dk_4 (dk_at dksX3_keep_3 0 rfl rfl)
theorem dX3_keep_70 : decode cX3_keep 70 = .ok (.bastore, 1) := dk_84 (dk_at dksX3_keep_3 1 rfl rfl)
theorem dX3_keep_71 : decode cX3_keep 71 = .ok (.iload_n 2, 1) := dk_28 (dk_at dksX3_keep_3 2 rfl rfl)
theorem dX3_keep_72 : decode cX3_keep 72 = .ok (.ireturn, 1) := dk_172 (dk_at dksX3_keep_3 3 rfl rfl)
abbrev cX3_back : ByteArray := prog_7_method_74_code
def yX3_back : MethodName := ⟨RX3, "back", "(I)I"⟩
def dkwX3_back_2 : List UInt8 := [17, 0, 193, 96, 28, 96, 46, 79, 132, 2, 1, 167, 255, 224, 42, 182, 0, 89, 172]
abbrev dktX3_back_2 : List UInt8 := dkwX3_back_2 ++ []
def dkwX3_back_1 : List UInt8 := [3, 61, 28, 17, 0, 193, 162, 0, 31, 42, 180, 0, 7, 28, 42, 180, 0, 7, 17, 0, 193, 27, 104]
abbrev dktX3_back_1 : List UInt8 := dkwX3_back_1 ++ dktX3_back_2
def dkwX3_back_0 : List UInt8 := [27, 133, 9, 10, 184, 0, 41, 154, 0, 5, 2, 172, 42, 180, 0, 25, 27, 51, 154, 0, 6, 16, 254, 172]
abbrev dktX3_back_0 : List UInt8 := dkwX3_back_0 ++ dktX3_back_1
theorem dksX3_back_0 : cX3_back.data.toList.drop 0 = dktX3_back_0 := by decide +kernel
theorem dksX3_back_1 : cX3_back.data.toList.drop 24 = dktX3_back_1 := dk_seg dksX3_back_0 24 rfl rfl
theorem dksX3_back_2 : cX3_back.data.toList.drop 47 = dktX3_back_2 := dk_seg dksX3_back_1 23 rfl rfl
theorem dX3_back_0 : decode cX3_back 0 = .ok (.iload_n 1, 1) := dk_27 (dk_at dksX3_back_0 0 rfl rfl)
theorem dX3_back_1 : decode cX3_back 1 = .ok (.i2l, 1) := dk_133 (dk_at dksX3_back_0 1 rfl rfl)
theorem dX3_back_2 : decode cX3_back 2 = .ok (.lconst 0, 1) := dk_9 (dk_at dksX3_back_0 2 rfl rfl)
theorem dX3_back_3 : decode cX3_back 3 = .ok (.lconst 1, 1) := dk_10 (dk_at dksX3_back_0 3 rfl rfl)
theorem dX3_back_4 : decode cX3_back 4 = .ok (.invokestatic 41, 3) := dk_184 0 41 (dk_at dksX3_back_0 4 rfl rfl)
theorem dX3_back_7 : decode cX3_back 7 = .ok (.ifCond .ne 5, 3) := dk_154 0 5 (dk_at dksX3_back_0 7 rfl rfl)
theorem dX3_back_10 : decode cX3_back 10 = .ok (.iconst (-1), 1) := dk_2 (dk_at dksX3_back_0 10 rfl rfl)
theorem dX3_back_11 : decode cX3_back 11 = .ok (.ireturn, 1) := dk_172 (dk_at dksX3_back_0 11 rfl rfl)
theorem dX3_back_12 : decode cX3_back 12 = .ok (.aload_n 0, 1) := dk_42 (dk_at dksX3_back_0 12 rfl rfl)
theorem dX3_back_13 : decode cX3_back 13 = .ok (.getfield 25, 3) := dk_180 0 25 (dk_at dksX3_back_0 13 rfl rfl)
theorem dX3_back_16 : decode cX3_back 16 = .ok (.iload_n 1, 1) := dk_27 (dk_at dksX3_back_0 16 rfl rfl)
theorem dX3_back_17 : decode cX3_back 17 = .ok (.baload, 1) := dk_51 (dk_at dksX3_back_0 17 rfl rfl)
theorem dX3_back_18 : decode cX3_back 18 = .ok (.ifCond .ne 6, 3) := dk_154 0 6 (dk_at dksX3_back_0 18 rfl rfl)
theorem dX3_back_21 : decode cX3_back 21 = .ok (.bipush (-2), 2) := dk_16 254 (dk_at dksX3_back_0 21 rfl rfl)
theorem dX3_back_23 : decode cX3_back 23 = .ok (.ireturn, 1) := dk_172 (dk_at dksX3_back_0 23 rfl rfl)
theorem dX3_back_24 : decode cX3_back 24 = .ok (.iconst 0, 1) := dk_3 (dk_at dksX3_back_1 0 rfl rfl)
theorem dX3_back_25 : decode cX3_back 25 = .ok (.istore_n 2, 1) := dk_61 (dk_at dksX3_back_1 1 rfl rfl)
theorem dX3_back_26 : decode cX3_back 26 = .ok (.iload_n 2, 1) := dk_28 (dk_at dksX3_back_1 2 rfl rfl)
theorem dX3_back_27 : decode cX3_back 27 = .ok (.sipush 193, 3) := dk_17 0 193 (dk_at dksX3_back_1 3 rfl rfl)
theorem dX3_back_30 : decode cX3_back 30 = .ok (.if_icmp .ge 31, 3) := dk_162 0 31 (dk_at dksX3_back_1 6 rfl rfl)
theorem dX3_back_33 : decode cX3_back 33 = .ok (.aload_n 0, 1) := dk_42 (dk_at dksX3_back_1 9 rfl rfl)
theorem dX3_back_34 : decode cX3_back 34 = .ok (.getfield 7, 3) := dk_180 0 7 (dk_at dksX3_back_1 10 rfl rfl)
theorem dX3_back_37 : decode cX3_back 37 = .ok (.iload_n 2, 1) := dk_28 (dk_at dksX3_back_1 13 rfl rfl)
theorem dX3_back_38 : decode cX3_back 38 = .ok (.aload_n 0, 1) := dk_42 (dk_at dksX3_back_1 14 rfl rfl)
theorem dX3_back_39 : decode cX3_back 39 = .ok (.getfield 7, 3) := dk_180 0 7 (dk_at dksX3_back_1 15 rfl rfl)
theorem dX3_back_42 : decode cX3_back 42 = .ok (.sipush 193, 3) := dk_17 0 193 (dk_at dksX3_back_1 18 rfl rfl)
theorem dX3_back_45 : decode cX3_back 45 = .ok (.iload_n 1, 1) := dk_27 (dk_at dksX3_back_1 21 rfl rfl)
theorem dX3_back_46 : decode cX3_back 46 = .ok (.imul, 1) := dk_104 (dk_at dksX3_back_1 22 rfl rfl)
theorem dX3_back_47 : decode cX3_back 47 = .ok (.sipush 193, 3) := dk_17 0 193 (dk_at dksX3_back_2 0 rfl rfl)
theorem dX3_back_50 : decode cX3_back 50 = .ok (.iadd, 1) := dk_96 (dk_at dksX3_back_2 3 rfl rfl)
theorem dX3_back_51 : decode cX3_back 51 = .ok (.iload_n 2, 1) := dk_28 (dk_at dksX3_back_2 4 rfl rfl)
theorem dX3_back_52 : decode cX3_back 52 = .ok (.iadd, 1) := dk_96 (dk_at dksX3_back_2 5 rfl rfl)
theorem dX3_back_53 : decode cX3_back 53 = .ok (.iaload, 1) := dk_46 (dk_at dksX3_back_2 6 rfl rfl)
theorem dX3_back_54 : decode cX3_back 54 = .ok (.iastore, 1) := dk_79 (dk_at dksX3_back_2 7 rfl rfl)
theorem dX3_back_55 : decode cX3_back 55 = .ok (.iinc 2 1, 3) := dk_132 2 1 (dk_at dksX3_back_2 8 rfl rfl)
theorem dX3_back_58 : decode cX3_back 58 = .ok (.goto (-32), 3) := dk_167 255 224 (dk_at dksX3_back_2 11 rfl rfl)
theorem dX3_back_61 : decode cX3_back 61 = .ok (.aload_n 0, 1) := dk_42 (dk_at dksX3_back_2 14 rfl rfl)
theorem dX3_back_62 : decode cX3_back 62 = .ok (.invokevirtual 89, 3) := dk_182 0 89 (dk_at dksX3_back_2 15 rfl rfl)
theorem dX3_back_65 : decode cX3_back 65 = .ok (.ireturn, 1) := dk_172 (dk_at dksX3_back_2 18 rfl rfl)
abbrev cX3_sheet : ByteArray := prog_7_method_75_code
def yX3_sheet : MethodName := ⟨RX3, "sheet", "(III)I"⟩
def dkwX3_sheet_3 : List UInt8 := [21, 4, 96, 9, 80, 132, 4, 1, 167, 255, 233, 4, 172]
abbrev dktX3_sheet_3 : List UInt8 := dkwX3_sheet_3 ++ []
def dkwX3_sheet_2 : List UInt8 := [180, 0, 32, 27, 29, 79, 3, 54, 4, 21, 4, 16, 40, 162, 0, 22, 42, 180, 0, 35, 16, 40, 27, 104]
abbrev dktX3_sheet_2 : List UInt8 := dkwX3_sheet_2 ++ dktX3_sheet_3
def dkwX3_sheet_1 : List UInt8 := [29, 16, 40, 164, 0, 5, 2, 172, 29, 156, 0, 6, 16, 242, 172, 42, 180, 0, 29, 27, 28, 79, 42]
abbrev dktX3_sheet_1 : List UInt8 := dkwX3_sheet_1 ++ dktX3_sheet_2
def dkwX3_sheet_0 : List UInt8 := [27, 133, 9, 20, 0, 118, 184, 0, 41, 153, 0, 21, 28, 133, 9, 20, 0, 109, 184, 0, 41, 153, 0, 9]
abbrev dktX3_sheet_0 : List UInt8 := dkwX3_sheet_0 ++ dktX3_sheet_1
theorem dksX3_sheet_0 : cX3_sheet.data.toList.drop 0 = dktX3_sheet_0 := by decide +kernel
theorem dksX3_sheet_1 : cX3_sheet.data.toList.drop 24 = dktX3_sheet_1 := dk_seg dksX3_sheet_0 24 rfl rfl
theorem dksX3_sheet_2 : cX3_sheet.data.toList.drop 47 = dktX3_sheet_2 := dk_seg dksX3_sheet_1 23 rfl rfl
theorem dksX3_sheet_3 : cX3_sheet.data.toList.drop 71 = dktX3_sheet_3 := dk_seg dksX3_sheet_2 24 rfl rfl
theorem dX3_sheet_0 : decode cX3_sheet 0 = .ok (.iload_n 1, 1) := dk_27 (dk_at dksX3_sheet_0 0 rfl rfl)
theorem dX3_sheet_1 : decode cX3_sheet 1 = .ok (.i2l, 1) := dk_133 (dk_at dksX3_sheet_0 1 rfl rfl)
theorem dX3_sheet_2 : decode cX3_sheet 2 = .ok (.lconst 0, 1) := dk_9 (dk_at dksX3_sheet_0 2 rfl rfl)
theorem dX3_sheet_3 : decode cX3_sheet 3 = .ok (.ldc2_w 118, 3) := dk_20 0 118 (dk_at dksX3_sheet_0 3 rfl rfl)
theorem dX3_sheet_6 : decode cX3_sheet 6 = .ok (.invokestatic 41, 3) := dk_184 0 41 (dk_at dksX3_sheet_0 6 rfl rfl)
theorem dX3_sheet_9 : decode cX3_sheet 9 = .ok (.ifCond .eq 21, 3) := dk_153 0 21 (dk_at dksX3_sheet_0 9 rfl rfl)
theorem dX3_sheet_12 : decode cX3_sheet 12 = .ok (.iload_n 2, 1) := dk_28 (dk_at dksX3_sheet_0 12 rfl rfl)
theorem dX3_sheet_13 : decode cX3_sheet 13 = .ok (.i2l, 1) := dk_133 (dk_at dksX3_sheet_0 13 rfl rfl)
theorem dX3_sheet_14 : decode cX3_sheet 14 = .ok (.lconst 0, 1) := dk_9 (dk_at dksX3_sheet_0 14 rfl rfl)
theorem dX3_sheet_15 : decode cX3_sheet 15 = .ok (.ldc2_w 109, 3) := dk_20 0 109 (dk_at dksX3_sheet_0 15 rfl rfl)
theorem dX3_sheet_18 : decode cX3_sheet 18 = .ok (.invokestatic 41, 3) := dk_184 0 41 (dk_at dksX3_sheet_0 18 rfl rfl)
theorem dX3_sheet_21 : decode cX3_sheet 21 = .ok (.ifCond .eq 9, 3) := dk_153 0 9 (dk_at dksX3_sheet_0 21 rfl rfl)
theorem dX3_sheet_24 : decode cX3_sheet 24 = .ok (.iload_n 3, 1) := dk_29 (dk_at dksX3_sheet_1 0 rfl rfl)
theorem dX3_sheet_25 : decode cX3_sheet 25 = .ok (.bipush 40, 2) := dk_16 40 (dk_at dksX3_sheet_1 1 rfl rfl)
theorem dX3_sheet_27 : decode cX3_sheet 27 = .ok (.if_icmp .le 5, 3) := dk_164 0 5 (dk_at dksX3_sheet_1 3 rfl rfl)
theorem dX3_sheet_30 : decode cX3_sheet 30 = .ok (.iconst (-1), 1) := dk_2 (dk_at dksX3_sheet_1 6 rfl rfl)
theorem dX3_sheet_31 : decode cX3_sheet 31 = .ok (.ireturn, 1) := dk_172 (dk_at dksX3_sheet_1 7 rfl rfl)
theorem dX3_sheet_32 : decode cX3_sheet 32 = .ok (.iload_n 3, 1) := dk_29 (dk_at dksX3_sheet_1 8 rfl rfl)
theorem dX3_sheet_33 : decode cX3_sheet 33 = .ok (.ifCond .ge 6, 3) := dk_156 0 6 (dk_at dksX3_sheet_1 9 rfl rfl)
theorem dX3_sheet_36 : decode cX3_sheet 36 = .ok (.bipush (-14), 2) := dk_16 242 (dk_at dksX3_sheet_1 12 rfl rfl)
theorem dX3_sheet_38 : decode cX3_sheet 38 = .ok (.ireturn, 1) := dk_172 (dk_at dksX3_sheet_1 14 rfl rfl)
theorem dX3_sheet_39 : decode cX3_sheet 39 = .ok (.aload_n 0, 1) := dk_42 (dk_at dksX3_sheet_1 15 rfl rfl)
theorem dX3_sheet_40 : decode cX3_sheet 40 = .ok (.getfield 29, 3) := dk_180 0 29 (dk_at dksX3_sheet_1 16 rfl rfl)
theorem dX3_sheet_43 : decode cX3_sheet 43 = .ok (.iload_n 1, 1) := dk_27 (dk_at dksX3_sheet_1 19 rfl rfl)
theorem dX3_sheet_44 : decode cX3_sheet 44 = .ok (.iload_n 2, 1) := dk_28 (dk_at dksX3_sheet_1 20 rfl rfl)
theorem dX3_sheet_45 : decode cX3_sheet 45 = .ok (.iastore, 1) := dk_79 (dk_at dksX3_sheet_1 21 rfl rfl)
theorem dX3_sheet_46 : decode cX3_sheet 46 = .ok (.aload_n 0, 1) := dk_42 (dk_at dksX3_sheet_1 22 rfl rfl)
theorem dX3_sheet_47 : decode cX3_sheet 47 = .ok (.getfield 32, 3) := dk_180 0 32 (dk_at dksX3_sheet_2 0 rfl rfl)
theorem dX3_sheet_50 : decode cX3_sheet 50 = .ok (.iload_n 1, 1) := dk_27 (dk_at dksX3_sheet_2 3 rfl rfl)
theorem dX3_sheet_51 : decode cX3_sheet 51 = .ok (.iload_n 3, 1) := dk_29 (dk_at dksX3_sheet_2 4 rfl rfl)
theorem dX3_sheet_52 : decode cX3_sheet 52 = .ok (.iastore, 1) := dk_79 (dk_at dksX3_sheet_2 5 rfl rfl)
theorem dX3_sheet_53 : decode cX3_sheet 53 = .ok (.iconst 0, 1) := dk_3 (dk_at dksX3_sheet_2 6 rfl rfl)
theorem dX3_sheet_54 : decode cX3_sheet 54 = .ok (.istore 4, 2) := dk_54 4 (dk_at dksX3_sheet_2 7 rfl rfl)
theorem dX3_sheet_56 : decode cX3_sheet 56 = .ok (.iload 4, 2) := dk_21 4 (dk_at dksX3_sheet_2 9 rfl rfl)
theorem dX3_sheet_58 : decode cX3_sheet 58 = .ok (.bipush 40, 2) := dk_16 40 (dk_at dksX3_sheet_2 11 rfl rfl)
theorem dX3_sheet_60 : decode cX3_sheet 60 = .ok (.if_icmp .ge 22, 3) := dk_162 0 22 (dk_at dksX3_sheet_2 13 rfl rfl)
theorem dX3_sheet_63 : decode cX3_sheet 63 = .ok (.aload_n 0, 1) := dk_42 (dk_at dksX3_sheet_2 16 rfl rfl)
theorem dX3_sheet_64 : decode cX3_sheet 64 = .ok (.getfield 35, 3) := dk_180 0 35 (dk_at dksX3_sheet_2 17 rfl rfl)
theorem dX3_sheet_67 : decode cX3_sheet 67 = .ok (.bipush 40, 2) := dk_16 40 (dk_at dksX3_sheet_2 20 rfl rfl)
theorem dX3_sheet_69 : decode cX3_sheet 69 = .ok (.iload_n 1, 1) := dk_27 (dk_at dksX3_sheet_2 22 rfl rfl)
theorem dX3_sheet_70 : decode cX3_sheet 70 = .ok (.imul, 1) := dk_104 (dk_at dksX3_sheet_2 23 rfl rfl)
theorem dX3_sheet_71 : decode cX3_sheet 71 = .ok (.iload 4, 2) := dk_21 4 (dk_at dksX3_sheet_3 0 rfl rfl)
theorem dX3_sheet_73 : decode cX3_sheet 73 = .ok (.iadd, 1) := dk_96 (dk_at dksX3_sheet_3 2 rfl rfl)
theorem dX3_sheet_74 : decode cX3_sheet 74 = .ok (.lconst 0, 1) := dk_9 (dk_at dksX3_sheet_3 3 rfl rfl)
theorem dX3_sheet_75 : decode cX3_sheet 75 = .ok (.lastore, 1) := dk_80 (dk_at dksX3_sheet_3 4 rfl rfl)
theorem dX3_sheet_76 : decode cX3_sheet 76 = .ok (.iinc 4 1, 3) := dk_132 4 1 (dk_at dksX3_sheet_3 5 rfl rfl)
theorem dX3_sheet_79 : decode cX3_sheet 79 = .ok (.goto (-23), 3) := dk_167 255 233 (dk_at dksX3_sheet_3 8 rfl rfl)
theorem dX3_sheet_82 : decode cX3_sheet 82 = .ok (.iconst 1, 1) := dk_4 (dk_at dksX3_sheet_3 11 rfl rfl)
theorem dX3_sheet_83 : decode cX3_sheet 83 = .ok (.ireturn, 1) := dk_172 (dk_at dksX3_sheet_3 12 rfl rfl)
abbrev cX3_lay : ByteArray := prog_7_method_77_code
def yX3_lay : MethodName := ⟨RX3, "lay", "(IIJ)I"⟩
def dkwX3_lay_3 : List UInt8 := [4, 172]
abbrev dktX3_lay_3 : List UInt8 := dkwX3_lay_3 ++ []
def dkwX3_lay_2 : List UInt8 := [16, 244, 172, 42, 180, 0, 35, 16, 40, 27, 104, 28, 96, 42, 180, 0, 29, 27, 46, 33, 184, 0, 199, 80]
abbrev dktX3_lay_2 : List UInt8 := dkwX3_lay_2 ++ dktX3_lay_3
def dkwX3_lay_1 : List UInt8 := [160, 0, 6, 16, 245, 172, 28, 133, 9, 42, 180, 0, 32, 27, 46, 4, 100, 133, 184, 0, 41, 154, 0, 6]
abbrev dktX3_lay_1 : List UInt8 := dkwX3_lay_1 ++ dktX3_lay_2
def dkwX3_lay_0 : List UInt8 := [27, 133, 9, 20, 0, 118, 184, 0, 41, 154, 0, 5, 2, 172, 42, 180, 0, 29, 27, 46, 16, 252]
abbrev dktX3_lay_0 : List UInt8 := dkwX3_lay_0 ++ dktX3_lay_1
theorem dksX3_lay_0 : cX3_lay.data.toList.drop 0 = dktX3_lay_0 := by decide +kernel
theorem dksX3_lay_1 : cX3_lay.data.toList.drop 22 = dktX3_lay_1 := dk_seg dksX3_lay_0 22 rfl rfl
theorem dksX3_lay_2 : cX3_lay.data.toList.drop 46 = dktX3_lay_2 := dk_seg dksX3_lay_1 24 rfl rfl
theorem dksX3_lay_3 : cX3_lay.data.toList.drop 70 = dktX3_lay_3 := dk_seg dksX3_lay_2 24 rfl rfl
theorem dX3_lay_0 : decode cX3_lay 0 = .ok (.iload_n 1, 1) := dk_27 (dk_at dksX3_lay_0 0 rfl rfl)
theorem dX3_lay_1 : decode cX3_lay 1 = .ok (.i2l, 1) := dk_133 (dk_at dksX3_lay_0 1 rfl rfl)
theorem dX3_lay_2 : decode cX3_lay 2 = .ok (.lconst 0, 1) := dk_9 (dk_at dksX3_lay_0 2 rfl rfl)
theorem dX3_lay_3 : decode cX3_lay 3 = .ok (.ldc2_w 118, 3) := dk_20 0 118 (dk_at dksX3_lay_0 3 rfl rfl)
theorem dX3_lay_6 : decode cX3_lay 6 = .ok (.invokestatic 41, 3) := dk_184 0 41 (dk_at dksX3_lay_0 6 rfl rfl)
theorem dX3_lay_9 : decode cX3_lay 9 = .ok (.ifCond .ne 5, 3) := dk_154 0 5 (dk_at dksX3_lay_0 9 rfl rfl)
theorem dX3_lay_12 : decode cX3_lay 12 = .ok (.iconst (-1), 1) := dk_2 (dk_at dksX3_lay_0 12 rfl rfl)
theorem dX3_lay_13 : decode cX3_lay 13 = .ok (.ireturn, 1) := dk_172 (dk_at dksX3_lay_0 13 rfl rfl)
theorem dX3_lay_14 : decode cX3_lay 14 = .ok (.aload_n 0, 1) := dk_42 (dk_at dksX3_lay_0 14 rfl rfl)
theorem dX3_lay_15 : decode cX3_lay 15 = .ok (.getfield 29, 3) := dk_180 0 29 (dk_at dksX3_lay_0 15 rfl rfl)
theorem dX3_lay_18 : decode cX3_lay 18 = .ok (.iload_n 1, 1) := dk_27 (dk_at dksX3_lay_0 18 rfl rfl)
theorem dX3_lay_19 : decode cX3_lay 19 = .ok (.iaload, 1) := dk_46 (dk_at dksX3_lay_0 19 rfl rfl)
theorem dX3_lay_20 : decode cX3_lay 20 = .ok (.bipush (-4), 2) := dk_16 252 (dk_at dksX3_lay_0 20 rfl rfl)
theorem dX3_lay_22 : decode cX3_lay 22 = .ok (.if_icmp .ne 6, 3) := dk_160 0 6 (dk_at dksX3_lay_1 0 rfl rfl)
theorem dX3_lay_25 : decode cX3_lay 25 = .ok (.bipush (-11), 2) := dk_16 245 (dk_at dksX3_lay_1 3 rfl rfl)
theorem dX3_lay_27 : decode cX3_lay 27 = .ok (.ireturn, 1) := dk_172 (dk_at dksX3_lay_1 5 rfl rfl)
theorem dX3_lay_28 : decode cX3_lay 28 = .ok (.iload_n 2, 1) := dk_28 (dk_at dksX3_lay_1 6 rfl rfl)
theorem dX3_lay_29 : decode cX3_lay 29 = .ok (.i2l, 1) := dk_133 (dk_at dksX3_lay_1 7 rfl rfl)
theorem dX3_lay_30 : decode cX3_lay 30 = .ok (.lconst 0, 1) := dk_9 (dk_at dksX3_lay_1 8 rfl rfl)
theorem dX3_lay_31 : decode cX3_lay 31 = .ok (.aload_n 0, 1) := dk_42 (dk_at dksX3_lay_1 9 rfl rfl)
theorem dX3_lay_32 : decode cX3_lay 32 = .ok (.getfield 32, 3) := dk_180 0 32 (dk_at dksX3_lay_1 10 rfl rfl)
theorem dX3_lay_35 : decode cX3_lay 35 = .ok (.iload_n 1, 1) := dk_27 (dk_at dksX3_lay_1 13 rfl rfl)
theorem dX3_lay_36 : decode cX3_lay 36 = .ok (.iaload, 1) := dk_46 (dk_at dksX3_lay_1 14 rfl rfl)
theorem dX3_lay_37 : decode cX3_lay 37 = .ok (.iconst 1, 1) := dk_4 (dk_at dksX3_lay_1 15 rfl rfl)
theorem dX3_lay_38 : decode cX3_lay 38 = .ok (.isub, 1) := dk_100 (dk_at dksX3_lay_1 16 rfl rfl)
theorem dX3_lay_39 : decode cX3_lay 39 = .ok (.i2l, 1) := dk_133 (dk_at dksX3_lay_1 17 rfl rfl)
theorem dX3_lay_40 : decode cX3_lay 40 = .ok (.invokestatic 41, 3) := dk_184 0 41 (dk_at dksX3_lay_1 18 rfl rfl)
theorem dX3_lay_43 : decode cX3_lay 43 = .ok (.ifCond .ne 6, 3) := dk_154 0 6 (dk_at dksX3_lay_1 21 rfl rfl)
theorem dX3_lay_46 : decode cX3_lay 46 = .ok (.bipush (-12), 2) := dk_16 244 (dk_at dksX3_lay_2 0 rfl rfl)
theorem dX3_lay_48 : decode cX3_lay 48 = .ok (.ireturn, 1) := dk_172 (dk_at dksX3_lay_2 2 rfl rfl)
theorem dX3_lay_49 : decode cX3_lay 49 = .ok (.aload_n 0, 1) := dk_42 (dk_at dksX3_lay_2 3 rfl rfl)
theorem dX3_lay_50 : decode cX3_lay 50 = .ok (.getfield 35, 3) := dk_180 0 35 (dk_at dksX3_lay_2 4 rfl rfl)
theorem dX3_lay_53 : decode cX3_lay 53 = .ok (.bipush 40, 2) := dk_16 40 (dk_at dksX3_lay_2 7 rfl rfl)
theorem dX3_lay_55 : decode cX3_lay 55 = .ok (.iload_n 1, 1) := dk_27 (dk_at dksX3_lay_2 9 rfl rfl)
theorem dX3_lay_56 : decode cX3_lay 56 = .ok (.imul, 1) := dk_104 (dk_at dksX3_lay_2 10 rfl rfl)
theorem dX3_lay_57 : decode cX3_lay 57 = .ok (.iload_n 2, 1) := dk_28 (dk_at dksX3_lay_2 11 rfl rfl)
theorem dX3_lay_58 : decode cX3_lay 58 = .ok (.iadd, 1) := dk_96 (dk_at dksX3_lay_2 12 rfl rfl)
theorem dX3_lay_59 : decode cX3_lay 59 = .ok (.aload_n 0, 1) := dk_42 (dk_at dksX3_lay_2 13 rfl rfl)
theorem dX3_lay_60 : decode cX3_lay 60 = .ok (.getfield 29, 3) := dk_180 0 29 (dk_at dksX3_lay_2 14 rfl rfl)
theorem dX3_lay_63 : decode cX3_lay 63 = .ok (.iload_n 1, 1) := dk_27 (dk_at dksX3_lay_2 17 rfl rfl)
theorem dX3_lay_64 : decode cX3_lay 64 = .ok (.iaload, 1) := dk_46 (dk_at dksX3_lay_2 18 rfl rfl)
theorem dX3_lay_65 : decode cX3_lay 65 = .ok (.lload_n 3, 1) := dk_33 (dk_at dksX3_lay_2 19 rfl rfl)
theorem dX3_lay_66 : decode cX3_lay 66 = .ok (.invokestatic 199, 3) := dk_184 0 199 (dk_at dksX3_lay_2 20 rfl rfl)
theorem dX3_lay_69 : decode cX3_lay 69 = .ok (.lastore, 1) := dk_80 (dk_at dksX3_lay_2 23 rfl rfl)
theorem dX3_lay_70 : decode cX3_lay 70 = .ok (.iconst 1, 1) := dk_4 (dk_at dksX3_lay_3 0 rfl rfl)
theorem dX3_lay_71 : decode cX3_lay 71 = .ok (.ireturn, 1) := dk_172 (dk_at dksX3_lay_3 1 rfl rfl)
abbrev cX3_narrowed : ByteArray := prog_7_method_76_code
def yX3_narrowed : MethodName := ⟨RX3, "narrowed", "(IJ)J"⟩
def dkwX3_narrowed_1 : List UInt8 := [16, 32, 123, 167, 0, 4, 31, 173]
abbrev dktX3_narrowed_1 : List UInt8 := dkwX3_narrowed_1 ++ []
def dkwX3_narrowed_0 : List UInt8 := [26, 154, 0, 13, 31, 16, 56, 121, 16, 56, 123, 167, 0, 19, 26, 4, 160, 0, 13, 31, 16, 32, 121]
abbrev dktX3_narrowed_0 : List UInt8 := dkwX3_narrowed_0 ++ dktX3_narrowed_1
theorem dksX3_narrowed_0 : cX3_narrowed.data.toList.drop 0 = dktX3_narrowed_0 := by decide +kernel
theorem dksX3_narrowed_1 : cX3_narrowed.data.toList.drop 23 = dktX3_narrowed_1 := dk_seg dksX3_narrowed_0 23 rfl rfl
theorem dX3_narrowed_0 : decode cX3_narrowed 0 = .ok (.iload_n 0, 1) := dk_26 (dk_at dksX3_narrowed_0 0 rfl rfl)
theorem dX3_narrowed_1 : decode cX3_narrowed 1 = .ok (.ifCond .ne 13, 3) := dk_154 0 13 (dk_at dksX3_narrowed_0 1 rfl rfl)
theorem dX3_narrowed_4 : decode cX3_narrowed 4 = .ok (.lload_n 1, 1) := dk_31 (dk_at dksX3_narrowed_0 4 rfl rfl)
theorem dX3_narrowed_5 : decode cX3_narrowed 5 = .ok (.bipush 56, 2) := dk_16 56 (dk_at dksX3_narrowed_0 5 rfl rfl)
theorem dX3_narrowed_7 : decode cX3_narrowed 7 = .ok (.lshl, 1) := dk_121 (dk_at dksX3_narrowed_0 7 rfl rfl)
theorem dX3_narrowed_8 : decode cX3_narrowed 8 = .ok (.bipush 56, 2) := dk_16 56 (dk_at dksX3_narrowed_0 8 rfl rfl)
theorem dX3_narrowed_10 : decode cX3_narrowed 10 = .ok (.lshr, 1) := dk_123 (dk_at dksX3_narrowed_0 10 rfl rfl)
theorem dX3_narrowed_11 : decode cX3_narrowed 11 = .ok (.goto 19, 3) := dk_167 0 19 (dk_at dksX3_narrowed_0 11 rfl rfl)
theorem dX3_narrowed_14 : decode cX3_narrowed 14 = .ok (.iload_n 0, 1) := dk_26 (dk_at dksX3_narrowed_0 14 rfl rfl)
theorem dX3_narrowed_15 : decode cX3_narrowed 15 = .ok (.iconst 1, 1) := dk_4 (dk_at dksX3_narrowed_0 15 rfl rfl)
theorem dX3_narrowed_16 : decode cX3_narrowed 16 = .ok (.if_icmp .ne 13, 3) := dk_160 0 13 (dk_at dksX3_narrowed_0 16 rfl rfl)
theorem dX3_narrowed_19 : decode cX3_narrowed 19 = .ok (.lload_n 1, 1) := dk_31 (dk_at dksX3_narrowed_0 19 rfl rfl)
theorem dX3_narrowed_20 : decode cX3_narrowed 20 = .ok (.bipush 32, 2) := dk_16 32 (dk_at dksX3_narrowed_0 20 rfl rfl)
theorem dX3_narrowed_22 : decode cX3_narrowed 22 = .ok (.lshl, 1) := dk_121 (dk_at dksX3_narrowed_0 22 rfl rfl)
theorem dX3_narrowed_23 : decode cX3_narrowed 23 = .ok (.bipush 32, 2) := dk_16 32 (dk_at dksX3_narrowed_1 0 rfl rfl)
theorem dX3_narrowed_25 : decode cX3_narrowed 25 = .ok (.lshr, 1) := dk_123 (dk_at dksX3_narrowed_1 2 rfl rfl)
theorem dX3_narrowed_26 : decode cX3_narrowed 26 = .ok (.goto 4, 3) := dk_167 0 4 (dk_at dksX3_narrowed_1 3 rfl rfl)
theorem dX3_narrowed_29 : decode cX3_narrowed 29 = .ok (.lload_n 1, 1) := dk_31 (dk_at dksX3_narrowed_1 6 rfl rfl)
theorem dX3_narrowed_30 : decode cX3_narrowed 30 = .ok (.lreturn, 1) := dk_173 (dk_at dksX3_narrowed_1 7 rfl rfl)
abbrev cX3_look : ByteArray := prog_7_method_78_code
def yX3_look : MethodName := ⟨RX3, "look", "(II)J"⟩
def dkwX3_look_2 : List UInt8 := [104, 28, 96, 47, 167, 0, 4, 9, 173]
abbrev dktX3_look_2 : List UInt8 := dkwX3_look_2 ++ []
def dkwX3_look_1 : List UInt8 := [133, 9, 42, 180, 0, 32, 27, 46, 4, 100, 133, 184, 0, 41, 153, 0, 17, 42, 180, 0, 35, 16, 40, 27]
abbrev dktX3_look_1 : List UInt8 := dkwX3_look_1 ++ dktX3_look_2
def dkwX3_look_0 : List UInt8 := [27, 133, 9, 20, 0, 118, 184, 0, 41, 153, 0, 46, 42, 180, 0, 29, 27, 46, 16, 252, 159, 0, 35, 28]
abbrev dktX3_look_0 : List UInt8 := dkwX3_look_0 ++ dktX3_look_1
theorem dksX3_look_0 : cX3_look.data.toList.drop 0 = dktX3_look_0 := by decide +kernel
theorem dksX3_look_1 : cX3_look.data.toList.drop 24 = dktX3_look_1 := dk_seg dksX3_look_0 24 rfl rfl
theorem dksX3_look_2 : cX3_look.data.toList.drop 48 = dktX3_look_2 := dk_seg dksX3_look_1 24 rfl rfl
theorem dX3_look_0 : decode cX3_look 0 = .ok (.iload_n 1, 1) := dk_27 (dk_at dksX3_look_0 0 rfl rfl)
theorem dX3_look_1 : decode cX3_look 1 = .ok (.i2l, 1) := dk_133 (dk_at dksX3_look_0 1 rfl rfl)
theorem dX3_look_2 : decode cX3_look 2 = .ok (.lconst 0, 1) := dk_9 (dk_at dksX3_look_0 2 rfl rfl)
theorem dX3_look_3 : decode cX3_look 3 = .ok (.ldc2_w 118, 3) := dk_20 0 118 (dk_at dksX3_look_0 3 rfl rfl)
theorem dX3_look_6 : decode cX3_look 6 = .ok (.invokestatic 41, 3) := dk_184 0 41 (dk_at dksX3_look_0 6 rfl rfl)
theorem dX3_look_9 : decode cX3_look 9 = .ok (.ifCond .eq 46, 3) := dk_153 0 46 (dk_at dksX3_look_0 9 rfl rfl)
theorem dX3_look_12 : decode cX3_look 12 = .ok (.aload_n 0, 1) := dk_42 (dk_at dksX3_look_0 12 rfl rfl)
theorem dX3_look_13 : decode cX3_look 13 = .ok (.getfield 29, 3) := dk_180 0 29 (dk_at dksX3_look_0 13 rfl rfl)
theorem dX3_look_16 : decode cX3_look 16 = .ok (.iload_n 1, 1) := dk_27 (dk_at dksX3_look_0 16 rfl rfl)
theorem dX3_look_17 : decode cX3_look 17 = .ok (.iaload, 1) := dk_46 (dk_at dksX3_look_0 17 rfl rfl)
theorem dX3_look_18 : decode cX3_look 18 = .ok (.bipush (-4), 2) := dk_16 252 (dk_at dksX3_look_0 18 rfl rfl)
theorem dX3_look_20 : decode cX3_look 20 = .ok (.if_icmp .eq 35, 3) := dk_159 0 35 (dk_at dksX3_look_0 20 rfl rfl)
theorem dX3_look_23 : decode cX3_look 23 = .ok (.iload_n 2, 1) := dk_28 (dk_at dksX3_look_0 23 rfl rfl)
theorem dX3_look_24 : decode cX3_look 24 = .ok (.i2l, 1) := dk_133 (dk_at dksX3_look_1 0 rfl rfl)
theorem dX3_look_25 : decode cX3_look 25 = .ok (.lconst 0, 1) := dk_9 (dk_at dksX3_look_1 1 rfl rfl)
theorem dX3_look_26 : decode cX3_look 26 = .ok (.aload_n 0, 1) := dk_42 (dk_at dksX3_look_1 2 rfl rfl)
theorem dX3_look_27 : decode cX3_look 27 = .ok (.getfield 32, 3) := dk_180 0 32 (dk_at dksX3_look_1 3 rfl rfl)
theorem dX3_look_30 : decode cX3_look 30 = .ok (.iload_n 1, 1) := dk_27 (dk_at dksX3_look_1 6 rfl rfl)
theorem dX3_look_31 : decode cX3_look 31 = .ok (.iaload, 1) := dk_46 (dk_at dksX3_look_1 7 rfl rfl)
theorem dX3_look_32 : decode cX3_look 32 = .ok (.iconst 1, 1) := dk_4 (dk_at dksX3_look_1 8 rfl rfl)
theorem dX3_look_33 : decode cX3_look 33 = .ok (.isub, 1) := dk_100 (dk_at dksX3_look_1 9 rfl rfl)
theorem dX3_look_34 : decode cX3_look 34 = .ok (.i2l, 1) := dk_133 (dk_at dksX3_look_1 10 rfl rfl)
theorem dX3_look_35 : decode cX3_look 35 = .ok (.invokestatic 41, 3) := dk_184 0 41 (dk_at dksX3_look_1 11 rfl rfl)
theorem dX3_look_38 : decode cX3_look 38 = .ok (.ifCond .eq 17, 3) := dk_153 0 17 (dk_at dksX3_look_1 14 rfl rfl)
theorem dX3_look_41 : decode cX3_look 41 = .ok (.aload_n 0, 1) := dk_42 (dk_at dksX3_look_1 17 rfl rfl)
theorem dX3_look_42 : decode cX3_look 42 = .ok (.getfield 35, 3) := dk_180 0 35 (dk_at dksX3_look_1 18 rfl rfl)
theorem dX3_look_45 : decode cX3_look 45 = .ok (.bipush 40, 2) := dk_16 40 (dk_at dksX3_look_1 21 rfl rfl)
theorem dX3_look_47 : decode cX3_look 47 = .ok (.iload_n 1, 1) := dk_27 (dk_at dksX3_look_1 23 rfl rfl)
theorem dX3_look_48 : decode cX3_look 48 = .ok (.imul, 1) := dk_104 (dk_at dksX3_look_2 0 rfl rfl)
theorem dX3_look_49 : decode cX3_look 49 = .ok (.iload_n 2, 1) := dk_28 (dk_at dksX3_look_2 1 rfl rfl)
theorem dX3_look_50 : decode cX3_look 50 = .ok (.iadd, 1) := dk_96 (dk_at dksX3_look_2 2 rfl rfl)
theorem dX3_look_51 : decode cX3_look 51 = .ok (.laload, 1) := dk_47 (dk_at dksX3_look_2 3 rfl rfl)
theorem dX3_look_52 : decode cX3_look 52 = .ok (.goto 4, 3) := dk_167 0 4 (dk_at dksX3_look_2 4 rfl rfl)
theorem dX3_look_55 : decode cX3_look 55 = .ok (.lconst 0, 1) := dk_9 (dk_at dksX3_look_2 7 rfl rfl)
theorem dX3_look_56 : decode cX3_look 56 = .ok (.lreturn, 1) := dk_173 (dk_at dksX3_look_2 8 rfl rfl)
abbrev cX3_read : ByteArray := prog_7_method_82_code
def yX3_read : MethodName := ⟨RX3, "read", "(IIII)I"⟩
def dkwX3_read_8 : List UInt8 := [79, 132, 5, 1, 167, 255, 234, 42, 180, 0, 7, 17, 0, 192, 21, 4, 5, 108, 79, 42, 182, 0, 89, 172]
abbrev dktX3_read_8 : List UInt8 := dkwX3_read_8 ++ []
def dkwX3_read_7 : List UInt8 := [167, 255, 232, 3, 54, 5, 21, 5, 16, 64, 162, 0, 21, 42, 180, 0, 7, 17, 0, 128, 21, 5, 96, 3]
abbrev dktX3_read_7 : List UInt8 := dkwX3_read_7 ++ dktX3_read_8
def dkwX3_read_6 : List UInt8 := [21, 5, 21, 4, 162, 0, 23, 42, 180, 0, 7, 21, 5, 42, 180, 0, 13, 21, 5, 46, 79, 132, 5, 1]
abbrev dktX3_read_6 : List UInt8 := dkwX3_read_6 ++ dktX3_read_7
def dkwX3_read_5 : List UInt8 := [136, 79, 132, 5, 1, 167, 255, 178, 42, 21, 4, 182, 0, 212, 154, 0, 6, 16, 254, 172, 3, 54, 5]
abbrev dktX3_read_5 : List UInt8 := dkwX3_read_5 ++ dktX3_read_6
def dkwX3_read_4 : List UInt8 := [104, 22, 6, 28, 184, 0, 203, 133, 109, 136, 96, 47, 22, 6, 28, 184, 0, 203, 133, 113, 136, 123, 10, 127]
abbrev dktX3_read_4 : List UInt8 := dkwX3_read_4 ++ dktX3_read_5
def dkwX3_read_3 : List UInt8 := [21, 8, 158, 0, 9, 16, 246, 21, 8, 100, 172, 42, 180, 0, 13, 21, 5, 42, 180, 0, 35, 16, 40, 27]
abbrev dktX3_read_3 : List UInt8 := dkwX3_read_3 ++ dktX3_read_4
def dkwX3_read_2 : List UInt8 := [21, 4, 162, 0, 77, 29, 133, 21, 5, 133, 97, 55, 6, 42, 27, 28, 22, 6, 182, 0, 208, 54, 8]
abbrev dktX3_read_2 : List UInt8 := dkwX3_read_2 ++ dktX3_read_3
def dkwX3_read_1 : List UInt8 := [29, 155, 0, 16, 21, 4, 133, 9, 20, 0, 206, 184, 0, 41, 154, 0, 5, 2, 172, 3, 54, 5, 21, 5]
abbrev dktX3_read_1 : List UInt8 := dkwX3_read_1 ++ dktX3_read_2
def dkwX3_read_0 : List UInt8 := [27, 133, 9, 20, 0, 118, 184, 0, 41, 153, 0, 32, 28, 133, 9, 20, 0, 109, 184, 0, 41, 153, 0, 20]
abbrev dktX3_read_0 : List UInt8 := dkwX3_read_0 ++ dktX3_read_1
theorem dksX3_read_0 : cX3_read.data.toList.drop 0 = dktX3_read_0 := by decide +kernel
theorem dksX3_read_1 : cX3_read.data.toList.drop 24 = dktX3_read_1 := dk_seg dksX3_read_0 24 rfl rfl
theorem dksX3_read_2 : cX3_read.data.toList.drop 48 = dktX3_read_2 := dk_seg dksX3_read_1 24 rfl rfl
theorem dksX3_read_3 : cX3_read.data.toList.drop 71 = dktX3_read_3 := dk_seg dksX3_read_2 23 rfl rfl
theorem dksX3_read_4 : cX3_read.data.toList.drop 95 = dktX3_read_4 := dk_seg dksX3_read_3 24 rfl rfl
theorem dksX3_read_5 : cX3_read.data.toList.drop 119 = dktX3_read_5 := dk_seg dksX3_read_4 24 rfl rfl
theorem dksX3_read_6 : cX3_read.data.toList.drop 142 = dktX3_read_6 := dk_seg dksX3_read_5 23 rfl rfl
theorem dksX3_read_7 : cX3_read.data.toList.drop 166 = dktX3_read_7 := dk_seg dksX3_read_6 24 rfl rfl
theorem dksX3_read_8 : cX3_read.data.toList.drop 190 = dktX3_read_8 := dk_seg dksX3_read_7 24 rfl rfl
theorem dX3_read_0 : decode cX3_read 0 = .ok (.iload_n 1, 1) := dk_27 (dk_at dksX3_read_0 0 rfl rfl)
theorem dX3_read_1 : decode cX3_read 1 = .ok (.i2l, 1) := dk_133 (dk_at dksX3_read_0 1 rfl rfl)
theorem dX3_read_2 : decode cX3_read 2 = .ok (.lconst 0, 1) := dk_9 (dk_at dksX3_read_0 2 rfl rfl)
theorem dX3_read_3 : decode cX3_read 3 = .ok (.ldc2_w 118, 3) := dk_20 0 118 (dk_at dksX3_read_0 3 rfl rfl)
theorem dX3_read_6 : decode cX3_read 6 = .ok (.invokestatic 41, 3) := dk_184 0 41 (dk_at dksX3_read_0 6 rfl rfl)
theorem dX3_read_9 : decode cX3_read 9 = .ok (.ifCond .eq 32, 3) := dk_153 0 32 (dk_at dksX3_read_0 9 rfl rfl)
theorem dX3_read_12 : decode cX3_read 12 = .ok (.iload_n 2, 1) := dk_28 (dk_at dksX3_read_0 12 rfl rfl)
theorem dX3_read_13 : decode cX3_read 13 = .ok (.i2l, 1) := dk_133 (dk_at dksX3_read_0 13 rfl rfl)
theorem dX3_read_14 : decode cX3_read 14 = .ok (.lconst 0, 1) := dk_9 (dk_at dksX3_read_0 14 rfl rfl)
theorem dX3_read_15 : decode cX3_read 15 = .ok (.ldc2_w 109, 3) := dk_20 0 109 (dk_at dksX3_read_0 15 rfl rfl)
theorem dX3_read_18 : decode cX3_read 18 = .ok (.invokestatic 41, 3) := dk_184 0 41 (dk_at dksX3_read_0 18 rfl rfl)
theorem dX3_read_21 : decode cX3_read 21 = .ok (.ifCond .eq 20, 3) := dk_153 0 20 (dk_at dksX3_read_0 21 rfl rfl)
theorem dX3_read_24 : decode cX3_read 24 = .ok (.iload_n 3, 1) := dk_29 (dk_at dksX3_read_1 0 rfl rfl)
theorem dX3_read_25 : decode cX3_read 25 = .ok (.ifCond .lt 16, 3) := dk_155 0 16 (dk_at dksX3_read_1 1 rfl rfl)
theorem dX3_read_28 : decode cX3_read 28 = .ok (.iload 4, 2) := dk_21 4 (dk_at dksX3_read_1 4 rfl rfl)
theorem dX3_read_30 : decode cX3_read 30 = .ok (.i2l, 1) := dk_133 (dk_at dksX3_read_1 6 rfl rfl)
theorem dX3_read_31 : decode cX3_read 31 = .ok (.lconst 0, 1) := dk_9 (dk_at dksX3_read_1 7 rfl rfl)
theorem dX3_read_32 : decode cX3_read 32 = .ok (.ldc2_w 206, 3) := dk_20 0 206 (dk_at dksX3_read_1 8 rfl rfl)
theorem dX3_read_35 : decode cX3_read 35 = .ok (.invokestatic 41, 3) := dk_184 0 41 (dk_at dksX3_read_1 11 rfl rfl)
theorem dX3_read_38 : decode cX3_read 38 = .ok (.ifCond .ne 5, 3) := dk_154 0 5 (dk_at dksX3_read_1 14 rfl rfl)
theorem dX3_read_41 : decode cX3_read 41 = .ok (.iconst (-1), 1) := dk_2 (dk_at dksX3_read_1 17 rfl rfl)
theorem dX3_read_42 : decode cX3_read 42 = .ok (.ireturn, 1) := dk_172 (dk_at dksX3_read_1 18 rfl rfl)
theorem dX3_read_43 : decode cX3_read 43 = .ok (.iconst 0, 1) := dk_3 (dk_at dksX3_read_1 19 rfl rfl)
theorem dX3_read_44 : decode cX3_read 44 = .ok (.istore 5, 2) := dk_54 5 (dk_at dksX3_read_1 20 rfl rfl)
theorem dX3_read_46 : decode cX3_read 46 = .ok (.iload 5, 2) := dk_21 5 (dk_at dksX3_read_1 22 rfl rfl)
theorem dX3_read_48 : decode cX3_read 48 = .ok (.iload 4, 2) := dk_21 4 (dk_at dksX3_read_2 0 rfl rfl)
theorem dX3_read_50 : decode cX3_read 50 = .ok (.if_icmp .ge 77, 3) := dk_162 0 77 (dk_at dksX3_read_2 2 rfl rfl)
theorem dX3_read_53 : decode cX3_read 53 = .ok (.iload_n 3, 1) := dk_29 (dk_at dksX3_read_2 5 rfl rfl)
theorem dX3_read_54 : decode cX3_read 54 = .ok (.i2l, 1) := dk_133 (dk_at dksX3_read_2 6 rfl rfl)
theorem dX3_read_55 : decode cX3_read 55 = .ok (.iload 5, 2) := dk_21 5 (dk_at dksX3_read_2 7 rfl rfl)
theorem dX3_read_57 : decode cX3_read 57 = .ok (.i2l, 1) := dk_133 (dk_at dksX3_read_2 9 rfl rfl)
theorem dX3_read_58 : decode cX3_read 58 = .ok (.ladd, 1) := dk_97 (dk_at dksX3_read_2 10 rfl rfl)
theorem dX3_read_59 : decode cX3_read 59 = .ok (.lstore 6, 2) := dk_55 6 (dk_at dksX3_read_2 11 rfl rfl)
theorem dX3_read_61 : decode cX3_read 61 = .ok (.aload_n 0, 1) := dk_42 (dk_at dksX3_read_2 13 rfl rfl)
theorem dX3_read_62 : decode cX3_read 62 = .ok (.iload_n 1, 1) := dk_27 (dk_at dksX3_read_2 14 rfl rfl)
theorem dX3_read_63 : decode cX3_read 63 = .ok (.iload_n 2, 1) := dk_28 (dk_at dksX3_read_2 15 rfl rfl)
theorem dX3_read_64 : decode cX3_read 64 = .ok (.lload 6, 2) := dk_22 6 (dk_at dksX3_read_2 16 rfl rfl)
theorem dX3_read_66 : decode cX3_read 66 = .ok (.invokevirtual 208, 3) := dk_182 0 208 (dk_at dksX3_read_2 18 rfl rfl)
theorem dX3_read_69 : decode cX3_read 69 = .ok (.istore 8, 2) := dk_54 8 (dk_at dksX3_read_2 21 rfl rfl)
theorem dX3_read_71 : decode cX3_read 71 = .ok (.iload 8, 2) := dk_21 8 (dk_at dksX3_read_3 0 rfl rfl)
theorem dX3_read_73 : decode cX3_read 73 = .ok (.ifCond .le 9, 3) := dk_158 0 9 (dk_at dksX3_read_3 2 rfl rfl)
theorem dX3_read_76 : decode cX3_read 76 = .ok (.bipush (-10), 2) := dk_16 246 (dk_at dksX3_read_3 5 rfl rfl)
theorem dX3_read_78 : decode cX3_read 78 = .ok (.iload 8, 2) := dk_21 8 (dk_at dksX3_read_3 7 rfl rfl)
theorem dX3_read_80 : decode cX3_read 80 = .ok (.isub, 1) := dk_100 (dk_at dksX3_read_3 9 rfl rfl)
theorem dX3_read_81 : decode cX3_read 81 = .ok (.ireturn, 1) := dk_172 (dk_at dksX3_read_3 10 rfl rfl)
theorem dX3_read_82 : decode cX3_read 82 = .ok (.aload_n 0, 1) := dk_42 (dk_at dksX3_read_3 11 rfl rfl)
theorem dX3_read_83 : decode cX3_read 83 = .ok (.getfield 13, 3) := dk_180 0 13 (dk_at dksX3_read_3 12 rfl rfl)
theorem dX3_read_86 : decode cX3_read 86 = .ok (.iload 5, 2) := dk_21 5 (dk_at dksX3_read_3 15 rfl rfl)
theorem dX3_read_88 : decode cX3_read 88 = .ok (.aload_n 0, 1) := dk_42 (dk_at dksX3_read_3 17 rfl rfl)
theorem dX3_read_89 : decode cX3_read 89 = .ok (.getfield 35, 3) := dk_180 0 35 (dk_at dksX3_read_3 18 rfl rfl)
theorem dX3_read_92 : decode cX3_read 92 = .ok (.bipush 40, 2) := dk_16 40 (dk_at dksX3_read_3 21 rfl rfl)
theorem dX3_read_94 : decode cX3_read 94 = .ok (.iload_n 1, 1) := dk_27 (dk_at dksX3_read_3 23 rfl rfl)
theorem dX3_read_95 : decode cX3_read 95 = .ok (.imul, 1) := dk_104 (dk_at dksX3_read_4 0 rfl rfl)
theorem dX3_read_96 : decode cX3_read 96 = .ok (.lload 6, 2) := dk_22 6 (dk_at dksX3_read_4 1 rfl rfl)
theorem dX3_read_98 : decode cX3_read 98 = .ok (.iload_n 2, 1) := dk_28 (dk_at dksX3_read_4 3 rfl rfl)
theorem dX3_read_99 : decode cX3_read 99 = .ok (.invokestatic 203, 3) := dk_184 0 203 (dk_at dksX3_read_4 4 rfl rfl)
theorem dX3_read_102 : decode cX3_read 102 = .ok (.i2l, 1) := dk_133 (dk_at dksX3_read_4 7 rfl rfl)
theorem dX3_read_103 : decode cX3_read 103 = .ok (.ldiv, 1) := dk_109 (dk_at dksX3_read_4 8 rfl rfl)
theorem dX3_read_104 : decode cX3_read 104 = .ok (.l2i, 1) := dk_136 (dk_at dksX3_read_4 9 rfl rfl)
theorem dX3_read_105 : decode cX3_read 105 = .ok (.iadd, 1) := dk_96 (dk_at dksX3_read_4 10 rfl rfl)
theorem dX3_read_106 : decode cX3_read 106 = .ok (.laload, 1) := dk_47 (dk_at dksX3_read_4 11 rfl rfl)
theorem dX3_read_107 : decode cX3_read 107 = .ok (.lload 6, 2) := dk_22 6 (dk_at dksX3_read_4 12 rfl rfl)
theorem dX3_read_109 : decode cX3_read 109 = .ok (.iload_n 2, 1) := dk_28 (dk_at dksX3_read_4 14 rfl rfl)
theorem dX3_read_110 : decode cX3_read 110 = .ok (.invokestatic 203, 3) := dk_184 0 203 (dk_at dksX3_read_4 15 rfl rfl)
theorem dX3_read_113 : decode cX3_read 113 = .ok (.i2l, 1) := dk_133 (dk_at dksX3_read_4 18 rfl rfl)
theorem dX3_read_114 : decode cX3_read 114 = .ok (.lrem, 1) := dk_113 (dk_at dksX3_read_4 19 rfl rfl)
theorem dX3_read_115 : decode cX3_read 115 = .ok (.l2i, 1) := dk_136 (dk_at dksX3_read_4 20 rfl rfl)
theorem dX3_read_116 : decode cX3_read 116 = .ok (.lshr, 1) := dk_123 (dk_at dksX3_read_4 21 rfl rfl)
theorem dX3_read_117 : decode cX3_read 117 = .ok (.lconst 1, 1) := dk_10 (dk_at dksX3_read_4 22 rfl rfl)
theorem dX3_read_118 : decode cX3_read 118 = .ok (.land, 1) := dk_127 (dk_at dksX3_read_4 23 rfl rfl)
theorem dX3_read_119 : decode cX3_read 119 = .ok (.l2i, 1) := dk_136 (dk_at dksX3_read_5 0 rfl rfl)
theorem dX3_read_120 : decode cX3_read 120 = .ok (.iastore, 1) := dk_79 (dk_at dksX3_read_5 1 rfl rfl)
theorem dX3_read_121 : decode cX3_read 121 = .ok (.iinc 5 1, 3) := dk_132 5 1 (dk_at dksX3_read_5 2 rfl rfl)
theorem dX3_read_124 : decode cX3_read 124 = .ok (.goto (-78), 3) := dk_167 255 178 (dk_at dksX3_read_5 5 rfl rfl)
theorem dX3_read_127 : decode cX3_read 127 = .ok (.aload_n 0, 1) := dk_42 (dk_at dksX3_read_5 8 rfl rfl)
theorem dX3_read_128 : decode cX3_read 128 = .ok (.iload 4, 2) := dk_21 4 (dk_at dksX3_read_5 9 rfl rfl)
theorem dX3_read_130 : decode cX3_read 130 = .ok (.invokevirtual 212, 3) := dk_182 0 212 (dk_at dksX3_read_5 11 rfl rfl)
theorem dX3_read_133 : decode cX3_read 133 = .ok (.ifCond .ne 6, 3) := dk_154 0 6 (dk_at dksX3_read_5 14 rfl rfl)
theorem dX3_read_136 : decode cX3_read 136 = .ok (.bipush (-2), 2) := dk_16 254 (dk_at dksX3_read_5 17 rfl rfl)
theorem dX3_read_138 : decode cX3_read 138 = .ok (.ireturn, 1) := dk_172 (dk_at dksX3_read_5 19 rfl rfl)
theorem dX3_read_139 : decode cX3_read 139 = .ok (.iconst 0, 1) := dk_3 (dk_at dksX3_read_5 20 rfl rfl)
theorem dX3_read_140 : decode cX3_read 140 = .ok (.istore 5, 2) := dk_54 5 (dk_at dksX3_read_5 21 rfl rfl)
theorem dX3_read_142 : decode cX3_read 142 = .ok (.iload 5, 2) := dk_21 5 (dk_at dksX3_read_6 0 rfl rfl)
theorem dX3_read_144 : decode cX3_read 144 = .ok (.iload 4, 2) := dk_21 4 (dk_at dksX3_read_6 2 rfl rfl)
theorem dX3_read_146 : decode cX3_read 146 = .ok (.if_icmp .ge 23, 3) := dk_162 0 23 (dk_at dksX3_read_6 4 rfl rfl)
theorem dX3_read_149 : decode cX3_read 149 = .ok (.aload_n 0, 1) := dk_42 (dk_at dksX3_read_6 7 rfl rfl)
theorem dX3_read_150 : decode cX3_read 150 = .ok (.getfield 7, 3) := dk_180 0 7 (dk_at dksX3_read_6 8 rfl rfl)
theorem dX3_read_153 : decode cX3_read 153 = .ok (.iload 5, 2) := dk_21 5 (dk_at dksX3_read_6 11 rfl rfl)
theorem dX3_read_155 : decode cX3_read 155 = .ok (.aload_n 0, 1) := dk_42 (dk_at dksX3_read_6 13 rfl rfl)
theorem dX3_read_156 : decode cX3_read 156 = .ok (.getfield 13, 3) := dk_180 0 13 (dk_at dksX3_read_6 14 rfl rfl)
theorem dX3_read_159 : decode cX3_read 159 = .ok (.iload 5, 2) := dk_21 5 (dk_at dksX3_read_6 17 rfl rfl)
theorem dX3_read_161 : decode cX3_read 161 = .ok (.iaload, 1) := dk_46 (dk_at dksX3_read_6 19 rfl rfl)
theorem dX3_read_162 : decode cX3_read 162 = .ok (.iastore, 1) := dk_79 (dk_at dksX3_read_6 20 rfl rfl)
theorem dX3_read_163 : decode cX3_read 163 = .ok (.iinc 5 1, 3) := dk_132 5 1 (dk_at dksX3_read_6 21 rfl rfl)
theorem dX3_read_166 : decode cX3_read 166 = .ok (.goto (-24), 3) := dk_167 255 232 (dk_at dksX3_read_7 0 rfl rfl)
theorem dX3_read_169 : decode cX3_read 169 = .ok (.iconst 0, 1) := dk_3 (dk_at dksX3_read_7 3 rfl rfl)
theorem dX3_read_170 : decode cX3_read 170 = .ok (.istore 5, 2) := dk_54 5 (dk_at dksX3_read_7 4 rfl rfl)
theorem dX3_read_172 : decode cX3_read 172 = .ok (.iload 5, 2) := dk_21 5 (dk_at dksX3_read_7 6 rfl rfl)
theorem dX3_read_174 : decode cX3_read 174 = .ok (.bipush 64, 2) := dk_16 64 (dk_at dksX3_read_7 8 rfl rfl)
theorem dX3_read_176 : decode cX3_read 176 = .ok (.if_icmp .ge 21, 3) := dk_162 0 21 (dk_at dksX3_read_7 10 rfl rfl)
theorem dX3_read_179 : decode cX3_read 179 = .ok (.aload_n 0, 1) := dk_42 (dk_at dksX3_read_7 13 rfl rfl)
theorem dX3_read_180 : decode cX3_read 180 = .ok (.getfield 7, 3) := dk_180 0 7 (dk_at dksX3_read_7 14 rfl rfl)
theorem dX3_read_183 : decode cX3_read 183 = .ok (.sipush 128, 3) := dk_17 0 128 (dk_at dksX3_read_7 17 rfl rfl)
theorem dX3_read_186 : decode cX3_read 186 = .ok (.iload 5, 2) := dk_21 5 (dk_at dksX3_read_7 20 rfl rfl)
theorem dX3_read_188 : decode cX3_read 188 = .ok (.iadd, 1) := dk_96 (dk_at dksX3_read_7 22 rfl rfl)
theorem dX3_read_189 : decode cX3_read 189 = .ok (.iconst 0, 1) := dk_3 (dk_at dksX3_read_7 23 rfl rfl)
theorem dX3_read_190 : decode cX3_read 190 = .ok (.iastore, 1) := dk_79 (dk_at dksX3_read_8 0 rfl rfl)
theorem dX3_read_191 : decode cX3_read 191 = .ok (.iinc 5 1, 3) := dk_132 5 1 (dk_at dksX3_read_8 1 rfl rfl)
theorem dX3_read_194 : decode cX3_read 194 = .ok (.goto (-22), 3) := dk_167 255 234 (dk_at dksX3_read_8 4 rfl rfl)
theorem dX3_read_197 : decode cX3_read 197 = .ok (.aload_n 0, 1) := dk_42 (dk_at dksX3_read_8 7 rfl rfl)
theorem dX3_read_198 : decode cX3_read 198 = .ok (.getfield 7, 3) := dk_180 0 7 (dk_at dksX3_read_8 8 rfl rfl)
theorem dX3_read_201 : decode cX3_read 201 = .ok (.sipush 192, 3) := dk_17 0 192 (dk_at dksX3_read_8 11 rfl rfl)
theorem dX3_read_204 : decode cX3_read 204 = .ok (.iload 4, 2) := dk_21 4 (dk_at dksX3_read_8 14 rfl rfl)
theorem dX3_read_206 : decode cX3_read 206 = .ok (.iconst 2, 1) := dk_5 (dk_at dksX3_read_8 16 rfl rfl)
theorem dX3_read_207 : decode cX3_read 207 = .ok (.idiv, 1) := dk_108 (dk_at dksX3_read_8 17 rfl rfl)
theorem dX3_read_208 : decode cX3_read 208 = .ok (.iastore, 1) := dk_79 (dk_at dksX3_read_8 18 rfl rfl)
theorem dX3_read_209 : decode cX3_read 209 = .ok (.aload_n 0, 1) := dk_42 (dk_at dksX3_read_8 19 rfl rfl)
theorem dX3_read_210 : decode cX3_read 210 = .ok (.invokevirtual 89, 3) := dk_182 0 89 (dk_at dksX3_read_8 20 rfl rfl)
theorem dX3_read_213 : decode cX3_read 213 = .ok (.ireturn, 1) := dk_172 (dk_at dksX3_read_8 23 rfl rfl)
abbrev cX3_foundAt : ByteArray := prog_7_method_80_code
def yX3_foundAt : MethodName := ⟨RX3, "foundAt", "(IIJ)I"⟩
def dkwX3_foundAt_2 : List UInt8 := [155, 0, 7, 5, 167, 0, 4, 3, 172]
abbrev dktX3_foundAt_2 : List UInt8 := dkwX3_foundAt_2 ++ []
def dkwX3_foundAt_1 : List UInt8 := [159, 0, 7, 6, 167, 0, 26, 33, 28, 184, 0, 203, 133, 109, 42, 180, 0, 32, 27, 46, 133, 148]
abbrev dktX3_foundAt_1 : List UInt8 := dkwX3_foundAt_1 ++ dktX3_foundAt_2
def dkwX3_foundAt_0 : List UInt8 := [42, 180, 0, 29, 27, 46, 16, 252, 160, 0, 7, 4, 167, 0, 40, 42, 180, 0, 29, 27, 46, 28]
abbrev dktX3_foundAt_0 : List UInt8 := dkwX3_foundAt_0 ++ dktX3_foundAt_1
theorem dksX3_foundAt_0 : cX3_foundAt.data.toList.drop 0 = dktX3_foundAt_0 := by decide +kernel
theorem dksX3_foundAt_1 : cX3_foundAt.data.toList.drop 22 = dktX3_foundAt_1 := dk_seg dksX3_foundAt_0 22 rfl rfl
theorem dksX3_foundAt_2 : cX3_foundAt.data.toList.drop 44 = dktX3_foundAt_2 := dk_seg dksX3_foundAt_1 22 rfl rfl
theorem dX3_foundAt_0 : decode cX3_foundAt 0 = .ok (.aload_n 0, 1) := dk_42 (dk_at dksX3_foundAt_0 0 rfl rfl)
theorem dX3_foundAt_1 : decode cX3_foundAt 1 = .ok (.getfield 29, 3) := dk_180 0 29 (dk_at dksX3_foundAt_0 1 rfl rfl)
theorem dX3_foundAt_4 : decode cX3_foundAt 4 = .ok (.iload_n 1, 1) := dk_27 (dk_at dksX3_foundAt_0 4 rfl rfl)
theorem dX3_foundAt_5 : decode cX3_foundAt 5 = .ok (.iaload, 1) := dk_46 (dk_at dksX3_foundAt_0 5 rfl rfl)
theorem dX3_foundAt_6 : decode cX3_foundAt 6 = .ok (.bipush (-4), 2) := dk_16 252 (dk_at dksX3_foundAt_0 6 rfl rfl)
theorem dX3_foundAt_8 : decode cX3_foundAt 8 = .ok (.if_icmp .ne 7, 3) := dk_160 0 7 (dk_at dksX3_foundAt_0 8 rfl rfl)
theorem dX3_foundAt_11 : decode cX3_foundAt 11 = .ok (.iconst 1, 1) := dk_4 (dk_at dksX3_foundAt_0 11 rfl rfl)
theorem dX3_foundAt_12 : decode cX3_foundAt 12 = .ok (.goto 40, 3) := dk_167 0 40 (dk_at dksX3_foundAt_0 12 rfl rfl)
theorem dX3_foundAt_15 : decode cX3_foundAt 15 = .ok (.aload_n 0, 1) := dk_42 (dk_at dksX3_foundAt_0 15 rfl rfl)
theorem dX3_foundAt_16 : decode cX3_foundAt 16 = .ok (.getfield 29, 3) := dk_180 0 29 (dk_at dksX3_foundAt_0 16 rfl rfl)
theorem dX3_foundAt_19 : decode cX3_foundAt 19 = .ok (.iload_n 1, 1) := dk_27 (dk_at dksX3_foundAt_0 19 rfl rfl)
theorem dX3_foundAt_20 : decode cX3_foundAt 20 = .ok (.iaload, 1) := dk_46 (dk_at dksX3_foundAt_0 20 rfl rfl)
theorem dX3_foundAt_21 : decode cX3_foundAt 21 = .ok (.iload_n 2, 1) := dk_28 (dk_at dksX3_foundAt_0 21 rfl rfl)
theorem dX3_foundAt_22 : decode cX3_foundAt 22 = .ok (.if_icmp .eq 7, 3) := dk_159 0 7 (dk_at dksX3_foundAt_1 0 rfl rfl)
theorem dX3_foundAt_25 : decode cX3_foundAt 25 = .ok (.iconst 3, 1) := dk_6 (dk_at dksX3_foundAt_1 3 rfl rfl)
theorem dX3_foundAt_26 : decode cX3_foundAt 26 = .ok (.goto 26, 3) := dk_167 0 26 (dk_at dksX3_foundAt_1 4 rfl rfl)
theorem dX3_foundAt_29 : decode cX3_foundAt 29 = .ok (.lload_n 3, 1) := dk_33 (dk_at dksX3_foundAt_1 7 rfl rfl)
theorem dX3_foundAt_30 : decode cX3_foundAt 30 = .ok (.iload_n 2, 1) := dk_28 (dk_at dksX3_foundAt_1 8 rfl rfl)
theorem dX3_foundAt_31 : decode cX3_foundAt 31 = .ok (.invokestatic 203, 3) := dk_184 0 203 (dk_at dksX3_foundAt_1 9 rfl rfl)
theorem dX3_foundAt_34 : decode cX3_foundAt 34 = .ok (.i2l, 1) := dk_133 (dk_at dksX3_foundAt_1 12 rfl rfl)
theorem dX3_foundAt_35 : decode cX3_foundAt 35 = .ok (.ldiv, 1) := dk_109 (dk_at dksX3_foundAt_1 13 rfl rfl)
theorem dX3_foundAt_36 : decode cX3_foundAt 36 = .ok (.aload_n 0, 1) := dk_42 (dk_at dksX3_foundAt_1 14 rfl rfl)
theorem dX3_foundAt_37 : decode cX3_foundAt 37 = .ok (.getfield 32, 3) := dk_180 0 32 (dk_at dksX3_foundAt_1 15 rfl rfl)
theorem dX3_foundAt_40 : decode cX3_foundAt 40 = .ok (.iload_n 1, 1) := dk_27 (dk_at dksX3_foundAt_1 18 rfl rfl)
theorem dX3_foundAt_41 : decode cX3_foundAt 41 = .ok (.iaload, 1) := dk_46 (dk_at dksX3_foundAt_1 19 rfl rfl)
theorem dX3_foundAt_42 : decode cX3_foundAt 42 = .ok (.i2l, 1) := dk_133 (dk_at dksX3_foundAt_1 20 rfl rfl)
theorem dX3_foundAt_43 : decode cX3_foundAt 43 = .ok (.lcmp, 1) := dk_148 (dk_at dksX3_foundAt_1 21 rfl rfl)
theorem dX3_foundAt_44 : decode cX3_foundAt 44 = .ok (.ifCond .lt 7, 3) := dk_155 0 7 (dk_at dksX3_foundAt_2 0 rfl rfl)
theorem dX3_foundAt_47 : decode cX3_foundAt 47 = .ok (.iconst 2, 1) := dk_5 (dk_at dksX3_foundAt_2 3 rfl rfl)
theorem dX3_foundAt_48 : decode cX3_foundAt 48 = .ok (.goto 4, 3) := dk_167 0 4 (dk_at dksX3_foundAt_2 4 rfl rfl)
theorem dX3_foundAt_51 : decode cX3_foundAt 51 = .ok (.iconst 0, 1) := dk_3 (dk_at dksX3_foundAt_2 7 rfl rfl)
theorem dX3_foundAt_52 : decode cX3_foundAt 52 = .ok (.ireturn, 1) := dk_172 (dk_at dksX3_foundAt_2 8 rfl rfl)
abbrev cX3_wide : ByteArray := prog_7_method_79_code
def yX3_wide : MethodName := ⟨RX3, "wide", "(I)I"⟩
def dkwX3_wide_0 : List UInt8 := [26, 154, 0, 8, 16, 8, 167, 0, 15, 26, 4, 160, 0, 8, 16, 32, 167, 0, 5, 16, 64, 172]
abbrev dktX3_wide_0 : List UInt8 := dkwX3_wide_0 ++ []
theorem dksX3_wide_0 : cX3_wide.data.toList.drop 0 = dktX3_wide_0 := by decide +kernel
theorem dX3_wide_0 : decode cX3_wide 0 = .ok (.iload_n 0, 1) := dk_26 (dk_at dksX3_wide_0 0 rfl rfl)
theorem dX3_wide_1 : decode cX3_wide 1 = .ok (.ifCond .ne 8, 3) := dk_154 0 8 (dk_at dksX3_wide_0 1 rfl rfl)
theorem dX3_wide_4 : decode cX3_wide 4 = .ok (.bipush 8, 2) := dk_16 8 (dk_at dksX3_wide_0 4 rfl rfl)
theorem dX3_wide_6 : decode cX3_wide 6 = .ok (.goto 15, 3) := dk_167 0 15 (dk_at dksX3_wide_0 6 rfl rfl)
theorem dX3_wide_9 : decode cX3_wide 9 = .ok (.iload_n 0, 1) := dk_26 (dk_at dksX3_wide_0 9 rfl rfl)
theorem dX3_wide_10 : decode cX3_wide 10 = .ok (.iconst 1, 1) := dk_4 (dk_at dksX3_wide_0 10 rfl rfl)
theorem dX3_wide_11 : decode cX3_wide 11 = .ok (.if_icmp .ne 8, 3) := dk_160 0 8 (dk_at dksX3_wide_0 11 rfl rfl)
theorem dX3_wide_14 : decode cX3_wide 14 = .ok (.bipush 32, 2) := dk_16 32 (dk_at dksX3_wide_0 14 rfl rfl)
theorem dX3_wide_16 : decode cX3_wide 16 = .ok (.goto 5, 3) := dk_167 0 5 (dk_at dksX3_wide_0 16 rfl rfl)
theorem dX3_wide_19 : decode cX3_wide 19 = .ok (.bipush 64, 2) := dk_16 64 (dk_at dksX3_wide_0 19 rfl rfl)
theorem dX3_wide_21 : decode cX3_wide 21 = .ok (.ireturn, 1) := dk_172 (dk_at dksX3_wide_0 21 rfl rfl)
abbrev cX3_isRow : ByteArray := prog_7_method_81_code
def yX3_isRow : MethodName := ⟨RX3, "isRow", "(I)Z"⟩
def dkwX3_isRow_3 : List UInt8 := [167, 255, 202, 29, 153, 0, 11, 28, 154, 0, 7, 4, 167, 0, 4, 3, 172]
abbrev dktX3_isRow_3 : List UInt8 := dkwX3_isRow_3 ++ []
def dkwX3_isRow_2 : List UInt8 := [157, 0, 15, 28, 154, 0, 15, 21, 4, 27, 4, 100, 160, 0, 7, 4, 167, 0, 4, 3, 62, 132, 4, 1]
abbrev dktX3_isRow_2 : List UInt8 := dkwX3_isRow_2 ++ dktX3_isRow_3
def dkwX3_isRow_1 : List UInt8 := [42, 180, 0, 13, 21, 4, 46, 4, 160, 0, 7, 4, 167, 0, 4, 2, 96, 61, 29, 153, 0, 23, 28]
abbrev dktX3_isRow_1 : List UInt8 := dkwX3_isRow_1 ++ dktX3_isRow_2
def dkwX3_isRow_0 : List UInt8 := [3, 61, 27, 5, 112, 154, 0, 7, 4, 167, 0, 4, 3, 62, 3, 54, 4, 21, 4, 27, 162, 0, 54, 28]
abbrev dktX3_isRow_0 : List UInt8 := dkwX3_isRow_0 ++ dktX3_isRow_1
theorem dksX3_isRow_0 : cX3_isRow.data.toList.drop 0 = dktX3_isRow_0 := by decide +kernel
theorem dksX3_isRow_1 : cX3_isRow.data.toList.drop 24 = dktX3_isRow_1 := dk_seg dksX3_isRow_0 24 rfl rfl
theorem dksX3_isRow_2 : cX3_isRow.data.toList.drop 47 = dktX3_isRow_2 := dk_seg dksX3_isRow_1 23 rfl rfl
theorem dksX3_isRow_3 : cX3_isRow.data.toList.drop 71 = dktX3_isRow_3 := dk_seg dksX3_isRow_2 24 rfl rfl
theorem dX3_isRow_0 : decode cX3_isRow 0 = .ok (.iconst 0, 1) := dk_3 (dk_at dksX3_isRow_0 0 rfl rfl)
theorem dX3_isRow_1 : decode cX3_isRow 1 = .ok (.istore_n 2, 1) := dk_61 (dk_at dksX3_isRow_0 1 rfl rfl)
theorem dX3_isRow_2 : decode cX3_isRow 2 = .ok (.iload_n 1, 1) := dk_27 (dk_at dksX3_isRow_0 2 rfl rfl)
theorem dX3_isRow_3 : decode cX3_isRow 3 = .ok (.iconst 2, 1) := dk_5 (dk_at dksX3_isRow_0 3 rfl rfl)
theorem dX3_isRow_4 : decode cX3_isRow 4 = .ok (.irem, 1) := dk_112 (dk_at dksX3_isRow_0 4 rfl rfl)
theorem dX3_isRow_5 : decode cX3_isRow 5 = .ok (.ifCond .ne 7, 3) := dk_154 0 7 (dk_at dksX3_isRow_0 5 rfl rfl)
theorem dX3_isRow_8 : decode cX3_isRow 8 = .ok (.iconst 1, 1) := dk_4 (dk_at dksX3_isRow_0 8 rfl rfl)
theorem dX3_isRow_9 : decode cX3_isRow 9 = .ok (.goto 4, 3) := dk_167 0 4 (dk_at dksX3_isRow_0 9 rfl rfl)
theorem dX3_isRow_12 : decode cX3_isRow 12 = .ok (.iconst 0, 1) := dk_3 (dk_at dksX3_isRow_0 12 rfl rfl)
theorem dX3_isRow_13 : decode cX3_isRow 13 = .ok (.istore_n 3, 1) := dk_62 (dk_at dksX3_isRow_0 13 rfl rfl)
theorem dX3_isRow_14 : decode cX3_isRow 14 = .ok (.iconst 0, 1) := dk_3 (dk_at dksX3_isRow_0 14 rfl rfl)
theorem dX3_isRow_15 : decode cX3_isRow 15 = .ok (.istore 4, 2) := dk_54 4 (dk_at dksX3_isRow_0 15 rfl rfl)
theorem dX3_isRow_17 : decode cX3_isRow 17 = .ok (.iload 4, 2) := dk_21 4 (dk_at dksX3_isRow_0 17 rfl rfl)
theorem dX3_isRow_19 : decode cX3_isRow 19 = .ok (.iload_n 1, 1) := dk_27 (dk_at dksX3_isRow_0 19 rfl rfl)
theorem dX3_isRow_20 : decode cX3_isRow 20 = .ok (.if_icmp .ge 54, 3) := dk_162 0 54 (dk_at dksX3_isRow_0 20 rfl rfl)
theorem dX3_isRow_23 : decode cX3_isRow 23 = .ok (.iload_n 2, 1) := dk_28 (dk_at dksX3_isRow_0 23 rfl rfl)
theorem dX3_isRow_24 : decode cX3_isRow 24 = .ok (.aload_n 0, 1) := dk_42 (dk_at dksX3_isRow_1 0 rfl rfl)
theorem dX3_isRow_25 : decode cX3_isRow 25 = .ok (.getfield 13, 3) := dk_180 0 13 (dk_at dksX3_isRow_1 1 rfl rfl)
theorem dX3_isRow_28 : decode cX3_isRow 28 = .ok (.iload 4, 2) := dk_21 4 (dk_at dksX3_isRow_1 4 rfl rfl)
theorem dX3_isRow_30 : decode cX3_isRow 30 = .ok (.iaload, 1) := dk_46 (dk_at dksX3_isRow_1 6 rfl rfl)
theorem dX3_isRow_31 : decode cX3_isRow 31 = .ok (.iconst 1, 1) := dk_4 (dk_at dksX3_isRow_1 7 rfl rfl)
theorem dX3_isRow_32 : decode cX3_isRow 32 = .ok (.if_icmp .ne 7, 3) := dk_160 0 7 (dk_at dksX3_isRow_1 8 rfl rfl)
theorem dX3_isRow_35 : decode cX3_isRow 35 = .ok (.iconst 1, 1) := dk_4 (dk_at dksX3_isRow_1 11 rfl rfl)
theorem dX3_isRow_36 : decode cX3_isRow 36 = .ok (.goto 4, 3) := dk_167 0 4 (dk_at dksX3_isRow_1 12 rfl rfl)
theorem dX3_isRow_39 : decode cX3_isRow 39 = .ok (.iconst (-1), 1) := dk_2 (dk_at dksX3_isRow_1 15 rfl rfl)
theorem dX3_isRow_40 : decode cX3_isRow 40 = .ok (.iadd, 1) := dk_96 (dk_at dksX3_isRow_1 16 rfl rfl)
theorem dX3_isRow_41 : decode cX3_isRow 41 = .ok (.istore_n 2, 1) := dk_61 (dk_at dksX3_isRow_1 17 rfl rfl)
theorem dX3_isRow_42 : decode cX3_isRow 42 = .ok (.iload_n 3, 1) := dk_29 (dk_at dksX3_isRow_1 18 rfl rfl)
theorem dX3_isRow_43 : decode cX3_isRow 43 = .ok (.ifCond .eq 23, 3) := dk_153 0 23 (dk_at dksX3_isRow_1 19 rfl rfl)
theorem dX3_isRow_46 : decode cX3_isRow 46 = .ok (.iload_n 2, 1) := dk_28 (dk_at dksX3_isRow_1 22 rfl rfl)
theorem dX3_isRow_47 : decode cX3_isRow 47 = .ok (.ifCond .gt 15, 3) := dk_157 0 15 (dk_at dksX3_isRow_2 0 rfl rfl)
theorem dX3_isRow_50 : decode cX3_isRow 50 = .ok (.iload_n 2, 1) := dk_28 (dk_at dksX3_isRow_2 3 rfl rfl)
theorem dX3_isRow_51 : decode cX3_isRow 51 = .ok (.ifCond .ne 15, 3) := dk_154 0 15 (dk_at dksX3_isRow_2 4 rfl rfl)
theorem dX3_isRow_54 : decode cX3_isRow 54 = .ok (.iload 4, 2) := dk_21 4 (dk_at dksX3_isRow_2 7 rfl rfl)
theorem dX3_isRow_56 : decode cX3_isRow 56 = .ok (.iload_n 1, 1) := dk_27 (dk_at dksX3_isRow_2 9 rfl rfl)
theorem dX3_isRow_57 : decode cX3_isRow 57 = .ok (.iconst 1, 1) := dk_4 (dk_at dksX3_isRow_2 10 rfl rfl)
theorem dX3_isRow_58 : decode cX3_isRow 58 = .ok (.isub, 1) := dk_100 (dk_at dksX3_isRow_2 11 rfl rfl)
theorem dX3_isRow_59 : decode cX3_isRow 59 = .ok (.if_icmp .ne 7, 3) := dk_160 0 7 (dk_at dksX3_isRow_2 12 rfl rfl)
theorem dX3_isRow_62 : decode cX3_isRow 62 = .ok (.iconst 1, 1) := dk_4 (dk_at dksX3_isRow_2 15 rfl rfl)
theorem dX3_isRow_63 : decode cX3_isRow 63 = .ok (.goto 4, 3) := dk_167 0 4 (dk_at dksX3_isRow_2 16 rfl rfl)
theorem dX3_isRow_66 : decode cX3_isRow 66 = .ok (.iconst 0, 1) := dk_3 (dk_at dksX3_isRow_2 19 rfl rfl)
theorem dX3_isRow_67 : decode cX3_isRow 67 = .ok (.istore_n 3, 1) := dk_62 (dk_at dksX3_isRow_2 20 rfl rfl)
theorem dX3_isRow_68 : decode cX3_isRow 68 = .ok (.iinc 4 1, 3) := dk_132 4 1 (dk_at dksX3_isRow_2 21 rfl rfl)
theorem dX3_isRow_71 : decode cX3_isRow 71 = .ok (.goto (-54), 3) := dk_167 255 202 (dk_at dksX3_isRow_3 0 rfl rfl)
theorem dX3_isRow_74 : decode cX3_isRow 74 = .ok (.iload_n 3, 1) := dk_29 (dk_at dksX3_isRow_3 3 rfl rfl)
theorem dX3_isRow_75 : decode cX3_isRow 75 = .ok (.ifCond .eq 11, 3) := dk_153 0 11 (dk_at dksX3_isRow_3 4 rfl rfl)
theorem dX3_isRow_78 : decode cX3_isRow 78 = .ok (.iload_n 2, 1) := dk_28 (dk_at dksX3_isRow_3 7 rfl rfl)
theorem dX3_isRow_79 : decode cX3_isRow 79 = .ok (.ifCond .ne 7, 3) := dk_154 0 7 (dk_at dksX3_isRow_3 8 rfl rfl)
theorem dX3_isRow_82 : decode cX3_isRow 82 = .ok (.iconst 1, 1) := dk_4 (dk_at dksX3_isRow_3 11 rfl rfl)
theorem dX3_isRow_83 : decode cX3_isRow 83 = .ok (.goto 4, 3) := dk_167 0 4 (dk_at dksX3_isRow_3 12 rfl rfl)
theorem dX3_isRow_86 : decode cX3_isRow 86 = .ok (.iconst 0, 1) := dk_3 (dk_at dksX3_isRow_3 15 rfl rfl)
theorem dX3_isRow_87 : decode cX3_isRow 87 = .ok (.ireturn, 1) := dk_172 (dk_at dksX3_isRow_3 16 rfl rfl)
abbrev cX3_stow : ByteArray := prog_7_method_83_code
def yX3_stow : MethodName := ⟨RX3, "stow", "(III)I"⟩
def dkwX3_stow_7 : List UInt8 := [21, 4, 172]
abbrev dktX3_stow_7 : List UInt8 := dkwX3_stow_7 ++ []
def dkwX3_stow_6 : List UInt8 := [180, 0, 35, 21, 7, 47, 22, 8, 20, 0, 218, 131, 127, 184, 0, 199, 80, 132, 4, 1, 167, 255, 132]
abbrev dktX3_stow_6 : List UInt8 := dkwX3_stow_6 ++ dktX3_stow_7
def dkwX3_stow_5 : List UInt8 := [180, 0, 7, 21, 4, 46, 4, 160, 0, 16, 42, 180, 0, 35, 21, 7, 47, 22, 8, 129, 167, 0, 17, 42]
abbrev dktX3_stow_5 : List UInt8 := dkwX3_stow_5 ++ dktX3_stow_6
def dkwX3_stow_4 : List UInt8 := [54, 7, 10, 22, 5, 28, 184, 0, 203, 133, 113, 136, 121, 55, 8, 42, 180, 0, 35, 21, 7, 28, 42]
abbrev dktX3_stow_4 : List UInt8 := dkwX3_stow_4 ++ dktX3_stow_5
def dkwX3_stow_3 : List UInt8 := [181, 0, 215, 42, 180, 0, 215, 154, 0, 84, 16, 40, 27, 104, 22, 5, 28, 184, 0, 203, 133, 109, 136, 96]
abbrev dktX3_stow_3 : List UInt8 := dkwX3_stow_3 ++ dktX3_stow_4
def dkwX3_stow_2 : List UInt8 := [182, 0, 93, 162, 0, 114, 29, 133, 21, 4, 133, 97, 55, 5, 42, 42, 27, 28, 22, 5, 182, 0, 208]
abbrev dktX3_stow_2 : List UInt8 := dkwX3_stow_2 ++ dktX3_stow_3
def dkwX3_stow_1 : List UInt8 := [29, 156, 0, 5, 2, 172, 42, 3, 181, 0, 215, 3, 54, 4, 42, 180, 0, 215, 154, 0, 123, 21, 4, 42]
abbrev dktX3_stow_1 : List UInt8 := dkwX3_stow_1 ++ dktX3_stow_2
def dkwX3_stow_0 : List UInt8 := [27, 133, 9, 20, 0, 118, 184, 0, 41, 153, 0, 19, 28, 133, 9, 20, 0, 109, 184, 0, 41, 153, 0, 7]
abbrev dktX3_stow_0 : List UInt8 := dkwX3_stow_0 ++ dktX3_stow_1
theorem dksX3_stow_0 : cX3_stow.data.toList.drop 0 = dktX3_stow_0 := by decide +kernel
theorem dksX3_stow_1 : cX3_stow.data.toList.drop 24 = dktX3_stow_1 := dk_seg dksX3_stow_0 24 rfl rfl
theorem dksX3_stow_2 : cX3_stow.data.toList.drop 48 = dktX3_stow_2 := dk_seg dksX3_stow_1 24 rfl rfl
theorem dksX3_stow_3 : cX3_stow.data.toList.drop 71 = dktX3_stow_3 := dk_seg dksX3_stow_2 23 rfl rfl
theorem dksX3_stow_4 : cX3_stow.data.toList.drop 95 = dktX3_stow_4 := dk_seg dksX3_stow_3 24 rfl rfl
theorem dksX3_stow_5 : cX3_stow.data.toList.drop 118 = dktX3_stow_5 := dk_seg dksX3_stow_4 23 rfl rfl
theorem dksX3_stow_6 : cX3_stow.data.toList.drop 142 = dktX3_stow_6 := dk_seg dksX3_stow_5 24 rfl rfl
theorem dksX3_stow_7 : cX3_stow.data.toList.drop 165 = dktX3_stow_7 := dk_seg dksX3_stow_6 23 rfl rfl
theorem dX3_stow_0 : decode cX3_stow 0 = .ok (.iload_n 1, 1) := dk_27 (dk_at dksX3_stow_0 0 rfl rfl)
theorem dX3_stow_1 : decode cX3_stow 1 = .ok (.i2l, 1) := dk_133 (dk_at dksX3_stow_0 1 rfl rfl)
theorem dX3_stow_2 : decode cX3_stow 2 = .ok (.lconst 0, 1) := dk_9 (dk_at dksX3_stow_0 2 rfl rfl)
theorem dX3_stow_3 : decode cX3_stow 3 = .ok (.ldc2_w 118, 3) := dk_20 0 118 (dk_at dksX3_stow_0 3 rfl rfl)
theorem dX3_stow_6 : decode cX3_stow 6 = .ok (.invokestatic 41, 3) := dk_184 0 41 (dk_at dksX3_stow_0 6 rfl rfl)
theorem dX3_stow_9 : decode cX3_stow 9 = .ok (.ifCond .eq 19, 3) := dk_153 0 19 (dk_at dksX3_stow_0 9 rfl rfl)
theorem dX3_stow_12 : decode cX3_stow 12 = .ok (.iload_n 2, 1) := dk_28 (dk_at dksX3_stow_0 12 rfl rfl)
theorem dX3_stow_13 : decode cX3_stow 13 = .ok (.i2l, 1) := dk_133 (dk_at dksX3_stow_0 13 rfl rfl)
theorem dX3_stow_14 : decode cX3_stow 14 = .ok (.lconst 0, 1) := dk_9 (dk_at dksX3_stow_0 14 rfl rfl)
theorem dX3_stow_15 : decode cX3_stow 15 = .ok (.ldc2_w 109, 3) := dk_20 0 109 (dk_at dksX3_stow_0 15 rfl rfl)
theorem dX3_stow_18 : decode cX3_stow 18 = .ok (.invokestatic 41, 3) := dk_184 0 41 (dk_at dksX3_stow_0 18 rfl rfl)
theorem dX3_stow_21 : decode cX3_stow 21 = .ok (.ifCond .eq 7, 3) := dk_153 0 7 (dk_at dksX3_stow_0 21 rfl rfl)
theorem dX3_stow_24 : decode cX3_stow 24 = .ok (.iload_n 3, 1) := dk_29 (dk_at dksX3_stow_1 0 rfl rfl)
theorem dX3_stow_25 : decode cX3_stow 25 = .ok (.ifCond .ge 5, 3) := dk_156 0 5 (dk_at dksX3_stow_1 1 rfl rfl)
theorem dX3_stow_28 : decode cX3_stow 28 = .ok (.iconst (-1), 1) := dk_2 (dk_at dksX3_stow_1 4 rfl rfl)
theorem dX3_stow_29 : decode cX3_stow 29 = .ok (.ireturn, 1) := dk_172 (dk_at dksX3_stow_1 5 rfl rfl)
theorem dX3_stow_30 : decode cX3_stow 30 = .ok (.aload_n 0, 1) := dk_42 (dk_at dksX3_stow_1 6 rfl rfl)
theorem dX3_stow_31 : decode cX3_stow 31 = .ok (.iconst 0, 1) := dk_3 (dk_at dksX3_stow_1 7 rfl rfl)
theorem dX3_stow_32 : decode cX3_stow 32 = .ok (.putfield 215, 3) := dk_181 0 215 (dk_at dksX3_stow_1 8 rfl rfl)
theorem dX3_stow_35 : decode cX3_stow 35 = .ok (.iconst 0, 1) := dk_3 (dk_at dksX3_stow_1 11 rfl rfl)
theorem dX3_stow_36 : decode cX3_stow 36 = .ok (.istore 4, 2) := dk_54 4 (dk_at dksX3_stow_1 12 rfl rfl)
theorem dX3_stow_38 : decode cX3_stow 38 = .ok (.aload_n 0, 1) := dk_42 (dk_at dksX3_stow_1 14 rfl rfl)
theorem dX3_stow_39 : decode cX3_stow 39 = .ok (.getfield 215, 3) := dk_180 0 215 (dk_at dksX3_stow_1 15 rfl rfl)
theorem dX3_stow_42 : decode cX3_stow 42 = .ok (.ifCond .ne 123, 3) := dk_154 0 123 (dk_at dksX3_stow_1 18 rfl rfl)
theorem dX3_stow_45 : decode cX3_stow 45 = .ok (.iload 4, 2) := dk_21 4 (dk_at dksX3_stow_1 21 rfl rfl)
theorem dX3_stow_47 : decode cX3_stow 47 = .ok (.aload_n 0, 1) := dk_42 (dk_at dksX3_stow_1 23 rfl rfl)
theorem dX3_stow_48 : decode cX3_stow 48 = .ok (.invokevirtual 93, 3) := dk_182 0 93 (dk_at dksX3_stow_2 0 rfl rfl)
theorem dX3_stow_51 : decode cX3_stow 51 = .ok (.if_icmp .ge 114, 3) := dk_162 0 114 (dk_at dksX3_stow_2 3 rfl rfl)
theorem dX3_stow_54 : decode cX3_stow 54 = .ok (.iload_n 3, 1) := dk_29 (dk_at dksX3_stow_2 6 rfl rfl)
theorem dX3_stow_55 : decode cX3_stow 55 = .ok (.i2l, 1) := dk_133 (dk_at dksX3_stow_2 7 rfl rfl)
theorem dX3_stow_56 : decode cX3_stow 56 = .ok (.iload 4, 2) := dk_21 4 (dk_at dksX3_stow_2 8 rfl rfl)
theorem dX3_stow_58 : decode cX3_stow 58 = .ok (.i2l, 1) := dk_133 (dk_at dksX3_stow_2 10 rfl rfl)
theorem dX3_stow_59 : decode cX3_stow 59 = .ok (.ladd, 1) := dk_97 (dk_at dksX3_stow_2 11 rfl rfl)
theorem dX3_stow_60 : decode cX3_stow 60 = .ok (.lstore 5, 2) := dk_55 5 (dk_at dksX3_stow_2 12 rfl rfl)
theorem dX3_stow_62 : decode cX3_stow 62 = .ok (.aload_n 0, 1) := dk_42 (dk_at dksX3_stow_2 14 rfl rfl)
theorem dX3_stow_63 : decode cX3_stow 63 = .ok (.aload_n 0, 1) := dk_42 (dk_at dksX3_stow_2 15 rfl rfl)
theorem dX3_stow_64 : decode cX3_stow 64 = .ok (.iload_n 1, 1) := dk_27 (dk_at dksX3_stow_2 16 rfl rfl)
theorem dX3_stow_65 : decode cX3_stow 65 = .ok (.iload_n 2, 1) := dk_28 (dk_at dksX3_stow_2 17 rfl rfl)
theorem dX3_stow_66 : decode cX3_stow 66 = .ok (.lload 5, 2) := dk_22 5 (dk_at dksX3_stow_2 18 rfl rfl)
theorem dX3_stow_68 : decode cX3_stow 68 = .ok (.invokevirtual 208, 3) := dk_182 0 208 (dk_at dksX3_stow_2 20 rfl rfl)
theorem dX3_stow_71 : decode cX3_stow 71 = .ok (.putfield 215, 3) := dk_181 0 215 (dk_at dksX3_stow_3 0 rfl rfl)
theorem dX3_stow_74 : decode cX3_stow 74 = .ok (.aload_n 0, 1) := dk_42 (dk_at dksX3_stow_3 3 rfl rfl)
theorem dX3_stow_75 : decode cX3_stow 75 = .ok (.getfield 215, 3) := dk_180 0 215 (dk_at dksX3_stow_3 4 rfl rfl)
theorem dX3_stow_78 : decode cX3_stow 78 = .ok (.ifCond .ne 84, 3) := dk_154 0 84 (dk_at dksX3_stow_3 7 rfl rfl)
theorem dX3_stow_81 : decode cX3_stow 81 = .ok (.bipush 40, 2) := dk_16 40 (dk_at dksX3_stow_3 10 rfl rfl)
theorem dX3_stow_83 : decode cX3_stow 83 = .ok (.iload_n 1, 1) := dk_27 (dk_at dksX3_stow_3 12 rfl rfl)
theorem dX3_stow_84 : decode cX3_stow 84 = .ok (.imul, 1) := dk_104 (dk_at dksX3_stow_3 13 rfl rfl)
theorem dX3_stow_85 : decode cX3_stow 85 = .ok (.lload 5, 2) := dk_22 5 (dk_at dksX3_stow_3 14 rfl rfl)
theorem dX3_stow_87 : decode cX3_stow 87 = .ok (.iload_n 2, 1) := dk_28 (dk_at dksX3_stow_3 16 rfl rfl)
theorem dX3_stow_88 : decode cX3_stow 88 = .ok (.invokestatic 203, 3) := dk_184 0 203 (dk_at dksX3_stow_3 17 rfl rfl)
theorem dX3_stow_91 : decode cX3_stow 91 = .ok (.i2l, 1) := dk_133 (dk_at dksX3_stow_3 20 rfl rfl)
theorem dX3_stow_92 : decode cX3_stow 92 = .ok (.ldiv, 1) := dk_109 (dk_at dksX3_stow_3 21 rfl rfl)
theorem dX3_stow_93 : decode cX3_stow 93 = .ok (.l2i, 1) := dk_136 (dk_at dksX3_stow_3 22 rfl rfl)
theorem dX3_stow_94 : decode cX3_stow 94 = .ok (.iadd, 1) := dk_96 (dk_at dksX3_stow_3 23 rfl rfl)
theorem dX3_stow_95 : decode cX3_stow 95 = .ok (.istore 7, 2) := dk_54 7 (dk_at dksX3_stow_4 0 rfl rfl)
theorem dX3_stow_97 : decode cX3_stow 97 = .ok (.lconst 1, 1) := dk_10 (dk_at dksX3_stow_4 2 rfl rfl)
theorem dX3_stow_98 : decode cX3_stow 98 = .ok (.lload 5, 2) := dk_22 5 (dk_at dksX3_stow_4 3 rfl rfl)
theorem dX3_stow_100 : decode cX3_stow 100 = .ok (.iload_n 2, 1) := dk_28 (dk_at dksX3_stow_4 5 rfl rfl)
theorem dX3_stow_101 : decode cX3_stow 101 = .ok (.invokestatic 203, 3) := dk_184 0 203 (dk_at dksX3_stow_4 6 rfl rfl)
theorem dX3_stow_104 : decode cX3_stow 104 = .ok (.i2l, 1) := dk_133 (dk_at dksX3_stow_4 9 rfl rfl)
theorem dX3_stow_105 : decode cX3_stow 105 = .ok (.lrem, 1) := dk_113 (dk_at dksX3_stow_4 10 rfl rfl)
theorem dX3_stow_106 : decode cX3_stow 106 = .ok (.l2i, 1) := dk_136 (dk_at dksX3_stow_4 11 rfl rfl)
theorem dX3_stow_107 : decode cX3_stow 107 = .ok (.lshl, 1) := dk_121 (dk_at dksX3_stow_4 12 rfl rfl)
theorem dX3_stow_108 : decode cX3_stow 108 = .ok (.lstore 8, 2) := dk_55 8 (dk_at dksX3_stow_4 13 rfl rfl)
theorem dX3_stow_110 : decode cX3_stow 110 = .ok (.aload_n 0, 1) := dk_42 (dk_at dksX3_stow_4 15 rfl rfl)
theorem dX3_stow_111 : decode cX3_stow 111 = .ok (.getfield 35, 3) := dk_180 0 35 (dk_at dksX3_stow_4 16 rfl rfl)
theorem dX3_stow_114 : decode cX3_stow 114 = .ok (.iload 7, 2) := dk_21 7 (dk_at dksX3_stow_4 19 rfl rfl)
theorem dX3_stow_116 : decode cX3_stow 116 = .ok (.iload_n 2, 1) := dk_28 (dk_at dksX3_stow_4 21 rfl rfl)
theorem dX3_stow_117 : decode cX3_stow 117 = .ok (.aload_n 0, 1) := dk_42 (dk_at dksX3_stow_4 22 rfl rfl)
theorem dX3_stow_118 : decode cX3_stow 118 = .ok (.getfield 7, 3) := dk_180 0 7 (dk_at dksX3_stow_5 0 rfl rfl)
theorem dX3_stow_121 : decode cX3_stow 121 = .ok (.iload 4, 2) := dk_21 4 (dk_at dksX3_stow_5 3 rfl rfl)
theorem dX3_stow_123 : decode cX3_stow 123 = .ok (.iaload, 1) := dk_46 (dk_at dksX3_stow_5 5 rfl rfl)
theorem dX3_stow_124 : decode cX3_stow 124 = .ok (.iconst 1, 1) := dk_4 (dk_at dksX3_stow_5 6 rfl rfl)
theorem dX3_stow_125 : decode cX3_stow 125 = .ok (.if_icmp .ne 16, 3) := dk_160 0 16 (dk_at dksX3_stow_5 7 rfl rfl)
theorem dX3_stow_128 : decode cX3_stow 128 = .ok (.aload_n 0, 1) := dk_42 (dk_at dksX3_stow_5 10 rfl rfl)
theorem dX3_stow_129 : decode cX3_stow 129 = .ok (.getfield 35, 3) := dk_180 0 35 (dk_at dksX3_stow_5 11 rfl rfl)
theorem dX3_stow_132 : decode cX3_stow 132 = .ok (.iload 7, 2) := dk_21 7 (dk_at dksX3_stow_5 14 rfl rfl)
theorem dX3_stow_134 : decode cX3_stow 134 = .ok (.laload, 1) := dk_47 (dk_at dksX3_stow_5 16 rfl rfl)
theorem dX3_stow_135 : decode cX3_stow 135 = .ok (.lload 8, 2) := dk_22 8 (dk_at dksX3_stow_5 17 rfl rfl)
theorem dX3_stow_137 : decode cX3_stow 137 = .ok (.lor, 1) := dk_129 (dk_at dksX3_stow_5 19 rfl rfl)
theorem dX3_stow_138 : decode cX3_stow 138 = .ok (.goto 17, 3) := dk_167 0 17 (dk_at dksX3_stow_5 20 rfl rfl)
theorem dX3_stow_141 : decode cX3_stow 141 = .ok (.aload_n 0, 1) := dk_42 (dk_at dksX3_stow_5 23 rfl rfl)
theorem dX3_stow_142 : decode cX3_stow 142 = .ok (.getfield 35, 3) := dk_180 0 35 (dk_at dksX3_stow_6 0 rfl rfl)
theorem dX3_stow_145 : decode cX3_stow 145 = .ok (.iload 7, 2) := dk_21 7 (dk_at dksX3_stow_6 3 rfl rfl)
theorem dX3_stow_147 : decode cX3_stow 147 = .ok (.laload, 1) := dk_47 (dk_at dksX3_stow_6 5 rfl rfl)
theorem dX3_stow_148 : decode cX3_stow 148 = .ok (.lload 8, 2) := dk_22 8 (dk_at dksX3_stow_6 6 rfl rfl)
theorem dX3_stow_150 : decode cX3_stow 150 = .ok (.ldc2_w 218, 3) := dk_20 0 218 (dk_at dksX3_stow_6 8 rfl rfl)
theorem dX3_stow_153 : decode cX3_stow 153 = .ok (.lxor, 1) := dk_131 (dk_at dksX3_stow_6 11 rfl rfl)
theorem dX3_stow_154 : decode cX3_stow 154 = .ok (.land, 1) := dk_127 (dk_at dksX3_stow_6 12 rfl rfl)
theorem dX3_stow_155 : decode cX3_stow 155 = .ok (.invokestatic 199, 3) := dk_184 0 199 (dk_at dksX3_stow_6 13 rfl rfl)
theorem dX3_stow_158 : decode cX3_stow 158 = .ok (.lastore, 1) := dk_80 (dk_at dksX3_stow_6 16 rfl rfl)
theorem dX3_stow_159 : decode cX3_stow 159 = .ok (.iinc 4 1, 3) := dk_132 4 1 (dk_at dksX3_stow_6 17 rfl rfl)
theorem dX3_stow_162 : decode cX3_stow 162 = .ok (.goto (-124), 3) := dk_167 255 132 (dk_at dksX3_stow_6 20 rfl rfl)
theorem dX3_stow_165 : decode cX3_stow 165 = .ok (.iload 4, 2) := dk_21 4 (dk_at dksX3_stow_7 0 rfl rfl)
theorem dX3_stow_167 : decode cX3_stow 167 = .ok (.ireturn, 1) := dk_172 (dk_at dksX3_stow_7 2 rfl rfl)
abbrev cX3_torn : ByteArray := prog_7_method_84_code
def yX3_torn : MethodName := ⟨RX3, "torn", "()I"⟩
theorem dX3_torn_0 : decode cX3_torn 0 = .ok (.aload_n 0, 1) := by decide +kernel
theorem dX3_torn_1 : decode cX3_torn 1 = .ok (.getfield 215, 3) := by decide +kernel
theorem dX3_torn_4 : decode cX3_torn 4 = .ok (.ireturn, 1) := by decide +kernel
abbrev cX3_count : ByteArray := prog_7_method_85_code
def yX3_count : MethodName := ⟨RX3, "count", "(I)I"⟩
def dkwX3_count_5 : List UInt8 := [167, 0, 9, 42, 180, 0, 32, 3, 46, 172, 28, 172, 2, 172]
abbrev dktX3_count_5 : List UInt8 := dkwX3_count_5 ++ []
def dkwX3_count_4 : List UInt8 := [167, 0, 4, 3, 96, 172, 42, 180, 0, 45, 172, 42, 180, 0, 29, 3, 46, 16, 252, 160, 0, 8, 16, 252]
abbrev dktX3_count_4 : List UInt8 := dkwX3_count_4 ++ dktX3_count_5
def dkwX3_count_3 : List UInt8 := [42, 180, 0, 25, 3, 51, 153, 0, 7, 4, 167, 0, 4, 3, 42, 180, 0, 25, 4, 51, 153, 0, 7, 4]
abbrev dktX3_count_3 : List UInt8 := dkwX3_count_3 ++ dktX3_count_4
def dkwX3_count_2 : List UInt8 := [170, 0, 0, 0, 0, 0, 0, 92, 0, 0, 0, 0, 0, 0, 0, 3, 0, 0, 0, 32, 0, 0, 0, 62, 0, 0, 0, 67, 0, 0, 0, 90]
abbrev dktX3_count_2 : List UInt8 := dkwX3_count_2 ++ dktX3_count_3
def dkwX3_count_1 : List UInt8 := [167, 255, 236, 27]
abbrev dktX3_count_1 : List UInt8 := dkwX3_count_1 ++ dktX3_count_2
def dkwX3_count_0 : List UInt8 := [3, 61, 4, 62, 29, 42, 182, 0, 93, 162, 0, 18, 28, 42, 180, 0, 7, 29, 46, 96, 61, 132, 3, 2]
abbrev dktX3_count_0 : List UInt8 := dkwX3_count_0 ++ dktX3_count_1
theorem dksX3_count_0 : cX3_count.data.toList.drop 0 = dktX3_count_0 := by decide +kernel
theorem dksX3_count_1 : cX3_count.data.toList.drop 24 = dktX3_count_1 := dk_seg dksX3_count_0 24 rfl rfl
theorem dksX3_count_2 : cX3_count.data.toList.drop 28 = dktX3_count_2 := dk_seg dksX3_count_1 4 rfl rfl
theorem dksX3_count_3 : cX3_count.data.toList.drop 60 = dktX3_count_3 := dk_seg dksX3_count_2 32 rfl rfl
theorem dksX3_count_4 : cX3_count.data.toList.drop 84 = dktX3_count_4 := dk_seg dksX3_count_3 24 rfl rfl
theorem dksX3_count_5 : cX3_count.data.toList.drop 108 = dktX3_count_5 := dk_seg dksX3_count_4 24 rfl rfl
theorem dX3_count_0 : decode cX3_count 0 = .ok (.iconst 0, 1) := dk_3 (dk_at dksX3_count_0 0 rfl rfl)
theorem dX3_count_1 : decode cX3_count 1 = .ok (.istore_n 2, 1) := dk_61 (dk_at dksX3_count_0 1 rfl rfl)
theorem dX3_count_2 : decode cX3_count 2 = .ok (.iconst 1, 1) := dk_4 (dk_at dksX3_count_0 2 rfl rfl)
theorem dX3_count_3 : decode cX3_count 3 = .ok (.istore_n 3, 1) := dk_62 (dk_at dksX3_count_0 3 rfl rfl)
theorem dX3_count_4 : decode cX3_count 4 = .ok (.iload_n 3, 1) := dk_29 (dk_at dksX3_count_0 4 rfl rfl)
theorem dX3_count_5 : decode cX3_count 5 = .ok (.aload_n 0, 1) := dk_42 (dk_at dksX3_count_0 5 rfl rfl)
theorem dX3_count_6 : decode cX3_count 6 = .ok (.invokevirtual 93, 3) := dk_182 0 93 (dk_at dksX3_count_0 6 rfl rfl)
theorem dX3_count_9 : decode cX3_count 9 = .ok (.if_icmp .ge 18, 3) := dk_162 0 18 (dk_at dksX3_count_0 9 rfl rfl)
theorem dX3_count_12 : decode cX3_count 12 = .ok (.iload_n 2, 1) := dk_28 (dk_at dksX3_count_0 12 rfl rfl)
theorem dX3_count_13 : decode cX3_count 13 = .ok (.aload_n 0, 1) := dk_42 (dk_at dksX3_count_0 13 rfl rfl)
theorem dX3_count_14 : decode cX3_count 14 = .ok (.getfield 7, 3) := dk_180 0 7 (dk_at dksX3_count_0 14 rfl rfl)
theorem dX3_count_17 : decode cX3_count 17 = .ok (.iload_n 3, 1) := dk_29 (dk_at dksX3_count_0 17 rfl rfl)
theorem dX3_count_18 : decode cX3_count 18 = .ok (.iaload, 1) := dk_46 (dk_at dksX3_count_0 18 rfl rfl)
theorem dX3_count_19 : decode cX3_count 19 = .ok (.iadd, 1) := dk_96 (dk_at dksX3_count_0 19 rfl rfl)
theorem dX3_count_20 : decode cX3_count 20 = .ok (.istore_n 2, 1) := dk_61 (dk_at dksX3_count_0 20 rfl rfl)
theorem dX3_count_21 : decode cX3_count 21 = .ok (.iinc 3 2, 3) := dk_132 3 2 (dk_at dksX3_count_0 21 rfl rfl)
theorem dX3_count_24 : decode cX3_count 24 = .ok (.goto (-20), 3) := dk_167 255 236 (dk_at dksX3_count_1 0 rfl rfl)
theorem dX3_count_27 : decode cX3_count 27 = .ok (.iload_n 1, 1) := dk_27 (dk_at dksX3_count_1 3 rfl rfl)
theorem dX3_count_28 : decode cX3_count 28 = .ok (.tableswitch 92 0 3 #[32, 62, 67, 90], 32) := by decide +kernel
theorem dX3_count_60 : decode cX3_count 60 = .ok (.aload_n 0, 1) := dk_42 (dk_at dksX3_count_3 0 rfl rfl)
theorem dX3_count_61 : decode cX3_count 61 = .ok (.getfield 25, 3) := dk_180 0 25 (dk_at dksX3_count_3 1 rfl rfl)
theorem dX3_count_64 : decode cX3_count 64 = .ok (.iconst 0, 1) := dk_3 (dk_at dksX3_count_3 4 rfl rfl)
theorem dX3_count_65 : decode cX3_count 65 = .ok (.baload, 1) := dk_51 (dk_at dksX3_count_3 5 rfl rfl)
theorem dX3_count_66 : decode cX3_count 66 = .ok (.ifCond .eq 7, 3) := dk_153 0 7 (dk_at dksX3_count_3 6 rfl rfl)
theorem dX3_count_69 : decode cX3_count 69 = .ok (.iconst 1, 1) := dk_4 (dk_at dksX3_count_3 9 rfl rfl)
theorem dX3_count_70 : decode cX3_count 70 = .ok (.goto 4, 3) := dk_167 0 4 (dk_at dksX3_count_3 10 rfl rfl)
theorem dX3_count_73 : decode cX3_count 73 = .ok (.iconst 0, 1) := dk_3 (dk_at dksX3_count_3 13 rfl rfl)
theorem dX3_count_74 : decode cX3_count 74 = .ok (.aload_n 0, 1) := dk_42 (dk_at dksX3_count_3 14 rfl rfl)
theorem dX3_count_75 : decode cX3_count 75 = .ok (.getfield 25, 3) := dk_180 0 25 (dk_at dksX3_count_3 15 rfl rfl)
theorem dX3_count_78 : decode cX3_count 78 = .ok (.iconst 1, 1) := dk_4 (dk_at dksX3_count_3 18 rfl rfl)
theorem dX3_count_79 : decode cX3_count 79 = .ok (.baload, 1) := dk_51 (dk_at dksX3_count_3 19 rfl rfl)
theorem dX3_count_80 : decode cX3_count 80 = .ok (.ifCond .eq 7, 3) := dk_153 0 7 (dk_at dksX3_count_3 20 rfl rfl)
theorem dX3_count_83 : decode cX3_count 83 = .ok (.iconst 1, 1) := dk_4 (dk_at dksX3_count_3 23 rfl rfl)
theorem dX3_count_84 : decode cX3_count 84 = .ok (.goto 4, 3) := dk_167 0 4 (dk_at dksX3_count_4 0 rfl rfl)
theorem dX3_count_87 : decode cX3_count 87 = .ok (.iconst 0, 1) := dk_3 (dk_at dksX3_count_4 3 rfl rfl)
theorem dX3_count_88 : decode cX3_count 88 = .ok (.iadd, 1) := dk_96 (dk_at dksX3_count_4 4 rfl rfl)
theorem dX3_count_89 : decode cX3_count 89 = .ok (.ireturn, 1) := dk_172 (dk_at dksX3_count_4 5 rfl rfl)
theorem dX3_count_90 : decode cX3_count 90 = .ok (.aload_n 0, 1) := dk_42 (dk_at dksX3_count_4 6 rfl rfl)
theorem dX3_count_91 : decode cX3_count 91 = .ok (.getfield 45, 3) := dk_180 0 45 (dk_at dksX3_count_4 7 rfl rfl)
theorem dX3_count_94 : decode cX3_count 94 = .ok (.ireturn, 1) := dk_172 (dk_at dksX3_count_4 10 rfl rfl)
theorem dX3_count_95 : decode cX3_count 95 = .ok (.aload_n 0, 1) := dk_42 (dk_at dksX3_count_4 11 rfl rfl)
theorem dX3_count_96 : decode cX3_count 96 = .ok (.getfield 29, 3) := dk_180 0 29 (dk_at dksX3_count_4 12 rfl rfl)
theorem dX3_count_99 : decode cX3_count 99 = .ok (.iconst 0, 1) := dk_3 (dk_at dksX3_count_4 15 rfl rfl)
theorem dX3_count_100 : decode cX3_count 100 = .ok (.iaload, 1) := dk_46 (dk_at dksX3_count_4 16 rfl rfl)
theorem dX3_count_101 : decode cX3_count 101 = .ok (.bipush (-4), 2) := dk_16 252 (dk_at dksX3_count_4 17 rfl rfl)
theorem dX3_count_103 : decode cX3_count 103 = .ok (.if_icmp .ne 8, 3) := dk_160 0 8 (dk_at dksX3_count_4 19 rfl rfl)
theorem dX3_count_106 : decode cX3_count 106 = .ok (.bipush (-4), 2) := dk_16 252 (dk_at dksX3_count_4 22 rfl rfl)
theorem dX3_count_108 : decode cX3_count 108 = .ok (.goto 9, 3) := dk_167 0 9 (dk_at dksX3_count_5 0 rfl rfl)
theorem dX3_count_111 : decode cX3_count 111 = .ok (.aload_n 0, 1) := dk_42 (dk_at dksX3_count_5 3 rfl rfl)
theorem dX3_count_112 : decode cX3_count 112 = .ok (.getfield 32, 3) := dk_180 0 32 (dk_at dksX3_count_5 4 rfl rfl)
theorem dX3_count_115 : decode cX3_count 115 = .ok (.iconst 0, 1) := dk_3 (dk_at dksX3_count_5 7 rfl rfl)
theorem dX3_count_116 : decode cX3_count 116 = .ok (.iaload, 1) := dk_46 (dk_at dksX3_count_5 8 rfl rfl)
theorem dX3_count_117 : decode cX3_count 117 = .ok (.ireturn, 1) := dk_172 (dk_at dksX3_count_5 9 rfl rfl)
theorem dX3_count_118 : decode cX3_count 118 = .ok (.iload_n 2, 1) := dk_28 (dk_at dksX3_count_5 10 rfl rfl)
theorem dX3_count_119 : decode cX3_count 119 = .ok (.ireturn, 1) := dk_172 (dk_at dksX3_count_5 11 rfl rfl)
theorem dX3_count_120 : decode cX3_count 120 = .ok (.iconst (-1), 1) := dk_2 (dk_at dksX3_count_5 12 rfl rfl)
theorem dX3_count_121 : decode cX3_count 121 = .ok (.ireturn, 1) := dk_172 (dk_at dksX3_count_5 13 rfl rfl)
theorem q94 : (Jvm.Cond.initialized "ExcessTreeModel") ∈ lw_all := lw_g (lw_at lw_m1 5 rfl) rfl
theorem q933 : (Jvm.Cond.instantiable "ExcessTreeModel" (18 : Nat)) ∈ lw_all := lw_g (lw_at lw_m4 124 rfl) rfl
theorem q935 : (Jvm.Cond.instanceMethod ({ cls := "ExcessTreeModel", name := "<init>", desc := "()V" } : Jvm.MethodName)) ∈ lw_all := lw_g (lw_at lw_m4 126 rfl) rfl
theorem q936 : (Jvm.Cond.code ({ cls := "ExcessTreeModel", name := "<init>", desc := "()V" } : Jvm.MethodName) prog_7_method_1_code (1 : Nat) (Option.none : Option Jvm.ClassFile.FieldType)) ∈ lw_all := lw_g (lw_at lw_m4 127 rfl) rfl
theorem q937 : (Jvm.Cond.methodLink "ExcessTreeModel" (1 : Nat) ({ cls := "java/lang/Object", name := "<init>", desc := "()V" } : Jvm.MethodName)) ∈ lw_all := lw_g (lw_at lw_m4 128 rfl) rfl
theorem q938 : (Jvm.Cond.fieldLink "ExcessTreeModel" (7 : Nat) "ExcessTreeModel" "state" "[I") ∈ lw_all := lw_g (lw_at lw_m4 129 rfl) rfl
theorem q939 : (Jvm.Cond.fieldLink "ExcessTreeModel" (13 : Nat) "ExcessTreeModel" "readPage" "[I") ∈ lw_all := lw_g (lw_at lw_m4 130 rfl) rfl
theorem q940 : (Jvm.Cond.fieldLink "ExcessTreeModel" (16 : Nat) "ExcessTreeModel" "tape" "[I") ∈ lw_all := lw_g (lw_at lw_m4 131 rfl) rfl
theorem q941 : (Jvm.Cond.fieldLink "ExcessTreeModel" (45 : Nat) "ExcessTreeModel" "taped" "I") ∈ lw_all := lw_g (lw_at lw_m4 132 rfl) rfl
theorem q942 : (Jvm.Cond.fieldLink "ExcessTreeModel" (86 : Nat) "ExcessTreeModel" "fault" "I") ∈ lw_all := lw_g (lw_at lw_m4 133 rfl) rfl
theorem q943 : (Jvm.Cond.fieldLink "ExcessTreeModel" (49 : Nat) "ExcessTreeModel" "broken" "I") ∈ lw_all := lw_g (lw_at lw_m4 134 rfl) rfl
theorem q944 : (Jvm.Cond.fieldLink "ExcessTreeModel" (55 : Nat) "ExcessTreeModel" "brokenAt" "I") ∈ lw_all := lw_g (lw_at lw_m4 135 rfl) rfl
theorem q945 : (Jvm.Cond.fieldLink "ExcessTreeModel" (58 : Nat) "ExcessTreeModel" "spot" "I") ∈ lw_all := lw_g (lw_at lw_m4 136 rfl) rfl
theorem q946 : (Jvm.Cond.fieldLink "ExcessTreeModel" (52 : Nat) "ExcessTreeModel" "here" "I") ∈ lw_all := lw_g (lw_at lw_m4 137 rfl) rfl
theorem q947 : (Jvm.Cond.fieldLink "ExcessTreeModel" (68 : Nat) "ExcessTreeModel" "token" "I") ∈ lw_all := lw_g (lw_at lw_m4 138 rfl) rfl
theorem q948 : (Jvm.Cond.fieldLink "ExcessTreeModel" (65 : Nat) "ExcessTreeModel" "value" "I") ∈ lw_all := lw_g (lw_at lw_m4 139 rfl) rfl
theorem q949 : (Jvm.Cond.fieldLink "ExcessTreeModel" (19 : Nat) "ExcessTreeModel" "cutRow" "[I") ∈ lw_all := lw_g (lw_at lw_m4 140 rfl) rfl
theorem q950 : (Jvm.Cond.fieldLink "ExcessTreeModel" (22 : Nat) "ExcessTreeModel" "cutWeights" "[I") ∈ lw_all := lw_g (lw_at lw_m4 141 rfl) rfl
theorem q951 : (Jvm.Cond.fieldLink "ExcessTreeModel" (25 : Nat) "ExcessTreeModel" "isKept" "[Z") ∈ lw_all := lw_g (lw_at lw_m4 142 rfl) rfl
theorem q952 : (Jvm.Cond.fieldLink "ExcessTreeModel" (29 : Nat) "ExcessTreeModel" "lanes" "[I") ∈ lw_all := lw_g (lw_at lw_m4 143 rfl) rfl
theorem q953 : (Jvm.Cond.fieldLink "ExcessTreeModel" (32 : Nat) "ExcessTreeModel" "lengths" "[I") ∈ lw_all := lw_g (lw_at lw_m4 144 rfl) rfl
theorem q954 : (Jvm.Cond.fieldLink "ExcessTreeModel" (35 : Nat) "ExcessTreeModel" "cells" "[J") ∈ lw_all := lw_g (lw_at lw_m4 145 rfl) rfl
theorem q955 : (Jvm.Cond.fieldLink "ExcessTreeModel" (215 : Nat) "ExcessTreeModel" "torn" "I") ∈ lw_all := lw_g (lw_at lw_m4 146 rfl) rfl
theorem q956 : (Jvm.Cond.laysFinal "ExcessTreeModel" "ExcessTreeModel" "state" "[I") ∈ lw_all := lw_g (lw_at lw_m4 147 rfl) rfl
theorem q957 : (Jvm.Cond.soleField "ExcessTreeModel" "state") ∈ lw_all := lw_g (lw_at lw_m4 148 rfl) rfl
theorem q958 : (Jvm.Cond.laysFinal "ExcessTreeModel" "ExcessTreeModel" "readPage" "[I") ∈ lw_all := lw_g (lw_at lw_m4 149 rfl) rfl
theorem q959 : (Jvm.Cond.soleField "ExcessTreeModel" "readPage") ∈ lw_all := lw_g (lw_at lw_m4 150 rfl) rfl
theorem q960 : (Jvm.Cond.laysFinal "ExcessTreeModel" "ExcessTreeModel" "tape" "[I") ∈ lw_all := lw_g (lw_at lw_m4 151 rfl) rfl
theorem q961 : (Jvm.Cond.soleField "ExcessTreeModel" "tape") ∈ lw_all := lw_g (lw_at lw_m4 152 rfl) rfl
theorem q962 : (Jvm.Cond.lays "ExcessTreeModel" "ExcessTreeModel" "taped" "I") ∈ lw_all := lw_g (lw_at lw_m4 153 rfl) rfl
theorem q963 : (Jvm.Cond.soleField "ExcessTreeModel" "taped") ∈ lw_all := lw_g (lw_at lw_m4 154 rfl) rfl
theorem q964 : (Jvm.Cond.lays "ExcessTreeModel" "ExcessTreeModel" "fault" "I") ∈ lw_all := lw_g (lw_at lw_m4 155 rfl) rfl
theorem q965 : (Jvm.Cond.soleField "ExcessTreeModel" "fault") ∈ lw_all := lw_g (lw_at lw_m4 156 rfl) rfl
theorem q966 : (Jvm.Cond.lays "ExcessTreeModel" "ExcessTreeModel" "broken" "I") ∈ lw_all := lw_g (lw_at lw_m4 157 rfl) rfl
theorem q967 : (Jvm.Cond.soleField "ExcessTreeModel" "broken") ∈ lw_all := lw_g (lw_at lw_m4 158 rfl) rfl
theorem q968 : (Jvm.Cond.lays "ExcessTreeModel" "ExcessTreeModel" "brokenAt" "I") ∈ lw_all := lw_g (lw_at lw_m4 159 rfl) rfl
theorem q969 : (Jvm.Cond.soleField "ExcessTreeModel" "brokenAt") ∈ lw_all := lw_g (lw_at lw_m4 160 rfl) rfl
theorem q970 : (Jvm.Cond.lays "ExcessTreeModel" "ExcessTreeModel" "spot" "I") ∈ lw_all := lw_g (lw_at lw_m4 161 rfl) rfl
theorem q971 : (Jvm.Cond.soleField "ExcessTreeModel" "spot") ∈ lw_all := lw_g (lw_at lw_m4 162 rfl) rfl
theorem q972 : (Jvm.Cond.lays "ExcessTreeModel" "ExcessTreeModel" "here" "I") ∈ lw_all := lw_g (lw_at lw_m4 163 rfl) rfl
theorem q973 : (Jvm.Cond.soleField "ExcessTreeModel" "here") ∈ lw_all := lw_g (lw_at lw_m4 164 rfl) rfl
theorem q974 : (Jvm.Cond.lays "ExcessTreeModel" "ExcessTreeModel" "token" "I") ∈ lw_all := lw_g (lw_at lw_m4 165 rfl) rfl
theorem q975 : (Jvm.Cond.soleField "ExcessTreeModel" "token") ∈ lw_all := lw_g (lw_at lw_m4 166 rfl) rfl
theorem q976 : (Jvm.Cond.lays "ExcessTreeModel" "ExcessTreeModel" "value" "I") ∈ lw_all := lw_g (lw_at lw_m4 167 rfl) rfl
theorem q977 : (Jvm.Cond.soleField "ExcessTreeModel" "value") ∈ lw_all := lw_g (lw_at lw_m4 168 rfl) rfl
theorem q978 : (Jvm.Cond.laysFinal "ExcessTreeModel" "ExcessTreeModel" "cutRow" "[I") ∈ lw_all := lw_g (lw_at lw_m4 169 rfl) rfl
theorem q979 : (Jvm.Cond.soleField "ExcessTreeModel" "cutRow") ∈ lw_all := lw_g (lw_at lw_m4 170 rfl) rfl
theorem q980 : (Jvm.Cond.laysFinal "ExcessTreeModel" "ExcessTreeModel" "cutWeights" "[I") ∈ lw_all := lw_g (lw_at lw_m4 171 rfl) rfl
theorem q981 : (Jvm.Cond.soleField "ExcessTreeModel" "cutWeights") ∈ lw_all := lw_g (lw_at lw_m4 172 rfl) rfl
theorem q982 : (Jvm.Cond.laysFinal "ExcessTreeModel" "ExcessTreeModel" "isKept" "[Z") ∈ lw_all := lw_g (lw_at lw_m4 173 rfl) rfl
theorem q983 : (Jvm.Cond.soleField "ExcessTreeModel" "isKept") ∈ lw_all := lw_g (lw_at lw_m4 174 rfl) rfl
theorem q984 : (Jvm.Cond.laysFinal "ExcessTreeModel" "ExcessTreeModel" "lanes" "[I") ∈ lw_all := lw_g (lw_at lw_m4 175 rfl) rfl
theorem q985 : (Jvm.Cond.soleField "ExcessTreeModel" "lanes") ∈ lw_all := lw_g (lw_at lw_m4 176 rfl) rfl
theorem q986 : (Jvm.Cond.laysFinal "ExcessTreeModel" "ExcessTreeModel" "lengths" "[I") ∈ lw_all := lw_g (lw_at lw_m4 177 rfl) rfl
theorem q987 : (Jvm.Cond.soleField "ExcessTreeModel" "lengths") ∈ lw_all := lw_g (lw_at lw_m4 178 rfl) rfl
theorem q988 : (Jvm.Cond.laysFinal "ExcessTreeModel" "ExcessTreeModel" "cells" "[J") ∈ lw_all := lw_g (lw_at lw_m4 179 rfl) rfl
theorem q989 : (Jvm.Cond.soleField "ExcessTreeModel" "cells") ∈ lw_all := lw_g (lw_at lw_m4 180 rfl) rfl
theorem q990 : (Jvm.Cond.lays "ExcessTreeModel" "ExcessTreeModel" "torn" "I") ∈ lw_all := lw_g (lw_at lw_m4 181 rfl) rfl
theorem q991 : (Jvm.Cond.soleField "ExcessTreeModel" "torn") ∈ lw_all := lw_g (lw_at lw_m4 182 rfl) rfl
theorem q992 : (Jvm.Cond.superclass "ExcessTreeModel" "java/lang/Object") ∈ lw_all := lw_g (lw_at lw_m4 183 rfl) rfl
theorem q995 : (Jvm.Cond.instanceMethod ({ cls := "ExcessTreeModel", name := "feed", desc := "(I)I" } : Jvm.MethodName)) ∈ lw_all := lw_g (lw_at lw_m4 186 rfl) rfl
theorem q996 : (Jvm.Cond.selects "ExcessTreeModel" ({ cls := "ExcessTreeModel", name := "feed", desc := "(I)I" } : Jvm.MethodName) ({ cls := "ExcessTreeModel", name := "feed", desc := "(I)I" } : Jvm.MethodName)) ∈ lw_all := lw_g (lw_at lw_m4 187 rfl) rfl
theorem q997 : (Jvm.Cond.code ({ cls := "ExcessTreeModel", name := "feed", desc := "(I)I" } : Jvm.MethodName) prog_7_method_4_code (2 : Nat) (Option.some Jvm.ClassFile.FieldType.int)) ∈ lw_all := lw_g (lw_at lw_m4 188 rfl) rfl
theorem q998 : (Jvm.Cond.constantLong "ExcessTreeModel" (39 : Nat) (127 : Int64)) ∈ lw_all := lw_g (lw_at lw_m4 189 rfl) rfl
theorem q999 : (Jvm.Cond.methodLink "ExcessTreeModel" (41 : Nat) ({ cls := "ExcessTreeModel", name := "in", desc := "(JJJ)Z" } : Jvm.MethodName)) ∈ lw_all := lw_g (lw_at lw_m4 190 rfl) rfl
theorem q1000 : (Jvm.Cond.static ({ cls := "ExcessTreeModel", name := "in", desc := "(JJJ)Z" } : Jvm.MethodName)) ∈ lw_all := lw_g (lw_at lw_m4 191 rfl) rfl
theorem q1001 : (Jvm.Cond.code ({ cls := "ExcessTreeModel", name := "in", desc := "(JJJ)Z" } : Jvm.MethodName) prog_7_method_3_code (6 : Nat) (Option.some Jvm.ClassFile.FieldType.boolean)) ∈ lw_all := lw_g (lw_at lw_m4 192 rfl) rfl
theorem q1003 : (Jvm.Cond.instanceMethod ({ cls := "ExcessTreeModel", name := "end", desc := "(I)I" } : Jvm.MethodName)) ∈ lw_all := lw_g (lw_at lw_m4 194 rfl) rfl
theorem q1004 : (Jvm.Cond.selects "ExcessTreeModel" ({ cls := "ExcessTreeModel", name := "end", desc := "(I)I" } : Jvm.MethodName) ({ cls := "ExcessTreeModel", name := "end", desc := "(I)I" } : Jvm.MethodName)) ∈ lw_all := lw_g (lw_at lw_m4 195 rfl) rfl
theorem q1005 : (Jvm.Cond.code ({ cls := "ExcessTreeModel", name := "end", desc := "(I)I" } : Jvm.MethodName) prog_7_method_5_code (3 : Nat) (Option.some Jvm.ClassFile.FieldType.int)) ∈ lw_all := lw_g (lw_at lw_m4 196 rfl) rfl
theorem q1007 : (Jvm.Cond.instanceMethod ({ cls := "ExcessTreeModel", name := "text", desc := "()I" } : Jvm.MethodName)) ∈ lw_all := lw_g (lw_at lw_m4 198 rfl) rfl
theorem q1008 : (Jvm.Cond.selects "ExcessTreeModel" ({ cls := "ExcessTreeModel", name := "text", desc := "()I" } : Jvm.MethodName) ({ cls := "ExcessTreeModel", name := "text", desc := "()I" } : Jvm.MethodName)) ∈ lw_all := lw_g (lw_at lw_m4 199 rfl) rfl
theorem q1009 : (Jvm.Cond.code ({ cls := "ExcessTreeModel", name := "text", desc := "()I" } : Jvm.MethodName) prog_7_method_10_code (4 : Nat) (Option.some Jvm.ClassFile.FieldType.int)) ∈ lw_all := lw_g (lw_at lw_m4 200 rfl) rfl
theorem q1010 : (Jvm.Cond.methodLink "ExcessTreeModel" (79 : Nat) ({ cls := "ExcessTreeModel", name := "readsOn", desc := "()V" } : Jvm.MethodName)) ∈ lw_all := lw_g (lw_at lw_m4 201 rfl) rfl
theorem q1011 : (Jvm.Cond.privateMethod ({ cls := "ExcessTreeModel", name := "readsOn", desc := "()V" } : Jvm.MethodName)) ∈ lw_tbl := lw_at lw_m4 202 rfl
theorem q1012 : (Jvm.Cond.instanceMethod ({ cls := "ExcessTreeModel", name := "readsOn", desc := "()V" } : Jvm.MethodName)) ∈ lw_all := lw_g (lw_at lw_m4 203 rfl) rfl
theorem q1013 : (Jvm.Cond.code ({ cls := "ExcessTreeModel", name := "readsOn", desc := "()V" } : Jvm.MethodName) prog_7_method_8_code (2 : Nat) (Option.none : Option Jvm.ClassFile.FieldType)) ∈ lw_all := lw_g (lw_at lw_m4 204 rfl) rfl
theorem q1014 : (Jvm.Cond.methodLink "ExcessTreeModel" (61 : Nat) ({ cls := "ExcessTreeModel", name := "byteAt", desc := "(I)I" } : Jvm.MethodName)) ∈ lw_all := lw_g (lw_at lw_m4 205 rfl) rfl
theorem q1015 : (Jvm.Cond.privateMethod ({ cls := "ExcessTreeModel", name := "byteAt", desc := "(I)I" } : Jvm.MethodName)) ∈ lw_tbl := lw_at lw_m4 206 rfl
theorem q1016 : (Jvm.Cond.instanceMethod ({ cls := "ExcessTreeModel", name := "byteAt", desc := "(I)I" } : Jvm.MethodName)) ∈ lw_all := lw_g (lw_at lw_m4 207 rfl) rfl
theorem q1017 : (Jvm.Cond.code ({ cls := "ExcessTreeModel", name := "byteAt", desc := "(I)I" } : Jvm.MethodName) prog_7_method_6_code (2 : Nat) (Option.some Jvm.ClassFile.FieldType.int)) ∈ lw_all := lw_g (lw_at lw_m4 208 rfl) rfl
theorem q1018 : (Jvm.Cond.constantLong "ExcessTreeModel" (71 : Nat) (48 : Int64)) ∈ lw_all := lw_g (lw_at lw_m4 209 rfl) rfl
theorem q1019 : (Jvm.Cond.constantLong "ExcessTreeModel" (73 : Nat) (57 : Int64)) ∈ lw_all := lw_g (lw_at lw_m4 210 rfl) rfl
theorem q1020 : (Jvm.Cond.methodLink "ExcessTreeModel" (75 : Nat) ({ cls := "ExcessTreeModel", name := "fails", desc := "(I)V" } : Jvm.MethodName)) ∈ lw_all := lw_g (lw_at lw_m4 211 rfl) rfl
theorem q1021 : (Jvm.Cond.privateMethod ({ cls := "ExcessTreeModel", name := "fails", desc := "(I)V" } : Jvm.MethodName)) ∈ lw_tbl := lw_at lw_m4 212 rfl
theorem q1022 : (Jvm.Cond.instanceMethod ({ cls := "ExcessTreeModel", name := "fails", desc := "(I)V" } : Jvm.MethodName)) ∈ lw_all := lw_g (lw_at lw_m4 213 rfl) rfl
theorem q1023 : (Jvm.Cond.code ({ cls := "ExcessTreeModel", name := "fails", desc := "(I)V" } : Jvm.MethodName) prog_7_method_7_code (2 : Nat) (Option.none : Option Jvm.ClassFile.FieldType)) ∈ lw_all := lw_g (lw_at lw_m4 214 rfl) rfl
theorem q1024 : (Jvm.Cond.methodLink "ExcessTreeModel" (82 : Nat) ({ cls := "ExcessTreeModel", name := "takes", desc := "(II)I" } : Jvm.MethodName)) ∈ lw_all := lw_g (lw_at lw_m4 215 rfl) rfl
theorem q1025 : (Jvm.Cond.privateMethod ({ cls := "ExcessTreeModel", name := "takes", desc := "(II)I" } : Jvm.MethodName)) ∈ lw_tbl := lw_at lw_m4 216 rfl
theorem q1026 : (Jvm.Cond.instanceMethod ({ cls := "ExcessTreeModel", name := "takes", desc := "(II)I" } : Jvm.MethodName)) ∈ lw_all := lw_g (lw_at lw_m4 217 rfl) rfl
theorem q1027 : (Jvm.Cond.code ({ cls := "ExcessTreeModel", name := "takes", desc := "(II)I" } : Jvm.MethodName) prog_7_method_9_code (3 : Nat) (Option.some Jvm.ClassFile.FieldType.int)) ∈ lw_all := lw_g (lw_at lw_m4 218 rfl) rfl
theorem q1029 : (Jvm.Cond.instanceMethod ({ cls := "ExcessTreeModel", name := "fault", desc := "()I" } : Jvm.MethodName)) ∈ lw_all := lw_g (lw_at lw_m4 220 rfl) rfl
theorem q1030 : (Jvm.Cond.selects "ExcessTreeModel" ({ cls := "ExcessTreeModel", name := "fault", desc := "()I" } : Jvm.MethodName) ({ cls := "ExcessTreeModel", name := "fault", desc := "()I" } : Jvm.MethodName)) ∈ lw_all := lw_g (lw_at lw_m4 221 rfl) rfl
theorem q1031 : (Jvm.Cond.code ({ cls := "ExcessTreeModel", name := "fault", desc := "()I" } : Jvm.MethodName) prog_7_method_11_code (1 : Nat) (Option.some Jvm.ClassFile.FieldType.int)) ∈ lw_all := lw_g (lw_at lw_m4 222 rfl) rfl
theorem q1033 : (Jvm.Cond.instanceMethod ({ cls := "ExcessTreeModel", name := "size", desc := "(I)I" } : Jvm.MethodName)) ∈ lw_all := lw_g (lw_at lw_m4 224 rfl) rfl
theorem q1034 : (Jvm.Cond.selects "ExcessTreeModel" ({ cls := "ExcessTreeModel", name := "size", desc := "(I)I" } : Jvm.MethodName) ({ cls := "ExcessTreeModel", name := "size", desc := "(I)I" } : Jvm.MethodName)) ∈ lw_all := lw_g (lw_at lw_m4 225 rfl) rfl
theorem q1035 : (Jvm.Cond.code ({ cls := "ExcessTreeModel", name := "size", desc := "(I)I" } : Jvm.MethodName) prog_7_method_23_code (5 : Nat) (Option.some Jvm.ClassFile.FieldType.int)) ∈ lw_all := lw_g (lw_at lw_m4 226 rfl) rfl
theorem q1036 : (Jvm.Cond.methodLink "ExcessTreeModel" (93 : Nat) ({ cls := "ExcessTreeModel", name := "places", desc := "()I" } : Jvm.MethodName)) ∈ lw_all := lw_g (lw_at lw_m4 227 rfl) rfl
theorem q1037 : (Jvm.Cond.privateMethod ({ cls := "ExcessTreeModel", name := "places", desc := "()I" } : Jvm.MethodName)) ∈ lw_tbl := lw_at lw_m4 228 rfl
theorem q1038 : (Jvm.Cond.instanceMethod ({ cls := "ExcessTreeModel", name := "places", desc := "()I" } : Jvm.MethodName)) ∈ lw_all := lw_g (lw_at lw_m4 229 rfl) rfl
theorem q1039 : (Jvm.Cond.code ({ cls := "ExcessTreeModel", name := "places", desc := "()I" } : Jvm.MethodName) prog_7_method_13_code (1 : Nat) (Option.some Jvm.ClassFile.FieldType.int)) ∈ lw_all := lw_g (lw_at lw_m4 230 rfl) rfl
theorem q1040 : (Jvm.Cond.methodLink "ExcessTreeModel" (102 : Nat) ({ cls := "ExcessTreeModel", name := "isPair", desc := "(I)Z" } : Jvm.MethodName)) ∈ lw_all := lw_g (lw_at lw_m4 231 rfl) rfl
theorem q1041 : (Jvm.Cond.privateMethod ({ cls := "ExcessTreeModel", name := "isPair", desc := "(I)Z" } : Jvm.MethodName)) ∈ lw_tbl := lw_at lw_m4 232 rfl
theorem q1042 : (Jvm.Cond.instanceMethod ({ cls := "ExcessTreeModel", name := "isPair", desc := "(I)Z" } : Jvm.MethodName)) ∈ lw_all := lw_g (lw_at lw_m4 233 rfl) rfl
theorem q1043 : (Jvm.Cond.code ({ cls := "ExcessTreeModel", name := "isPair", desc := "(I)Z" } : Jvm.MethodName) prog_7_method_21_code (2 : Nat) (Option.some Jvm.ClassFile.FieldType.boolean)) ∈ lw_all := lw_g (lw_at lw_m4 234 rfl) rfl
theorem q1044 : (Jvm.Cond.methodLink "ExcessTreeModel" (96 : Nat) ({ cls := "ExcessTreeModel", name := "excessAt", desc := "(I)I" } : Jvm.MethodName)) ∈ lw_all := lw_g (lw_at lw_m4 235 rfl) rfl
theorem q1045 : (Jvm.Cond.privateMethod ({ cls := "ExcessTreeModel", name := "excessAt", desc := "(I)I" } : Jvm.MethodName)) ∈ lw_tbl := lw_at lw_m4 236 rfl
theorem q1046 : (Jvm.Cond.instanceMethod ({ cls := "ExcessTreeModel", name := "excessAt", desc := "(I)I" } : Jvm.MethodName)) ∈ lw_all := lw_g (lw_at lw_m4 237 rfl) rfl
theorem q1047 : (Jvm.Cond.code ({ cls := "ExcessTreeModel", name := "excessAt", desc := "(I)I" } : Jvm.MethodName) prog_7_method_16_code (4 : Nat) (Option.some Jvm.ClassFile.FieldType.int)) ∈ lw_all := lw_g (lw_at lw_m4 238 rfl) rfl
theorem q1048 : (Jvm.Cond.methodLink "ExcessTreeModel" (89 : Nat) ({ cls := "ExcessTreeModel", name := "many", desc := "()I" } : Jvm.MethodName)) ∈ lw_all := lw_g (lw_at lw_m4 239 rfl) rfl
theorem q1049 : (Jvm.Cond.privateMethod ({ cls := "ExcessTreeModel", name := "many", desc := "()I" } : Jvm.MethodName)) ∈ lw_tbl := lw_at lw_m5 0 rfl
theorem q1050 : (Jvm.Cond.instanceMethod ({ cls := "ExcessTreeModel", name := "many", desc := "()I" } : Jvm.MethodName)) ∈ lw_all := lw_g (lw_at lw_m5 1 rfl) rfl
theorem q1051 : (Jvm.Cond.code ({ cls := "ExcessTreeModel", name := "many", desc := "()I" } : Jvm.MethodName) prog_7_method_12_code (1 : Nat) (Option.some Jvm.ClassFile.FieldType.int)) ∈ lw_all := lw_g (lw_at lw_m5 2 rfl) rfl
theorem q1053 : (Jvm.Cond.instanceMethod ({ cls := "ExcessTreeModel", name := "bit", desc := "(I)I" } : Jvm.MethodName)) ∈ lw_all := lw_g (lw_at lw_m5 4 rfl) rfl
theorem q1054 : (Jvm.Cond.selects "ExcessTreeModel" ({ cls := "ExcessTreeModel", name := "bit", desc := "(I)I" } : Jvm.MethodName) ({ cls := "ExcessTreeModel", name := "bit", desc := "(I)I" } : Jvm.MethodName)) ∈ lw_all := lw_g (lw_at lw_m5 5 rfl) rfl
theorem q1055 : (Jvm.Cond.code ({ cls := "ExcessTreeModel", name := "bit", desc := "(I)I" } : Jvm.MethodName) prog_7_method_24_code (2 : Nat) (Option.some Jvm.ClassFile.FieldType.int)) ∈ lw_all := lw_g (lw_at lw_m5 6 rfl) rfl
theorem q1057 : (Jvm.Cond.instanceMethod ({ cls := "ExcessTreeModel", name := "excess", desc := "(I)I" } : Jvm.MethodName)) ∈ lw_all := lw_g (lw_at lw_m5 8 rfl) rfl
theorem q1058 : (Jvm.Cond.selects "ExcessTreeModel" ({ cls := "ExcessTreeModel", name := "excess", desc := "(I)I" } : Jvm.MethodName) ({ cls := "ExcessTreeModel", name := "excess", desc := "(I)I" } : Jvm.MethodName)) ∈ lw_all := lw_g (lw_at lw_m5 9 rfl) rfl
theorem q1059 : (Jvm.Cond.code ({ cls := "ExcessTreeModel", name := "excess", desc := "(I)I" } : Jvm.MethodName) prog_7_method_25_code (2 : Nat) (Option.some Jvm.ClassFile.FieldType.int)) ∈ lw_all := lw_g (lw_at lw_m5 10 rfl) rfl
theorem q1060 : (Jvm.Cond.methodLink "ExcessTreeModel" (106 : Nat) ({ cls := "ExcessTreeModel", name := "isMark", desc := "(I)Z" } : Jvm.MethodName)) ∈ lw_all := lw_g (lw_at lw_m5 11 rfl) rfl
theorem q1061 : (Jvm.Cond.privateMethod ({ cls := "ExcessTreeModel", name := "isMark", desc := "(I)Z" } : Jvm.MethodName)) ∈ lw_tbl := lw_at lw_m5 12 rfl
theorem q1062 : (Jvm.Cond.instanceMethod ({ cls := "ExcessTreeModel", name := "isMark", desc := "(I)Z" } : Jvm.MethodName)) ∈ lw_all := lw_g (lw_at lw_m5 13 rfl) rfl
theorem q1063 : (Jvm.Cond.code ({ cls := "ExcessTreeModel", name := "isMark", desc := "(I)Z" } : Jvm.MethodName) prog_7_method_15_code (2 : Nat) (Option.some Jvm.ClassFile.FieldType.boolean)) ∈ lw_all := lw_g (lw_at lw_m5 14 rfl) rfl
theorem q1065 : (Jvm.Cond.instanceMethod ({ cls := "ExcessTreeModel", name := "rank", desc := "(II)I" } : Jvm.MethodName)) ∈ lw_all := lw_g (lw_at lw_m5 16 rfl) rfl
theorem q1066 : (Jvm.Cond.selects "ExcessTreeModel" ({ cls := "ExcessTreeModel", name := "rank", desc := "(II)I" } : Jvm.MethodName) ({ cls := "ExcessTreeModel", name := "rank", desc := "(II)I" } : Jvm.MethodName)) ∈ lw_all := lw_g (lw_at lw_m5 17 rfl) rfl
theorem q1067 : (Jvm.Cond.code ({ cls := "ExcessTreeModel", name := "rank", desc := "(II)I" } : Jvm.MethodName) prog_7_method_26_code (5 : Nat) (Option.some Jvm.ClassFile.FieldType.int)) ∈ lw_all := lw_g (lw_at lw_m5 18 rfl) rfl
theorem q1068 : (Jvm.Cond.constantLong "ExcessTreeModel" (109 : Nat) (2 : Int64)) ∈ lw_all := lw_g (lw_at lw_m5 19 rfl) rfl
theorem q1069 : (Jvm.Cond.methodLink "ExcessTreeModel" (111 : Nat) ({ cls := "ExcessTreeModel", name := "isSort", desc := "(II)Z" } : Jvm.MethodName)) ∈ lw_all := lw_g (lw_at lw_m5 20 rfl) rfl
theorem q1070 : (Jvm.Cond.privateMethod ({ cls := "ExcessTreeModel", name := "isSort", desc := "(II)Z" } : Jvm.MethodName)) ∈ lw_tbl := lw_at lw_m5 21 rfl
theorem q1071 : (Jvm.Cond.instanceMethod ({ cls := "ExcessTreeModel", name := "isSort", desc := "(II)Z" } : Jvm.MethodName)) ∈ lw_all := lw_g (lw_at lw_m5 22 rfl) rfl
theorem q1072 : (Jvm.Cond.code ({ cls := "ExcessTreeModel", name := "isSort", desc := "(II)Z" } : Jvm.MethodName) prog_7_method_22_code (3 : Nat) (Option.some Jvm.ClassFile.FieldType.boolean)) ∈ lw_all := lw_g (lw_at lw_m5 23 rfl) rfl
theorem q1074 : (Jvm.Cond.instanceMethod ({ cls := "ExcessTreeModel", name := "select", desc := "(II)I" } : Jvm.MethodName)) ∈ lw_all := lw_g (lw_at lw_m5 25 rfl) rfl
theorem q1075 : (Jvm.Cond.selects "ExcessTreeModel" ({ cls := "ExcessTreeModel", name := "select", desc := "(II)I" } : Jvm.MethodName) ({ cls := "ExcessTreeModel", name := "select", desc := "(II)I" } : Jvm.MethodName)) ∈ lw_all := lw_g (lw_at lw_m5 26 rfl) rfl
theorem q1076 : (Jvm.Cond.code ({ cls := "ExcessTreeModel", name := "select", desc := "(II)I" } : Jvm.MethodName) prog_7_method_27_code (5 : Nat) (Option.some Jvm.ClassFile.FieldType.int)) ∈ lw_all := lw_g (lw_at lw_m5 27 rfl) rfl
theorem q1078 : (Jvm.Cond.instanceMethod ({ cls := "ExcessTreeModel", name := "forward", desc := "(II)I" } : Jvm.MethodName)) ∈ lw_all := lw_g (lw_at lw_m5 29 rfl) rfl
theorem q1079 : (Jvm.Cond.selects "ExcessTreeModel" ({ cls := "ExcessTreeModel", name := "forward", desc := "(II)I" } : Jvm.MethodName) ({ cls := "ExcessTreeModel", name := "forward", desc := "(II)I" } : Jvm.MethodName)) ∈ lw_all := lw_g (lw_at lw_m5 30 rfl) rfl
theorem q1080 : (Jvm.Cond.code ({ cls := "ExcessTreeModel", name := "forward", desc := "(II)I" } : Jvm.MethodName) prog_7_method_28_code (4 : Nat) (Option.some Jvm.ClassFile.FieldType.int)) ∈ lw_all := lw_g (lw_at lw_m5 31 rfl) rfl
theorem q1082 : (Jvm.Cond.instanceMethod ({ cls := "ExcessTreeModel", name := "backward", desc := "(II)I" } : Jvm.MethodName)) ∈ lw_all := lw_g (lw_at lw_m5 33 rfl) rfl
theorem q1083 : (Jvm.Cond.selects "ExcessTreeModel" ({ cls := "ExcessTreeModel", name := "backward", desc := "(II)I" } : Jvm.MethodName) ({ cls := "ExcessTreeModel", name := "backward", desc := "(II)I" } : Jvm.MethodName)) ∈ lw_all := lw_g (lw_at lw_m5 34 rfl) rfl
theorem q1084 : (Jvm.Cond.code ({ cls := "ExcessTreeModel", name := "backward", desc := "(II)I" } : Jvm.MethodName) prog_7_method_29_code (4 : Nat) (Option.some Jvm.ClassFile.FieldType.int)) ∈ lw_all := lw_g (lw_at lw_m5 35 rfl) rfl
theorem q1086 : (Jvm.Cond.instanceMethod ({ cls := "ExcessTreeModel", name := "match", desc := "(I)I" } : Jvm.MethodName)) ∈ lw_all := lw_g (lw_at lw_m5 37 rfl) rfl
theorem q1087 : (Jvm.Cond.selects "ExcessTreeModel" ({ cls := "ExcessTreeModel", name := "match", desc := "(I)I" } : Jvm.MethodName) ({ cls := "ExcessTreeModel", name := "match", desc := "(I)I" } : Jvm.MethodName)) ∈ lw_all := lw_g (lw_at lw_m5 38 rfl) rfl
theorem q1088 : (Jvm.Cond.code ({ cls := "ExcessTreeModel", name := "match", desc := "(I)I" } : Jvm.MethodName) prog_7_method_30_code (4 : Nat) (Option.some Jvm.ClassFile.FieldType.int)) ∈ lw_all := lw_g (lw_at lw_m5 39 rfl) rfl
theorem q1089 : (Jvm.Cond.methodLink "ExcessTreeModel" (115 : Nat) ({ cls := "ExcessTreeModel", name := "shutOf", desc := "(I)I" } : Jvm.MethodName)) ∈ lw_all := lw_g (lw_at lw_m5 40 rfl) rfl
theorem q1090 : (Jvm.Cond.privateMethod ({ cls := "ExcessTreeModel", name := "shutOf", desc := "(I)I" } : Jvm.MethodName)) ∈ lw_tbl := lw_at lw_m5 41 rfl
theorem q1091 : (Jvm.Cond.instanceMethod ({ cls := "ExcessTreeModel", name := "shutOf", desc := "(I)I" } : Jvm.MethodName)) ∈ lw_all := lw_g (lw_at lw_m5 42 rfl) rfl
theorem q1092 : (Jvm.Cond.code ({ cls := "ExcessTreeModel", name := "shutOf", desc := "(I)I" } : Jvm.MethodName) prog_7_method_19_code (4 : Nat) (Option.some Jvm.ClassFile.FieldType.int)) ∈ lw_all := lw_g (lw_at lw_m5 43 rfl) rfl
theorem q1094 : (Jvm.Cond.instanceMethod ({ cls := "ExcessTreeModel", name := "least", desc := "(III)I" } : Jvm.MethodName)) ∈ lw_all := lw_g (lw_at lw_m5 45 rfl) rfl
theorem q1095 : (Jvm.Cond.selects "ExcessTreeModel" ({ cls := "ExcessTreeModel", name := "least", desc := "(III)I" } : Jvm.MethodName) ({ cls := "ExcessTreeModel", name := "least", desc := "(III)I" } : Jvm.MethodName)) ∈ lw_all := lw_g (lw_at lw_m5 46 rfl) rfl
theorem q1096 : (Jvm.Cond.code ({ cls := "ExcessTreeModel", name := "least", desc := "(III)I" } : Jvm.MethodName) prog_7_method_31_code (10 : Nat) (Option.some Jvm.ClassFile.FieldType.int)) ∈ lw_all := lw_g (lw_at lw_m5 47 rfl) rfl
theorem q1097 : (Jvm.Cond.constantLong "ExcessTreeModel" (118 : Nat) (3 : Int64)) ∈ lw_all := lw_g (lw_at lw_m5 48 rfl) rfl
theorem q1099 : (Jvm.Cond.instanceMethod ({ cls := "ExcessTreeModel", name := "block", desc := "(II)I" } : Jvm.MethodName)) ∈ lw_all := lw_g (lw_at lw_m5 50 rfl) rfl
theorem q1100 : (Jvm.Cond.selects "ExcessTreeModel" ({ cls := "ExcessTreeModel", name := "block", desc := "(II)I" } : Jvm.MethodName) ({ cls := "ExcessTreeModel", name := "block", desc := "(II)I" } : Jvm.MethodName)) ∈ lw_all := lw_g (lw_at lw_m5 51 rfl) rfl
theorem q1101 : (Jvm.Cond.code ({ cls := "ExcessTreeModel", name := "block", desc := "(II)I" } : Jvm.MethodName) prog_7_method_32_code (8 : Nat) (Option.some Jvm.ClassFile.FieldType.int)) ∈ lw_all := lw_g (lw_at lw_m5 52 rfl) rfl
theorem q1102 : (Jvm.Cond.constantLong "ExcessTreeModel" (120 : Nat) (16 : Int64)) ∈ lw_all := lw_g (lw_at lw_m5 53 rfl) rfl
theorem q1104 : (Jvm.Cond.instanceMethod ({ cls := "ExcessTreeModel", name := "node", desc := "(II)I" } : Jvm.MethodName)) ∈ lw_all := lw_g (lw_at lw_m5 55 rfl) rfl
theorem q1105 : (Jvm.Cond.selects "ExcessTreeModel" ({ cls := "ExcessTreeModel", name := "node", desc := "(II)I" } : Jvm.MethodName) ({ cls := "ExcessTreeModel", name := "node", desc := "(II)I" } : Jvm.MethodName)) ∈ lw_all := lw_g (lw_at lw_m5 56 rfl) rfl
theorem q1106 : (Jvm.Cond.code ({ cls := "ExcessTreeModel", name := "node", desc := "(II)I" } : Jvm.MethodName) prog_7_method_43_code (3 : Nat) (Option.some Jvm.ClassFile.FieldType.int)) ∈ lw_all := lw_g (lw_at lw_m5 57 rfl) rfl
theorem q1107 : (Jvm.Cond.methodLink "ExcessTreeModel" (140 : Nat) ({ cls := "ExcessTreeModel", name := "isNode", desc := "(I)Z" } : Jvm.MethodName)) ∈ lw_all := lw_g (lw_at lw_m5 58 rfl) rfl
theorem q1108 : (Jvm.Cond.privateMethod ({ cls := "ExcessTreeModel", name := "isNode", desc := "(I)Z" } : Jvm.MethodName)) ∈ lw_tbl := lw_at lw_m5 59 rfl
theorem q1109 : (Jvm.Cond.instanceMethod ({ cls := "ExcessTreeModel", name := "isNode", desc := "(I)Z" } : Jvm.MethodName)) ∈ lw_all := lw_g (lw_at lw_m5 60 rfl) rfl
theorem q1110 : (Jvm.Cond.code ({ cls := "ExcessTreeModel", name := "isNode", desc := "(I)Z" } : Jvm.MethodName) prog_7_method_14_code (2 : Nat) (Option.some Jvm.ClassFile.FieldType.boolean)) ∈ lw_all := lw_g (lw_at lw_m5 61 rfl) rfl
theorem q1111 : (Jvm.Cond.methodLink "ExcessTreeModel" (143 : Nat) ({ cls := "ExcessTreeModel", name := "placeAsked", desc := "(II)I" } : Jvm.MethodName)) ∈ lw_all := lw_g (lw_at lw_m5 62 rfl) rfl
theorem q1112 : (Jvm.Cond.privateMethod ({ cls := "ExcessTreeModel", name := "placeAsked", desc := "(II)I" } : Jvm.MethodName)) ∈ lw_tbl := lw_at lw_m5 63 rfl
theorem q1113 : (Jvm.Cond.instanceMethod ({ cls := "ExcessTreeModel", name := "placeAsked", desc := "(II)I" } : Jvm.MethodName)) ∈ lw_all := lw_g (lw_at lw_m5 64 rfl) rfl
theorem q1114 : (Jvm.Cond.code ({ cls := "ExcessTreeModel", name := "placeAsked", desc := "(II)I" } : Jvm.MethodName) prog_7_method_42_code (4 : Nat) (Option.some Jvm.ClassFile.FieldType.int)) ∈ lw_all := lw_g (lw_at lw_m5 65 rfl) rfl
theorem q1115 : (Jvm.Cond.methodLink "ExcessTreeModel" (99 : Nat) ({ cls := "ExcessTreeModel", name := "openOf", desc := "(I)I" } : Jvm.MethodName)) ∈ lw_all := lw_g (lw_at lw_m5 66 rfl) rfl
theorem q1116 : (Jvm.Cond.privateMethod ({ cls := "ExcessTreeModel", name := "openOf", desc := "(I)I" } : Jvm.MethodName)) ∈ lw_tbl := lw_at lw_m5 67 rfl
theorem q1117 : (Jvm.Cond.instanceMethod ({ cls := "ExcessTreeModel", name := "openOf", desc := "(I)I" } : Jvm.MethodName)) ∈ lw_all := lw_g (lw_at lw_m5 68 rfl) rfl
theorem q1118 : (Jvm.Cond.code ({ cls := "ExcessTreeModel", name := "openOf", desc := "(I)I" } : Jvm.MethodName) prog_7_method_18_code (4 : Nat) (Option.some Jvm.ClassFile.FieldType.int)) ∈ lw_all := lw_g (lw_at lw_m5 69 rfl) rfl
theorem q1119 : (Jvm.Cond.methodLink "ExcessTreeModel" (128 : Nat) ({ cls := "ExcessTreeModel", name := "upFrom", desc := "(II)I" } : Jvm.MethodName)) ∈ lw_all := lw_g (lw_at lw_m5 70 rfl) rfl
theorem q1120 : (Jvm.Cond.privateMethod ({ cls := "ExcessTreeModel", name := "upFrom", desc := "(II)I" } : Jvm.MethodName)) ∈ lw_tbl := lw_at lw_m5 71 rfl
theorem q1121 : (Jvm.Cond.instanceMethod ({ cls := "ExcessTreeModel", name := "upFrom", desc := "(II)I" } : Jvm.MethodName)) ∈ lw_all := lw_g (lw_at lw_m5 72 rfl) rfl
theorem q1122 : (Jvm.Cond.code ({ cls := "ExcessTreeModel", name := "upFrom", desc := "(II)I" } : Jvm.MethodName) prog_7_method_34_code (7 : Nat) (Option.some Jvm.ClassFile.FieldType.int)) ∈ lw_all := lw_g (lw_at lw_m5 73 rfl) rfl
theorem q1123 : (Jvm.Cond.methodLink "ExcessTreeModel" (122 : Nat) ({ cls := "ExcessTreeModel", name := "depthOf", desc := "(I)I" } : Jvm.MethodName)) ∈ lw_all := lw_g (lw_at lw_m5 74 rfl) rfl
theorem q1124 : (Jvm.Cond.privateMethod ({ cls := "ExcessTreeModel", name := "depthOf", desc := "(I)I" } : Jvm.MethodName)) ∈ lw_tbl := lw_at lw_m5 75 rfl
theorem q1125 : (Jvm.Cond.instanceMethod ({ cls := "ExcessTreeModel", name := "depthOf", desc := "(I)I" } : Jvm.MethodName)) ∈ lw_all := lw_g (lw_at lw_m5 76 rfl) rfl
theorem q1126 : (Jvm.Cond.code ({ cls := "ExcessTreeModel", name := "depthOf", desc := "(I)I" } : Jvm.MethodName) prog_7_method_20_code (2 : Nat) (Option.some Jvm.ClassFile.FieldType.int)) ∈ lw_all := lw_g (lw_at lw_m5 77 rfl) rfl
theorem q1127 : (Jvm.Cond.methodLink "ExcessTreeModel" (134 : Nat) ({ cls := "ExcessTreeModel", name := "childOf", desc := "(II)I" } : Jvm.MethodName)) ∈ lw_all := lw_g (lw_at lw_m5 78 rfl) rfl
theorem q1128 : (Jvm.Cond.privateMethod ({ cls := "ExcessTreeModel", name := "childOf", desc := "(II)I" } : Jvm.MethodName)) ∈ lw_tbl := lw_at lw_m5 79 rfl
theorem q1129 : (Jvm.Cond.instanceMethod ({ cls := "ExcessTreeModel", name := "childOf", desc := "(II)I" } : Jvm.MethodName)) ∈ lw_all := lw_g (lw_at lw_m5 80 rfl) rfl
theorem q1130 : (Jvm.Cond.code ({ cls := "ExcessTreeModel", name := "childOf", desc := "(II)I" } : Jvm.MethodName) prog_7_method_36_code (5 : Nat) (Option.some Jvm.ClassFile.FieldType.int)) ∈ lw_all := lw_g (lw_at lw_m5 81 rfl) rfl
theorem q1131 : (Jvm.Cond.methodLink "ExcessTreeModel" (125 : Nat) ({ cls := "ExcessTreeModel", name := "sizeOf", desc := "(I)I" } : Jvm.MethodName)) ∈ lw_all := lw_g (lw_at lw_m5 82 rfl) rfl
theorem q1132 : (Jvm.Cond.privateMethod ({ cls := "ExcessTreeModel", name := "sizeOf", desc := "(I)I" } : Jvm.MethodName)) ∈ lw_tbl := lw_at lw_m5 83 rfl
theorem q1133 : (Jvm.Cond.instanceMethod ({ cls := "ExcessTreeModel", name := "sizeOf", desc := "(I)I" } : Jvm.MethodName)) ∈ lw_all := lw_g (lw_at lw_m5 84 rfl) rfl
theorem q1134 : (Jvm.Cond.code ({ cls := "ExcessTreeModel", name := "sizeOf", desc := "(I)I" } : Jvm.MethodName) prog_7_method_33_code (3 : Nat) (Option.some Jvm.ClassFile.FieldType.int)) ∈ lw_all := lw_g (lw_at lw_m5 85 rfl) rfl
theorem q1135 : (Jvm.Cond.methodLink "ExcessTreeModel" (146 : Nat) ({ cls := "ExcessTreeModel", name := "childrenOf", desc := "(I)I" } : Jvm.MethodName)) ∈ lw_all := lw_g (lw_at lw_m5 86 rfl) rfl
theorem q1136 : (Jvm.Cond.privateMethod ({ cls := "ExcessTreeModel", name := "childrenOf", desc := "(I)I" } : Jvm.MethodName)) ∈ lw_tbl := lw_at lw_m5 87 rfl
theorem q1137 : (Jvm.Cond.instanceMethod ({ cls := "ExcessTreeModel", name := "childrenOf", desc := "(I)I" } : Jvm.MethodName)) ∈ lw_all := lw_g (lw_at lw_m5 88 rfl) rfl
theorem q1138 : (Jvm.Cond.code ({ cls := "ExcessTreeModel", name := "childrenOf", desc := "(I)I" } : Jvm.MethodName) prog_7_method_35_code (4 : Nat) (Option.some Jvm.ClassFile.FieldType.int)) ∈ lw_all := lw_g (lw_at lw_m5 89 rfl) rfl
theorem q1139 : (Jvm.Cond.methodLink "ExcessTreeModel" (149 : Nat) ({ cls := "ExcessTreeModel", name := "nextOf", desc := "(II)I" } : Jvm.MethodName)) ∈ lw_all := lw_g (lw_at lw_m5 90 rfl) rfl
theorem q1140 : (Jvm.Cond.privateMethod ({ cls := "ExcessTreeModel", name := "nextOf", desc := "(II)I" } : Jvm.MethodName)) ∈ lw_tbl := lw_at lw_m5 91 rfl
theorem q1141 : (Jvm.Cond.instanceMethod ({ cls := "ExcessTreeModel", name := "nextOf", desc := "(II)I" } : Jvm.MethodName)) ∈ lw_all := lw_g (lw_at lw_m5 92 rfl) rfl
theorem q1142 : (Jvm.Cond.code ({ cls := "ExcessTreeModel", name := "nextOf", desc := "(II)I" } : Jvm.MethodName) prog_7_method_38_code (5 : Nat) (Option.some Jvm.ClassFile.FieldType.int)) ∈ lw_all := lw_g (lw_at lw_m5 93 rfl) rfl
theorem q1143 : (Jvm.Cond.methodLink "ExcessTreeModel" (131 : Nat) ({ cls := "ExcessTreeModel", name := "whichOf", desc := "(I)I" } : Jvm.MethodName)) ∈ lw_all := lw_g (lw_at lw_m5 94 rfl) rfl
theorem q1144 : (Jvm.Cond.privateMethod ({ cls := "ExcessTreeModel", name := "whichOf", desc := "(I)I" } : Jvm.MethodName)) ∈ lw_tbl := lw_at lw_m5 95 rfl
theorem q1145 : (Jvm.Cond.instanceMethod ({ cls := "ExcessTreeModel", name := "whichOf", desc := "(I)I" } : Jvm.MethodName)) ∈ lw_all := lw_g (lw_at lw_m5 96 rfl) rfl
theorem q1146 : (Jvm.Cond.code ({ cls := "ExcessTreeModel", name := "whichOf", desc := "(I)I" } : Jvm.MethodName) prog_7_method_37_code (6 : Nat) (Option.some Jvm.ClassFile.FieldType.int)) ∈ lw_all := lw_g (lw_at lw_m5 97 rfl) rfl
theorem q1147 : (Jvm.Cond.methodLink "ExcessTreeModel" (152 : Nat) ({ cls := "ExcessTreeModel", name := "leavesOf", desc := "(I)I" } : Jvm.MethodName)) ∈ lw_all := lw_g (lw_at lw_m5 98 rfl) rfl
theorem q1148 : (Jvm.Cond.privateMethod ({ cls := "ExcessTreeModel", name := "leavesOf", desc := "(I)I" } : Jvm.MethodName)) ∈ lw_tbl := lw_at lw_m5 99 rfl
theorem q1149 : (Jvm.Cond.instanceMethod ({ cls := "ExcessTreeModel", name := "leavesOf", desc := "(I)I" } : Jvm.MethodName)) ∈ lw_all := lw_g (lw_at lw_m5 100 rfl) rfl
theorem q1150 : (Jvm.Cond.code ({ cls := "ExcessTreeModel", name := "leavesOf", desc := "(I)I" } : Jvm.MethodName) prog_7_method_39_code (4 : Nat) (Option.some Jvm.ClassFile.FieldType.int)) ∈ lw_all := lw_g (lw_at lw_m5 101 rfl) rfl
theorem q1151 : (Jvm.Cond.methodLink "ExcessTreeModel" (155 : Nat) ({ cls := "ExcessTreeModel", name := "deepestOf", desc := "(I)I" } : Jvm.MethodName)) ∈ lw_all := lw_g (lw_at lw_m5 102 rfl) rfl
theorem q1152 : (Jvm.Cond.privateMethod ({ cls := "ExcessTreeModel", name := "deepestOf", desc := "(I)I" } : Jvm.MethodName)) ∈ lw_tbl := lw_at lw_m5 103 rfl
theorem q1153 : (Jvm.Cond.instanceMethod ({ cls := "ExcessTreeModel", name := "deepestOf", desc := "(I)I" } : Jvm.MethodName)) ∈ lw_all := lw_g (lw_at lw_m5 104 rfl) rfl
theorem q1154 : (Jvm.Cond.code ({ cls := "ExcessTreeModel", name := "deepestOf", desc := "(I)I" } : Jvm.MethodName) prog_7_method_40_code (4 : Nat) (Option.some Jvm.ClassFile.FieldType.int)) ∈ lw_all := lw_g (lw_at lw_m5 105 rfl) rfl
theorem q1155 : (Jvm.Cond.methodLink "ExcessTreeModel" (158 : Nat) ({ cls := "ExcessTreeModel", name := "fromBelow", desc := "(I)I" } : Jvm.MethodName)) ∈ lw_all := lw_g (lw_at lw_m5 106 rfl) rfl
theorem q1156 : (Jvm.Cond.privateMethod ({ cls := "ExcessTreeModel", name := "fromBelow", desc := "(I)I" } : Jvm.MethodName)) ∈ lw_tbl := lw_at lw_m5 107 rfl
theorem q1157 : (Jvm.Cond.instanceMethod ({ cls := "ExcessTreeModel", name := "fromBelow", desc := "(I)I" } : Jvm.MethodName)) ∈ lw_all := lw_g (lw_at lw_m5 108 rfl) rfl
theorem q1158 : (Jvm.Cond.code ({ cls := "ExcessTreeModel", name := "fromBelow", desc := "(I)I" } : Jvm.MethodName) prog_7_method_41_code (3 : Nat) (Option.some Jvm.ClassFile.FieldType.int)) ∈ lw_all := lw_g (lw_at lw_m5 109 rfl) rfl
theorem q1159 : (Jvm.Cond.methodLink "ExcessTreeModel" (137 : Nat) ({ cls := "ExcessTreeModel", name := "opensAt", desc := "(I)I" } : Jvm.MethodName)) ∈ lw_all := lw_g (lw_at lw_m5 110 rfl) rfl
theorem q1160 : (Jvm.Cond.privateMethod ({ cls := "ExcessTreeModel", name := "opensAt", desc := "(I)I" } : Jvm.MethodName)) ∈ lw_tbl := lw_at lw_m5 111 rfl
theorem q1161 : (Jvm.Cond.instanceMethod ({ cls := "ExcessTreeModel", name := "opensAt", desc := "(I)I" } : Jvm.MethodName)) ∈ lw_all := lw_g (lw_at lw_m5 112 rfl) rfl
theorem q1162 : (Jvm.Cond.code ({ cls := "ExcessTreeModel", name := "opensAt", desc := "(I)I" } : Jvm.MethodName) prog_7_method_17_code (2 : Nat) (Option.some Jvm.ClassFile.FieldType.int)) ∈ lw_all := lw_g (lw_at lw_m5 113 rfl) rfl
theorem q1164 : (Jvm.Cond.instanceMethod ({ cls := "ExcessTreeModel", name := "child", desc := "(II)I" } : Jvm.MethodName)) ∈ lw_all := lw_g (lw_at lw_m5 115 rfl) rfl
theorem q1165 : (Jvm.Cond.selects "ExcessTreeModel" ({ cls := "ExcessTreeModel", name := "child", desc := "(II)I" } : Jvm.MethodName) ({ cls := "ExcessTreeModel", name := "child", desc := "(II)I" } : Jvm.MethodName)) ∈ lw_all := lw_g (lw_at lw_m5 116 rfl) rfl
theorem q1166 : (Jvm.Cond.code ({ cls := "ExcessTreeModel", name := "child", desc := "(II)I" } : Jvm.MethodName) prog_7_method_44_code (3 : Nat) (Option.some Jvm.ClassFile.FieldType.int)) ∈ lw_all := lw_g (lw_at lw_m5 117 rfl) rfl
theorem q1168 : (Jvm.Cond.instanceMethod ({ cls := "ExcessTreeModel", name := "below", desc := "(I)I" } : Jvm.MethodName)) ∈ lw_all := lw_g (lw_at lw_m5 119 rfl) rfl
theorem q1169 : (Jvm.Cond.selects "ExcessTreeModel" ({ cls := "ExcessTreeModel", name := "below", desc := "(I)I" } : Jvm.MethodName) ({ cls := "ExcessTreeModel", name := "below", desc := "(I)I" } : Jvm.MethodName)) ∈ lw_all := lw_g (lw_at lw_m5 120 rfl) rfl
theorem q1170 : (Jvm.Cond.code ({ cls := "ExcessTreeModel", name := "below", desc := "(I)I" } : Jvm.MethodName) prog_7_method_45_code (3 : Nat) (Option.some Jvm.ClassFile.FieldType.int)) ∈ lw_all := lw_g (lw_at lw_m5 121 rfl) rfl
theorem q1172 : (Jvm.Cond.instanceMethod ({ cls := "ExcessTreeModel", name := "up", desc := "(II)I" } : Jvm.MethodName)) ∈ lw_all := lw_g (lw_at lw_m5 123 rfl) rfl
theorem q1173 : (Jvm.Cond.selects "ExcessTreeModel" ({ cls := "ExcessTreeModel", name := "up", desc := "(II)I" } : Jvm.MethodName) ({ cls := "ExcessTreeModel", name := "up", desc := "(II)I" } : Jvm.MethodName)) ∈ lw_all := lw_g (lw_at lw_m5 124 rfl) rfl
theorem q1174 : (Jvm.Cond.code ({ cls := "ExcessTreeModel", name := "up", desc := "(II)I" } : Jvm.MethodName) prog_7_method_46_code (3 : Nat) (Option.some Jvm.ClassFile.FieldType.int)) ∈ lw_all := lw_g (lw_at lw_m5 125 rfl) rfl
theorem q1176 : (Jvm.Cond.instanceMethod ({ cls := "ExcessTreeModel", name := "meet", desc := "(II)I" } : Jvm.MethodName)) ∈ lw_all := lw_g (lw_at lw_m5 127 rfl) rfl
theorem q1177 : (Jvm.Cond.selects "ExcessTreeModel" ({ cls := "ExcessTreeModel", name := "meet", desc := "(II)I" } : Jvm.MethodName) ({ cls := "ExcessTreeModel", name := "meet", desc := "(II)I" } : Jvm.MethodName)) ∈ lw_all := lw_g (lw_at lw_m5 128 rfl) rfl
theorem q1178 : (Jvm.Cond.code ({ cls := "ExcessTreeModel", name := "meet", desc := "(II)I" } : Jvm.MethodName) prog_7_method_49_code (3 : Nat) (Option.some Jvm.ClassFile.FieldType.int)) ∈ lw_all := lw_g (lw_at lw_m5 129 rfl) rfl
theorem q1179 : (Jvm.Cond.methodLink "ExcessTreeModel" (164 : Nat) ({ cls := "ExcessTreeModel", name := "meetOf", desc := "(II)I" } : Jvm.MethodName)) ∈ lw_all := lw_g (lw_at lw_m5 130 rfl) rfl
theorem q1180 : (Jvm.Cond.privateMethod ({ cls := "ExcessTreeModel", name := "meetOf", desc := "(II)I" } : Jvm.MethodName)) ∈ lw_tbl := lw_at lw_m5 131 rfl
theorem q1181 : (Jvm.Cond.instanceMethod ({ cls := "ExcessTreeModel", name := "meetOf", desc := "(II)I" } : Jvm.MethodName)) ∈ lw_all := lw_g (lw_at lw_m5 132 rfl) rfl
theorem q1182 : (Jvm.Cond.code ({ cls := "ExcessTreeModel", name := "meetOf", desc := "(II)I" } : Jvm.MethodName) prog_7_method_48_code (4 : Nat) (Option.some Jvm.ClassFile.FieldType.int)) ∈ lw_all := lw_g (lw_at lw_m5 133 rfl) rfl
theorem q1183 : (Jvm.Cond.methodLink "ExcessTreeModel" (161 : Nat) ({ cls := "ExcessTreeModel", name := "isAbove", desc := "(II)Z" } : Jvm.MethodName)) ∈ lw_all := lw_g (lw_at lw_m5 134 rfl) rfl
theorem q1184 : (Jvm.Cond.privateMethod ({ cls := "ExcessTreeModel", name := "isAbove", desc := "(II)Z" } : Jvm.MethodName)) ∈ lw_tbl := lw_at lw_m5 135 rfl
theorem q1185 : (Jvm.Cond.instanceMethod ({ cls := "ExcessTreeModel", name := "isAbove", desc := "(II)Z" } : Jvm.MethodName)) ∈ lw_all := lw_g (lw_at lw_m5 136 rfl) rfl
theorem q1186 : (Jvm.Cond.code ({ cls := "ExcessTreeModel", name := "isAbove", desc := "(II)Z" } : Jvm.MethodName) prog_7_method_47_code (3 : Nat) (Option.some Jvm.ClassFile.FieldType.boolean)) ∈ lw_all := lw_g (lw_at lw_m5 137 rfl) rfl
theorem q1188 : (Jvm.Cond.instanceMethod ({ cls := "ExcessTreeModel", name := "way", desc := "(II)I" } : Jvm.MethodName)) ∈ lw_all := lw_g (lw_at lw_m5 139 rfl) rfl
theorem q1189 : (Jvm.Cond.selects "ExcessTreeModel" ({ cls := "ExcessTreeModel", name := "way", desc := "(II)I" } : Jvm.MethodName) ({ cls := "ExcessTreeModel", name := "way", desc := "(II)I" } : Jvm.MethodName)) ∈ lw_all := lw_g (lw_at lw_m5 140 rfl) rfl
theorem q1190 : (Jvm.Cond.code ({ cls := "ExcessTreeModel", name := "way", desc := "(II)I" } : Jvm.MethodName) prog_7_method_50_code (3 : Nat) (Option.some Jvm.ClassFile.FieldType.int)) ∈ lw_all := lw_g (lw_at lw_m5 141 rfl) rfl
theorem q1192 : (Jvm.Cond.instanceMethod ({ cls := "ExcessTreeModel", name := "level", desc := "(II)I" } : Jvm.MethodName)) ∈ lw_all := lw_g (lw_at lw_m5 143 rfl) rfl
theorem q1193 : (Jvm.Cond.selects "ExcessTreeModel" ({ cls := "ExcessTreeModel", name := "level", desc := "(II)I" } : Jvm.MethodName) ({ cls := "ExcessTreeModel", name := "level", desc := "(II)I" } : Jvm.MethodName)) ∈ lw_all := lw_g (lw_at lw_m5 144 rfl) rfl
theorem q1194 : (Jvm.Cond.code ({ cls := "ExcessTreeModel", name := "level", desc := "(II)I" } : Jvm.MethodName) prog_7_method_51_code (7 : Nat) (Option.some Jvm.ClassFile.FieldType.int)) ∈ lw_all := lw_g (lw_at lw_m5 145 rfl) rfl
theorem q1196 : (Jvm.Cond.instanceMethod ({ cls := "ExcessTreeModel", name := "beside", desc := "(II)I" } : Jvm.MethodName)) ∈ lw_all := lw_g (lw_at lw_m5 147 rfl) rfl
theorem q1197 : (Jvm.Cond.selects "ExcessTreeModel" ({ cls := "ExcessTreeModel", name := "beside", desc := "(II)I" } : Jvm.MethodName) ({ cls := "ExcessTreeModel", name := "beside", desc := "(II)I" } : Jvm.MethodName)) ∈ lw_all := lw_g (lw_at lw_m5 148 rfl) rfl
theorem q1198 : (Jvm.Cond.code ({ cls := "ExcessTreeModel", name := "beside", desc := "(II)I" } : Jvm.MethodName) prog_7_method_52_code (5 : Nat) (Option.some Jvm.ClassFile.FieldType.int)) ∈ lw_all := lw_g (lw_at lw_m5 149 rfl) rfl
theorem q1200 : (Jvm.Cond.instanceMethod ({ cls := "ExcessTreeModel", name := "deepest", desc := "(I)I" } : Jvm.MethodName)) ∈ lw_all := lw_g (lw_at lw_m5 151 rfl) rfl
theorem q1201 : (Jvm.Cond.selects "ExcessTreeModel" ({ cls := "ExcessTreeModel", name := "deepest", desc := "(I)I" } : Jvm.MethodName) ({ cls := "ExcessTreeModel", name := "deepest", desc := "(I)I" } : Jvm.MethodName)) ∈ lw_all := lw_g (lw_at lw_m5 152 rfl) rfl
theorem q1202 : (Jvm.Cond.code ({ cls := "ExcessTreeModel", name := "deepest", desc := "(I)I" } : Jvm.MethodName) prog_7_method_53_code (2 : Nat) (Option.some Jvm.ClassFile.FieldType.int)) ∈ lw_all := lw_g (lw_at lw_m5 153 rfl) rfl
theorem q1204 : (Jvm.Cond.instanceMethod ({ cls := "ExcessTreeModel", name := "alike", desc := "(II)I" } : Jvm.MethodName)) ∈ lw_all := lw_g (lw_at lw_m5 155 rfl) rfl
theorem q1205 : (Jvm.Cond.selects "ExcessTreeModel" ({ cls := "ExcessTreeModel", name := "alike", desc := "(II)I" } : Jvm.MethodName) ({ cls := "ExcessTreeModel", name := "alike", desc := "(II)I" } : Jvm.MethodName)) ∈ lw_all := lw_g (lw_at lw_m5 156 rfl) rfl
theorem q1206 : (Jvm.Cond.code ({ cls := "ExcessTreeModel", name := "alike", desc := "(II)I" } : Jvm.MethodName) prog_7_method_54_code (7 : Nat) (Option.some Jvm.ClassFile.FieldType.int)) ∈ lw_all := lw_g (lw_at lw_m5 157 rfl) rfl
theorem q1208 : (Jvm.Cond.instanceMethod ({ cls := "ExcessTreeModel", name := "weight", desc := "(I)I" } : Jvm.MethodName)) ∈ lw_all := lw_g (lw_at lw_m5 159 rfl) rfl
theorem q1209 : (Jvm.Cond.selects "ExcessTreeModel" ({ cls := "ExcessTreeModel", name := "weight", desc := "(I)I" } : Jvm.MethodName) ({ cls := "ExcessTreeModel", name := "weight", desc := "(I)I" } : Jvm.MethodName)) ∈ lw_all := lw_g (lw_at lw_m5 160 rfl) rfl
theorem q1210 : (Jvm.Cond.code ({ cls := "ExcessTreeModel", name := "weight", desc := "(I)I" } : Jvm.MethodName) prog_7_method_55_code (2 : Nat) (Option.some Jvm.ClassFile.FieldType.int)) ∈ lw_all := lw_g (lw_at lw_m5 161 rfl) rfl
theorem q1212 : (Jvm.Cond.instanceMethod ({ cls := "ExcessTreeModel", name := "set", desc := "(II)I" } : Jvm.MethodName)) ∈ lw_all := lw_g (lw_at lw_m5 163 rfl) rfl
theorem q1213 : (Jvm.Cond.selects "ExcessTreeModel" ({ cls := "ExcessTreeModel", name := "set", desc := "(II)I" } : Jvm.MethodName) ({ cls := "ExcessTreeModel", name := "set", desc := "(II)I" } : Jvm.MethodName)) ∈ lw_all := lw_g (lw_at lw_m5 164 rfl) rfl
theorem q1214 : (Jvm.Cond.code ({ cls := "ExcessTreeModel", name := "set", desc := "(II)I" } : Jvm.MethodName) prog_7_method_56_code (4 : Nat) (Option.some Jvm.ClassFile.FieldType.int)) ∈ lw_all := lw_g (lw_at lw_m5 165 rfl) rfl
theorem q1216 : (Jvm.Cond.instanceMethod ({ cls := "ExcessTreeModel", name := "sum", desc := "(II)I" } : Jvm.MethodName)) ∈ lw_all := lw_g (lw_at lw_m5 167 rfl) rfl
theorem q1217 : (Jvm.Cond.selects "ExcessTreeModel" ({ cls := "ExcessTreeModel", name := "sum", desc := "(II)I" } : Jvm.MethodName) ({ cls := "ExcessTreeModel", name := "sum", desc := "(II)I" } : Jvm.MethodName)) ∈ lw_all := lw_g (lw_at lw_m5 168 rfl) rfl
theorem q1218 : (Jvm.Cond.code ({ cls := "ExcessTreeModel", name := "sum", desc := "(II)I" } : Jvm.MethodName) prog_7_method_57_code (7 : Nat) (Option.some Jvm.ClassFile.FieldType.int)) ∈ lw_all := lw_g (lw_at lw_m5 169 rfl) rfl
theorem q1219 : (Jvm.Cond.constantLong "ExcessTreeModel" (167 : Nat) (2147483647 : Int64)) ∈ lw_all := lw_g (lw_at lw_m5 170 rfl) rfl
theorem q1221 : (Jvm.Cond.instanceMethod ({ cls := "ExcessTreeModel", name := "heaviest", desc := "(I)I" } : Jvm.MethodName)) ∈ lw_all := lw_g (lw_at lw_m5 172 rfl) rfl
theorem q1222 : (Jvm.Cond.selects "ExcessTreeModel" ({ cls := "ExcessTreeModel", name := "heaviest", desc := "(I)I" } : Jvm.MethodName) ({ cls := "ExcessTreeModel", name := "heaviest", desc := "(I)I" } : Jvm.MethodName)) ∈ lw_all := lw_g (lw_at lw_m5 173 rfl) rfl
theorem q1223 : (Jvm.Cond.code ({ cls := "ExcessTreeModel", name := "heaviest", desc := "(I)I" } : Jvm.MethodName) prog_7_method_58_code (4 : Nat) (Option.some Jvm.ClassFile.FieldType.int)) ∈ lw_all := lw_g (lw_at lw_m5 174 rfl) rfl
theorem q1225 : (Jvm.Cond.instanceMethod ({ cls := "ExcessTreeModel", name := "plant", desc := "(I)I" } : Jvm.MethodName)) ∈ lw_all := lw_g (lw_at lw_m5 176 rfl) rfl
theorem q1226 : (Jvm.Cond.selects "ExcessTreeModel" ({ cls := "ExcessTreeModel", name := "plant", desc := "(I)I" } : Jvm.MethodName) ({ cls := "ExcessTreeModel", name := "plant", desc := "(I)I" } : Jvm.MethodName)) ∈ lw_all := lw_g (lw_at lw_m5 177 rfl) rfl
theorem q1227 : (Jvm.Cond.code ({ cls := "ExcessTreeModel", name := "plant", desc := "(I)I" } : Jvm.MethodName) prog_7_method_64_code (2 : Nat) (Option.some Jvm.ClassFile.FieldType.int)) ∈ lw_all := lw_g (lw_at lw_m5 178 rfl) rfl
theorem q1229 : (Jvm.Cond.instanceMethod ({ cls := "ExcessTreeModel", name := "leaf", desc := "(III)I" } : Jvm.MethodName)) ∈ lw_all := lw_g (lw_at lw_m5 180 rfl) rfl
theorem q1230 : (Jvm.Cond.selects "ExcessTreeModel" ({ cls := "ExcessTreeModel", name := "leaf", desc := "(III)I" } : Jvm.MethodName) ({ cls := "ExcessTreeModel", name := "leaf", desc := "(III)I" } : Jvm.MethodName)) ∈ lw_all := lw_g (lw_at lw_m5 181 rfl) rfl
theorem q1231 : (Jvm.Cond.code ({ cls := "ExcessTreeModel", name := "leaf", desc := "(III)I" } : Jvm.MethodName) prog_7_method_66_code (4 : Nat) (Option.some Jvm.ClassFile.FieldType.int)) ∈ lw_all := lw_g (lw_at lw_m5 182 rfl) rfl
theorem q1232 : (Jvm.Cond.methodLink "ExcessTreeModel" (183 : Nat) ({ cls := "ExcessTreeModel", name := "leafs", desc := "(III)I" } : Jvm.MethodName)) ∈ lw_all := lw_g (lw_at lw_m5 183 rfl) rfl
theorem q1233 : (Jvm.Cond.privateMethod ({ cls := "ExcessTreeModel", name := "leafs", desc := "(III)I" } : Jvm.MethodName)) ∈ lw_tbl := lw_at lw_m5 184 rfl
theorem q1234 : (Jvm.Cond.instanceMethod ({ cls := "ExcessTreeModel", name := "leafs", desc := "(III)I" } : Jvm.MethodName)) ∈ lw_all := lw_g (lw_at lw_m5 185 rfl) rfl
theorem q1235 : (Jvm.Cond.code ({ cls := "ExcessTreeModel", name := "leafs", desc := "(III)I" } : Jvm.MethodName) prog_7_method_65_code (5 : Nat) (Option.some Jvm.ClassFile.FieldType.int)) ∈ lw_all := lw_g (lw_at lw_m5 186 rfl) rfl
theorem q1236 : (Jvm.Cond.methodLink "ExcessTreeModel" (176 : Nat) ({ cls := "ExcessTreeModel", name := "edgeOf", desc := "(II)I" } : Jvm.MethodName)) ∈ lw_all := lw_g (lw_at lw_m5 187 rfl) rfl
theorem q1237 : (Jvm.Cond.privateMethod ({ cls := "ExcessTreeModel", name := "edgeOf", desc := "(II)I" } : Jvm.MethodName)) ∈ lw_tbl := lw_at lw_m5 188 rfl
theorem q1238 : (Jvm.Cond.instanceMethod ({ cls := "ExcessTreeModel", name := "edgeOf", desc := "(II)I" } : Jvm.MethodName)) ∈ lw_all := lw_g (lw_at lw_m5 189 rfl) rfl
theorem q1239 : (Jvm.Cond.code ({ cls := "ExcessTreeModel", name := "edgeOf", desc := "(II)I" } : Jvm.MethodName) prog_7_method_63_code (4 : Nat) (Option.some Jvm.ClassFile.FieldType.int)) ∈ lw_all := lw_g (lw_at lw_m5 190 rfl) rfl
theorem q1240 : (Jvm.Cond.methodLink "ExcessTreeModel" (179 : Nat) ({ cls := "ExcessTreeModel", name := "comesIn", desc := "(III)V" } : Jvm.MethodName)) ∈ lw_all := lw_g (lw_at lw_m5 191 rfl) rfl
theorem q1241 : (Jvm.Cond.privateMethod ({ cls := "ExcessTreeModel", name := "comesIn", desc := "(III)V" } : Jvm.MethodName)) ∈ lw_tbl := lw_at lw_m5 192 rfl
theorem q1242 : (Jvm.Cond.instanceMethod ({ cls := "ExcessTreeModel", name := "comesIn", desc := "(III)V" } : Jvm.MethodName)) ∈ lw_all := lw_g (lw_at lw_m5 193 rfl) rfl
theorem q1243 : (Jvm.Cond.code ({ cls := "ExcessTreeModel", name := "comesIn", desc := "(III)V" } : Jvm.MethodName) prog_7_method_61_code (6 : Nat) (Option.none : Option Jvm.ClassFile.FieldType)) ∈ lw_all := lw_g (lw_at lw_m5 194 rfl) rfl
theorem q1244 : (Jvm.Cond.methodLink "ExcessTreeModel" (169 : Nat) ({ cls := "ExcessTreeModel", name := "opensPlace", desc := "(II)V" } : Jvm.MethodName)) ∈ lw_all := lw_g (lw_at lw_m5 195 rfl) rfl
theorem q1245 : (Jvm.Cond.privateMethod ({ cls := "ExcessTreeModel", name := "opensPlace", desc := "(II)V" } : Jvm.MethodName)) ∈ lw_tbl := lw_at lw_m5 196 rfl
theorem q1246 : (Jvm.Cond.instanceMethod ({ cls := "ExcessTreeModel", name := "opensPlace", desc := "(II)V" } : Jvm.MethodName)) ∈ lw_all := lw_g (lw_at lw_m5 197 rfl) rfl
theorem q1247 : (Jvm.Cond.code ({ cls := "ExcessTreeModel", name := "opensPlace", desc := "(II)V" } : Jvm.MethodName) prog_7_method_59_code (4 : Nat) (Option.none : Option Jvm.ClassFile.FieldType)) ∈ lw_all := lw_g (lw_at lw_m5 198 rfl) rfl
theorem q1249 : (Jvm.Cond.instanceMethod ({ cls := "ExcessTreeModel", name := "prune", desc := "(I)I" } : Jvm.MethodName)) ∈ lw_all := lw_g (lw_at lw_m5 200 rfl) rfl
theorem q1250 : (Jvm.Cond.selects "ExcessTreeModel" ({ cls := "ExcessTreeModel", name := "prune", desc := "(I)I" } : Jvm.MethodName) ({ cls := "ExcessTreeModel", name := "prune", desc := "(I)I" } : Jvm.MethodName)) ∈ lw_all := lw_g (lw_at lw_m5 201 rfl) rfl
theorem q1251 : (Jvm.Cond.code ({ cls := "ExcessTreeModel", name := "prune", desc := "(I)I" } : Jvm.MethodName) prog_7_method_67_code (2 : Nat) (Option.some Jvm.ClassFile.FieldType.int)) ∈ lw_all := lw_g (lw_at lw_m5 202 rfl) rfl
theorem q1252 : (Jvm.Cond.methodLink "ExcessTreeModel" (187 : Nat) ({ cls := "ExcessTreeModel", name := "goesOut", desc := "(I)V" } : Jvm.MethodName)) ∈ lw_all := lw_g (lw_at lw_m5 203 rfl) rfl
theorem q1253 : (Jvm.Cond.privateMethod ({ cls := "ExcessTreeModel", name := "goesOut", desc := "(I)V" } : Jvm.MethodName)) ∈ lw_tbl := lw_at lw_m5 204 rfl
theorem q1254 : (Jvm.Cond.instanceMethod ({ cls := "ExcessTreeModel", name := "goesOut", desc := "(I)V" } : Jvm.MethodName)) ∈ lw_all := lw_g (lw_at lw_m5 205 rfl) rfl
theorem q1255 : (Jvm.Cond.code ({ cls := "ExcessTreeModel", name := "goesOut", desc := "(I)V" } : Jvm.MethodName) prog_7_method_62_code (4 : Nat) (Option.none : Option Jvm.ClassFile.FieldType)) ∈ lw_all := lw_g (lw_at lw_m5 206 rfl) rfl
theorem q1256 : (Jvm.Cond.methodLink "ExcessTreeModel" (173 : Nat) ({ cls := "ExcessTreeModel", name := "shutsPlace", desc := "(I)V" } : Jvm.MethodName)) ∈ lw_all := lw_g (lw_at lw_m5 207 rfl) rfl
theorem q1257 : (Jvm.Cond.privateMethod ({ cls := "ExcessTreeModel", name := "shutsPlace", desc := "(I)V" } : Jvm.MethodName)) ∈ lw_tbl := lw_at lw_m5 208 rfl
theorem q1258 : (Jvm.Cond.instanceMethod ({ cls := "ExcessTreeModel", name := "shutsPlace", desc := "(I)V" } : Jvm.MethodName)) ∈ lw_all := lw_g (lw_at lw_m5 209 rfl) rfl
theorem q1259 : (Jvm.Cond.code ({ cls := "ExcessTreeModel", name := "shutsPlace", desc := "(I)V" } : Jvm.MethodName) prog_7_method_60_code (3 : Nat) (Option.none : Option Jvm.ClassFile.FieldType)) ∈ lw_all := lw_g (lw_at lw_m5 210 rfl) rfl
theorem q1261 : (Jvm.Cond.instanceMethod ({ cls := "ExcessTreeModel", name := "fell", desc := "(I)I" } : Jvm.MethodName)) ∈ lw_all := lw_g (lw_at lw_m5 212 rfl) rfl
theorem q1262 : (Jvm.Cond.selects "ExcessTreeModel" ({ cls := "ExcessTreeModel", name := "fell", desc := "(I)I" } : Jvm.MethodName) ({ cls := "ExcessTreeModel", name := "fell", desc := "(I)I" } : Jvm.MethodName)) ∈ lw_all := lw_g (lw_at lw_m5 213 rfl) rfl
theorem q1263 : (Jvm.Cond.code ({ cls := "ExcessTreeModel", name := "fell", desc := "(I)I" } : Jvm.MethodName) prog_7_method_68_code (4 : Nat) (Option.some Jvm.ClassFile.FieldType.int)) ∈ lw_all := lw_g (lw_at lw_m5 214 rfl) rfl
theorem q1265 : (Jvm.Cond.instanceMethod ({ cls := "ExcessTreeModel", name := "wrap", desc := "(IIII)I" } : Jvm.MethodName)) ∈ lw_all := lw_g (lw_at lw_m5 216 rfl) rfl
theorem q1266 : (Jvm.Cond.selects "ExcessTreeModel" ({ cls := "ExcessTreeModel", name := "wrap", desc := "(IIII)I" } : Jvm.MethodName) ({ cls := "ExcessTreeModel", name := "wrap", desc := "(IIII)I" } : Jvm.MethodName)) ∈ lw_all := lw_g (lw_at lw_m5 217 rfl) rfl
theorem q1267 : (Jvm.Cond.code ({ cls := "ExcessTreeModel", name := "wrap", desc := "(IIII)I" } : Jvm.MethodName) prog_7_method_69_code (6 : Nat) (Option.some Jvm.ClassFile.FieldType.int)) ∈ lw_all := lw_g (lw_at lw_m5 218 rfl) rfl
theorem q1269 : (Jvm.Cond.instanceMethod ({ cls := "ExcessTreeModel", name := "melt", desc := "(I)I" } : Jvm.MethodName)) ∈ lw_all := lw_g (lw_at lw_m5 220 rfl) rfl
theorem q1270 : (Jvm.Cond.selects "ExcessTreeModel" ({ cls := "ExcessTreeModel", name := "melt", desc := "(I)I" } : Jvm.MethodName) ({ cls := "ExcessTreeModel", name := "melt", desc := "(I)I" } : Jvm.MethodName)) ∈ lw_all := lw_g (lw_at lw_m5 221 rfl) rfl
theorem q1271 : (Jvm.Cond.code ({ cls := "ExcessTreeModel", name := "melt", desc := "(I)I" } : Jvm.MethodName) prog_7_method_70_code (2 : Nat) (Option.some Jvm.ClassFile.FieldType.int)) ∈ lw_all := lw_g (lw_at lw_m5 222 rfl) rfl
theorem q1273 : (Jvm.Cond.instanceMethod ({ cls := "ExcessTreeModel", name := "graft", desc := "(III)I" } : Jvm.MethodName)) ∈ lw_all := lw_g (lw_at lw_m5 224 rfl) rfl
theorem q1274 : (Jvm.Cond.selects "ExcessTreeModel" ({ cls := "ExcessTreeModel", name := "graft", desc := "(III)I" } : Jvm.MethodName) ({ cls := "ExcessTreeModel", name := "graft", desc := "(III)I" } : Jvm.MethodName)) ∈ lw_all := lw_g (lw_at lw_m5 225 rfl) rfl
theorem q1275 : (Jvm.Cond.code ({ cls := "ExcessTreeModel", name := "graft", desc := "(III)I" } : Jvm.MethodName) prog_7_method_71_code (10 : Nat) (Option.some Jvm.ClassFile.FieldType.int)) ∈ lw_all := lw_g (lw_at lw_m5 226 rfl) rfl
theorem q1277 : (Jvm.Cond.instanceMethod ({ cls := "ExcessTreeModel", name := "grow", desc := "(II)I" } : Jvm.MethodName)) ∈ lw_all := lw_g (lw_at lw_m5 228 rfl) rfl
theorem q1278 : (Jvm.Cond.selects "ExcessTreeModel" ({ cls := "ExcessTreeModel", name := "grow", desc := "(II)I" } : Jvm.MethodName) ({ cls := "ExcessTreeModel", name := "grow", desc := "(II)I" } : Jvm.MethodName)) ∈ lw_all := lw_g (lw_at lw_m5 229 rfl) rfl
theorem q1279 : (Jvm.Cond.code ({ cls := "ExcessTreeModel", name := "grow", desc := "(II)I" } : Jvm.MethodName) prog_7_method_72_code (6 : Nat) (Option.some Jvm.ClassFile.FieldType.int)) ∈ lw_all := lw_g (lw_at lw_m5 230 rfl) rfl
theorem q1280 : (Jvm.Cond.constantLong "ExcessTreeModel" (190 : Nat) (64 : Int64)) ∈ lw_all := lw_g (lw_at lw_m5 231 rfl) rfl
theorem q1281 : (Jvm.Cond.methodLink "ExcessTreeModel" (192 : Nat) ({ cls := "ExcessTreeModel", name := "plant", desc := "(I)I" } : Jvm.MethodName)) ∈ lw_all := lw_g (lw_at lw_m5 232 rfl) rfl
theorem q1282 : (Jvm.Cond.constant "ExcessTreeModel" (195 : Nat) (1103515245 : Int32)) ∈ lw_all := lw_g (lw_at lw_m5 233 rfl) rfl
theorem q1283 : (Jvm.Cond.methodLink "ExcessTreeModel" (196 : Nat) ({ cls := "ExcessTreeModel", name := "size", desc := "(I)I" } : Jvm.MethodName)) ∈ lw_all := lw_g (lw_at lw_m5 234 rfl) rfl
theorem q1285 : (Jvm.Cond.instanceMethod ({ cls := "ExcessTreeModel", name := "keep", desc := "(I)I" } : Jvm.MethodName)) ∈ lw_all := lw_g (lw_at lw_m5 236 rfl) rfl
theorem q1286 : (Jvm.Cond.selects "ExcessTreeModel" ({ cls := "ExcessTreeModel", name := "keep", desc := "(I)I" } : Jvm.MethodName) ({ cls := "ExcessTreeModel", name := "keep", desc := "(I)I" } : Jvm.MethodName)) ∈ lw_all := lw_g (lw_at lw_m5 237 rfl) rfl
theorem q1287 : (Jvm.Cond.code ({ cls := "ExcessTreeModel", name := "keep", desc := "(I)I" } : Jvm.MethodName) prog_7_method_73_code (4 : Nat) (Option.some Jvm.ClassFile.FieldType.int)) ∈ lw_all := lw_g (lw_at lw_m5 238 rfl) rfl
theorem q1289 : (Jvm.Cond.instanceMethod ({ cls := "ExcessTreeModel", name := "back", desc := "(I)I" } : Jvm.MethodName)) ∈ lw_all := lw_g (lw_at lw_m6 0 rfl) rfl
theorem q1290 : (Jvm.Cond.selects "ExcessTreeModel" ({ cls := "ExcessTreeModel", name := "back", desc := "(I)I" } : Jvm.MethodName) ({ cls := "ExcessTreeModel", name := "back", desc := "(I)I" } : Jvm.MethodName)) ∈ lw_all := lw_g (lw_at lw_m6 1 rfl) rfl
theorem q1291 : (Jvm.Cond.code ({ cls := "ExcessTreeModel", name := "back", desc := "(I)I" } : Jvm.MethodName) prog_7_method_74_code (3 : Nat) (Option.some Jvm.ClassFile.FieldType.int)) ∈ lw_all := lw_g (lw_at lw_m6 2 rfl) rfl
theorem q1293 : (Jvm.Cond.instanceMethod ({ cls := "ExcessTreeModel", name := "sheet", desc := "(III)I" } : Jvm.MethodName)) ∈ lw_all := lw_g (lw_at lw_m6 4 rfl) rfl
theorem q1294 : (Jvm.Cond.selects "ExcessTreeModel" ({ cls := "ExcessTreeModel", name := "sheet", desc := "(III)I" } : Jvm.MethodName) ({ cls := "ExcessTreeModel", name := "sheet", desc := "(III)I" } : Jvm.MethodName)) ∈ lw_all := lw_g (lw_at lw_m6 5 rfl) rfl
theorem q1295 : (Jvm.Cond.code ({ cls := "ExcessTreeModel", name := "sheet", desc := "(III)I" } : Jvm.MethodName) prog_7_method_75_code (5 : Nat) (Option.some Jvm.ClassFile.FieldType.int)) ∈ lw_all := lw_g (lw_at lw_m6 6 rfl) rfl
theorem q1297 : (Jvm.Cond.instanceMethod ({ cls := "ExcessTreeModel", name := "lay", desc := "(IIJ)I" } : Jvm.MethodName)) ∈ lw_all := lw_g (lw_at lw_m6 8 rfl) rfl
theorem q1298 : (Jvm.Cond.selects "ExcessTreeModel" ({ cls := "ExcessTreeModel", name := "lay", desc := "(IIJ)I" } : Jvm.MethodName) ({ cls := "ExcessTreeModel", name := "lay", desc := "(IIJ)I" } : Jvm.MethodName)) ∈ lw_all := lw_g (lw_at lw_m6 9 rfl) rfl
theorem q1299 : (Jvm.Cond.code ({ cls := "ExcessTreeModel", name := "lay", desc := "(IIJ)I" } : Jvm.MethodName) prog_7_method_77_code (5 : Nat) (Option.some Jvm.ClassFile.FieldType.int)) ∈ lw_all := lw_g (lw_at lw_m6 10 rfl) rfl
theorem q1300 : (Jvm.Cond.methodLink "ExcessTreeModel" (199 : Nat) ({ cls := "ExcessTreeModel", name := "narrowed", desc := "(IJ)J" } : Jvm.MethodName)) ∈ lw_all := lw_g (lw_at lw_m6 11 rfl) rfl
theorem q1301 : (Jvm.Cond.static ({ cls := "ExcessTreeModel", name := "narrowed", desc := "(IJ)J" } : Jvm.MethodName)) ∈ lw_all := lw_g (lw_at lw_m6 12 rfl) rfl
theorem q1302 : (Jvm.Cond.code ({ cls := "ExcessTreeModel", name := "narrowed", desc := "(IJ)J" } : Jvm.MethodName) prog_7_method_76_code (3 : Nat) (Option.some Jvm.ClassFile.FieldType.long)) ∈ lw_all := lw_g (lw_at lw_m6 13 rfl) rfl
theorem q1304 : (Jvm.Cond.instanceMethod ({ cls := "ExcessTreeModel", name := "look", desc := "(II)J" } : Jvm.MethodName)) ∈ lw_all := lw_g (lw_at lw_m6 15 rfl) rfl
theorem q1305 : (Jvm.Cond.selects "ExcessTreeModel" ({ cls := "ExcessTreeModel", name := "look", desc := "(II)J" } : Jvm.MethodName) ({ cls := "ExcessTreeModel", name := "look", desc := "(II)J" } : Jvm.MethodName)) ∈ lw_all := lw_g (lw_at lw_m6 16 rfl) rfl
theorem q1306 : (Jvm.Cond.code ({ cls := "ExcessTreeModel", name := "look", desc := "(II)J" } : Jvm.MethodName) prog_7_method_78_code (3 : Nat) (Option.some Jvm.ClassFile.FieldType.long)) ∈ lw_all := lw_g (lw_at lw_m6 17 rfl) rfl
theorem q1308 : (Jvm.Cond.instanceMethod ({ cls := "ExcessTreeModel", name := "read", desc := "(IIII)I" } : Jvm.MethodName)) ∈ lw_all := lw_g (lw_at lw_m6 19 rfl) rfl
theorem q1309 : (Jvm.Cond.selects "ExcessTreeModel" ({ cls := "ExcessTreeModel", name := "read", desc := "(IIII)I" } : Jvm.MethodName) ({ cls := "ExcessTreeModel", name := "read", desc := "(IIII)I" } : Jvm.MethodName)) ∈ lw_all := lw_g (lw_at lw_m6 20 rfl) rfl
theorem q1310 : (Jvm.Cond.code ({ cls := "ExcessTreeModel", name := "read", desc := "(IIII)I" } : Jvm.MethodName) prog_7_method_82_code (9 : Nat) (Option.some Jvm.ClassFile.FieldType.int)) ∈ lw_all := lw_g (lw_at lw_m6 21 rfl) rfl
theorem q1311 : (Jvm.Cond.constantLong "ExcessTreeModel" (206 : Nat) (128 : Int64)) ∈ lw_all := lw_g (lw_at lw_m6 22 rfl) rfl
theorem q1312 : (Jvm.Cond.methodLink "ExcessTreeModel" (208 : Nat) ({ cls := "ExcessTreeModel", name := "foundAt", desc := "(IIJ)I" } : Jvm.MethodName)) ∈ lw_all := lw_g (lw_at lw_m6 23 rfl) rfl
theorem q1313 : (Jvm.Cond.privateMethod ({ cls := "ExcessTreeModel", name := "foundAt", desc := "(IIJ)I" } : Jvm.MethodName)) ∈ lw_tbl := lw_at lw_m6 24 rfl
theorem q1314 : (Jvm.Cond.instanceMethod ({ cls := "ExcessTreeModel", name := "foundAt", desc := "(IIJ)I" } : Jvm.MethodName)) ∈ lw_all := lw_g (lw_at lw_m6 25 rfl) rfl
theorem q1315 : (Jvm.Cond.code ({ cls := "ExcessTreeModel", name := "foundAt", desc := "(IIJ)I" } : Jvm.MethodName) prog_7_method_80_code (5 : Nat) (Option.some Jvm.ClassFile.FieldType.int)) ∈ lw_all := lw_g (lw_at lw_m6 26 rfl) rfl
theorem q1316 : (Jvm.Cond.methodLink "ExcessTreeModel" (203 : Nat) ({ cls := "ExcessTreeModel", name := "wide", desc := "(I)I" } : Jvm.MethodName)) ∈ lw_all := lw_g (lw_at lw_m6 27 rfl) rfl
theorem q1317 : (Jvm.Cond.static ({ cls := "ExcessTreeModel", name := "wide", desc := "(I)I" } : Jvm.MethodName)) ∈ lw_all := lw_g (lw_at lw_m6 28 rfl) rfl
theorem q1318 : (Jvm.Cond.code ({ cls := "ExcessTreeModel", name := "wide", desc := "(I)I" } : Jvm.MethodName) prog_7_method_79_code (1 : Nat) (Option.some Jvm.ClassFile.FieldType.int)) ∈ lw_all := lw_g (lw_at lw_m6 29 rfl) rfl
theorem q1319 : (Jvm.Cond.methodLink "ExcessTreeModel" (212 : Nat) ({ cls := "ExcessTreeModel", name := "isRow", desc := "(I)Z" } : Jvm.MethodName)) ∈ lw_all := lw_g (lw_at lw_m6 30 rfl) rfl
theorem q1320 : (Jvm.Cond.privateMethod ({ cls := "ExcessTreeModel", name := "isRow", desc := "(I)Z" } : Jvm.MethodName)) ∈ lw_tbl := lw_at lw_m6 31 rfl
theorem q1321 : (Jvm.Cond.instanceMethod ({ cls := "ExcessTreeModel", name := "isRow", desc := "(I)Z" } : Jvm.MethodName)) ∈ lw_all := lw_g (lw_at lw_m6 32 rfl) rfl
theorem q1322 : (Jvm.Cond.code ({ cls := "ExcessTreeModel", name := "isRow", desc := "(I)Z" } : Jvm.MethodName) prog_7_method_81_code (5 : Nat) (Option.some Jvm.ClassFile.FieldType.boolean)) ∈ lw_all := lw_g (lw_at lw_m6 33 rfl) rfl
theorem q1324 : (Jvm.Cond.instanceMethod ({ cls := "ExcessTreeModel", name := "stow", desc := "(III)I" } : Jvm.MethodName)) ∈ lw_all := lw_g (lw_at lw_m6 35 rfl) rfl
theorem q1325 : (Jvm.Cond.selects "ExcessTreeModel" ({ cls := "ExcessTreeModel", name := "stow", desc := "(III)I" } : Jvm.MethodName) ({ cls := "ExcessTreeModel", name := "stow", desc := "(III)I" } : Jvm.MethodName)) ∈ lw_all := lw_g (lw_at lw_m6 36 rfl) rfl
theorem q1326 : (Jvm.Cond.code ({ cls := "ExcessTreeModel", name := "stow", desc := "(III)I" } : Jvm.MethodName) prog_7_method_83_code (10 : Nat) (Option.some Jvm.ClassFile.FieldType.int)) ∈ lw_all := lw_g (lw_at lw_m6 37 rfl) rfl
theorem q1327 : (Jvm.Cond.constantLong "ExcessTreeModel" (218 : Nat) (-1 : Int64)) ∈ lw_all := lw_g (lw_at lw_m6 38 rfl) rfl
theorem q1329 : (Jvm.Cond.instanceMethod ({ cls := "ExcessTreeModel", name := "torn", desc := "()I" } : Jvm.MethodName)) ∈ lw_all := lw_g (lw_at lw_m6 40 rfl) rfl
theorem q1330 : (Jvm.Cond.selects "ExcessTreeModel" ({ cls := "ExcessTreeModel", name := "torn", desc := "()I" } : Jvm.MethodName) ({ cls := "ExcessTreeModel", name := "torn", desc := "()I" } : Jvm.MethodName)) ∈ lw_all := lw_g (lw_at lw_m6 41 rfl) rfl
theorem q1331 : (Jvm.Cond.code ({ cls := "ExcessTreeModel", name := "torn", desc := "()I" } : Jvm.MethodName) prog_7_method_84_code (1 : Nat) (Option.some Jvm.ClassFile.FieldType.int)) ∈ lw_all := lw_g (lw_at lw_m6 42 rfl) rfl
theorem q1333 : (Jvm.Cond.instanceMethod ({ cls := "ExcessTreeModel", name := "count", desc := "(I)I" } : Jvm.MethodName)) ∈ lw_all := lw_g (lw_at lw_m6 44 rfl) rfl
theorem q1334 : (Jvm.Cond.selects "ExcessTreeModel" ({ cls := "ExcessTreeModel", name := "count", desc := "(I)I" } : Jvm.MethodName) ({ cls := "ExcessTreeModel", name := "count", desc := "(I)I" } : Jvm.MethodName)) ∈ lw_all := lw_g (lw_at lw_m6 45 rfl) rfl
theorem q1335 : (Jvm.Cond.code ({ cls := "ExcessTreeModel", name := "count", desc := "(I)I" } : Jvm.MethodName) prog_7_method_85_code (4 : Nat) (Option.some Jvm.ClassFile.FieldType.int)) ∈ lw_all := lw_g (lw_at lw_m6 46 rfl) rfl
theorem in_X3 : ∀ w ∈ wsX30, w ∈ lw_all := lw_in wsX30 [956, 958, 960, 962, 964, 966, 968, 970, 972, 974, 976, 978, 980, 982, 984, 986, 988, 990] (by decide +kernel) (by decide +kernel)
